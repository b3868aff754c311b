set_option maxRecDepth 100000
set_option maxHeartbeats 1000000
theorem gf_J4_15_15I {G : gG} {cc : ByteArray} {nL : Nat} {ret : Option FieldType} {Qf : Option Value → gM → Prop} {rm : Room} {cells slots : Nat} {M : gM} {lv : List (Nat × Value)} {pc : Nat} {st : List Value} {a : Nat} (n : Nat) (hC : gCx G cc nL RJ4 ret Qf rm) {κ : Int32 → Prop} (hF : gI M 15 a 1 κ) (hdg : decode cc pc = .ok (.getfield 15, 3)) (hn : pc + 3 = n) (kk : ∀ x, κ x → gAt G cells slots M lv n (.int x :: st)) : gAt G cells slots M lv pc (.ref a :: st) :=
  g_getI (C := RJ4) (T := TJ4) (N := 4) in_J4 rfl (by decide) q863 (fun _ _ _ => rfl) n hC hF hdg hn kk
abbrev rm_J4_coder : Room := { frames := 0, cells := 0, slots := 0, locals := 0 }
def F_J4_coder  (M : gM) (a0 : Nat) (Q : Int32 → gM → Prop)  : Prop :=
  (((1 : Int32) = 0 →
    (narrow .byte (.int (1 : Int32)) = .int (1 : Int32) ∧ Q (1 : Int32) M)) ∧
    (¬ (1 : Int32) = 0 →
    gI M 15 a0 1 fun x_1 =>
    (narrow .byte (.int x_1) = .int x_1 ∧ Q x_1 M)))
theorem met_J4_coder {M : gM} {a0 : Nat} {Q : Int32 → gM → Prop} (hF : F_J4_coder M a0 Q) : gMt yJ4_coder (ws_ yJ4_coder cJ4_coder 1 (some .byte)) rm_J4_coder M [.ref a0] (gQi Q) := by
  refine gMet (bytes := cJ4_coder) (maxL := 1) (ret := (some .byte)) rfl rfl (by decide) (Nat.le_of_ble_eq_true rfl) (lv := [(0, .ref a0)]) rfl (fun G hC hin => ?_)
  unfold F_J4_coder at hF
  refine g_gets 3 hC sz_compact q848 dJ4_coder_0 rfl ?_
  refine g_if_eq 6 13 hC dJ4_coder_3 (by decide) rfl (fun c => ?_) (fun c => ?_)
  · have hF := hF.1 c
    refine g_iconst 14 hC (1 : Int32) dJ4_coder_13 (by decide) rfl ?_
    exact g_breturn hC ⟨_, rfl, hF.2⟩ hF.1 dJ4_coder_14 (Nat.zero_le _) (Nat.zero_le _)
  · have hF := hF.2 c
    refine g_aload_n 7 hC dJ4_coder_6 rfl 0 rfl rfl ?_
    refine gf_J4_15_15I 10 hC hF dJ4_coder_7 rfl (fun x_1 hF => ?_)
    refine g_goto 14 hC dJ4_coder_10 (by decide) ?_
    exact g_breturn hC ⟨_, rfl, hF.2⟩ hF.1 dJ4_coder_14 (Nat.zero_le _) (Nat.zero_le _)
theorem gf_J4_9_15N {G : gG} {cc : ByteArray} {nL : Nat} {ret : Option FieldType} {Qf : Option Value → gM → Prop} {rm : Room} {cells slots : Nat} {M : gM} {lv : List (Nat × Value)} {pc : Nat} {st : List Value} {a : Nat} (n : Nat) (hC : gCx G cc nL RJ4 ret Qf rm) {κ : Nat → Prop} (hF : gN M 15 a 0 κ) (hdg : decode cc pc = .ok (.getfield 9, 3)) (hn : pc + 3 = n) (kk : ∀ x, κ x → gAt G cells slots M lv n (.ref x :: st)) : gAt G cells slots M lv pc (.ref a :: st) :=
  g_getN (C := RJ4) (T := TJ4) (N := 4) in_J4 rfl (by decide) q862 (fun _ _ _ => rfl) n hC hF hdg hn kk
theorem hd_J4_coder : yJ4_coder.cls = RJ4 ∧ yJ4_coder.cls ≠ "java/lang/invoke/MethodHandle" ∧ yJ4_coder.cls ≠ "java/lang/invoke/VarHandle" ∧ (parseMethodDescriptor yJ4_coder.desc).map (fun d => d.parameters.length) = some 0 := by decide +kernel
theorem wl_J4_335 : GoodIn lw_all (wsV RJ4 335 RJ4 yJ4_coder (ws_ yJ4_coder cJ4_coder 1 (some .byte))) := lw_V q1615 q1616 q1617 q77 q1618
abbrev rm_J4_length : Room := { frames := 1, cells := 0, slots := 0, locals := 20 }
def F_J4_length  (M : gM) (a0 : Nat) (Q : Int32 → gM → Prop)  : Prop :=
  gN M 15 a0 0 fun a_1 =>
  aL M a_1 fun x_2 =>
  rc M 15 a0 ∧ F_J4_coder M a0 fun x_4 M_3 =>
  Q (x_2 >>> (x_4 &&& 31)) M_3
theorem met_J4_length {M : gM} {a0 : Nat} {Q : Int32 → gM → Prop} (hF : F_J4_length M a0 Q) : gMt yJ4_length (ws_ yJ4_length cJ4_length 1 (some .int)) rm_J4_length M [.ref a0] (gQi Q) := by
  refine gMet (bytes := cJ4_length) (maxL := 1) (ret := (some .int)) rfl rfl (by decide) (Nat.le_of_ble_eq_true rfl) (lv := [(0, .ref a0)]) rfl (fun G hC hin => ?_)
  unfold F_J4_length at hF
  refine g_aload_n 1 hC dJ4_length_0 rfl 0 rfl rfl ?_
  refine gf_J4_9_15N 4 hC hF dJ4_length_1 rfl (fun a_1 hF => ?_)
  refine g_alen 5 hC hF dJ4_length_4 rfl (fun x_2 hF => ?_)
  refine g_aload_n 6 hC dJ4_length_5 rfl 0 rfl rfl ?_
  refine g_cV (rest := [_]) wl_J4_335 hd_J4_coder (ci := 15) rfl 9 hC hF.1 (met_J4_coder hF.2) rfl ⟨Nat.le_of_ble_eq_true rfl, Nat.le_of_ble_eq_true rfl⟩ ⟨Nat.zero_le _, Nat.zero_le _⟩ rfl (Nat.le_of_ble_eq_true rfl) dJ4_length_6 rfl (g_ty_i 0 0 (Nat.le_refl _) (Nat.le_refl _) (fun x_4 M_3 hF => ?_))
  refine g_ishr 10 hC dJ4_length_9 rfl ?_
  exact g_ireturn hC ⟨_, rfl, hF⟩ dJ4_length_10 (Nat.zero_le _) (Nat.zero_le _)
abbrev rm_J17_checkIndex : Room := { frames := 0, cells := 0, slots := 0, locals := 0 }
def F_J17_checkIndex_b9 (Q : Int32 → gM → Prop)    (x0 : Int32) (x1 : Int32) (r2 : Option Nat)   (M : gM) : Prop :=
  False
theorem w_J17_checkIndex_b9 {G : gG} {Q : Int32 → gM → Prop} (hC : gCx G cJ17_checkIndex 3 RJ17 (some .int) (gQi Q) rm_J17_checkIndex)  (x0 : Int32) (x1 : Int32) (r2 : Option Nat)     (M : gM) (hF : F_J17_checkIndex_b9 Q x0 x1 r2 M) : gAt G 0 0 M [(0, .int x0), (1, .int x1), (2, va_rf r2)] 9 [] := by
  unfold F_J17_checkIndex_b9 at hF
  refine g_qload_n 10 hC dJ17_checkIndex_9 rfl 2 rfl rfl ?_
  refine g_iload_n 11 hC dJ17_checkIndex_10 rfl 0 rfl rfl ?_
  refine g_iload_n 12 hC dJ17_checkIndex_11 rfl 1 rfl rfl ?_
  exact hF.elim -- method link ('jdk/internal/util/Preconditions', 95, 'm')
def F_J17_checkIndex  (M : gM) (x0 : Int32) (x1 : Int32) (r2 : Option Nat) (Q : Int32 → gM → Prop)  : Prop :=
  ((x0 < 0 →
    F_J17_checkIndex_b9 Q x0 x1 r2 M) ∧
    (¬ x0 < 0 →
    ((x0 < x1 →
      Q x0 M) ∧
      (¬ x0 < x1 →
      F_J17_checkIndex_b9 Q x0 x1 r2 M))))
theorem met_J17_checkIndex {M : gM} {x0 : Int32} {x1 : Int32} {r2 : Option Nat} {Q : Int32 → gM → Prop} (hF : F_J17_checkIndex M x0 x1 r2 Q) : gMt yJ17_checkIndex (ws_ yJ17_checkIndex cJ17_checkIndex 3 (some .int)) rm_J17_checkIndex M [.int x0, .int x1, va_rf r2] (gQi Q) := by
  refine gMet (bytes := cJ17_checkIndex) (maxL := 3) (ret := (some .int)) rfl rfl (by decide) (by cases r2 <;> exact Nat.le_of_ble_eq_true rfl) (lv := [(0, .int x0), (1, .int x1), (2, va_rf r2)]) (by cases r2 <;> rfl) (fun G hC hin => ?_)
  unfold F_J17_checkIndex at hF
  refine g_iload_n 1 hC dJ17_checkIndex_0 rfl 0 rfl rfl ?_
  refine g_if_lt 4 9 hC dJ17_checkIndex_1 (by decide) rfl (fun c => ?_) (fun c => ?_)
  · have hF := hF.1 c
    exact w_J17_checkIndex_b9 hC _ _ _ _ hF
  · have hF := hF.2 c
    refine g_iload_n 5 hC dJ17_checkIndex_4 rfl 0 rfl rfl ?_
    refine g_iload_n 6 hC dJ17_checkIndex_5 rfl 1 rfl rfl ?_
    refine g_icmp_lt 9 16 hC dJ17_checkIndex_6 (by decide) rfl (fun c => ?_) (fun c => ?_)
    · have hF := hF.1 c
      refine g_iload_n 17 hC dJ17_checkIndex_16 rfl 0 rfl rfl ?_
      exact g_ireturn hC ⟨_, rfl, hF⟩ dJ17_checkIndex_17 (Nat.zero_le _) (Nat.zero_le _)
    · have hF := hF.2 c
      exact w_J17_checkIndex_b9 hC _ _ _ _ hF
theorem hd_J17_checkIndex : yJ17_checkIndex.cls ≠ "java/lang/invoke/MethodHandle" ∧ yJ17_checkIndex.cls ≠ "java/lang/invoke/VarHandle" ∧ (parseMethodDescriptor yJ17_checkIndex.desc).map (fun d => d.parameters.length) = some 3 := by decide +kernel
theorem wl_J4_1059 : GoodIn lw_all (va_wsS RJ4 1059 yJ17_checkIndex (ws_ yJ17_checkIndex cJ17_checkIndex 3 (some .int))) := lw_S q810 q811 q100 q812
abbrev rm_J4_checkIndex : Room := { frames := 1, cells := 0, slots := 0, locals := 22 }
def F_J4_checkIndex  (M : gM) (x0 : Int32) (x1 : Int32) (Q : gM → Prop)  : Prop :=
  ∀ r_1 : Option Nat,
  F_J17_checkIndex M x0 x1 r_1 fun x_3 M_2 =>
  Q M_2
theorem met_J4_checkIndex {M : gM} {x0 : Int32} {x1 : Int32} {Q : gM → Prop} (hF : F_J4_checkIndex M x0 x1 Q) : gMt yJ4_checkIndex (ws_ yJ4_checkIndex cJ4_checkIndex 2 none) rm_J4_checkIndex M [.int x0, .int x1] (gQv Q) := by
  refine gMet (bytes := cJ4_checkIndex) (maxL := 2) (ret := none) rfl rfl (by decide) (Nat.le_of_ble_eq_true rfl) (lv := [(0, .int x0), (1, .int x1)]) rfl (fun G hC hin => ?_)
  unfold F_J4_checkIndex at hF
  refine g_iload_n 1 hC dJ4_checkIndex_0 rfl 0 rfl rfl ?_
  refine g_iload_n 2 hC dJ4_checkIndex_1 rfl 1 rfl rfl ?_
  refine g_getsq 5 hC sq_form q787 dJ4_checkIndex_2 rfl (fun r_1 => ?_)
  have hF := hF r_1
  refine g_cS (rest := []) wl_J4_1059 hd_J17_checkIndex 8 hC (met_J17_checkIndex hF) rfl ⟨Nat.le_of_ble_eq_true rfl, Nat.le_of_ble_eq_true rfl⟩ ⟨Nat.zero_le _, Nat.zero_le _⟩ rfl (Nat.le_of_ble_eq_true rfl) dJ4_checkIndex_5 rfl (g_ty_i 0 0 (Nat.le_refl _) (Nat.le_refl _) (fun x_3 M_2 hF => ?_))
  refine g_pop 9 hC dJ4_checkIndex_8 rfl rfl ?_
  exact g_return hC ⟨rfl, hF⟩ dJ4_checkIndex_9 (Nat.zero_le _) (Nat.zero_le _)
theorem hd_J4_checkIndex : yJ4_checkIndex.cls ≠ "java/lang/invoke/MethodHandle" ∧ yJ4_checkIndex.cls ≠ "java/lang/invoke/VarHandle" ∧ (parseMethodDescriptor yJ4_checkIndex.desc).map (fun d => d.parameters.length) = some 2 := by decide +kernel
theorem wl_J16_9 : GoodIn lw_all (va_wsS RJ16 9 yJ4_checkIndex (ws_ yJ4_checkIndex cJ4_checkIndex 2 none)) := lw_S q1630 q808 q77 q809
abbrev rm_J16_charAt : Room := { frames := 2, cells := 0, slots := 0, locals := 43 }
def F_J16_charAt  (M : gM) (a0 : Nat) (x1 : Int32) (Q : Int32 → gM → Prop)  : Prop :=
  aL M a0 fun x_1 =>
  F_J4_checkIndex M x1 x_1 fun M_2 =>
  aI M_2 .byte a0 x1 fun x_4 =>
  (narrow .char (.int (((x_4 &&& (255 : Int32)).toUInt32 % 65536).toInt32)) = .int (((x_4 &&& (255 : Int32)).toUInt32 % 65536).toInt32) ∧ Q (((x_4 &&& (255 : Int32)).toUInt32 % 65536).toInt32) M_2)
theorem met_J16_charAt {M : gM} {a0 : Nat} {x1 : Int32} {Q : Int32 → gM → Prop} (hF : F_J16_charAt M a0 x1 Q) : gMt yJ16_charAt (ws_ yJ16_charAt cJ16_charAt 2 (some .char)) rm_J16_charAt M [.ref a0, .int x1] (gQi Q) := by
  refine gMet (bytes := cJ16_charAt) (maxL := 2) (ret := (some .char)) rfl rfl (by decide) (Nat.le_of_ble_eq_true rfl) (lv := [(0, .ref a0), (1, .int x1)]) rfl (fun G hC hin => ?_)
  unfold F_J16_charAt at hF
  refine g_iload_n 1 hC dJ16_charAt_0 rfl 1 rfl rfl ?_
  refine g_aload_n 2 hC dJ16_charAt_1 rfl 0 rfl rfl ?_
  refine g_alen 3 hC hF dJ16_charAt_2 rfl (fun x_1 hF => ?_)
  refine g_cS (rest := []) wl_J16_9 hd_J4_checkIndex 6 hC (met_J4_checkIndex hF) rfl ⟨Nat.le_of_ble_eq_true rfl, Nat.le_of_ble_eq_true rfl⟩ ⟨Nat.zero_le _, Nat.zero_le _⟩ rfl (Nat.le_of_ble_eq_true rfl) dJ16_charAt_3 rfl (g_ty_v 0 0 (Nat.le_refl _) (Nat.le_refl _) (fun M_2 hF => ?_))
  refine g_aload_n 7 hC dJ16_charAt_6 rfl 0 rfl rfl ?_
  refine g_iload_n 8 hC dJ16_charAt_7 rfl 1 rfl rfl ?_
  refine g_bald 9 hC hF dJ16_charAt_8 rfl (fun x_4 hF => ?_)
  refine g_sipush 12 hC (255 : Int32) dJ16_charAt_9 (by decide) rfl ?_
  refine g_iand 13 hC dJ16_charAt_12 rfl ?_
  refine g_i2c 14 hC dJ16_charAt_13 rfl ?_
  exact g_breturn hC ⟨_, rfl, hF.2⟩ hF.1 dJ16_charAt_14 (Nat.zero_le _) (Nat.zero_le _)
abbrev rm_J4_isLatin1 : Room := { frames := 0, cells := 0, slots := 0, locals := 0 }
def F_J4_isLatin1  (M : gM) (a0 : Nat) (Q : Int32 → gM → Prop)  : Prop :=
  (((1 : Int32) = 0 →
    Q (0 : Int32) M) ∧
    (¬ (1 : Int32) = 0 →
    gI M 15 a0 1 fun x_1 =>
    ((¬ x_1 = 0 →
      Q (0 : Int32) M) ∧
      (x_1 = 0 →
      Q (1 : Int32) M))))
theorem met_J4_isLatin1 {M : gM} {a0 : Nat} {Q : Int32 → gM → Prop} (hF : F_J4_isLatin1 M a0 Q) : gMt yJ4_isLatin1 (ws_ yJ4_isLatin1 cJ4_isLatin1 1 (some .boolean)) rm_J4_isLatin1 M [.ref a0] (gQi Q) := by
  refine gMet (bytes := cJ4_isLatin1) (maxL := 1) (ret := (some .boolean)) rfl rfl (by decide) (Nat.le_of_ble_eq_true rfl) (lv := [(0, .ref a0)]) rfl (fun G hC hin => ?_)
  unfold F_J4_isLatin1 at hF
  refine g_gets 3 hC sz_compact q848 dJ4_isLatin1_0 rfl ?_
  refine g_if_eq 6 17 hC dJ4_isLatin1_3 (by decide) rfl (fun c => ?_) (fun c => ?_)
  · have hF := hF.1 c
    refine g_iconst 18 hC (0 : Int32) dJ4_isLatin1_17 (by decide) rfl ?_
    exact g_zreturn hC ⟨_, rfl, hF⟩ (Or.inl rfl) dJ4_isLatin1_18 (Nat.zero_le _) (Nat.zero_le _)
  · have hF := hF.2 c
    refine g_aload_n 7 hC dJ4_isLatin1_6 rfl 0 rfl rfl ?_
    refine gf_J4_15_15I 10 hC hF dJ4_isLatin1_7 rfl (fun x_1 hF => ?_)
    refine g_if_ne 13 17 hC dJ4_isLatin1_10 (by decide) rfl (fun c => ?_) (fun c => ?_)
    · have hF := hF.1 c
      refine g_iconst 18 hC (0 : Int32) dJ4_isLatin1_17 (by decide) rfl ?_
      exact g_zreturn hC ⟨_, rfl, hF⟩ (Or.inl rfl) dJ4_isLatin1_18 (Nat.zero_le _) (Nat.zero_le _)
    · have hF := hF.2 c
      refine g_iconst 14 hC (1 : Int32) dJ4_isLatin1_13 (by decide) rfl ?_
      refine g_goto 18 hC dJ4_isLatin1_14 (by decide) ?_
      exact g_zreturn hC ⟨_, rfl, hF⟩ (Or.inr rfl) dJ4_isLatin1_18 (Nat.zero_le _) (Nat.zero_le _)
theorem hd_J4_isLatin1 : yJ4_isLatin1.cls = RJ4 ∧ yJ4_isLatin1.cls ≠ "java/lang/invoke/MethodHandle" ∧ yJ4_isLatin1.cls ≠ "java/lang/invoke/VarHandle" ∧ (parseMethodDescriptor yJ4_isLatin1.desc).map (fun d => d.parameters.length) = some 0 := by decide +kernel
theorem wl_J4_492 : GoodIn lw_all (wsV RJ4 492 RJ4 yJ4_isLatin1 (ws_ yJ4_isLatin1 cJ4_isLatin1 1 (some .boolean))) := lw_V q1623 q1624 q1625 q77 q1626
theorem hd_J16_charAt : yJ16_charAt.cls ≠ "java/lang/invoke/MethodHandle" ∧ yJ16_charAt.cls ≠ "java/lang/invoke/VarHandle" ∧ (parseMethodDescriptor yJ16_charAt.desc).map (fun d => d.parameters.length) = some 2 := by decide +kernel
theorem wl_J4_495 : GoodIn lw_all (va_wsS RJ4 495 yJ16_charAt (ws_ yJ16_charAt cJ16_charAt 2 (some .char))) := lw_S q1627 q1628 q99 q1629
abbrev rm_J4_charAt : Room := { frames := 3, cells := 0, slots := 0, locals := 64 }
def F_J4_charAt  (M : gM) (a0 : Nat) (x1 : Int32) (Q : Int32 → gM → Prop)  : Prop :=
  rc M 15 a0 ∧ F_J4_isLatin1 M a0 fun x_2 M_1 =>
  ((x_2 = 0 →
    gN M_1 15 a0 0 fun a_3 =>
    False) ∧
    (¬ x_2 = 0 →
    gN M_1 15 a0 0 fun a_4 =>
    F_J16_charAt M_1 a_4 x1 fun x_6 M_5 =>
    (narrow .char (.int x_6) = .int x_6 ∧ Q x_6 M_5)))
theorem met_J4_charAt {M : gM} {a0 : Nat} {x1 : Int32} {Q : Int32 → gM → Prop} (hF : F_J4_charAt M a0 x1 Q) : gMt yJ4_charAt (ws_ yJ4_charAt cJ4_charAt 2 (some .char)) rm_J4_charAt M [.ref a0, .int x1] (gQi Q) := by
  refine gMet (bytes := cJ4_charAt) (maxL := 2) (ret := (some .char)) rfl rfl (by decide) (Nat.le_of_ble_eq_true rfl) (lv := [(0, .ref a0), (1, .int x1)]) rfl (fun G hC hin => ?_)
  unfold F_J4_charAt at hF
  refine g_aload_n 1 hC dJ4_charAt_0 rfl 0 rfl rfl ?_
  refine g_cV (rest := []) wl_J4_492 hd_J4_isLatin1 (ci := 15) rfl 4 hC hF.1 (met_J4_isLatin1 hF.2) rfl ⟨Nat.le_of_ble_eq_true rfl, Nat.le_of_ble_eq_true rfl⟩ ⟨Nat.zero_le _, Nat.zero_le _⟩ rfl (Nat.le_of_ble_eq_true rfl) dJ4_charAt_1 rfl (g_ty_i 0 0 (Nat.le_refl _) (Nat.le_refl _) (fun x_2 M_1 hF => ?_))
  refine g_if_eq 7 16 hC dJ4_charAt_4 (by decide) rfl (fun c => ?_) (fun c => ?_)
  · have hF := hF.1 c
    refine g_aload_n 17 hC dJ4_charAt_16 rfl 0 rfl rfl ?_
    refine gf_J4_9_15N 20 hC hF dJ4_charAt_17 rfl (fun a_3 hF => ?_)
    refine g_iload_n 21 hC dJ4_charAt_20 rfl 1 rfl rfl ?_
    exact hF.elim -- callee J12_charAt
  · have hF := hF.2 c
    refine g_aload_n 8 hC dJ4_charAt_7 rfl 0 rfl rfl ?_
    refine gf_J4_9_15N 11 hC hF dJ4_charAt_8 rfl (fun a_4 hF => ?_)
    refine g_iload_n 12 hC dJ4_charAt_11 rfl 1 rfl rfl ?_
    refine g_cS (rest := []) wl_J4_495 hd_J16_charAt 15 hC (met_J16_charAt hF) rfl ⟨Nat.le_of_ble_eq_true rfl, Nat.le_of_ble_eq_true rfl⟩ ⟨Nat.zero_le _, Nat.zero_le _⟩ rfl (Nat.le_of_ble_eq_true rfl) dJ4_charAt_12 rfl (g_ty_i 0 0 (Nat.le_refl _) (Nat.le_refl _) (fun x_6 M_5 hF => ?_))
    exact g_breturn hC ⟨_, rfl, hF.2⟩ hF.1 dJ4_charAt_15 (Nat.zero_le _) (Nat.zero_le _)
abbrev rm_X3_in : Room := { frames := 0, cells := 0, slots := 0, locals := 0 }
def F_X3_in  (M : gM) (j0 : Int64) (j2 : Int64) (j4 : Int64) (Q : Int32 → gM → Prop)  : Prop :=
  ((j0 < j2 →
    Q (0 : Int32) M) ∧
    (¬ j0 < j2 →
    ((j4 < j0 →
      Q (0 : Int32) M) ∧
      (¬ j4 < j0 →
      Q (1 : Int32) M))))
theorem met_X3_in {M : gM} {j0 : Int64} {j2 : Int64} {j4 : Int64} {Q : Int32 → gM → Prop} (hF : F_X3_in M j0 j2 j4 Q) : gMt yX3_in (ws_ yX3_in cX3_in 6 (some .boolean)) rm_X3_in M [.long j0, .long j2, .long j4] (gQi Q) := by
  refine gMet (bytes := cX3_in) (maxL := 6) (ret := (some .boolean)) rfl rfl (by decide) (Nat.le_of_ble_eq_true rfl) (lv := [(0, .long j0), (2, .long j2), (4, .long j4)]) rfl (fun G hC hin => ?_)
  unfold F_X3_in at hF
  refine g_lload_n 1 hC dX3_in_0 rfl 0 rfl rfl ?_
  refine g_lload_n 2 hC dX3_in_1 rfl 1 rfl rfl ?_
  refine g_lcmp_lt 6 17 hC dX3_in_2 rfl dX3_in_3 (by decide) rfl (fun c => ?_) (fun c => ?_)
  · have hF := hF.1 c
    refine g_iconst 18 hC (0 : Int32) dX3_in_17 (by decide) rfl ?_
    exact g_zreturn hC ⟨_, rfl, hF⟩ (Or.inl rfl) dX3_in_18 (Nat.zero_le _) (Nat.zero_le _)
  · have hF := hF.2 c
    refine g_lload_n 7 hC dX3_in_6 rfl 0 rfl rfl ?_
    refine g_lload 9 hC dX3_in_7 rfl 2 rfl ?_
    refine g_lcmp_gt 13 17 hC dX3_in_9 rfl dX3_in_10 (by decide) rfl (fun c => ?_) (fun c => ?_)
    · have hF := hF.1 c
      refine g_iconst 18 hC (0 : Int32) dX3_in_17 (by decide) rfl ?_
      exact g_zreturn hC ⟨_, rfl, hF⟩ (Or.inl rfl) dX3_in_18 (Nat.zero_le _) (Nat.zero_le _)
    · have hF := hF.2 c
      refine g_iconst 14 hC (1 : Int32) dX3_in_13 (by decide) rfl ?_
      refine g_goto 18 hC dX3_in_14 (by decide) ?_
      exact g_zreturn hC ⟨_, rfl, hF⟩ (Or.inr rfl) dX3_in_18 (Nat.zero_le _) (Nat.zero_le _)
theorem gf_X3_42_3N {G : gG} {cc : ByteArray} {nL : Nat} {ret : Option FieldType} {Qf : Option Value → gM → Prop} {rm : Room} {cells slots : Nat} {M : gM} {lv : List (Nat × Value)} {pc : Nat} {st : List Value} {a : Nat} (n : Nat) (hC : gCx G cc nL RX3 ret Qf rm) {κ : Nat → Prop} (hF : gN M 3 a 10 κ) (hdg : decode cc pc = .ok (.getfield 42, 3)) (hn : pc + 3 = n) (kk : ∀ x, κ x → gAt G cells slots M lv n (.ref x :: st)) : gAt G cells slots M lv pc (.ref a :: st) :=
  g_getN (C := RX3) (T := TX3) (N := 46) in_X3 rfl (by decide) q1397 (fun _ _ _ => rfl) n hC hF hdg hn kk
abbrev rm_X3_refuse : Room := { frames := 0, cells := 0, slots := 0, locals := 0 }
def F_X3_refuse  (M : gM) (a0 : Nat) (x1 : Int32) (Q : Int32 → gM → Prop)  : Prop :=
  gN M 3 a0 10 fun a_1 =>
  aI M .int a_1 (-x1) fun x_2 =>
  uI M a_1 (-x1) (x_2 + (1 : Int32)) fun M_3 =>
  Q x1 M_3
theorem met_X3_refuse {M : gM} {a0 : Nat} {x1 : Int32} {Q : Int32 → gM → Prop} (hF : F_X3_refuse M a0 x1 Q) : gMt yX3_refuse (ws_ yX3_refuse cX3_refuse 2 (some .int)) rm_X3_refuse M [.ref a0, .int x1] (gQi Q) := by
  refine gMet (bytes := cX3_refuse) (maxL := 2) (ret := (some .int)) rfl rfl (by decide) (Nat.le_of_ble_eq_true rfl) (lv := [(0, .ref a0), (1, .int x1)]) rfl (fun G hC hin => ?_)
  unfold F_X3_refuse at hF
  refine g_aload_n 1 hC dX3_refuse_0 rfl 0 rfl rfl ?_
  refine gf_X3_42_3N 4 hC hF dX3_refuse_1 rfl (fun a_1 hF => ?_)
  refine g_iload_n 5 hC dX3_refuse_4 rfl 1 rfl rfl ?_
  refine g_ineg 6 hC dX3_refuse_5 rfl ?_
  refine g_dup2_11 7 hC dX3_refuse_6 rfl rfl rfl ?_
  refine g_iald 8 hC hF dX3_refuse_7 rfl (fun x_2 hF => ?_)
  refine g_iconst 9 hC (1 : Int32) dX3_refuse_8 (by decide) rfl ?_
  refine g_iadd 10 hC dX3_refuse_9 rfl ?_
  refine g_iast 11 hC hF dX3_refuse_10 rfl (fun M_3 hF => ?_)
  refine g_iload_n 12 hC dX3_refuse_11 rfl 1 rfl rfl ?_
  exact g_ireturn hC ⟨_, rfl, hF⟩ dX3_refuse_12 (Nat.zero_le _) (Nat.zero_le _)
theorem gf_X3_21_3N {G : gG} {cc : ByteArray} {nL : Nat} {ret : Option FieldType} {Qf : Option Value → gM → Prop} {rm : Room} {cells slots : Nat} {M : gM} {lv : List (Nat × Value)} {pc : Nat} {st : List Value} {a : Nat} (n : Nat) (hC : gCx G cc nL RX3 ret Qf rm) {κ : Nat → Prop} (hF : gN M 3 a 3 κ) (hdg : decode cc pc = .ok (.getfield 21, 3)) (hn : pc + 3 = n) (kk : ∀ x, κ x → gAt G cells slots M lv n (.ref x :: st)) : gAt G cells slots M lv pc (.ref a :: st) :=
  g_getN (C := RX3) (T := TX3) (N := 46) in_X3 rfl (by decide) q1390 (fun _ _ _ => rfl) n hC hF hdg hn kk
theorem hd_X3_refuse : yX3_refuse.cls = RX3 ∧ yX3_refuse.cls ≠ "java/lang/invoke/MethodHandle" ∧ yX3_refuse.cls ≠ "java/lang/invoke/VarHandle" ∧ (parseMethodDescriptor yX3_refuse.desc).map (fun d => d.parameters.length) = some 1 := by decide +kernel
theorem wl_X3_119 : GoodIn lw_all (wsV RX3 119 RX3 yX3_refuse (ws_ yX3_refuse cX3_refuse 2 (some .int))) := lw_V q1536 q1538 qs28 q72 q1539
theorem hd_X3_in : yX3_in.cls ≠ "java/lang/invoke/MethodHandle" ∧ yX3_in.cls ≠ "java/lang/invoke/VarHandle" ∧ (parseMethodDescriptor yX3_in.desc).map (fun d => d.parameters.length) = some 3 := by decide +kernel
theorem wl_X3_94 : GoodIn lw_all (va_wsS RX3 94 yX3_in (ws_ yX3_in cX3_in 6 (some .boolean))) := lw_S q1531 q1532 q72 q1533
theorem gf_X3_7_3N {G : gG} {cc : ByteArray} {nL : Nat} {ret : Option FieldType} {Qf : Option Value → gM → Prop} {rm : Room} {cells slots : Nat} {M : gM} {lv : List (Nat × Value)} {pc : Nat} {st : List Value} {a : Nat} (n : Nat) (hC : gCx G cc nL RX3 ret Qf rm) {κ : Nat → Prop} (hF : gN M 3 a 0 κ) (hdg : decode cc pc = .ok (.getfield 7, 3)) (hn : pc + 3 = n) (kk : ∀ x, κ x → gAt G cells slots M lv n (.ref x :: st)) : gAt G cells slots M lv pc (.ref a :: st) :=
  g_getN (C := RX3) (T := TX3) (N := 46) in_X3 rfl (by decide) q1387 (fun _ _ _ => rfl) n hC hF hdg hn kk
theorem gf_X3_13_3N {G : gG} {cc : ByteArray} {nL : Nat} {ret : Option FieldType} {Qf : Option Value → gM → Prop} {rm : Room} {cells slots : Nat} {M : gM} {lv : List (Nat × Value)} {pc : Nat} {st : List Value} {a : Nat} (n : Nat) (hC : gCx G cc nL RX3 ret Qf rm) {κ : Nat → Prop} (hF : gN M 3 a 1 κ) (hdg : decode cc pc = .ok (.getfield 13, 3)) (hn : pc + 3 = n) (kk : ∀ x, κ x → gAt G cells slots M lv n (.ref x :: st)) : gAt G cells slots M lv pc (.ref a :: st) :=
  g_getN (C := RX3) (T := TX3) (N := 46) in_X3 rfl (by decide) q1388 (fun _ _ _ => rfl) n hC hF hdg hn kk
theorem gf_X3_16_3N {G : gG} {cc : ByteArray} {nL : Nat} {ret : Option FieldType} {Qf : Option Value → gM → Prop} {rm : Room} {cells slots : Nat} {M : gM} {lv : List (Nat × Value)} {pc : Nat} {st : List Value} {a : Nat} (n : Nat) (hC : gCx G cc nL RX3 ret Qf rm) {κ : Nat → Prop} (hF : gN M 3 a 2 κ) (hdg : decode cc pc = .ok (.getfield 16, 3)) (hn : pc + 3 = n) (kk : ∀ x, κ x → gAt G cells slots M lv n (.ref x :: st)) : gAt G cells slots M lv pc (.ref a :: st) :=
  g_getN (C := RX3) (T := TX3) (N := 46) in_X3 rfl (by decide) q1389 (fun _ _ _ => rfl) n hC hF hdg hn kk
abbrev rm_X3_row : Room := { frames := 1, cells := 0, slots := 0, locals := 25 }
def F_X3_row_b67 (Q : Int32 → gM → Prop)    (a0 : Nat) (x1 : Int32) : Nat → Int32 → gM → Prop
  | 0, _, _ => False
  | n + 1, x4, M =>
    (((125 : Int32) ≤ x4 →
      Q (1 : Int32) M) ∧
      (¬ (125 : Int32) ≤ x4 →
      gN M 3 a0 3 fun a_1 =>
      aN M (.array .long) a_1 x1 fun a_2 =>
      uJ M a_2 x4 (0 : Int64) fun M_3 =>
      (F_X3_row_b67 Q a0 x1 n) (x4 + (1 : Int32)) M_3))
theorem w_X3_row_b67 {G : gG} {Q : Int32 → gM → Prop} (hC : gCx G cX3_row 5 RX3 (some .int) (gQi Q) rm_X3_row)  (a0 : Nat) (x1 : Int32)  : ∀ (n : Nat) (x4 : Int32)   (M : gM), F_X3_row_b67 Q a0 x1 n x4 M → gAt G 0 0 M [(0, .ref a0), (1, .int x1), (4, .int x4)] 67 [] := by
  intro n
  induction n with
  | zero =>
    intro x4 M hF
    exact hF.elim
  | succ n ih =>
    intro x4 M hF
    have hK67 := ih
    unfold F_X3_row_b67 at hF
    refine g_iload 69 hC dX3_row_67 rfl 2 rfl ?_
    refine g_bipush 71 hC (125 : Int32) dX3_row_69 (by decide) rfl ?_
    refine g_icmp_ge 74 90 hC dX3_row_71 (by decide) rfl (fun c => ?_) (fun c => ?_)
    · have hF := hF.1 c
      refine g_iconst 91 hC (1 : Int32) dX3_row_90 (by decide) rfl ?_
      exact g_ireturn hC ⟨_, rfl, hF⟩ dX3_row_91 (Nat.zero_le _) (Nat.zero_le _)
    · have hF := hF.2 c
      refine g_aload_n 75 hC dX3_row_74 rfl 0 rfl rfl ?_
      refine gf_X3_21_3N 78 hC hF dX3_row_75 rfl (fun a_1 hF => ?_)
      refine g_iload_n 79 hC dX3_row_78 rfl 1 rfl rfl ?_
      refine g_aaldN 80 hC hF (by decide) rfl (fun _ _ _ => rfl) dX3_row_79 rfl (fun a_2 hF => ?_)
      refine g_iload 82 hC dX3_row_80 rfl 2 rfl ?_
      refine g_lconst 83 hC (0 : Int64) dX3_row_82 (by decide) rfl ?_
      refine g_last 84 hC hF dX3_row_83 rfl (fun M_3 hF => ?_)
      refine g_iinc 87 hC (x4 + (1 : Int32)) (lv' := [(4, .int _), (0, .ref _), (1, .int _)]) dX3_row_84 rfl 2 rfl rfl (by decide) rfl ?_
      refine g_goto 67 hC dX3_row_87 (by decide) ?_
      refine g_sub [1, 2, 0] rfl ?_
      exact hK67 _ _ hF
def F_X3_row_b36 (Q : Int32 → gM → Prop)    (a0 : Nat)   (M : gM) : Prop :=
  rc M 3 a0 ∧ F_X3_refuse M a0 (-2 : Int32) fun x_2 M_1 =>
  Q x_2 M_1
theorem w_X3_row_b36 {G : gG} {Q : Int32 → gM → Prop} (hC : gCx G cX3_row 5 RX3 (some .int) (gQi Q) rm_X3_row)  (a0 : Nat)     (M : gM) (hF : F_X3_row_b36 Q a0 M) : gAt G 0 0 M [(0, .ref a0)] 36 [] := by
  unfold F_X3_row_b36 at hF
  refine g_aload_n 37 hC dX3_row_36 rfl 0 rfl rfl ?_
  refine g_bipush 39 hC (-2 : Int32) dX3_row_37 (by decide) rfl ?_
  refine g_cV (rest := []) wl_X3_119 hd_X3_refuse (ci := 3) rfl 42 hC hF.1 (met_X3_refuse hF.2) rfl ⟨Nat.le_of_ble_eq_true rfl, Nat.le_of_ble_eq_true rfl⟩ ⟨Nat.zero_le _, Nat.zero_le _⟩ rfl (Nat.le_of_ble_eq_true rfl) dX3_row_39 rfl (g_ty_i 0 0 (Nat.le_refl _) (Nat.le_refl _) (fun x_2 M_1 hF => ?_))
  exact g_ireturn hC ⟨_, rfl, hF⟩ dX3_row_42 (Nat.zero_le _) (Nat.zero_le _)
def F_X3_row  (M : gM) (a0 : Nat) (x1 : Int32) (x2 : Int32) (x3 : Int32) (Q : Int32 → gM → Prop)  : Prop :=
  F_X3_in M x1.toInt64 (0 : Int64) (7 : Int64) fun x_2 M_1 =>
  ((x_2 = 0 →
    F_X3_row_b36 Q a0 M_1) ∧
    (¬ x_2 = 0 →
    F_X3_in M_1 x2.toInt64 (0 : Int64) (4 : Int64) fun x_4 M_3 =>
    ((x_4 = 0 →
      F_X3_row_b36 Q a0 M_3) ∧
      (¬ x_4 = 0 →
      F_X3_in M_3 x3.toInt64 (0 : Int64) (125 : Int64) fun x_6 M_5 =>
      ((¬ x_6 = 0 →
        gN M_5 3 a0 0 fun a_7 =>
        uI M_5 a_7 x1 (1 : Int32) fun M_8 =>
        gN M_8 3 a0 1 fun a_9 =>
        uI M_8 a_9 x1 x2 fun M_10 =>
        gN M_10 3 a0 2 fun a_11 =>
        uI M_10 a_11 x1 x3 fun M_12 =>
        ∃ n_13, F_X3_row_b67 Q a0 x1 n_13 (0 : Int32) M_12) ∧
        (x_6 = 0 →
        F_X3_row_b36 Q a0 M_5))))))
theorem met_X3_row {M : gM} {a0 : Nat} {x1 : Int32} {x2 : Int32} {x3 : Int32} {Q : Int32 → gM → Prop} (hF : F_X3_row M a0 x1 x2 x3 Q) : gMt yX3_row (ws_ yX3_row cX3_row 5 (some .int)) rm_X3_row M [.ref a0, .int x1, .int x2, .int x3] (gQi Q) := by
  refine gMet (bytes := cX3_row) (maxL := 5) (ret := (some .int)) rfl rfl (by decide) (Nat.le_of_ble_eq_true rfl) (lv := [(0, .ref a0), (1, .int x1), (2, .int x2), (3, .int x3)]) rfl (fun G hC hin => ?_)
  unfold F_X3_row at hF
  refine g_iload_n 1 hC dX3_row_0 rfl 1 rfl rfl ?_
  refine g_i2l 2 hC dX3_row_1 rfl ?_
  refine g_lconst 3 hC (0 : Int64) dX3_row_2 (by decide) rfl ?_
  refine g_ldc2 6 hC q1530 dX3_row_3 rfl ?_
  refine g_cS (rest := []) wl_X3_94 hd_X3_in 9 hC (met_X3_in hF) rfl ⟨Nat.le_of_ble_eq_true rfl, Nat.le_of_ble_eq_true rfl⟩ ⟨Nat.zero_le _, Nat.zero_le _⟩ rfl (Nat.le_of_ble_eq_true rfl) dX3_row_6 rfl (g_ty_i 0 0 (Nat.le_refl _) (Nat.le_refl _) (fun x_2 M_1 hF => ?_))
  refine g_if_eq 12 36 hC dX3_row_9 (by decide) rfl (fun c => ?_) (fun c => ?_)
  · have hF := hF.1 c
    refine g_sub [0] rfl ?_
    exact w_X3_row_b36 hC _ _ hF
  · have hF := hF.2 c
    refine g_iload_n 13 hC dX3_row_12 rfl 2 rfl rfl ?_
    refine g_i2l 14 hC dX3_row_13 rfl ?_
    refine g_lconst 15 hC (0 : Int64) dX3_row_14 (by decide) rfl ?_
    refine g_ldc2 18 hC q1534 dX3_row_15 rfl ?_
    refine g_cS (rest := []) wl_X3_94 hd_X3_in 21 hC (met_X3_in hF) rfl ⟨Nat.le_of_ble_eq_true rfl, Nat.le_of_ble_eq_true rfl⟩ ⟨Nat.zero_le _, Nat.zero_le _⟩ rfl (Nat.le_of_ble_eq_true rfl) dX3_row_18 rfl (g_ty_i 0 0 (Nat.le_refl _) (Nat.le_refl _) (fun x_4 M_3 hF => ?_))
    refine g_if_eq 24 36 hC dX3_row_21 (by decide) rfl (fun c => ?_) (fun c => ?_)
    · have hF := hF.1 c
      refine g_sub [0] rfl ?_
      exact w_X3_row_b36 hC _ _ hF
    · have hF := hF.2 c
      refine g_iload_n 25 hC dX3_row_24 rfl 3 rfl rfl ?_
      refine g_i2l 26 hC dX3_row_25 rfl ?_
      refine g_lconst 27 hC (0 : Int64) dX3_row_26 (by decide) rfl ?_
      refine g_ldc2 30 hC q1535 dX3_row_27 rfl ?_
      refine g_cS (rest := []) wl_X3_94 hd_X3_in 33 hC (met_X3_in hF) rfl ⟨Nat.le_of_ble_eq_true rfl, Nat.le_of_ble_eq_true rfl⟩ ⟨Nat.zero_le _, Nat.zero_le _⟩ rfl (Nat.le_of_ble_eq_true rfl) dX3_row_30 rfl (g_ty_i 0 0 (Nat.le_refl _) (Nat.le_refl _) (fun x_6 M_5 hF => ?_))
      refine g_if_ne 36 43 hC dX3_row_33 (by decide) rfl (fun c => ?_) (fun c => ?_)
      · have hF := hF.1 c
        refine g_aload_n 44 hC dX3_row_43 rfl 0 rfl rfl ?_
        refine gf_X3_7_3N 47 hC hF dX3_row_44 rfl (fun a_7 hF => ?_)
        refine g_iload_n 48 hC dX3_row_47 rfl 1 rfl rfl ?_
        refine g_iconst 49 hC (1 : Int32) dX3_row_48 (by decide) rfl ?_
        refine g_iast 50 hC hF dX3_row_49 rfl (fun M_8 hF => ?_)
        refine g_aload_n 51 hC dX3_row_50 rfl 0 rfl rfl ?_
        refine gf_X3_13_3N 54 hC hF dX3_row_51 rfl (fun a_9 hF => ?_)
        refine g_iload_n 55 hC dX3_row_54 rfl 1 rfl rfl ?_
        refine g_iload_n 56 hC dX3_row_55 rfl 2 rfl rfl ?_
        refine g_iast 57 hC hF dX3_row_56 rfl (fun M_10 hF => ?_)
        refine g_aload_n 58 hC dX3_row_57 rfl 0 rfl rfl ?_
        refine gf_X3_16_3N 61 hC hF dX3_row_58 rfl (fun a_11 hF => ?_)
        refine g_iload_n 62 hC dX3_row_61 rfl 1 rfl rfl ?_
        refine g_iload_n 63 hC dX3_row_62 rfl 3 rfl rfl ?_
        refine g_iast 64 hC hF dX3_row_63 rfl (fun M_12 hF => ?_)
        refine g_iconst 65 hC (0 : Int32) dX3_row_64 (by decide) rfl ?_
        refine g_istore 67 hC (lv' := [(4, .int _), (0, .ref _), (1, .int _), (2, .int _), (3, .int _)]) dX3_row_65 rfl (by decide) rfl ?_
        refine g_sub [1, 2, 0] rfl ?_
        obtain ⟨n_13, hF⟩ := hF
        exact w_X3_row_b67 hC _ _ n_13 _ _ hF
      · have hF := hF.2 c
        refine g_sub [0] rfl ?_
        exact w_X3_row_b36 hC _ _ hF
abbrev rm_X3_fit : Room := { frames := 0, cells := 0, slots := 0, locals := 0 }
def F_X3_fit  (M : gM) (x0 : Int32) (j1 : Int64) (Q : Int64 → gM → Prop)  : Prop :=
  (((x0.toInt < 0 ∨ 3 < x0.toInt) →
    ((j1 = (0 : Int64) →
      Q (0 : Int64) M) ∧
      (¬ j1 = (0 : Int64) →
      Q (1 : Int64) M))) ∧
    (x0 = (0 : Int32) →
    Q j1.toInt32.toInt8.toInt32.toInt64 M) ∧
    (x0 = (1 : Int32) →
    Q j1.toInt32.toInt16.toInt32.toInt64 M) ∧
    (x0 = (2 : Int32) →
    Q j1.toInt32.toInt64 M) ∧
    (x0 = (3 : Int32) →
    Q j1 M))
theorem met_X3_fit {M : gM} {x0 : Int32} {j1 : Int64} {Q : Int64 → gM → Prop} (hF : F_X3_fit M x0 j1 Q) : gMt yX3_fit (ws_ yX3_fit cX3_fit 3 (some .long)) rm_X3_fit M [.int x0, .long j1] (gQj Q) := by
  refine gMet (bytes := cX3_fit) (maxL := 3) (ret := (some .long)) rfl rfl (by decide) (Nat.le_of_ble_eq_true rfl) (lv := [(0, .int x0), (1, .long j1)]) rfl (fun G hC hin => ?_)
  unfold F_X3_fit at hF
  refine g_iload_n 1 hC dX3_fit_0 rfl 0 rfl rfl ?_
  rcases (by omega : ((x0.toInt < 0 ∨ 3 < x0.toInt) ∨ x0.toInt = 0 ∨ x0.toInt = 1 ∨ x0.toInt = 2 ∨ x0.toInt = 3)) with c | c | c | c | c
  · refine g_tsOut 48 hC dX3_fit_1 c (by decide) ?_
    have hF := hF.1 c
    refine g_lload_n 49 hC dX3_fit_48 rfl 1 rfl rfl ?_
    refine g_lconst 50 hC (0 : Int64) dX3_fit_49 (by decide) rfl ?_
    refine g_lcmp_eq 54 58 hC dX3_fit_50 rfl dX3_fit_51 (by decide) rfl (fun c => ?_) (fun c => ?_)
    · have hF := hF.1 c
      refine g_lconst 59 hC (0 : Int64) dX3_fit_58 (by decide) rfl ?_
      exact g_lreturn hC ⟨_, rfl, hF⟩ dX3_fit_59 (Nat.zero_le _) (Nat.zero_le _)
    · have hF := hF.2 c
      refine g_lconst 55 hC (1 : Int64) dX3_fit_54 (by decide) rfl ?_
      refine g_goto 59 hC dX3_fit_55 (by decide) ?_
      exact g_lreturn hC ⟨_, rfl, hF⟩ dX3_fit_59 (Nat.zero_le _) (Nat.zero_le _)
  · have c : x0 = (0 : Int32) := Int32.toInt_inj.mp (c.trans (by decide))
    refine g_tsIn 32 hC (0 : Int32) c dX3_fit_1 (by decide) (by decide) rfl (by decide) ?_
    have hF := hF.2.1 c
    refine g_lload_n 33 hC dX3_fit_32 rfl 1 rfl rfl ?_
    refine g_l2i 34 hC dX3_fit_33 rfl ?_
    refine g_i2b 35 hC dX3_fit_34 rfl ?_
    refine g_i2l 36 hC dX3_fit_35 rfl ?_
    exact g_lreturn hC ⟨_, rfl, hF⟩ dX3_fit_36 (Nat.zero_le _) (Nat.zero_le _)
  · have c : x0 = (1 : Int32) := Int32.toInt_inj.mp (c.trans (by decide))
    refine g_tsIn 37 hC (1 : Int32) c dX3_fit_1 (by decide) (by decide) rfl (by decide) ?_
    have hF := hF.2.2.1 c
    refine g_lload_n 38 hC dX3_fit_37 rfl 1 rfl rfl ?_
    refine g_l2i 39 hC dX3_fit_38 rfl ?_
    refine g_i2s 40 hC dX3_fit_39 rfl ?_
    refine g_i2l 41 hC dX3_fit_40 rfl ?_
    exact g_lreturn hC ⟨_, rfl, hF⟩ dX3_fit_41 (Nat.zero_le _) (Nat.zero_le _)
  · have c : x0 = (2 : Int32) := Int32.toInt_inj.mp (c.trans (by decide))
    refine g_tsIn 42 hC (2 : Int32) c dX3_fit_1 (by decide) (by decide) rfl (by decide) ?_
    have hF := hF.2.2.2.1 c
    refine g_lload_n 43 hC dX3_fit_42 rfl 1 rfl rfl ?_
    refine g_l2i 44 hC dX3_fit_43 rfl ?_
    refine g_i2l 45 hC dX3_fit_44 rfl ?_
    exact g_lreturn hC ⟨_, rfl, hF⟩ dX3_fit_45 (Nat.zero_le _) (Nat.zero_le _)
  · have c : x0 = (3 : Int32) := Int32.toInt_inj.mp (c.trans (by decide))
    refine g_tsIn 46 hC (3 : Int32) c dX3_fit_1 (by decide) (by decide) rfl (by decide) ?_
    have hF := hF.2.2.2.2 c
    refine g_lload_n 47 hC dX3_fit_46 rfl 1 rfl rfl ?_
    exact g_lreturn hC ⟨_, rfl, hF⟩ dX3_fit_47 (Nat.zero_le _) (Nat.zero_le _)
theorem hd_X3_fit : yX3_fit.cls ≠ "java/lang/invoke/MethodHandle" ∧ yX3_fit.cls ≠ "java/lang/invoke/VarHandle" ∧ (parseMethodDescriptor yX3_fit.desc).map (fun d => d.parameters.length) = some 2 := by decide +kernel
theorem wl_X3_122 : GoodIn lw_all (va_wsS RX3 122 yX3_fit (ws_ yX3_fit cX3_fit 3 (some .long))) := lw_S q1544 q1545 q72 q1546
abbrev rm_X3_set : Room := { frames := 1, cells := 0, slots := 0, locals := 25 }
def F_X3_set  (M : gM) (a0 : Nat) (x1 : Int32) (x2 : Int32) (j3 : Int64) (Q : Int32 → gM → Prop)  : Prop :=
  F_X3_in M x1.toInt64 (0 : Int64) (7 : Int64) fun x_2 M_1 =>
  ((¬ x_2 = 0 →
    gN M_1 3 a0 0 fun a_3 =>
    aI M_1 .int a_3 x1 fun x_4 =>
    ((¬ x_4 = (2 : Int32) →
      gN M_1 3 a0 0 fun a_5 =>
      aI M_1 .int a_5 x1 fun x_6 =>
      ((¬ x_6 = 0 →
        gN M_1 3 a0 2 fun a_7 =>
        aI M_1 .int a_7 x1 fun x_8 =>
        F_X3_in M_1 x2.toInt64 (0 : Int64) ((x_8 - (1 : Int32)).toInt64) fun x_10 M_9 =>
        ((¬ x_10 = 0 →
          gN M_9 3 a0 3 fun a_11 =>
          aN M_9 (.array .long) a_11 x1 fun a_12 =>
          gN M_9 3 a0 1 fun a_13 =>
          aI M_9 .int a_13 x1 fun x_14 =>
          F_X3_fit M_9 x_14 j3 fun j_16 M_15 =>
          uJ M_15 a_12 x2 j_16 fun M_17 =>
          Q (1 : Int32) M_17) ∧
          (x_10 = 0 →
          rc M_9 3 a0 ∧ F_X3_refuse M_9 a0 (-2 : Int32) fun x_19 M_18 =>
          Q x_19 M_18))) ∧
        (x_6 = 0 →
        rc M_1 3 a0 ∧ F_X3_refuse M_1 a0 (-4 : Int32) fun x_21 M_20 =>
        Q x_21 M_20))) ∧
      (x_4 = (2 : Int32) →
      rc M_1 3 a0 ∧ F_X3_refuse M_1 a0 (-3 : Int32) fun x_23 M_22 =>
      Q x_23 M_22))) ∧
    (x_2 = 0 →
    rc M_1 3 a0 ∧ F_X3_refuse M_1 a0 (-2 : Int32) fun x_25 M_24 =>
    Q x_25 M_24))
theorem met_X3_set {M : gM} {a0 : Nat} {x1 : Int32} {x2 : Int32} {j3 : Int64} {Q : Int32 → gM → Prop} (hF : F_X3_set M a0 x1 x2 j3 Q) : gMt yX3_set (ws_ yX3_set cX3_set 5 (some .int)) rm_X3_set M [.ref a0, .int x1, .int x2, .long j3] (gQi Q) := by
  refine gMet (bytes := cX3_set) (maxL := 5) (ret := (some .int)) rfl rfl (by decide) (Nat.le_of_ble_eq_true rfl) (lv := [(0, .ref a0), (1, .int x1), (2, .int x2), (3, .long j3)]) rfl (fun G hC hin => ?_)
  unfold F_X3_set at hF
  refine g_iload_n 1 hC dX3_set_0 rfl 1 rfl rfl ?_
  refine g_i2l 2 hC dX3_set_1 rfl ?_
  refine g_lconst 3 hC (0 : Int64) dX3_set_2 (by decide) rfl ?_
  refine g_ldc2 6 hC q1530 dX3_set_3 rfl ?_
  refine g_cS (rest := []) wl_X3_94 hd_X3_in 9 hC (met_X3_in hF) rfl ⟨Nat.le_of_ble_eq_true rfl, Nat.le_of_ble_eq_true rfl⟩ ⟨Nat.zero_le _, Nat.zero_le _⟩ rfl (Nat.le_of_ble_eq_true rfl) dX3_set_6 rfl (g_ty_i 0 0 (Nat.le_refl _) (Nat.le_refl _) (fun x_2 M_1 hF => ?_))
  refine g_if_ne 12 19 hC dX3_set_9 (by decide) rfl (fun c => ?_) (fun c => ?_)
  · have hF := hF.1 c
    refine g_aload_n 20 hC dX3_set_19 rfl 0 rfl rfl ?_
    refine gf_X3_7_3N 23 hC hF dX3_set_20 rfl (fun a_3 hF => ?_)
    refine g_iload_n 24 hC dX3_set_23 rfl 1 rfl rfl ?_
    refine g_iald 25 hC hF dX3_set_24 rfl (fun x_4 hF => ?_)
    refine g_iconst 26 hC (2 : Int32) dX3_set_25 (by decide) rfl ?_
    refine g_icmp_ne 29 36 hC dX3_set_26 (by decide) rfl (fun c => ?_) (fun c => ?_)
    · have hF := hF.1 c
      refine g_aload_n 37 hC dX3_set_36 rfl 0 rfl rfl ?_
      refine gf_X3_7_3N 40 hC hF dX3_set_37 rfl (fun a_5 hF => ?_)
      refine g_iload_n 41 hC dX3_set_40 rfl 1 rfl rfl ?_
      refine g_iald 42 hC hF dX3_set_41 rfl (fun x_6 hF => ?_)
      refine g_if_ne 45 52 hC dX3_set_42 (by decide) rfl (fun c => ?_) (fun c => ?_)
      · have hF := hF.1 c
        refine g_iload_n 53 hC dX3_set_52 rfl 2 rfl rfl ?_
        refine g_i2l 54 hC dX3_set_53 rfl ?_
        refine g_lconst 55 hC (0 : Int64) dX3_set_54 (by decide) rfl ?_
        refine g_aload_n 56 hC dX3_set_55 rfl 0 rfl rfl ?_
        refine gf_X3_16_3N 59 hC hF dX3_set_56 rfl (fun a_7 hF => ?_)
        refine g_iload_n 60 hC dX3_set_59 rfl 1 rfl rfl ?_
        refine g_iald 61 hC hF dX3_set_60 rfl (fun x_8 hF => ?_)
        refine g_iconst 62 hC (1 : Int32) dX3_set_61 (by decide) rfl ?_
        refine g_isub 63 hC dX3_set_62 rfl ?_
        refine g_i2l 64 hC dX3_set_63 rfl ?_
        refine g_cS (rest := []) wl_X3_94 hd_X3_in 67 hC (met_X3_in hF) rfl ⟨Nat.le_of_ble_eq_true rfl, Nat.le_of_ble_eq_true rfl⟩ ⟨Nat.zero_le _, Nat.zero_le _⟩ rfl (Nat.le_of_ble_eq_true rfl) dX3_set_64 rfl (g_ty_i 0 0 (Nat.le_refl _) (Nat.le_refl _) (fun x_10 M_9 hF => ?_))
        refine g_if_ne 70 77 hC dX3_set_67 (by decide) rfl (fun c => ?_) (fun c => ?_)
        · have hF := hF.1 c
          refine g_aload_n 78 hC dX3_set_77 rfl 0 rfl rfl ?_
          refine gf_X3_21_3N 81 hC hF dX3_set_78 rfl (fun a_11 hF => ?_)
          refine g_iload_n 82 hC dX3_set_81 rfl 1 rfl rfl ?_
          refine g_aaldN 83 hC hF (by decide) rfl (fun _ _ _ => rfl) dX3_set_82 rfl (fun a_12 hF => ?_)
          refine g_iload_n 84 hC dX3_set_83 rfl 2 rfl rfl ?_
          refine g_aload_n 85 hC dX3_set_84 rfl 0 rfl rfl ?_
          refine gf_X3_13_3N 88 hC hF dX3_set_85 rfl (fun a_13 hF => ?_)
          refine g_iload_n 89 hC dX3_set_88 rfl 1 rfl rfl ?_
          refine g_iald 90 hC hF dX3_set_89 rfl (fun x_14 hF => ?_)
          refine g_lload_n 91 hC dX3_set_90 rfl 3 rfl rfl ?_
          refine g_cS (rest := [_, _]) wl_X3_122 hd_X3_fit 94 hC (met_X3_fit hF) rfl ⟨Nat.le_of_ble_eq_true rfl, Nat.le_of_ble_eq_true rfl⟩ ⟨Nat.zero_le _, Nat.zero_le _⟩ rfl (Nat.le_of_ble_eq_true rfl) dX3_set_91 rfl (g_ty_j 0 0 (Nat.le_refl _) (Nat.le_refl _) (fun j_16 M_15 hF => ?_))
          refine g_last 95 hC hF dX3_set_94 rfl (fun M_17 hF => ?_)
          refine g_iconst 96 hC (1 : Int32) dX3_set_95 (by decide) rfl ?_
          exact g_ireturn hC ⟨_, rfl, hF⟩ dX3_set_96 (Nat.zero_le _) (Nat.zero_le _)
        · have hF := hF.2 c
          refine g_aload_n 71 hC dX3_set_70 rfl 0 rfl rfl ?_
          refine g_bipush 73 hC (-2 : Int32) dX3_set_71 (by decide) rfl ?_
          refine g_cV (rest := []) wl_X3_119 hd_X3_refuse (ci := 3) rfl 76 hC hF.1 (met_X3_refuse hF.2) rfl ⟨Nat.le_of_ble_eq_true rfl, Nat.le_of_ble_eq_true rfl⟩ ⟨Nat.zero_le _, Nat.zero_le _⟩ rfl (Nat.le_of_ble_eq_true rfl) dX3_set_73 rfl (g_ty_i 0 0 (Nat.le_refl _) (Nat.le_refl _) (fun x_19 M_18 hF => ?_))
          exact g_ireturn hC ⟨_, rfl, hF⟩ dX3_set_76 (Nat.zero_le _) (Nat.zero_le _)
      · have hF := hF.2 c
        refine g_aload_n 46 hC dX3_set_45 rfl 0 rfl rfl ?_
        refine g_bipush 48 hC (-4 : Int32) dX3_set_46 (by decide) rfl ?_
        refine g_cV (rest := []) wl_X3_119 hd_X3_refuse (ci := 3) rfl 51 hC hF.1 (met_X3_refuse hF.2) rfl ⟨Nat.le_of_ble_eq_true rfl, Nat.le_of_ble_eq_true rfl⟩ ⟨Nat.zero_le _, Nat.zero_le _⟩ rfl (Nat.le_of_ble_eq_true rfl) dX3_set_48 rfl (g_ty_i 0 0 (Nat.le_refl _) (Nat.le_refl _) (fun x_21 M_20 hF => ?_))
        exact g_ireturn hC ⟨_, rfl, hF⟩ dX3_set_51 (Nat.zero_le _) (Nat.zero_le _)
    · have hF := hF.2 c
      refine g_aload_n 30 hC dX3_set_29 rfl 0 rfl rfl ?_
      refine g_bipush 32 hC (-3 : Int32) dX3_set_30 (by decide) rfl ?_
      refine g_cV (rest := []) wl_X3_119 hd_X3_refuse (ci := 3) rfl 35 hC hF.1 (met_X3_refuse hF.2) rfl ⟨Nat.le_of_ble_eq_true rfl, Nat.le_of_ble_eq_true rfl⟩ ⟨Nat.zero_le _, Nat.zero_le _⟩ rfl (Nat.le_of_ble_eq_true rfl) dX3_set_32 rfl (g_ty_i 0 0 (Nat.le_refl _) (Nat.le_refl _) (fun x_23 M_22 hF => ?_))
      exact g_ireturn hC ⟨_, rfl, hF⟩ dX3_set_35 (Nat.zero_le _) (Nat.zero_le _)
  · have hF := hF.2 c
    refine g_aload_n 13 hC dX3_set_12 rfl 0 rfl rfl ?_
    refine g_bipush 15 hC (-2 : Int32) dX3_set_13 (by decide) rfl ?_
    refine g_cV (rest := []) wl_X3_119 hd_X3_refuse (ci := 3) rfl 18 hC hF.1 (met_X3_refuse hF.2) rfl ⟨Nat.le_of_ble_eq_true rfl, Nat.le_of_ble_eq_true rfl⟩ ⟨Nat.zero_le _, Nat.zero_le _⟩ rfl (Nat.le_of_ble_eq_true rfl) dX3_set_15 rfl (g_ty_i 0 0 (Nat.le_refl _) (Nat.le_refl _) (fun x_25 M_24 hF => ?_))
    exact g_ireturn hC ⟨_, rfl, hF⟩ dX3_set_18 (Nat.zero_le _) (Nat.zero_le _)
theorem gf_X3_24_3N {G : gG} {cc : ByteArray} {nL : Nat} {ret : Option FieldType} {Qf : Option Value → gM → Prop} {rm : Room} {cells slots : Nat} {M : gM} {lv : List (Nat × Value)} {pc : Nat} {st : List Value} {a : Nat} (n : Nat) (hC : gCx G cc nL RX3 ret Qf rm) {κ : Nat → Prop} (hF : gN M 3 a 4 κ) (hdg : decode cc pc = .ok (.getfield 24, 3)) (hn : pc + 3 = n) (kk : ∀ x, κ x → gAt G cells slots M lv n (.ref x :: st)) : gAt G cells slots M lv pc (.ref a :: st) :=
  g_getN (C := RX3) (T := TX3) (N := 46) in_X3 rfl (by decide) q1391 (fun _ _ _ => rfl) n hC hF hdg hn kk
abbrev rm_X3_copy : Room := { frames := 1, cells := 0, slots := 0, locals := 25 }
def F_X3_copy_b225 (Q : Int32 → gM → Prop)    (a0 : Nat) (x2 : Int32) (x4 : Int32) (x5 : Int32) : Nat → Int32 → gM → Prop
  | 0, _, _ => False
  | n + 1, x6, M =>
    ((x5 ≤ x6 →
      Q x5 M) ∧
      (¬ x5 ≤ x6 →
      gN M 3 a0 3 fun a_1 =>
      aN M (.array .long) a_1 x2 fun a_2 =>
      gN M 3 a0 4 fun a_3 =>
      aJ M a_3 x6 fun j_4 =>
      uJ M a_2 (x4 + x6) j_4 fun M_5 =>
      (F_X3_copy_b225 Q a0 x2 x4 x5 n) (x6 + (1 : Int32)) M_5))
theorem w_X3_copy_b225 {G : gG} {Q : Int32 → gM → Prop} (hC : gCx G cX3_copy 7 RX3 (some .int) (gQi Q) rm_X3_copy)  (a0 : Nat) (x2 : Int32) (x4 : Int32) (x5 : Int32)  : ∀ (n : Nat) (x6 : Int32)   (M : gM), F_X3_copy_b225 Q a0 x2 x4 x5 n x6 M → gAt G 0 0 M [(0, .ref a0), (2, .int x2), (4, .int x4), (5, .int x5), (6, .int x6)] 225 [] := by
  intro n
  induction n with
  | zero =>
    intro x6 M hF
    exact hF.elim
  | succ n ih =>
    intro x6 M hF
    have hK225 := ih
    unfold F_X3_copy_b225 at hF
    refine g_iload 227 hC dX3_copy_225 rfl 4 rfl ?_
    refine g_iload 229 hC dX3_copy_227 rfl 3 rfl ?_
    refine g_icmp_ge 232 257 hC dX3_copy_229 (by decide) rfl (fun c => ?_) (fun c => ?_)
    · have hF := hF.1 c
      refine g_iload 259 hC dX3_copy_257 rfl 3 rfl ?_
      exact g_ireturn hC ⟨_, rfl, hF⟩ dX3_copy_259 (Nat.zero_le _) (Nat.zero_le _)
    · have hF := hF.2 c
      refine g_aload_n 233 hC dX3_copy_232 rfl 0 rfl rfl ?_
      refine gf_X3_21_3N 236 hC hF dX3_copy_233 rfl (fun a_1 hF => ?_)
      refine g_iload_n 237 hC dX3_copy_236 rfl 1 rfl rfl ?_
      refine g_aaldN 238 hC hF (by decide) rfl (fun _ _ _ => rfl) dX3_copy_237 rfl (fun a_2 hF => ?_)
      refine g_iload 240 hC dX3_copy_238 rfl 2 rfl ?_
      refine g_iload 242 hC dX3_copy_240 rfl 4 rfl ?_
      refine g_iadd 243 hC dX3_copy_242 rfl ?_
      refine g_aload_n 244 hC dX3_copy_243 rfl 0 rfl rfl ?_
      refine gf_X3_24_3N 247 hC hF dX3_copy_244 rfl (fun a_3 hF => ?_)
      refine g_iload 249 hC dX3_copy_247 rfl 4 rfl ?_
      refine g_lald 250 hC hF dX3_copy_249 rfl (fun j_4 hF => ?_)
      refine g_last 251 hC hF dX3_copy_250 rfl (fun M_5 hF => ?_)
      refine g_iinc 254 hC (x6 + (1 : Int32)) (lv' := [(6, .int _), (0, .ref _), (2, .int _), (4, .int _), (5, .int _)]) dX3_copy_251 rfl 4 rfl rfl (by decide) rfl ?_
      refine g_goto 225 hC dX3_copy_254 (by decide) ?_
      refine g_sub [1, 2, 3, 4, 0] rfl ?_
      exact hK225 _ _ hF
def F_X3_copy_b111 (Q : Int32 → gM → Prop)    (a0 : Nat)   (M : gM) : Prop :=
  rc M 3 a0 ∧ F_X3_refuse M a0 (-4 : Int32) fun x_2 M_1 =>
  Q x_2 M_1
theorem w_X3_copy_b111 {G : gG} {Q : Int32 → gM → Prop} (hC : gCx G cX3_copy 7 RX3 (some .int) (gQi Q) rm_X3_copy)  (a0 : Nat)     (M : gM) (hF : F_X3_copy_b111 Q a0 M) : gAt G 0 0 M [(0, .ref a0)] 111 [] := by
  unfold F_X3_copy_b111 at hF
  refine g_aload_n 112 hC dX3_copy_111 rfl 0 rfl rfl ?_
  refine g_bipush 114 hC (-4 : Int32) dX3_copy_112 (by decide) rfl ?_
  refine g_cV (rest := []) wl_X3_119 hd_X3_refuse (ci := 3) rfl 117 hC hF.1 (met_X3_refuse hF.2) rfl ⟨Nat.le_of_ble_eq_true rfl, Nat.le_of_ble_eq_true rfl⟩ ⟨Nat.zero_le _, Nat.zero_le _⟩ rfl (Nat.le_of_ble_eq_true rfl) dX3_copy_114 rfl (g_ty_i 0 0 (Nat.le_refl _) (Nat.le_refl _) (fun x_2 M_1 hF => ?_))
  exact g_ireturn hC ⟨_, rfl, hF⟩ dX3_copy_117 (Nat.zero_le _) (Nat.zero_le _)
def F_X3_copy_b181 (Q : Int32 → gM → Prop)    (a0 : Nat)   (M : gM) : Prop :=
  rc M 3 a0 ∧ F_X3_refuse M a0 (-2 : Int32) fun x_2 M_1 =>
  Q x_2 M_1
theorem w_X3_copy_b181 {G : gG} {Q : Int32 → gM → Prop} (hC : gCx G cX3_copy 7 RX3 (some .int) (gQi Q) rm_X3_copy)  (a0 : Nat)     (M : gM) (hF : F_X3_copy_b181 Q a0 M) : gAt G 0 0 M [(0, .ref a0)] 181 [] := by
  unfold F_X3_copy_b181 at hF
  refine g_aload_n 182 hC dX3_copy_181 rfl 0 rfl rfl ?_
  refine g_bipush 184 hC (-2 : Int32) dX3_copy_182 (by decide) rfl ?_
  refine g_cV (rest := []) wl_X3_119 hd_X3_refuse (ci := 3) rfl 187 hC hF.1 (met_X3_refuse hF.2) rfl ⟨Nat.le_of_ble_eq_true rfl, Nat.le_of_ble_eq_true rfl⟩ ⟨Nat.zero_le _, Nat.zero_le _⟩ rfl (Nat.le_of_ble_eq_true rfl) dX3_copy_184 rfl (g_ty_i 0 0 (Nat.le_refl _) (Nat.le_refl _) (fun x_2 M_1 hF => ?_))
  exact g_ireturn hC ⟨_, rfl, hF⟩ dX3_copy_187 (Nat.zero_le _) (Nat.zero_le _)
def F_X3_copy_b86 (Q : Int32 → gM → Prop)    (a0 : Nat)   (M : gM) : Prop :=
  rc M 3 a0 ∧ F_X3_refuse M a0 (-3 : Int32) fun x_2 M_1 =>
  Q x_2 M_1
theorem w_X3_copy_b86 {G : gG} {Q : Int32 → gM → Prop} (hC : gCx G cX3_copy 7 RX3 (some .int) (gQi Q) rm_X3_copy)  (a0 : Nat)     (M : gM) (hF : F_X3_copy_b86 Q a0 M) : gAt G 0 0 M [(0, .ref a0)] 86 [] := by
  unfold F_X3_copy_b86 at hF
  refine g_aload_n 87 hC dX3_copy_86 rfl 0 rfl rfl ?_
  refine g_bipush 89 hC (-3 : Int32) dX3_copy_87 (by decide) rfl ?_
  refine g_cV (rest := []) wl_X3_119 hd_X3_refuse (ci := 3) rfl 92 hC hF.1 (met_X3_refuse hF.2) rfl ⟨Nat.le_of_ble_eq_true rfl, Nat.le_of_ble_eq_true rfl⟩ ⟨Nat.zero_le _, Nat.zero_le _⟩ rfl (Nat.le_of_ble_eq_true rfl) dX3_copy_89 rfl (g_ty_i 0 0 (Nat.le_refl _) (Nat.le_refl _) (fun x_2 M_1 hF => ?_))
  exact g_ireturn hC ⟨_, rfl, hF⟩ dX3_copy_92 (Nat.zero_le _) (Nat.zero_le _)
def F_X3_copy_b24 (Q : Int32 → gM → Prop)    (a0 : Nat)   (M : gM) : Prop :=
  rc M 3 a0 ∧ F_X3_refuse M a0 (-2 : Int32) fun x_2 M_1 =>
  Q x_2 M_1
theorem w_X3_copy_b24 {G : gG} {Q : Int32 → gM → Prop} (hC : gCx G cX3_copy 7 RX3 (some .int) (gQi Q) rm_X3_copy)  (a0 : Nat)     (M : gM) (hF : F_X3_copy_b24 Q a0 M) : gAt G 0 0 M [(0, .ref a0)] 24 [] := by
  unfold F_X3_copy_b24 at hF
  refine g_aload_n 25 hC dX3_copy_24 rfl 0 rfl rfl ?_
  refine g_bipush 27 hC (-2 : Int32) dX3_copy_25 (by decide) rfl ?_
  refine g_cV (rest := []) wl_X3_119 hd_X3_refuse (ci := 3) rfl 30 hC hF.1 (met_X3_refuse hF.2) rfl ⟨Nat.le_of_ble_eq_true rfl, Nat.le_of_ble_eq_true rfl⟩ ⟨Nat.zero_le _, Nat.zero_le _⟩ rfl (Nat.le_of_ble_eq_true rfl) dX3_copy_27 rfl (g_ty_i 0 0 (Nat.le_refl _) (Nat.le_refl _) (fun x_2 M_1 hF => ?_))
  exact g_ireturn hC ⟨_, rfl, hF⟩ dX3_copy_30 (Nat.zero_le _) (Nat.zero_le _)
def F_X3_copy_b191 (Q : Int32 → gM → Prop)    (a0 : Nat) (x1 : Int32) (x2 : Int32) (x3 : Int32) (x4 : Int32) (x5 : Int32) : Nat → Int32 → gM → Prop
  | 0, _, _ => False
  | n + 1, x6, M =>
    ((x5 ≤ x6 →
      ∃ n_1, F_X3_copy_b225 Q a0 x2 x4 x5 n_1 (0 : Int32) M) ∧
      (¬ x5 ≤ x6 →
      gN M 3 a0 4 fun a_2 =>
      gN M 3 a0 3 fun a_3 =>
      aN M (.array .long) a_3 x1 fun a_4 =>
      aJ M a_4 (x3 + x6) fun j_5 =>
      uJ M a_2 x6 j_5 fun M_6 =>
      (F_X3_copy_b191 Q a0 x1 x2 x3 x4 x5 n) (x6 + (1 : Int32)) M_6))
theorem w_X3_copy_b191 {G : gG} {Q : Int32 → gM → Prop} (hC : gCx G cX3_copy 7 RX3 (some .int) (gQi Q) rm_X3_copy)  (a0 : Nat) (x1 : Int32) (x2 : Int32) (x3 : Int32) (x4 : Int32) (x5 : Int32)  : ∀ (n : Nat) (x6 : Int32)   (M : gM), F_X3_copy_b191 Q a0 x1 x2 x3 x4 x5 n x6 M → gAt G 0 0 M [(0, .ref a0), (1, .int x1), (2, .int x2), (3, .int x3), (4, .int x4), (5, .int x5), (6, .int x6)] 191 [] := by
  intro n
  induction n with
  | zero =>
    intro x6 M hF
    exact hF.elim
  | succ n ih =>
    intro x6 M hF
    have hK191 := ih
    unfold F_X3_copy_b191 at hF
    refine g_iload 193 hC dX3_copy_191 rfl 6 rfl ?_
    refine g_iload 195 hC dX3_copy_193 rfl 5 rfl ?_
    refine g_icmp_ge 198 222 hC dX3_copy_195 (by decide) rfl (fun c => ?_) (fun c => ?_)
    · have hF := hF.1 c
      refine g_iconst 223 hC (0 : Int32) dX3_copy_222 (by decide) rfl ?_
      refine g_istore 225 hC (lv' := [(6, .int _), (0, .ref _), (1, .int _), (2, .int _), (3, .int _), (4, .int _), (5, .int _)]) dX3_copy_223 rfl (by decide) rfl ?_
      refine g_sub [1, 3, 5, 6, 0] rfl ?_
      obtain ⟨n_1, hF⟩ := hF
      exact w_X3_copy_b225 hC _ _ _ _ n_1 _ _ hF
    · have hF := hF.2 c
      refine g_aload_n 199 hC dX3_copy_198 rfl 0 rfl rfl ?_
      refine gf_X3_24_3N 202 hC hF dX3_copy_199 rfl (fun a_2 hF => ?_)
      refine g_iload 204 hC dX3_copy_202 rfl 6 rfl ?_
      refine g_aload_n 205 hC dX3_copy_204 rfl 0 rfl rfl ?_
      refine gf_X3_21_3N 208 hC hF dX3_copy_205 rfl (fun a_3 hF => ?_)
      refine g_iload_n 209 hC dX3_copy_208 rfl 1 rfl rfl ?_
      refine g_aaldN 210 hC hF (by decide) rfl (fun _ _ _ => rfl) dX3_copy_209 rfl (fun a_4 hF => ?_)
      refine g_iload_n 211 hC dX3_copy_210 rfl 3 rfl rfl ?_
      refine g_iload 213 hC dX3_copy_211 rfl 6 rfl ?_
      refine g_iadd 214 hC dX3_copy_213 rfl ?_
      refine g_lald 215 hC hF dX3_copy_214 rfl (fun j_5 hF => ?_)
      refine g_last 216 hC hF dX3_copy_215 rfl (fun M_6 hF => ?_)
      refine g_iinc 219 hC (x6 + (1 : Int32)) (lv' := [(6, .int _), (0, .ref _), (1, .int _), (2, .int _), (3, .int _), (4, .int _), (5, .int _)]) dX3_copy_216 rfl 6 rfl rfl (by decide) rfl ?_
      refine g_goto 191 hC dX3_copy_219 (by decide) ?_
      refine g_sub [1, 2, 3, 4, 5, 6, 0] rfl ?_
      exact hK191 _ _ hF
def F_X3_copy_b93 (Q : Int32 → gM → Prop)    (a0 : Nat) (x1 : Int32) (x2 : Int32) (x3 : Int32) (x4 : Int32) (x5 : Int32)   (M : gM) : Prop :=
  gN M 3 a0 0 fun a_1 =>
  aI M .int a_1 x1 fun x_2 =>
  ((x_2 = 0 →
    F_X3_copy_b111 Q a0 M) ∧
    (¬ x_2 = 0 →
    gN M 3 a0 0 fun a_3 =>
    aI M .int a_3 x2 fun x_4 =>
    ((¬ x_4 = 0 →
      ((x5 < 0 →
        F_X3_copy_b181 Q a0 M) ∧
        (¬ x5 < 0 →
        ((x3 < 0 →
          F_X3_copy_b181 Q a0 M) ∧
          (¬ x3 < 0 →
          ((x4 < 0 →
            F_X3_copy_b181 Q a0 M) ∧
            (¬ x4 < 0 →
            gN M 3 a0 2 fun a_5 =>
            aI M .int a_5 x1 fun x_6 =>
            ((x_6 < x5 →
              F_X3_copy_b181 Q a0 M) ∧
              (¬ x_6 < x5 →
              gN M 3 a0 2 fun a_7 =>
              aI M .int a_7 x2 fun x_8 =>
              ((x_8 < x5 →
                F_X3_copy_b181 Q a0 M) ∧
                (¬ x_8 < x5 →
                gN M 3 a0 2 fun a_9 =>
                aI M .int a_9 x1 fun x_10 =>
                (((x_10 - x5) < x3 →
                  F_X3_copy_b181 Q a0 M) ∧
                  (¬ (x_10 - x5) < x3 →
                  gN M 3 a0 2 fun a_11 =>
                  aI M .int a_11 x2 fun x_12 =>
                  ((x4 ≤ (x_12 - x5) →
                    ∃ n_13, F_X3_copy_b191 Q a0 x1 x2 x3 x4 x5 n_13 (0 : Int32) M) ∧
                    (¬ x4 ≤ (x_12 - x5) →
                    F_X3_copy_b181 Q a0 M))))))))))))))) ∧
      (x_4 = 0 →
      F_X3_copy_b111 Q a0 M))))
theorem w_X3_copy_b93 {G : gG} {Q : Int32 → gM → Prop} (hC : gCx G cX3_copy 7 RX3 (some .int) (gQi Q) rm_X3_copy)  (a0 : Nat) (x1 : Int32) (x2 : Int32) (x3 : Int32) (x4 : Int32) (x5 : Int32)     (M : gM) (hF : F_X3_copy_b93 Q a0 x1 x2 x3 x4 x5 M) : gAt G 0 0 M [(0, .ref a0), (1, .int x1), (2, .int x2), (3, .int x3), (4, .int x4), (5, .int x5)] 93 [] := by
  unfold F_X3_copy_b93 at hF
  refine g_aload_n 94 hC dX3_copy_93 rfl 0 rfl rfl ?_
  refine gf_X3_7_3N 97 hC hF dX3_copy_94 rfl (fun a_1 hF => ?_)
  refine g_iload_n 98 hC dX3_copy_97 rfl 1 rfl rfl ?_
  refine g_iald 99 hC hF dX3_copy_98 rfl (fun x_2 hF => ?_)
  refine g_if_eq 102 111 hC dX3_copy_99 (by decide) rfl (fun c => ?_) (fun c => ?_)
  · have hF := hF.1 c
    refine g_sub [0] rfl ?_
    exact w_X3_copy_b111 hC _ _ hF
  · have hF := hF.2 c
    refine g_aload_n 103 hC dX3_copy_102 rfl 0 rfl rfl ?_
    refine gf_X3_7_3N 106 hC hF dX3_copy_103 rfl (fun a_3 hF => ?_)
    refine g_iload_n 107 hC dX3_copy_106 rfl 2 rfl rfl ?_
    refine g_iald 108 hC hF dX3_copy_107 rfl (fun x_4 hF => ?_)
    refine g_if_ne 111 118 hC dX3_copy_108 (by decide) rfl (fun c => ?_) (fun c => ?_)
    · have hF := hF.1 c
      refine g_iload 120 hC dX3_copy_118 rfl 5 rfl ?_
      refine g_if_lt 123 181 hC dX3_copy_120 (by decide) rfl (fun c => ?_) (fun c => ?_)
      · have hF := hF.1 c
        refine g_sub [0] rfl ?_
        exact w_X3_copy_b181 hC _ _ hF
      · have hF := hF.2 c
        refine g_iload_n 124 hC dX3_copy_123 rfl 3 rfl rfl ?_
        refine g_if_lt 127 181 hC dX3_copy_124 (by decide) rfl (fun c => ?_) (fun c => ?_)
        · have hF := hF.1 c
          refine g_sub [0] rfl ?_
          exact w_X3_copy_b181 hC _ _ hF
        · have hF := hF.2 c
          refine g_iload 129 hC dX3_copy_127 rfl 4 rfl ?_
          refine g_if_lt 132 181 hC dX3_copy_129 (by decide) rfl (fun c => ?_) (fun c => ?_)
          · have hF := hF.1 c
            refine g_sub [0] rfl ?_
            exact w_X3_copy_b181 hC _ _ hF
          · have hF := hF.2 c
            refine g_iload 134 hC dX3_copy_132 rfl 5 rfl ?_
            refine g_aload_n 135 hC dX3_copy_134 rfl 0 rfl rfl ?_
            refine gf_X3_16_3N 138 hC hF dX3_copy_135 rfl (fun a_5 hF => ?_)
            refine g_iload_n 139 hC dX3_copy_138 rfl 1 rfl rfl ?_
            refine g_iald 140 hC hF dX3_copy_139 rfl (fun x_6 hF => ?_)
            refine g_icmp_gt 143 181 hC dX3_copy_140 (by decide) rfl (fun c => ?_) (fun c => ?_)
            · have hF := hF.1 c
              refine g_sub [0] rfl ?_
              exact w_X3_copy_b181 hC _ _ hF
            · have hF := hF.2 c
              refine g_iload 145 hC dX3_copy_143 rfl 5 rfl ?_
              refine g_aload_n 146 hC dX3_copy_145 rfl 0 rfl rfl ?_
              refine gf_X3_16_3N 149 hC hF dX3_copy_146 rfl (fun a_7 hF => ?_)
              refine g_iload_n 150 hC dX3_copy_149 rfl 2 rfl rfl ?_
              refine g_iald 151 hC hF dX3_copy_150 rfl (fun x_8 hF => ?_)
              refine g_icmp_gt 154 181 hC dX3_copy_151 (by decide) rfl (fun c => ?_) (fun c => ?_)
              · have hF := hF.1 c
                refine g_sub [0] rfl ?_
                exact w_X3_copy_b181 hC _ _ hF
              · have hF := hF.2 c
                refine g_iload_n 155 hC dX3_copy_154 rfl 3 rfl rfl ?_
                refine g_aload_n 156 hC dX3_copy_155 rfl 0 rfl rfl ?_
                refine gf_X3_16_3N 159 hC hF dX3_copy_156 rfl (fun a_9 hF => ?_)
                refine g_iload_n 160 hC dX3_copy_159 rfl 1 rfl rfl ?_
                refine g_iald 161 hC hF dX3_copy_160 rfl (fun x_10 hF => ?_)
                refine g_iload 163 hC dX3_copy_161 rfl 5 rfl ?_
                refine g_isub 164 hC dX3_copy_163 rfl ?_
                refine g_icmp_gt 167 181 hC dX3_copy_164 (by decide) rfl (fun c => ?_) (fun c => ?_)
                · have hF := hF.1 c
                  refine g_sub [0] rfl ?_
                  exact w_X3_copy_b181 hC _ _ hF
                · have hF := hF.2 c
                  refine g_iload 169 hC dX3_copy_167 rfl 4 rfl ?_
                  refine g_aload_n 170 hC dX3_copy_169 rfl 0 rfl rfl ?_
                  refine gf_X3_16_3N 173 hC hF dX3_copy_170 rfl (fun a_11 hF => ?_)
                  refine g_iload_n 174 hC dX3_copy_173 rfl 2 rfl rfl ?_
                  refine g_iald 175 hC hF dX3_copy_174 rfl (fun x_12 hF => ?_)
                  refine g_iload 177 hC dX3_copy_175 rfl 5 rfl ?_
                  refine g_isub 178 hC dX3_copy_177 rfl ?_
                  refine g_icmp_le 181 188 hC dX3_copy_178 (by decide) rfl (fun c => ?_) (fun c => ?_)
                  · have hF := hF.1 c
                    refine g_iconst 189 hC (0 : Int32) dX3_copy_188 (by decide) rfl ?_
                    refine g_istore 191 hC (lv' := [(6, .int _), (0, .ref _), (1, .int _), (2, .int _), (3, .int _), (4, .int _), (5, .int _)]) dX3_copy_189 rfl (by decide) rfl ?_
                    refine g_sub [1, 2, 3, 4, 5, 6, 0] rfl ?_
                    obtain ⟨n_13, hF⟩ := hF
                    exact w_X3_copy_b191 hC _ _ _ _ _ _ n_13 _ _ hF
                  · have hF := hF.2 c
                    refine g_sub [0] rfl ?_
                    exact w_X3_copy_b181 hC _ _ hF
    · have hF := hF.2 c
      refine g_sub [0] rfl ?_
      exact w_X3_copy_b111 hC _ _ hF
def F_X3_copy  (M : gM) (a0 : Nat) (x1 : Int32) (x2 : Int32) (x3 : Int32) (x4 : Int32) (x5 : Int32) (Q : Int32 → gM → Prop)  : Prop :=
  F_X3_in M x1.toInt64 (0 : Int64) (7 : Int64) fun x_2 M_1 =>
  ((x_2 = 0 →
    F_X3_copy_b24 Q a0 M_1) ∧
    (¬ x_2 = 0 →
    F_X3_in M_1 x2.toInt64 (0 : Int64) (7 : Int64) fun x_4 M_3 =>
    ((¬ x_4 = 0 →
      gN M_3 3 a0 0 fun a_5 =>
      aI M_3 .int a_5 x1 fun x_6 =>
      ((x_6 = (2 : Int32) →
        F_X3_copy_b86 Q a0 M_3) ∧
        (¬ x_6 = (2 : Int32) →
        gN M_3 3 a0 0 fun a_7 =>
        aI M_3 .int a_7 x2 fun x_8 =>
        ((x_8 = (2 : Int32) →
          F_X3_copy_b86 Q a0 M_3) ∧
          (¬ x_8 = (2 : Int32) →
          gN M_3 3 a0 0 fun a_9 =>
          aI M_3 .int a_9 x1 fun x_10 =>
          ((¬ x_10 = (1 : Int32) →
            F_X3_copy_b93 Q a0 x1 x2 x3 x4 x5 M_3) ∧
            (x_10 = (1 : Int32) →
            gN M_3 3 a0 0 fun a_11 =>
            aI M_3 .int a_11 x2 fun x_12 =>
            ((¬ x_12 = (1 : Int32) →
              F_X3_copy_b93 Q a0 x1 x2 x3 x4 x5 M_3) ∧
              (x_12 = (1 : Int32) →
              gN M_3 3 a0 1 fun a_13 =>
              aI M_3 .int a_13 x1 fun x_14 =>
              gN M_3 3 a0 1 fun a_15 =>
              aI M_3 .int a_15 x2 fun x_16 =>
              ((x_14 = x_16 →
                F_X3_copy_b93 Q a0 x1 x2 x3 x4 x5 M_3) ∧
                (¬ x_14 = x_16 →
                F_X3_copy_b86 Q a0 M_3))))))))))) ∧
      (x_4 = 0 →
      F_X3_copy_b24 Q a0 M_3))))
theorem met_X3_copy {M : gM} {a0 : Nat} {x1 : Int32} {x2 : Int32} {x3 : Int32} {x4 : Int32} {x5 : Int32} {Q : Int32 → gM → Prop} (hF : F_X3_copy M a0 x1 x2 x3 x4 x5 Q) : gMt yX3_copy (ws_ yX3_copy cX3_copy 7 (some .int)) rm_X3_copy M [.ref a0, .int x1, .int x2, .int x3, .int x4, .int x5] (gQi Q) := by
  refine gMet (bytes := cX3_copy) (maxL := 7) (ret := (some .int)) rfl rfl (by decide) (Nat.le_of_ble_eq_true rfl) (lv := [(0, .ref a0), (1, .int x1), (2, .int x2), (3, .int x3), (4, .int x4), (5, .int x5)]) rfl (fun G hC hin => ?_)
  unfold F_X3_copy at hF
  refine g_iload_n 1 hC dX3_copy_0 rfl 1 rfl rfl ?_
  refine g_i2l 2 hC dX3_copy_1 rfl ?_
  refine g_lconst 3 hC (0 : Int64) dX3_copy_2 (by decide) rfl ?_
  refine g_ldc2 6 hC q1530 dX3_copy_3 rfl ?_
  refine g_cS (rest := []) wl_X3_94 hd_X3_in 9 hC (met_X3_in hF) rfl ⟨Nat.le_of_ble_eq_true rfl, Nat.le_of_ble_eq_true rfl⟩ ⟨Nat.zero_le _, Nat.zero_le _⟩ rfl (Nat.le_of_ble_eq_true rfl) dX3_copy_6 rfl (g_ty_i 0 0 (Nat.le_refl _) (Nat.le_refl _) (fun x_2 M_1 hF => ?_))
  refine g_if_eq 12 24 hC dX3_copy_9 (by decide) rfl (fun c => ?_) (fun c => ?_)
  · have hF := hF.1 c
    refine g_sub [0] rfl ?_
    exact w_X3_copy_b24 hC _ _ hF
  · have hF := hF.2 c
    refine g_iload_n 13 hC dX3_copy_12 rfl 2 rfl rfl ?_
    refine g_i2l 14 hC dX3_copy_13 rfl ?_
    refine g_lconst 15 hC (0 : Int64) dX3_copy_14 (by decide) rfl ?_
    refine g_ldc2 18 hC q1530 dX3_copy_15 rfl ?_
    refine g_cS (rest := []) wl_X3_94 hd_X3_in 21 hC (met_X3_in hF) rfl ⟨Nat.le_of_ble_eq_true rfl, Nat.le_of_ble_eq_true rfl⟩ ⟨Nat.zero_le _, Nat.zero_le _⟩ rfl (Nat.le_of_ble_eq_true rfl) dX3_copy_18 rfl (g_ty_i 0 0 (Nat.le_refl _) (Nat.le_refl _) (fun x_4 M_3 hF => ?_))
    refine g_if_ne 24 31 hC dX3_copy_21 (by decide) rfl (fun c => ?_) (fun c => ?_)
    · have hF := hF.1 c
      refine g_aload_n 32 hC dX3_copy_31 rfl 0 rfl rfl ?_
      refine gf_X3_7_3N 35 hC hF dX3_copy_32 rfl (fun a_5 hF => ?_)
      refine g_iload_n 36 hC dX3_copy_35 rfl 1 rfl rfl ?_
      refine g_iald 37 hC hF dX3_copy_36 rfl (fun x_6 hF => ?_)
      refine g_iconst 38 hC (2 : Int32) dX3_copy_37 (by decide) rfl ?_
      refine g_icmp_eq 41 86 hC dX3_copy_38 (by decide) rfl (fun c => ?_) (fun c => ?_)
      · have hF := hF.1 c
        refine g_sub [0] rfl ?_
        exact w_X3_copy_b86 hC _ _ hF
      · have hF := hF.2 c
        refine g_aload_n 42 hC dX3_copy_41 rfl 0 rfl rfl ?_
        refine gf_X3_7_3N 45 hC hF dX3_copy_42 rfl (fun a_7 hF => ?_)
        refine g_iload_n 46 hC dX3_copy_45 rfl 2 rfl rfl ?_
        refine g_iald 47 hC hF dX3_copy_46 rfl (fun x_8 hF => ?_)
        refine g_iconst 48 hC (2 : Int32) dX3_copy_47 (by decide) rfl ?_
        refine g_icmp_eq 51 86 hC dX3_copy_48 (by decide) rfl (fun c => ?_) (fun c => ?_)
        · have hF := hF.1 c
          refine g_sub [0] rfl ?_
          exact w_X3_copy_b86 hC _ _ hF
        · have hF := hF.2 c
          refine g_aload_n 52 hC dX3_copy_51 rfl 0 rfl rfl ?_
          refine gf_X3_7_3N 55 hC hF dX3_copy_52 rfl (fun a_9 hF => ?_)
          refine g_iload_n 56 hC dX3_copy_55 rfl 1 rfl rfl ?_
          refine g_iald 57 hC hF dX3_copy_56 rfl (fun x_10 hF => ?_)
          refine g_iconst 58 hC (1 : Int32) dX3_copy_57 (by decide) rfl ?_
          refine g_icmp_ne 61 93 hC dX3_copy_58 (by decide) rfl (fun c => ?_) (fun c => ?_)
          · have hF := hF.1 c
            exact w_X3_copy_b93 hC _ _ _ _ _ _ _ hF
          · have hF := hF.2 c
            refine g_aload_n 62 hC dX3_copy_61 rfl 0 rfl rfl ?_
            refine gf_X3_7_3N 65 hC hF dX3_copy_62 rfl (fun a_11 hF => ?_)
            refine g_iload_n 66 hC dX3_copy_65 rfl 2 rfl rfl ?_
            refine g_iald 67 hC hF dX3_copy_66 rfl (fun x_12 hF => ?_)
            refine g_iconst 68 hC (1 : Int32) dX3_copy_67 (by decide) rfl ?_
            refine g_icmp_ne 71 93 hC dX3_copy_68 (by decide) rfl (fun c => ?_) (fun c => ?_)
            · have hF := hF.1 c
              exact w_X3_copy_b93 hC _ _ _ _ _ _ _ hF
            · have hF := hF.2 c
              refine g_aload_n 72 hC dX3_copy_71 rfl 0 rfl rfl ?_
              refine gf_X3_13_3N 75 hC hF dX3_copy_72 rfl (fun a_13 hF => ?_)
              refine g_iload_n 76 hC dX3_copy_75 rfl 1 rfl rfl ?_
              refine g_iald 77 hC hF dX3_copy_76 rfl (fun x_14 hF => ?_)
              refine g_aload_n 78 hC dX3_copy_77 rfl 0 rfl rfl ?_
              refine gf_X3_13_3N 81 hC hF dX3_copy_78 rfl (fun a_15 hF => ?_)
              refine g_iload_n 82 hC dX3_copy_81 rfl 2 rfl rfl ?_
              refine g_iald 83 hC hF dX3_copy_82 rfl (fun x_16 hF => ?_)
              refine g_icmp_eq 86 93 hC dX3_copy_83 (by decide) rfl (fun c => ?_) (fun c => ?_)
              · have hF := hF.1 c
                exact w_X3_copy_b93 hC _ _ _ _ _ _ _ hF
              · have hF := hF.2 c
                refine g_sub [0] rfl ?_
                exact w_X3_copy_b86 hC _ _ hF
    · have hF := hF.2 c
      refine g_sub [0] rfl ?_
      exact w_X3_copy_b24 hC _ _ hF
abbrev rm_X3_element : Room := { frames := 1, cells := 0, slots := 0, locals := 25 }
def F_X3_element  (M : gM) (a0 : Nat) (x1 : Int32) (x2 : Int32) (Q : Int64 → gM → Prop)  : Prop :=
  F_X3_in M x1.toInt64 (0 : Int64) (7 : Int64) fun x_2 M_1 =>
  ((x_2 = 0 →
    Q (0 : Int64) M_1) ∧
    (¬ x_2 = 0 →
    gN M_1 3 a0 0 fun a_3 =>
    aI M_1 .int a_3 x1 fun x_4 =>
    ((¬ x_4 = (1 : Int32) →
      Q (0 : Int64) M_1) ∧
      (x_4 = (1 : Int32) →
      gN M_1 3 a0 2 fun a_5 =>
      aI M_1 .int a_5 x1 fun x_6 =>
      F_X3_in M_1 x2.toInt64 (0 : Int64) ((x_6 - (1 : Int32)).toInt64) fun x_8 M_7 =>
      ((x_8 = 0 →
        Q (0 : Int64) M_7) ∧
        (¬ x_8 = 0 →
        gN M_7 3 a0 3 fun a_9 =>
        aN M_7 (.array .long) a_9 x1 fun a_10 =>
        aJ M_7 a_10 x2 fun j_11 =>
        Q j_11 M_7))))))
theorem met_X3_element {M : gM} {a0 : Nat} {x1 : Int32} {x2 : Int32} {Q : Int64 → gM → Prop} (hF : F_X3_element M a0 x1 x2 Q) : gMt yX3_element (ws_ yX3_element cX3_element 3 (some .long)) rm_X3_element M [.ref a0, .int x1, .int x2] (gQj Q) := by
  refine gMet (bytes := cX3_element) (maxL := 3) (ret := (some .long)) rfl rfl (by decide) (Nat.le_of_ble_eq_true rfl) (lv := [(0, .ref a0), (1, .int x1), (2, .int x2)]) rfl (fun G hC hin => ?_)
  unfold F_X3_element at hF
  refine g_iload_n 1 hC dX3_element_0 rfl 1 rfl rfl ?_
  refine g_i2l 2 hC dX3_element_1 rfl ?_
  refine g_lconst 3 hC (0 : Int64) dX3_element_2 (by decide) rfl ?_
  refine g_ldc2 6 hC q1530 dX3_element_3 rfl ?_
  refine g_cS (rest := []) wl_X3_94 hd_X3_in 9 hC (met_X3_in hF) rfl ⟨Nat.le_of_ble_eq_true rfl, Nat.le_of_ble_eq_true rfl⟩ ⟨Nat.zero_le _, Nat.zero_le _⟩ rfl (Nat.le_of_ble_eq_true rfl) dX3_element_6 rfl (g_ty_i 0 0 (Nat.le_refl _) (Nat.le_refl _) (fun x_2 M_1 hF => ?_))
  refine g_if_eq 12 51 hC dX3_element_9 (by decide) rfl (fun c => ?_) (fun c => ?_)
  · have hF := hF.1 c
    refine g_lconst 52 hC (0 : Int64) dX3_element_51 (by decide) rfl ?_
    exact g_lreturn hC ⟨_, rfl, hF⟩ dX3_element_52 (Nat.zero_le _) (Nat.zero_le _)
  · have hF := hF.2 c
    refine g_aload_n 13 hC dX3_element_12 rfl 0 rfl rfl ?_
    refine gf_X3_7_3N 16 hC hF dX3_element_13 rfl (fun a_3 hF => ?_)
    refine g_iload_n 17 hC dX3_element_16 rfl 1 rfl rfl ?_
    refine g_iald 18 hC hF dX3_element_17 rfl (fun x_4 hF => ?_)
    refine g_iconst 19 hC (1 : Int32) dX3_element_18 (by decide) rfl ?_
    refine g_icmp_ne 22 51 hC dX3_element_19 (by decide) rfl (fun c => ?_) (fun c => ?_)
    · have hF := hF.1 c
      refine g_lconst 52 hC (0 : Int64) dX3_element_51 (by decide) rfl ?_
      exact g_lreturn hC ⟨_, rfl, hF⟩ dX3_element_52 (Nat.zero_le _) (Nat.zero_le _)
    · have hF := hF.2 c
      refine g_iload_n 23 hC dX3_element_22 rfl 2 rfl rfl ?_
      refine g_i2l 24 hC dX3_element_23 rfl ?_
      refine g_lconst 25 hC (0 : Int64) dX3_element_24 (by decide) rfl ?_
      refine g_aload_n 26 hC dX3_element_25 rfl 0 rfl rfl ?_
      refine gf_X3_16_3N 29 hC hF dX3_element_26 rfl (fun a_5 hF => ?_)
      refine g_iload_n 30 hC dX3_element_29 rfl 1 rfl rfl ?_
      refine g_iald 31 hC hF dX3_element_30 rfl (fun x_6 hF => ?_)
      refine g_iconst 32 hC (1 : Int32) dX3_element_31 (by decide) rfl ?_
      refine g_isub 33 hC dX3_element_32 rfl ?_
      refine g_i2l 34 hC dX3_element_33 rfl ?_
      refine g_cS (rest := []) wl_X3_94 hd_X3_in 37 hC (met_X3_in hF) rfl ⟨Nat.le_of_ble_eq_true rfl, Nat.le_of_ble_eq_true rfl⟩ ⟨Nat.zero_le _, Nat.zero_le _⟩ rfl (Nat.le_of_ble_eq_true rfl) dX3_element_34 rfl (g_ty_i 0 0 (Nat.le_refl _) (Nat.le_refl _) (fun x_8 M_7 hF => ?_))
      refine g_if_eq 40 51 hC dX3_element_37 (by decide) rfl (fun c => ?_) (fun c => ?_)
      · have hF := hF.1 c
        refine g_lconst 52 hC (0 : Int64) dX3_element_51 (by decide) rfl ?_
        exact g_lreturn hC ⟨_, rfl, hF⟩ dX3_element_52 (Nat.zero_le _) (Nat.zero_le _)
      · have hF := hF.2 c
        refine g_aload_n 41 hC dX3_element_40 rfl 0 rfl rfl ?_
        refine gf_X3_21_3N 44 hC hF dX3_element_41 rfl (fun a_9 hF => ?_)
        refine g_iload_n 45 hC dX3_element_44 rfl 1 rfl rfl ?_
        refine g_aaldN 46 hC hF (by decide) rfl (fun _ _ _ => rfl) dX3_element_45 rfl (fun a_10 hF => ?_)
        refine g_iload_n 47 hC dX3_element_46 rfl 2 rfl rfl ?_
        refine g_lald 48 hC hF dX3_element_47 rfl (fun j_11 hF => ?_)
        refine g_goto 52 hC dX3_element_48 (by decide) ?_
        exact g_lreturn hC ⟨_, rfl, hF⟩ dX3_element_52 (Nat.zero_le _) (Nat.zero_le _)
theorem gf_X3_28_3N {G : gG} {cc : ByteArray} {nL : Nat} {ret : Option FieldType} {Qf : Option Value → gM → Prop} {rm : Room} {cells slots : Nat} {M : gM} {lv : List (Nat × Value)} {pc : Nat} {st : List Value} {a : Nat} (n : Nat) (hC : gCx G cc nL RX3 ret Qf rm) {κ : Nat → Prop} (hF : gN M 3 a 5 κ) (hdg : decode cc pc = .ok (.getfield 28, 3)) (hn : pc + 3 = n) (kk : ∀ x, κ x → gAt G cells slots M lv n (.ref x :: st)) : gAt G cells slots M lv pc (.ref a :: st) :=
  g_getN (C := RX3) (T := TX3) (N := 46) in_X3 rfl (by decide) q1392 (fun _ _ _ => rfl) n hC hF hdg hn kk
abbrev rm_X3_holds : Room := { frames := 1, cells := 0, slots := 0, locals := 25 }
def F_X3_holds  (M : gM) (a0 : Nat) (x1 : Int32) (Q : Int32 → gM → Prop)  : Prop :=
  F_X3_in M x1.toInt64 (0 : Int64) (7 : Int64) fun x_2 M_1 =>
  ((x_2 = 0 →
    Q (-1 : Int32) M_1) ∧
    (¬ x_2 = 0 →
    gN M_1 3 a0 0 fun a_3 =>
    aI M_1 .int a_3 x1 fun x_4 =>
    ((¬ x_4 = 0 →
      gN M_1 3 a0 0 fun a_5 =>
      aI M_1 .int a_5 x1 fun x_6 =>
      ((¬ x_6 = (1 : Int32) →
        gN M_1 3 a0 5 fun a_7 =>
        aI M_1 .int a_7 x1 fun x_8 =>
        Q ((10 : Int32) + x_8) M_1) ∧
        (x_6 = (1 : Int32) →
        gN M_1 3 a0 1 fun a_9 =>
        aI M_1 .int a_9 x1 fun x_10 =>
        Q x_10 M_1))) ∧
      (x_4 = 0 →
      Q (-1 : Int32) M_1))))
theorem met_X3_holds {M : gM} {a0 : Nat} {x1 : Int32} {Q : Int32 → gM → Prop} (hF : F_X3_holds M a0 x1 Q) : gMt yX3_holds (ws_ yX3_holds cX3_holds 2 (some .int)) rm_X3_holds M [.ref a0, .int x1] (gQi Q) := by
  refine gMet (bytes := cX3_holds) (maxL := 2) (ret := (some .int)) rfl rfl (by decide) (Nat.le_of_ble_eq_true rfl) (lv := [(0, .ref a0), (1, .int x1)]) rfl (fun G hC hin => ?_)
  unfold F_X3_holds at hF
  refine g_iload_n 1 hC dX3_holds_0 rfl 1 rfl rfl ?_
  refine g_i2l 2 hC dX3_holds_1 rfl ?_
  refine g_lconst 3 hC (0 : Int64) dX3_holds_2 (by decide) rfl ?_
  refine g_ldc2 6 hC q1530 dX3_holds_3 rfl ?_
  refine g_cS (rest := []) wl_X3_94 hd_X3_in 9 hC (met_X3_in hF) rfl ⟨Nat.le_of_ble_eq_true rfl, Nat.le_of_ble_eq_true rfl⟩ ⟨Nat.zero_le _, Nat.zero_le _⟩ rfl (Nat.le_of_ble_eq_true rfl) dX3_holds_6 rfl (g_ty_i 0 0 (Nat.le_refl _) (Nat.le_refl _) (fun x_2 M_1 hF => ?_))
  refine g_if_eq 12 21 hC dX3_holds_9 (by decide) rfl (fun c => ?_) (fun c => ?_)
  · have hF := hF.1 c
    refine g_iconst 22 hC (-1 : Int32) dX3_holds_21 (by decide) rfl ?_
    exact g_ireturn hC ⟨_, rfl, hF⟩ dX3_holds_22 (Nat.zero_le _) (Nat.zero_le _)
  · have hF := hF.2 c
    refine g_aload_n 13 hC dX3_holds_12 rfl 0 rfl rfl ?_
    refine gf_X3_7_3N 16 hC hF dX3_holds_13 rfl (fun a_3 hF => ?_)
    refine g_iload_n 17 hC dX3_holds_16 rfl 1 rfl rfl ?_
    refine g_iald 18 hC hF dX3_holds_17 rfl (fun x_4 hF => ?_)
    refine g_if_ne 21 23 hC dX3_holds_18 (by decide) rfl (fun c => ?_) (fun c => ?_)
    · have hF := hF.1 c
      refine g_aload_n 24 hC dX3_holds_23 rfl 0 rfl rfl ?_
      refine gf_X3_7_3N 27 hC hF dX3_holds_24 rfl (fun a_5 hF => ?_)
      refine g_iload_n 28 hC dX3_holds_27 rfl 1 rfl rfl ?_
      refine g_iald 29 hC hF dX3_holds_28 rfl (fun x_6 hF => ?_)
      refine g_iconst 30 hC (1 : Int32) dX3_holds_29 (by decide) rfl ?_
      refine g_icmp_ne 33 42 hC dX3_holds_30 (by decide) rfl (fun c => ?_) (fun c => ?_)
      · have hF := hF.1 c
        refine g_bipush 44 hC (10 : Int32) dX3_holds_42 (by decide) rfl ?_
        refine g_aload_n 45 hC dX3_holds_44 rfl 0 rfl rfl ?_
        refine gf_X3_28_3N 48 hC hF dX3_holds_45 rfl (fun a_7 hF => ?_)
        refine g_iload_n 49 hC dX3_holds_48 rfl 1 rfl rfl ?_
        refine g_iald 50 hC hF dX3_holds_49 rfl (fun x_8 hF => ?_)
        refine g_iadd 51 hC dX3_holds_50 rfl ?_
        exact g_ireturn hC ⟨_, rfl, hF⟩ dX3_holds_51 (Nat.zero_le _) (Nat.zero_le _)
      · have hF := hF.2 c
        refine g_aload_n 34 hC dX3_holds_33 rfl 0 rfl rfl ?_
        refine gf_X3_13_3N 37 hC hF dX3_holds_34 rfl (fun a_9 hF => ?_)
        refine g_iload_n 38 hC dX3_holds_37 rfl 1 rfl rfl ?_
        refine g_iald 39 hC hF dX3_holds_38 rfl (fun x_10 hF => ?_)
        refine g_goto 51 hC dX3_holds_39 (by decide) ?_
        exact g_ireturn hC ⟨_, rfl, hF⟩ dX3_holds_51 (Nat.zero_le _) (Nat.zero_le _)
    · have hF := hF.2 c
      refine g_iconst 22 hC (-1 : Int32) dX3_holds_21 (by decide) rfl ?_
      exact g_ireturn hC ⟨_, rfl, hF⟩ dX3_holds_22 (Nat.zero_le _) (Nat.zero_le _)
abbrev rm_X3_mayBy : Room := { frames := 1, cells := 0, slots := 0, locals := 25 }
def F_X3_mayBy  (M : gM) (x0 : Int32) (x1 : Int32) (Q : Int32 → gM → Prop)  : Prop :=
  (((x0.toInt < 1 ∨ 4 < x0.toInt) →
    F_X3_in M x1.toInt64 (0 : Int64) (7 : Int64) fun x_2 M_1 =>
    zq x_2 (Q x_2 M_1)) ∧
    (x0 = (1 : Int32) →
    F_X3_in M x1.toInt64 (0 : Int64) (99 : Int64) fun x_4 M_3 =>
    zq x_4 (Q x_4 M_3)) ∧
    (x0 = (2 : Int32) →
    F_X3_in M x1.toInt64 (1 : Int64) (6 : Int64) fun x_6 M_5 =>
    zq x_6 (Q x_6 M_5)) ∧
    (x0 = (3 : Int32) →
    ((x1 < 0 →
      Q (0 : Int32) M) ∧
      (¬ x1 < 0 →
      F_X3_in M ((x1 / (10 : Int32)).toInt64) (0 : Int64) (99 : Int64) fun x_8 M_7 =>
      ((x_8 = 0 →
        Q (0 : Int32) M_7) ∧
        (¬ x_8 = 0 →
        F_X3_in M_7 ((x1 - x1 / (10 : Int32) * (10 : Int32)).toInt64) (1 : Int64) (6 : Int64) fun x_10 M_9 =>
        ((x_10 = 0 →
          Q (0 : Int32) M_9) ∧
          (¬ x_10 = 0 →
          Q (1 : Int32) M_9))))))) ∧
    (x0 = (4 : Int32) →
    Q (1 : Int32) M))
theorem met_X3_mayBy {M : gM} {x0 : Int32} {x1 : Int32} {Q : Int32 → gM → Prop} (hF : F_X3_mayBy M x0 x1 Q) : gMt yX3_mayBy (ws_ yX3_mayBy cX3_mayBy 2 (some .boolean)) rm_X3_mayBy M [.int x0, .int x1] (gQi Q) := by
  refine gMet (bytes := cX3_mayBy) (maxL := 2) (ret := (some .boolean)) rfl rfl (by decide) (Nat.le_of_ble_eq_true rfl) (lv := [(0, .int x0), (1, .int x1)]) rfl (fun G hC hin => ?_)
  unfold F_X3_mayBy at hF
  refine g_iload_n 1 hC dX3_mayBy_0 rfl 0 rfl rfl ?_
  rcases (by omega : ((x0.toInt < 1 ∨ 4 < x0.toInt) ∨ x0.toInt = 1 ∨ x0.toInt = 2 ∨ x0.toInt = 3 ∨ x0.toInt = 4)) with c | c | c | c | c
  · refine g_tsOut 94 hC dX3_mayBy_1 c (by decide) ?_
    have hF := hF.1 c
    refine g_iload_n 95 hC dX3_mayBy_94 rfl 1 rfl rfl ?_
    refine g_i2l 96 hC dX3_mayBy_95 rfl ?_
    refine g_lconst 97 hC (0 : Int64) dX3_mayBy_96 (by decide) rfl ?_
    refine g_ldc2 100 hC q1530 dX3_mayBy_97 rfl ?_
    refine g_cS (rest := []) wl_X3_94 hd_X3_in 103 hC (met_X3_in hF) rfl ⟨Nat.le_of_ble_eq_true rfl, Nat.le_of_ble_eq_true rfl⟩ ⟨Nat.zero_le _, Nat.zero_le _⟩ rfl (Nat.le_of_ble_eq_true rfl) dX3_mayBy_100 rfl (g_ty_i 0 0 (Nat.le_refl _) (Nat.le_refl _) (fun x_2 M_1 hF => ?_))
    exact g_zreturn hC ⟨_, rfl, hF.2⟩ hF.1 dX3_mayBy_103 (Nat.zero_le _) (Nat.zero_le _)
  · have c : x0 = (1 : Int32) := Int32.toInt_inj.mp (c.trans (by decide))
    refine g_tsIn 32 hC (1 : Int32) c dX3_mayBy_1 (by decide) (by decide) rfl (by decide) ?_
    have hF := hF.2.1 c
    refine g_iload_n 33 hC dX3_mayBy_32 rfl 1 rfl rfl ?_
    refine g_i2l 34 hC dX3_mayBy_33 rfl ?_
    refine g_lconst 35 hC (0 : Int64) dX3_mayBy_34 (by decide) rfl ?_
    refine g_ldc2 38 hC q1567 dX3_mayBy_35 rfl ?_
    refine g_cS (rest := []) wl_X3_94 hd_X3_in 41 hC (met_X3_in hF) rfl ⟨Nat.le_of_ble_eq_true rfl, Nat.le_of_ble_eq_true rfl⟩ ⟨Nat.zero_le _, Nat.zero_le _⟩ rfl (Nat.le_of_ble_eq_true rfl) dX3_mayBy_38 rfl (g_ty_i 0 0 (Nat.le_refl _) (Nat.le_refl _) (fun x_4 M_3 hF => ?_))
    exact g_zreturn hC ⟨_, rfl, hF.2⟩ hF.1 dX3_mayBy_41 (Nat.zero_le _) (Nat.zero_le _)
  · have c : x0 = (2 : Int32) := Int32.toInt_inj.mp (c.trans (by decide))
    refine g_tsIn 42 hC (2 : Int32) c dX3_mayBy_1 (by decide) (by decide) rfl (by decide) ?_
    have hF := hF.2.2.1 c
    refine g_iload_n 43 hC dX3_mayBy_42 rfl 1 rfl rfl ?_
    refine g_i2l 44 hC dX3_mayBy_43 rfl ?_
    refine g_lconst 45 hC (1 : Int64) dX3_mayBy_44 (by decide) rfl ?_
    refine g_ldc2 48 hC q1568 dX3_mayBy_45 rfl ?_
    refine g_cS (rest := []) wl_X3_94 hd_X3_in 51 hC (met_X3_in hF) rfl ⟨Nat.le_of_ble_eq_true rfl, Nat.le_of_ble_eq_true rfl⟩ ⟨Nat.zero_le _, Nat.zero_le _⟩ rfl (Nat.le_of_ble_eq_true rfl) dX3_mayBy_48 rfl (g_ty_i 0 0 (Nat.le_refl _) (Nat.le_refl _) (fun x_6 M_5 hF => ?_))
    exact g_zreturn hC ⟨_, rfl, hF.2⟩ hF.1 dX3_mayBy_51 (Nat.zero_le _) (Nat.zero_le _)
  · have c : x0 = (3 : Int32) := Int32.toInt_inj.mp (c.trans (by decide))
    refine g_tsIn 52 hC (3 : Int32) c dX3_mayBy_1 (by decide) (by decide) rfl (by decide) ?_
    have hF := hF.2.2.2.1 c
    refine g_iload_n 53 hC dX3_mayBy_52 rfl 1 rfl rfl ?_
    refine g_if_lt 56 90 hC dX3_mayBy_53 (by decide) rfl (fun c => ?_) (fun c => ?_)
    · have hF := hF.1 c
      refine g_iconst 91 hC (0 : Int32) dX3_mayBy_90 (by decide) rfl ?_
      exact g_zreturn hC ⟨_, rfl, hF⟩ (Or.inl rfl) dX3_mayBy_91 (Nat.zero_le _) (Nat.zero_le _)
    · have hF := hF.2 c
      refine g_iload_n 57 hC dX3_mayBy_56 rfl 1 rfl rfl ?_
      refine g_bipush 59 hC (10 : Int32) dX3_mayBy_57 (by decide) rfl ?_
      refine g_idiv 60 hC (by decide) dX3_mayBy_59 rfl ?_
      refine g_i2l 61 hC dX3_mayBy_60 rfl ?_
      refine g_lconst 62 hC (0 : Int64) dX3_mayBy_61 (by decide) rfl ?_
      refine g_ldc2 65 hC q1567 dX3_mayBy_62 rfl ?_
      refine g_cS (rest := []) wl_X3_94 hd_X3_in 68 hC (met_X3_in hF) rfl ⟨Nat.le_of_ble_eq_true rfl, Nat.le_of_ble_eq_true rfl⟩ ⟨Nat.zero_le _, Nat.zero_le _⟩ rfl (Nat.le_of_ble_eq_true rfl) dX3_mayBy_65 rfl (g_ty_i 0 0 (Nat.le_refl _) (Nat.le_refl _) (fun x_8 M_7 hF => ?_))
      refine g_if_eq 71 90 hC dX3_mayBy_68 (by decide) rfl (fun c => ?_) (fun c => ?_)
      · have hF := hF.1 c
        refine g_iconst 91 hC (0 : Int32) dX3_mayBy_90 (by decide) rfl ?_
        exact g_zreturn hC ⟨_, rfl, hF⟩ (Or.inl rfl) dX3_mayBy_91 (Nat.zero_le _) (Nat.zero_le _)
      · have hF := hF.2 c
        refine g_iload_n 72 hC dX3_mayBy_71 rfl 1 rfl rfl ?_
        refine g_bipush 74 hC (10 : Int32) dX3_mayBy_72 (by decide) rfl ?_
        refine g_irem 75 hC (by decide) dX3_mayBy_74 rfl ?_
        refine g_i2l 76 hC dX3_mayBy_75 rfl ?_
        refine g_lconst 77 hC (1 : Int64) dX3_mayBy_76 (by decide) rfl ?_
        refine g_ldc2 80 hC q1568 dX3_mayBy_77 rfl ?_
        refine g_cS (rest := []) wl_X3_94 hd_X3_in 83 hC (met_X3_in hF) rfl ⟨Nat.le_of_ble_eq_true rfl, Nat.le_of_ble_eq_true rfl⟩ ⟨Nat.zero_le _, Nat.zero_le _⟩ rfl (Nat.le_of_ble_eq_true rfl) dX3_mayBy_80 rfl (g_ty_i 0 0 (Nat.le_refl _) (Nat.le_refl _) (fun x_10 M_9 hF => ?_))
        refine g_if_eq 86 90 hC dX3_mayBy_83 (by decide) rfl (fun c => ?_) (fun c => ?_)
        · have hF := hF.1 c
          refine g_iconst 91 hC (0 : Int32) dX3_mayBy_90 (by decide) rfl ?_
          exact g_zreturn hC ⟨_, rfl, hF⟩ (Or.inl rfl) dX3_mayBy_91 (Nat.zero_le _) (Nat.zero_le _)
        · have hF := hF.2 c
          refine g_iconst 87 hC (1 : Int32) dX3_mayBy_86 (by decide) rfl ?_
          refine g_goto 91 hC dX3_mayBy_87 (by decide) ?_
          exact g_zreturn hC ⟨_, rfl, hF⟩ (Or.inr rfl) dX3_mayBy_91 (Nat.zero_le _) (Nat.zero_le _)
  · have c : x0 = (4 : Int32) := Int32.toInt_inj.mp (c.trans (by decide))
    refine g_tsIn 92 hC (4 : Int32) c dX3_mayBy_1 (by decide) (by decide) rfl (by decide) ?_
    have hF := hF.2.2.2.2 c
    refine g_iconst 93 hC (1 : Int32) dX3_mayBy_92 (by decide) rfl ?_
    exact g_zreturn hC ⟨_, rfl, hF⟩ (Or.inr rfl) dX3_mayBy_93 (Nat.zero_le _) (Nat.zero_le _)
theorem gf_X3_31_3N {G : gG} {cc : ByteArray} {nL : Nat} {ret : Option FieldType} {Qf : Option Value → gM → Prop} {rm : Room} {cells slots : Nat} {M : gM} {lv : List (Nat × Value)} {pc : Nat} {st : List Value} {a : Nat} (n : Nat) (hC : gCx G cc nL RX3 ret Qf rm) {κ : Nat → Prop} (hF : gN M 3 a 6 κ) (hdg : decode cc pc = .ok (.getfield 31, 3)) (hn : pc + 3 = n) (kk : ∀ x, κ x → gAt G cells slots M lv n (.ref x :: st)) : gAt G cells slots M lv pc (.ref a :: st) :=
  g_getN (C := RX3) (T := TX3) (N := 46) in_X3 rfl (by decide) q1393 (fun _ _ _ => rfl) n hC hF hdg hn kk
theorem gf_X3_36_3N {G : gG} {cc : ByteArray} {nL : Nat} {ret : Option FieldType} {Qf : Option Value → gM → Prop} {rm : Room} {cells slots : Nat} {M : gM} {lv : List (Nat × Value)} {pc : Nat} {st : List Value} {a : Nat} (n : Nat) (hC : gCx G cc nL RX3 ret Qf rm) {κ : Nat → Prop} (hF : gN M 3 a 7 κ) (hdg : decode cc pc = .ok (.getfield 36, 3)) (hn : pc + 3 = n) (kk : ∀ x, κ x → gAt G cells slots M lv n (.ref x :: st)) : gAt G cells slots M lv pc (.ref a :: st) :=
  g_getN (C := RX3) (T := TX3) (N := 46) in_X3 rfl (by decide) q1394 (fun _ _ _ => rfl) n hC hF hdg hn kk
theorem hd_X3_mayBy : yX3_mayBy.cls ≠ "java/lang/invoke/MethodHandle" ∧ yX3_mayBy.cls ≠ "java/lang/invoke/VarHandle" ∧ (parseMethodDescriptor yX3_mayBy.desc).map (fun d => d.parameters.length) = some 2 := by decide +kernel
theorem wl_X3_132 : GoodIn lw_all (va_wsS RX3 132 yX3_mayBy (ws_ yX3_mayBy cX3_mayBy 2 (some .boolean))) := lw_S q1564 q1565 q72 q1566
theorem gf_X3_52_3N {G : gG} {cc : ByteArray} {nL : Nat} {ret : Option FieldType} {Qf : Option Value → gM → Prop} {rm : Room} {cells slots : Nat} {M : gM} {lv : List (Nat × Value)} {pc : Nat} {st : List Value} {a : Nat} (n : Nat) (hC : gCx G cc nL RX3 ret Qf rm) {κ : Nat → Prop} (hF : gN M 3 a 22 κ) (hdg : decode cc pc = .ok (.getfield 52, 3)) (hn : pc + 3 = n) (kk : ∀ x, κ x → gAt G cells slots M lv n (.ref x :: st)) : gAt G cells slots M lv pc (.ref a :: st) :=
  g_getN (C := RX3) (T := TX3) (N := 46) in_X3 rfl (by decide) q1409 (fun _ _ _ => rfl) n hC hF hdg hn kk
abbrev rm_X3_rule : Room := { frames := 2, cells := 0, slots := 0, locals := 46 }
def F_X3_rule_b32 (Q : Int32 → gM → Prop)    (a0 : Nat)   (M : gM) : Prop :=
  rc M 3 a0 ∧ F_X3_refuse M a0 (-2 : Int32) fun x_2 M_1 =>
  Q x_2 M_1
theorem w_X3_rule_b32 {G : gG} {Q : Int32 → gM → Prop} (hC : gCx G cX3_rule 5 RX3 (some .int) (gQi Q) rm_X3_rule)  (a0 : Nat)     (M : gM) (hF : F_X3_rule_b32 Q a0 M) : gAt G 0 0 M [(0, .ref a0)] 32 [] := by
  unfold F_X3_rule_b32 at hF
  refine g_aload_n 33 hC dX3_rule_32 rfl 0 rfl rfl ?_
  refine g_bipush 35 hC (-2 : Int32) dX3_rule_33 (by decide) rfl ?_
  refine g_cV (rest := []) wl_X3_119 hd_X3_refuse (ci := 3) rfl 38 hC hF.1 (met_X3_refuse hF.2) rfl ⟨Nat.le_of_ble_eq_true rfl, Nat.le_of_ble_eq_true rfl⟩ ⟨Nat.zero_le _, Nat.zero_le _⟩ rfl (Nat.le_of_ble_eq_true rfl) dX3_rule_35 rfl (g_ty_i 0 0 (Nat.le_refl _) (Nat.le_refl _) (fun x_2 M_1 hF => ?_))
  exact g_ireturn hC ⟨_, rfl, hF⟩ dX3_rule_38 (Nat.zero_le _) (Nat.zero_le _)
def F_X3_rule_b137 (Q : Int32 → gM → Prop)   (K92 : Int32 → gM → Prop) (a0 : Nat) (x1 : Int32) (x2 : Int32) (x3 : Int32) (x4 : Int32) (t0 : Nat) (t1 : Int32) (t2 : Int32)  (M : gM) : Prop :=
  uI M t0 t1 t2 fun M_1 =>
  K92 (x4 + (1 : Int32)) M_1
theorem w_X3_rule_b137 {G : gG} {Q : Int32 → gM → Prop} (hC : gCx G cX3_rule 5 RX3 (some .int) (gQi Q) rm_X3_rule) (K92 : Int32 → gM → Prop) (a0 : Nat) (x1 : Int32) (x2 : Int32) (x3 : Int32) (x4 : Int32) (t0 : Nat) (t1 : Int32) (t2 : Int32) (hK92 : ∀ x4' M', K92 x4' M' → gAt G 0 0 M' [(0, .ref a0), (1, .int x1), (2, .int x2), (3, .int x3), (4, .int x4')] 92 [])   (M : gM) (hF : F_X3_rule_b137 Q K92 a0 x1 x2 x3 x4 t0 t1 t2 M) : gAt G 0 0 M [(0, .ref a0), (1, .int x1), (2, .int x2), (3, .int x3), (4, .int x4)] 137 [.int t2, .int t1, .ref t0] := by
  unfold F_X3_rule_b137 at hF
  refine g_iast 138 hC hF dX3_rule_137 rfl (fun M_1 hF => ?_)
  refine g_iinc 141 hC (x4 + (1 : Int32)) (lv' := [(4, .int _), (0, .ref _), (1, .int _), (2, .int _), (3, .int _)]) dX3_rule_138 rfl 4 rfl rfl (by decide) rfl ?_
  refine g_goto 92 hC dX3_rule_141 (by decide) ?_
  refine g_sub [1, 2, 3, 4, 0] rfl ?_
  exact hK92 _ _ hF
def F_X3_rule_b136 (Q : Int32 → gM → Prop)   (K92 : Int32 → gM → Prop) (a0 : Nat) (x1 : Int32) (x2 : Int32) (x3 : Int32) (x4 : Int32) (t0 : Nat) (t1 : Int32)  (M : gM) : Prop :=
  F_X3_rule_b137 Q K92 a0 x1 x2 x3 x4 t0 t1 (0 : Int32) M
theorem w_X3_rule_b136 {G : gG} {Q : Int32 → gM → Prop} (hC : gCx G cX3_rule 5 RX3 (some .int) (gQi Q) rm_X3_rule) (K92 : Int32 → gM → Prop) (a0 : Nat) (x1 : Int32) (x2 : Int32) (x3 : Int32) (x4 : Int32) (t0 : Nat) (t1 : Int32) (hK92 : ∀ x4' M', K92 x4' M' → gAt G 0 0 M' [(0, .ref a0), (1, .int x1), (2, .int x2), (3, .int x3), (4, .int x4')] 92 [])   (M : gM) (hF : F_X3_rule_b136 Q K92 a0 x1 x2 x3 x4 t0 t1 M) : gAt G 0 0 M [(0, .ref a0), (1, .int x1), (2, .int x2), (3, .int x3), (4, .int x4)] 136 [.int t1, .ref t0] := by
  unfold F_X3_rule_b136 at hF
  refine g_iconst 137 hC (0 : Int32) dX3_rule_136 (by decide) rfl ?_
  exact w_X3_rule_b137 hC _ _ _ _ _ _ _ _ _ hK92 _ hF
def F_X3_rule_b144 (Q : Int32 → gM → Prop)    (a0 : Nat) (x1 : Int32) (x2 : Int32) (x3 : Int32)   (M : gM) : Prop :=
  gN M 3 a0 0 fun a_1 =>
  uI M a_1 x1 (2 : Int32) fun M_2 =>
  gN M_2 3 a0 5 fun a_3 =>
  uI M_2 a_3 x1 x2 fun M_4 =>
  gN M_4 3 a0 6 fun a_5 =>
  uI M_4 a_5 x1 x3 fun M_6 =>
  Q (1 : Int32) M_6
theorem w_X3_rule_b144 {G : gG} {Q : Int32 → gM → Prop} (hC : gCx G cX3_rule 5 RX3 (some .int) (gQi Q) rm_X3_rule)  (a0 : Nat) (x1 : Int32) (x2 : Int32) (x3 : Int32)     (M : gM) (hF : F_X3_rule_b144 Q a0 x1 x2 x3 M) : gAt G 0 0 M [(0, .ref a0), (1, .int x1), (2, .int x2), (3, .int x3)] 144 [] := by
  unfold F_X3_rule_b144 at hF
  refine g_aload_n 145 hC dX3_rule_144 rfl 0 rfl rfl ?_
  refine gf_X3_7_3N 148 hC hF dX3_rule_145 rfl (fun a_1 hF => ?_)
  refine g_iload_n 149 hC dX3_rule_148 rfl 1 rfl rfl ?_
  refine g_iconst 150 hC (2 : Int32) dX3_rule_149 (by decide) rfl ?_
  refine g_iast 151 hC hF dX3_rule_150 rfl (fun M_2 hF => ?_)
  refine g_aload_n 152 hC dX3_rule_151 rfl 0 rfl rfl ?_
  refine gf_X3_28_3N 155 hC hF dX3_rule_152 rfl (fun a_3 hF => ?_)
  refine g_iload_n 156 hC dX3_rule_155 rfl 1 rfl rfl ?_
  refine g_iload_n 157 hC dX3_rule_156 rfl 2 rfl rfl ?_
  refine g_iast 158 hC hF dX3_rule_157 rfl (fun M_4 hF => ?_)
  refine g_aload_n 159 hC dX3_rule_158 rfl 0 rfl rfl ?_
  refine gf_X3_31_3N 162 hC hF dX3_rule_159 rfl (fun a_5 hF => ?_)
  refine g_iload_n 163 hC dX3_rule_162 rfl 1 rfl rfl ?_
  refine g_iload_n 164 hC dX3_rule_163 rfl 3 rfl rfl ?_
  refine g_iast 165 hC hF dX3_rule_164 rfl (fun M_6 hF => ?_)
  refine g_iconst 166 hC (1 : Int32) dX3_rule_165 (by decide) rfl ?_
  exact g_ireturn hC ⟨_, rfl, hF⟩ dX3_rule_166 (Nat.zero_le _) (Nat.zero_le _)
def F_X3_rule_b92 (Q : Int32 → gM → Prop)    (a0 : Nat) (x1 : Int32) (x2 : Int32) (x3 : Int32) : Nat → Int32 → gM → Prop
  | 0, _, _ => False
  | n + 1, x4, M =>
    (((125 : Int32) ≤ x4 →
      F_X3_rule_b144 Q a0 x1 x2 x3 M) ∧
      (¬ (125 : Int32) ≤ x4 →
      gN M 3 a0 7 fun a_1 =>
      aN M (.array .int) a_1 x1 fun a_2 =>
      gN M 3 a0 2 fun a_3 =>
      aI M .int a_3 x3 fun x_4 =>
      ((x_4 ≤ x4 →
        F_X3_rule_b136 Q (F_X3_rule_b92 Q a0 x1 x2 x3 n) a0 x1 x2 x3 x4 a_2 x4 M) ∧
        (¬ x_4 ≤ x4 →
        gN M 3 a0 3 fun a_5 =>
        aN M (.array .long) a_5 x3 fun a_6 =>
        aJ M a_6 x4 fun j_7 =>
        ((j_7 = (0 : Int64) →
          F_X3_rule_b136 Q (F_X3_rule_b92 Q a0 x1 x2 x3 n) a0 x1 x2 x3 x4 a_2 x4 M) ∧
          (¬ j_7 = (0 : Int64) →
          F_X3_rule_b137 Q (F_X3_rule_b92 Q a0 x1 x2 x3 n) a0 x1 x2 x3 x4 a_2 x4 (1 : Int32) M))))))
theorem w_X3_rule_b92 {G : gG} {Q : Int32 → gM → Prop} (hC : gCx G cX3_rule 5 RX3 (some .int) (gQi Q) rm_X3_rule)  (a0 : Nat) (x1 : Int32) (x2 : Int32) (x3 : Int32)  : ∀ (n : Nat) (x4 : Int32)   (M : gM), F_X3_rule_b92 Q a0 x1 x2 x3 n x4 M → gAt G 0 0 M [(0, .ref a0), (1, .int x1), (2, .int x2), (3, .int x3), (4, .int x4)] 92 [] := by
  intro n
  induction n with
  | zero =>
    intro x4 M hF
    exact hF.elim
  | succ n ih =>
    intro x4 M hF
    have hK92 := ih
    unfold F_X3_rule_b92 at hF
    refine g_iload 94 hC dX3_rule_92 rfl 4 rfl ?_
    refine g_bipush 96 hC (125 : Int32) dX3_rule_94 (by decide) rfl ?_
    refine g_icmp_ge 99 144 hC dX3_rule_96 (by decide) rfl (fun c => ?_) (fun c => ?_)
    · have hF := hF.1 c
      refine g_sub [0, 1, 2, 3] rfl ?_
      exact w_X3_rule_b144 hC _ _ _ _ _ hF
    · have hF := hF.2 c
      refine g_aload_n 100 hC dX3_rule_99 rfl 0 rfl rfl ?_
      refine gf_X3_36_3N 103 hC hF dX3_rule_100 rfl (fun a_1 hF => ?_)
      refine g_iload_n 104 hC dX3_rule_103 rfl 1 rfl rfl ?_
      refine g_aaldN 105 hC hF (by decide) rfl (fun _ _ _ => rfl) dX3_rule_104 rfl (fun a_2 hF => ?_)
      refine g_iload 107 hC dX3_rule_105 rfl 4 rfl ?_
      refine g_iload 109 hC dX3_rule_107 rfl 4 rfl ?_
      refine g_aload_n 110 hC dX3_rule_109 rfl 0 rfl rfl ?_
      refine gf_X3_16_3N 113 hC hF dX3_rule_110 rfl (fun a_3 hF => ?_)
      refine g_iload_n 114 hC dX3_rule_113 rfl 3 rfl rfl ?_
      refine g_iald 115 hC hF dX3_rule_114 rfl (fun x_4 hF => ?_)
      refine g_icmp_ge 118 136 hC dX3_rule_115 (by decide) rfl (fun c => ?_) (fun c => ?_)
      · have hF := hF.1 c
        exact w_X3_rule_b136 hC _ _ _ _ _ _ _ _ hK92 _ hF
      · have hF := hF.2 c
        refine g_aload_n 119 hC dX3_rule_118 rfl 0 rfl rfl ?_
        refine gf_X3_21_3N 122 hC hF dX3_rule_119 rfl (fun a_5 hF => ?_)
        refine g_iload_n 123 hC dX3_rule_122 rfl 3 rfl rfl ?_
        refine g_aaldN 124 hC hF (by decide) rfl (fun _ _ _ => rfl) dX3_rule_123 rfl (fun a_6 hF => ?_)
        refine g_iload 126 hC dX3_rule_124 rfl 4 rfl ?_
        refine g_lald 127 hC hF dX3_rule_126 rfl (fun j_7 hF => ?_)
        refine g_lconst 128 hC (0 : Int64) dX3_rule_127 (by decide) rfl ?_
        refine g_lcmp_eq 132 136 hC dX3_rule_128 rfl dX3_rule_129 (by decide) rfl (fun c => ?_) (fun c => ?_)
        · have hF := hF.1 c
          exact w_X3_rule_b136 hC _ _ _ _ _ _ _ _ hK92 _ hF
        · have hF := hF.2 c
          refine g_iconst 133 hC (1 : Int32) dX3_rule_132 (by decide) rfl ?_
          refine g_goto 137 hC dX3_rule_133 (by decide) ?_
          exact w_X3_rule_b137 hC _ _ _ _ _ _ _ _ _ hK92 _ hF
def F_X3_rule  (M : gM) (a0 : Nat) (x1 : Int32) (x2 : Int32) (x3 : Int32) (Q : Int32 → gM → Prop)  : Prop :=
  F_X3_in M x1.toInt64 (0 : Int64) (7 : Int64) fun x_2 M_1 =>
  ((x_2 = 0 →
    F_X3_rule_b32 Q a0 M_1) ∧
    (¬ x_2 = 0 →
    F_X3_in M_1 x2.toInt64 (1 : Int64) (5 : Int64) fun x_4 M_3 =>
    ((x_4 = 0 →
      F_X3_rule_b32 Q a0 M_3) ∧
      (¬ x_4 = 0 →
      F_X3_mayBy M_3 x2 x3 fun x_6 M_5 =>
      ((¬ x_6 = 0 →
        ((¬ x2 = (5 : Int32) →
          F_X3_rule_b144 Q a0 x1 x2 x3 M_5) ∧
          (x2 = (5 : Int32) →
          gN M_5 3 a0 0 fun a_7 =>
          aI M_5 .int a_7 x3 fun x_8 =>
          ((¬ x_8 = (2 : Int32) →
            gN M_5 3 a0 0 fun a_9 =>
            aI M_5 .int a_9 x3 fun x_10 =>
            ((¬ x_10 = 0 →
              gN M_5 3 a0 22 fun a_11 =>
              gN M_5 3 a0 2 fun a_12 =>
              aI M_5 .int a_12 x3 fun x_13 =>
              uI M_5 a_11 x1 x_13 fun M_14 =>
              ∃ n_15, F_X3_rule_b92 Q a0 x1 x2 x3 n_15 (0 : Int32) M_14) ∧
              (x_10 = 0 →
              rc M_5 3 a0 ∧ F_X3_refuse M_5 a0 (-4 : Int32) fun x_17 M_16 =>
              Q x_17 M_16))) ∧
            (x_8 = (2 : Int32) →
            rc M_5 3 a0 ∧ F_X3_refuse M_5 a0 (-3 : Int32) fun x_19 M_18 =>
            Q x_19 M_18))))) ∧
        (x_6 = 0 →
        F_X3_rule_b32 Q a0 M_5))))))
theorem met_X3_rule {M : gM} {a0 : Nat} {x1 : Int32} {x2 : Int32} {x3 : Int32} {Q : Int32 → gM → Prop} (hF : F_X3_rule M a0 x1 x2 x3 Q) : gMt yX3_rule (ws_ yX3_rule cX3_rule 5 (some .int)) rm_X3_rule M [.ref a0, .int x1, .int x2, .int x3] (gQi Q) := by
  refine gMet (bytes := cX3_rule) (maxL := 5) (ret := (some .int)) rfl rfl (by decide) (Nat.le_of_ble_eq_true rfl) (lv := [(0, .ref a0), (1, .int x1), (2, .int x2), (3, .int x3)]) rfl (fun G hC hin => ?_)
  unfold F_X3_rule at hF
  refine g_iload_n 1 hC dX3_rule_0 rfl 1 rfl rfl ?_
  refine g_i2l 2 hC dX3_rule_1 rfl ?_
  refine g_lconst 3 hC (0 : Int64) dX3_rule_2 (by decide) rfl ?_
  refine g_ldc2 6 hC q1530 dX3_rule_3 rfl ?_
  refine g_cS (rest := []) wl_X3_94 hd_X3_in 9 hC (met_X3_in hF) rfl ⟨Nat.le_of_ble_eq_true rfl, Nat.le_of_ble_eq_true rfl⟩ ⟨Nat.zero_le _, Nat.zero_le _⟩ rfl (Nat.le_of_ble_eq_true rfl) dX3_rule_6 rfl (g_ty_i 0 0 (Nat.le_refl _) (Nat.le_refl _) (fun x_2 M_1 hF => ?_))
  refine g_if_eq 12 32 hC dX3_rule_9 (by decide) rfl (fun c => ?_) (fun c => ?_)
  · have hF := hF.1 c
    refine g_sub [0] rfl ?_
    exact w_X3_rule_b32 hC _ _ hF
  · have hF := hF.2 c
    refine g_iload_n 13 hC dX3_rule_12 rfl 2 rfl rfl ?_
    refine g_i2l 14 hC dX3_rule_13 rfl ?_
    refine g_lconst 15 hC (1 : Int64) dX3_rule_14 (by decide) rfl ?_
    refine g_ldc2 18 hC q1563 dX3_rule_15 rfl ?_
    refine g_cS (rest := []) wl_X3_94 hd_X3_in 21 hC (met_X3_in hF) rfl ⟨Nat.le_of_ble_eq_true rfl, Nat.le_of_ble_eq_true rfl⟩ ⟨Nat.zero_le _, Nat.zero_le _⟩ rfl (Nat.le_of_ble_eq_true rfl) dX3_rule_18 rfl (g_ty_i 0 0 (Nat.le_refl _) (Nat.le_refl _) (fun x_4 M_3 hF => ?_))
    refine g_if_eq 24 32 hC dX3_rule_21 (by decide) rfl (fun c => ?_) (fun c => ?_)
    · have hF := hF.1 c
      refine g_sub [0] rfl ?_
      exact w_X3_rule_b32 hC _ _ hF
    · have hF := hF.2 c
      refine g_iload_n 25 hC dX3_rule_24 rfl 2 rfl rfl ?_
      refine g_iload_n 26 hC dX3_rule_25 rfl 3 rfl rfl ?_
      refine g_cS (rest := []) wl_X3_132 hd_X3_mayBy 29 hC (met_X3_mayBy hF) rfl ⟨Nat.le_of_ble_eq_true rfl, Nat.le_of_ble_eq_true rfl⟩ ⟨Nat.zero_le _, Nat.zero_le _⟩ rfl (Nat.le_of_ble_eq_true rfl) dX3_rule_26 rfl (g_ty_i 0 0 (Nat.le_refl _) (Nat.le_refl _) (fun x_6 M_5 hF => ?_))
      refine g_if_ne 32 39 hC dX3_rule_29 (by decide) rfl (fun c => ?_) (fun c => ?_)
      · have hF := hF.1 c
        refine g_iload_n 40 hC dX3_rule_39 rfl 2 rfl rfl ?_
        refine g_iconst 41 hC (5 : Int32) dX3_rule_40 (by decide) rfl ?_
        refine g_icmp_ne 44 144 hC dX3_rule_41 (by decide) rfl (fun c => ?_) (fun c => ?_)
        · have hF := hF.1 c
          exact w_X3_rule_b144 hC _ _ _ _ _ hF
        · have hF := hF.2 c
          refine g_aload_n 45 hC dX3_rule_44 rfl 0 rfl rfl ?_
          refine gf_X3_7_3N 48 hC hF dX3_rule_45 rfl (fun a_7 hF => ?_)
          refine g_iload_n 49 hC dX3_rule_48 rfl 3 rfl rfl ?_
          refine g_iald 50 hC hF dX3_rule_49 rfl (fun x_8 hF => ?_)
          refine g_iconst 51 hC (2 : Int32) dX3_rule_50 (by decide) rfl ?_
          refine g_icmp_ne 54 61 hC dX3_rule_51 (by decide) rfl (fun c => ?_) (fun c => ?_)
          · have hF := hF.1 c
            refine g_aload_n 62 hC dX3_rule_61 rfl 0 rfl rfl ?_
            refine gf_X3_7_3N 65 hC hF dX3_rule_62 rfl (fun a_9 hF => ?_)
            refine g_iload_n 66 hC dX3_rule_65 rfl 3 rfl rfl ?_
            refine g_iald 67 hC hF dX3_rule_66 rfl (fun x_10 hF => ?_)
            refine g_if_ne 70 77 hC dX3_rule_67 (by decide) rfl (fun c => ?_) (fun c => ?_)
            · have hF := hF.1 c
              refine g_aload_n 78 hC dX3_rule_77 rfl 0 rfl rfl ?_
              refine gf_X3_52_3N 81 hC hF dX3_rule_78 rfl (fun a_11 hF => ?_)
              refine g_iload_n 82 hC dX3_rule_81 rfl 1 rfl rfl ?_
              refine g_aload_n 83 hC dX3_rule_82 rfl 0 rfl rfl ?_
              refine gf_X3_16_3N 86 hC hF dX3_rule_83 rfl (fun a_12 hF => ?_)
              refine g_iload_n 87 hC dX3_rule_86 rfl 3 rfl rfl ?_
              refine g_iald 88 hC hF dX3_rule_87 rfl (fun x_13 hF => ?_)
              refine g_iast 89 hC hF dX3_rule_88 rfl (fun M_14 hF => ?_)
              refine g_iconst 90 hC (0 : Int32) dX3_rule_89 (by decide) rfl ?_
              refine g_istore 92 hC (lv' := [(4, .int _), (0, .ref _), (1, .int _), (2, .int _), (3, .int _)]) dX3_rule_90 rfl (by decide) rfl ?_
              refine g_sub [1, 2, 3, 4, 0] rfl ?_
              obtain ⟨n_15, hF⟩ := hF
              exact w_X3_rule_b92 hC _ _ _ _ n_15 _ _ hF
            · have hF := hF.2 c
              refine g_aload_n 71 hC dX3_rule_70 rfl 0 rfl rfl ?_
              refine g_bipush 73 hC (-4 : Int32) dX3_rule_71 (by decide) rfl ?_
              refine g_cV (rest := []) wl_X3_119 hd_X3_refuse (ci := 3) rfl 76 hC hF.1 (met_X3_refuse hF.2) rfl ⟨Nat.le_of_ble_eq_true rfl, Nat.le_of_ble_eq_true rfl⟩ ⟨Nat.zero_le _, Nat.zero_le _⟩ rfl (Nat.le_of_ble_eq_true rfl) dX3_rule_73 rfl (g_ty_i 0 0 (Nat.le_refl _) (Nat.le_refl _) (fun x_17 M_16 hF => ?_))
              exact g_ireturn hC ⟨_, rfl, hF⟩ dX3_rule_76 (Nat.zero_le _) (Nat.zero_le _)
          · have hF := hF.2 c
            refine g_aload_n 55 hC dX3_rule_54 rfl 0 rfl rfl ?_
            refine g_bipush 57 hC (-3 : Int32) dX3_rule_55 (by decide) rfl ?_
            refine g_cV (rest := []) wl_X3_119 hd_X3_refuse (ci := 3) rfl 60 hC hF.1 (met_X3_refuse hF.2) rfl ⟨Nat.le_of_ble_eq_true rfl, Nat.le_of_ble_eq_true rfl⟩ ⟨Nat.zero_le _, Nat.zero_le _⟩ rfl (Nat.le_of_ble_eq_true rfl) dX3_rule_57 rfl (g_ty_i 0 0 (Nat.le_refl _) (Nat.le_refl _) (fun x_19 M_18 hF => ?_))
            exact g_ireturn hC ⟨_, rfl, hF⟩ dX3_rule_60 (Nat.zero_le _) (Nat.zero_le _)
      · have hF := hF.2 c
        refine g_sub [0] rfl ?_
        exact w_X3_rule_b32 hC _ _ hF
abbrev rm_X3_says : Room := { frames := 1, cells := 0, slots := 0, locals := 25 }
def F_X3_says_b100 (Q : Int32 → gM → Prop)    (a0 : Nat)   (M : gM) : Prop :=
  rc M 3 a0 ∧ F_X3_refuse M a0 (-3 : Int32) fun x_2 M_1 =>
  Q x_2 M_1
theorem w_X3_says_b100 {G : gG} {Q : Int32 → gM → Prop} (hC : gCx G cX3_says 4 RX3 (some .int) (gQi Q) rm_X3_says)  (a0 : Nat)     (M : gM) (hF : F_X3_says_b100 Q a0 M) : gAt G 0 0 M [(0, .ref a0)] 100 [] := by
  unfold F_X3_says_b100 at hF
  refine g_aload_n 101 hC dX3_says_100 rfl 0 rfl rfl ?_
  refine g_bipush 103 hC (-3 : Int32) dX3_says_101 (by decide) rfl ?_
  refine g_cV (rest := []) wl_X3_119 hd_X3_refuse (ci := 3) rfl 106 hC hF.1 (met_X3_refuse hF.2) rfl ⟨Nat.le_of_ble_eq_true rfl, Nat.le_of_ble_eq_true rfl⟩ ⟨Nat.zero_le _, Nat.zero_le _⟩ rfl (Nat.le_of_ble_eq_true rfl) dX3_says_103 rfl (g_ty_i 0 0 (Nat.le_refl _) (Nat.le_refl _) (fun x_2 M_1 hF => ?_))
  exact g_ireturn hC ⟨_, rfl, hF⟩ dX3_says_106 (Nat.zero_le _) (Nat.zero_le _)
def F_X3_says_b107 (Q : Int32 → gM → Prop)    (a0 : Nat) (x1 : Int32) (x2 : Int32)   (M : gM) : Prop :=
  gN M 3 a0 0 fun a_1 =>
  aI M .int a_1 x1 fun x_2 =>
  ((¬ x_2 = 0 →
    (((x2.toInt < 0 ∨ 4 < x2.toInt) →
      gN M 3 a0 22 fun a_3 =>
      aI M .int a_3 x1 fun x_4 =>
      Q x_4 M) ∧
      (x2 = (0 : Int32) →
      Q (0 : Int32) M) ∧
      (x2 = (1 : Int32) →
      gN M 3 a0 5 fun a_5 =>
      aI M .int a_5 x1 fun x_6 =>
      ((¬ x_6 = (3 : Int32) →
        gN M 3 a0 6 fun a_7 =>
        aI M .int a_7 x1 fun x_8 =>
        Q x_8 M) ∧
        (x_6 = (3 : Int32) →
        gN M 3 a0 6 fun a_9 =>
        aI M .int a_9 x1 fun x_10 =>
        Q (x_10 / (10 : Int32)) M))) ∧
      (x2 = (2 : Int32) →
      gN M 3 a0 6 fun a_11 =>
      aI M .int a_11 x1 fun x_12 =>
      Q x_12 M) ∧
      (x2 = (3 : Int32) →
      gN M 3 a0 6 fun a_13 =>
      aI M .int a_13 x1 fun x_14 =>
      Q (x_14 - x_14 / (10 : Int32) * (10 : Int32)) M) ∧
      (x2 = (4 : Int32) →
      Q (1 : Int32) M))) ∧
    (x_2 = 0 →
    rc M 3 a0 ∧ F_X3_refuse M a0 (-4 : Int32) fun x_16 M_15 =>
    Q x_16 M_15))
theorem w_X3_says_b107 {G : gG} {Q : Int32 → gM → Prop} (hC : gCx G cX3_says 4 RX3 (some .int) (gQi Q) rm_X3_says)  (a0 : Nat) (x1 : Int32) (x2 : Int32)     (M : gM) (hF : F_X3_says_b107 Q a0 x1 x2 M) : gAt G 0 0 M [(0, .ref a0), (1, .int x1), (2, .int x2)] 107 [] := by
  unfold F_X3_says_b107 at hF
  refine g_aload_n 108 hC dX3_says_107 rfl 0 rfl rfl ?_
  refine gf_X3_7_3N 111 hC hF dX3_says_108 rfl (fun a_1 hF => ?_)
  refine g_iload_n 112 hC dX3_says_111 rfl 1 rfl rfl ?_
  refine g_iald 113 hC hF dX3_says_112 rfl (fun x_2 hF => ?_)
  refine g_if_ne 116 123 hC dX3_says_113 (by decide) rfl (fun c => ?_) (fun c => ?_)
  · have hF := hF.1 c
    refine g_iload_n 124 hC dX3_says_123 rfl 2 rfl rfl ?_
    rcases (by omega : ((x2.toInt < 0 ∨ 4 < x2.toInt) ∨ x2.toInt = 0 ∨ x2.toInt = 1 ∨ x2.toInt = 2 ∨ x2.toInt = 3 ∨ x2.toInt = 4)) with c | c | c | c | c | c
    · refine g_tsOut 210 hC dX3_says_124 c (by decide) ?_
      have hF := hF.1 c
      refine g_aload_n 211 hC dX3_says_210 rfl 0 rfl rfl ?_
      refine gf_X3_52_3N 214 hC hF dX3_says_211 rfl (fun a_3 hF => ?_)
      refine g_iload_n 215 hC dX3_says_214 rfl 1 rfl rfl ?_
      refine g_iald 216 hC hF dX3_says_215 rfl (fun x_4 hF => ?_)
      exact g_ireturn hC ⟨_, rfl, hF⟩ dX3_says_216 (Nat.zero_le _) (Nat.zero_le _)
    · have c : x2 = (0 : Int32) := Int32.toInt_inj.mp (c.trans (by decide))
      refine g_tsIn 160 hC (0 : Int32) c dX3_says_124 (by decide) (by decide) rfl (by decide) ?_
      have hF := hF.2.1 c
      refine g_iconst 161 hC (0 : Int32) dX3_says_160 (by decide) rfl ?_
      exact g_ireturn hC ⟨_, rfl, hF⟩ dX3_says_161 (Nat.zero_le _) (Nat.zero_le _)
    · have c : x2 = (1 : Int32) := Int32.toInt_inj.mp (c.trans (by decide))
      refine g_tsIn 162 hC (1 : Int32) c dX3_says_124 (by decide) (by decide) rfl (by decide) ?_
      have hF := hF.2.2.1 c
      refine g_aload_n 163 hC dX3_says_162 rfl 0 rfl rfl ?_
      refine gf_X3_28_3N 166 hC hF dX3_says_163 rfl (fun a_5 hF => ?_)
      refine g_iload_n 167 hC dX3_says_166 rfl 1 rfl rfl ?_
      refine g_iald 168 hC hF dX3_says_167 rfl (fun x_6 hF => ?_)
      refine g_iconst 169 hC (3 : Int32) dX3_says_168 (by decide) rfl ?_
      refine g_icmp_ne 172 184 hC dX3_says_169 (by decide) rfl (fun c => ?_) (fun c => ?_)
      · have hF := hF.1 c
        refine g_aload_n 185 hC dX3_says_184 rfl 0 rfl rfl ?_
        refine gf_X3_31_3N 188 hC hF dX3_says_185 rfl (fun a_7 hF => ?_)
        refine g_iload_n 189 hC dX3_says_188 rfl 1 rfl rfl ?_
        refine g_iald 190 hC hF dX3_says_189 rfl (fun x_8 hF => ?_)
        exact g_ireturn hC ⟨_, rfl, hF⟩ dX3_says_190 (Nat.zero_le _) (Nat.zero_le _)
      · have hF := hF.2 c
        refine g_aload_n 173 hC dX3_says_172 rfl 0 rfl rfl ?_
        refine gf_X3_31_3N 176 hC hF dX3_says_173 rfl (fun a_9 hF => ?_)
        refine g_iload_n 177 hC dX3_says_176 rfl 1 rfl rfl ?_
        refine g_iald 178 hC hF dX3_says_177 rfl (fun x_10 hF => ?_)
        refine g_bipush 180 hC (10 : Int32) dX3_says_178 (by decide) rfl ?_
        refine g_idiv 181 hC (by decide) dX3_says_180 rfl ?_
        refine g_goto 190 hC dX3_says_181 (by decide) ?_
        exact g_ireturn hC ⟨_, rfl, hF⟩ dX3_says_190 (Nat.zero_le _) (Nat.zero_le _)
    · have c : x2 = (2 : Int32) := Int32.toInt_inj.mp (c.trans (by decide))
      refine g_tsIn 191 hC (2 : Int32) c dX3_says_124 (by decide) (by decide) rfl (by decide) ?_
      have hF := hF.2.2.2.1 c
      refine g_aload_n 192 hC dX3_says_191 rfl 0 rfl rfl ?_
      refine gf_X3_31_3N 195 hC hF dX3_says_192 rfl (fun a_11 hF => ?_)
      refine g_iload_n 196 hC dX3_says_195 rfl 1 rfl rfl ?_
      refine g_iald 197 hC hF dX3_says_196 rfl (fun x_12 hF => ?_)
      exact g_ireturn hC ⟨_, rfl, hF⟩ dX3_says_197 (Nat.zero_le _) (Nat.zero_le _)
    · have c : x2 = (3 : Int32) := Int32.toInt_inj.mp (c.trans (by decide))
      refine g_tsIn 198 hC (3 : Int32) c dX3_says_124 (by decide) (by decide) rfl (by decide) ?_
      have hF := hF.2.2.2.2.1 c
      refine g_aload_n 199 hC dX3_says_198 rfl 0 rfl rfl ?_
      refine gf_X3_31_3N 202 hC hF dX3_says_199 rfl (fun a_13 hF => ?_)
      refine g_iload_n 203 hC dX3_says_202 rfl 1 rfl rfl ?_
      refine g_iald 204 hC hF dX3_says_203 rfl (fun x_14 hF => ?_)
      refine g_bipush 206 hC (10 : Int32) dX3_says_204 (by decide) rfl ?_
      refine g_irem 207 hC (by decide) dX3_says_206 rfl ?_
      exact g_ireturn hC ⟨_, rfl, hF⟩ dX3_says_207 (Nat.zero_le _) (Nat.zero_le _)
    · have c : x2 = (4 : Int32) := Int32.toInt_inj.mp (c.trans (by decide))
      refine g_tsIn 208 hC (4 : Int32) c dX3_says_124 (by decide) (by decide) rfl (by decide) ?_
      have hF := hF.2.2.2.2.2 c
      refine g_iconst 209 hC (1 : Int32) dX3_says_208 (by decide) rfl ?_
      exact g_ireturn hC ⟨_, rfl, hF⟩ dX3_says_209 (Nat.zero_le _) (Nat.zero_le _)
  · have hF := hF.2 c
    refine g_aload_n 117 hC dX3_says_116 rfl 0 rfl rfl ?_
    refine g_bipush 119 hC (-4 : Int32) dX3_says_117 (by decide) rfl ?_
    refine g_cV (rest := []) wl_X3_119 hd_X3_refuse (ci := 3) rfl 122 hC hF.1 (met_X3_refuse hF.2) rfl ⟨Nat.le_of_ble_eq_true rfl, Nat.le_of_ble_eq_true rfl⟩ ⟨Nat.zero_le _, Nat.zero_le _⟩ rfl (Nat.le_of_ble_eq_true rfl) dX3_says_119 rfl (g_ty_i 0 0 (Nat.le_refl _) (Nat.le_refl _) (fun x_16 M_15 hF => ?_))
    exact g_ireturn hC ⟨_, rfl, hF⟩ dX3_says_122 (Nat.zero_le _) (Nat.zero_le _)
def F_X3_says_b75 (Q : Int32 → gM → Prop)    (a0 : Nat) (x1 : Int32) (x2 : Int32) (t0 : Int32)  (M : gM) : Prop :=
  gN M 3 a0 0 fun a_1 =>
  aI M .int a_1 x1 fun x_2 =>
  ((x_2 = (1 : Int32) →
    F_X3_says_b100 Q a0 M) ∧
    (¬ x_2 = (1 : Int32) →
    gN M 3 a0 0 fun a_3 =>
    aI M .int a_3 x1 fun x_4 =>
    ((¬ x_4 = (2 : Int32) →
      F_X3_says_b107 Q a0 x1 x2 M) ∧
      (x_4 = (2 : Int32) →
      ((¬ t0 = 0 →
        F_X3_says_b107 Q a0 x1 x2 M) ∧
        (t0 = 0 →
        F_X3_says_b100 Q a0 M))))))
theorem w_X3_says_b75 {G : gG} {Q : Int32 → gM → Prop} (hC : gCx G cX3_says 4 RX3 (some .int) (gQi Q) rm_X3_says)  (a0 : Nat) (x1 : Int32) (x2 : Int32) (t0 : Int32)    (M : gM) (hF : F_X3_says_b75 Q a0 x1 x2 t0 M) : gAt G 0 0 M [(0, .ref a0), (1, .int x1), (2, .int x2)] 75 [.int t0] := by
  unfold F_X3_says_b75 at hF
  refine g_istore_n 76 hC (lv' := [(3, .int _), (0, .ref _), (1, .int _), (2, .int _)]) dX3_says_75 rfl rfl (by decide) rfl ?_
  refine g_aload_n 77 hC dX3_says_76 rfl 1 rfl rfl ?_
  refine gf_X3_7_3N 80 hC hF dX3_says_77 rfl (fun a_1 hF => ?_)
  refine g_iload_n 81 hC dX3_says_80 rfl 2 rfl rfl ?_
  refine g_iald 82 hC hF dX3_says_81 rfl (fun x_2 hF => ?_)
  refine g_iconst 83 hC (1 : Int32) dX3_says_82 (by decide) rfl ?_
  refine g_icmp_eq 86 100 hC dX3_says_83 (by decide) rfl (fun c => ?_) (fun c => ?_)
  · have hF := hF.1 c
    refine g_sub [1] rfl ?_
    exact w_X3_says_b100 hC _ _ hF
  · have hF := hF.2 c
    refine g_aload_n 87 hC dX3_says_86 rfl 1 rfl rfl ?_
    refine gf_X3_7_3N 90 hC hF dX3_says_87 rfl (fun a_3 hF => ?_)
    refine g_iload_n 91 hC dX3_says_90 rfl 2 rfl rfl ?_
    refine g_iald 92 hC hF dX3_says_91 rfl (fun x_4 hF => ?_)
    refine g_iconst 93 hC (2 : Int32) dX3_says_92 (by decide) rfl ?_
    refine g_icmp_ne 96 107 hC dX3_says_93 (by decide) rfl (fun c => ?_) (fun c => ?_)
    · have hF := hF.1 c
      refine g_sub [1, 2, 3] rfl ?_
      exact w_X3_says_b107 hC _ _ _ _ hF
    · have hF := hF.2 c
      refine g_iload_n 97 hC dX3_says_96 rfl 0 rfl rfl ?_
      refine g_if_ne 100 107 hC dX3_says_97 (by decide) rfl (fun c => ?_) (fun c => ?_)
      · have hF := hF.1 c
        refine g_sub [1, 2, 3] rfl ?_
        exact w_X3_says_b107 hC _ _ _ _ hF
      · have hF := hF.2 c
        refine g_sub [1] rfl ?_
        exact w_X3_says_b100 hC _ _ hF
def F_X3_says_b70 (Q : Int32 → gM → Prop)    (a0 : Nat) (x1 : Int32) (x2 : Int32)   (M : gM) : Prop :=
  F_X3_says_b75 Q a0 x1 x2 (1 : Int32) M
theorem w_X3_says_b70 {G : gG} {Q : Int32 → gM → Prop} (hC : gCx G cX3_says 4 RX3 (some .int) (gQi Q) rm_X3_says)  (a0 : Nat) (x1 : Int32) (x2 : Int32)     (M : gM) (hF : F_X3_says_b70 Q a0 x1 x2 M) : gAt G 0 0 M [(0, .ref a0), (1, .int x1), (2, .int x2)] 70 [] := by
  unfold F_X3_says_b70 at hF
  refine g_iconst 71 hC (1 : Int32) dX3_says_70 (by decide) rfl ?_
  refine g_goto 75 hC dX3_says_71 (by decide) ?_
  exact w_X3_says_b75 hC _ _ _ _ _ hF
def F_X3_says_b74 (Q : Int32 → gM → Prop)    (a0 : Nat) (x1 : Int32) (x2 : Int32)   (M : gM) : Prop :=
  F_X3_says_b75 Q a0 x1 x2 (0 : Int32) M
theorem w_X3_says_b74 {G : gG} {Q : Int32 → gM → Prop} (hC : gCx G cX3_says 4 RX3 (some .int) (gQi Q) rm_X3_says)  (a0 : Nat) (x1 : Int32) (x2 : Int32)     (M : gM) (hF : F_X3_says_b74 Q a0 x1 x2 M) : gAt G 0 0 M [(0, .ref a0), (1, .int x1), (2, .int x2)] 74 [] := by
  unfold F_X3_says_b74 at hF
  refine g_iconst 75 hC (0 : Int32) dX3_says_74 (by decide) rfl ?_
  exact w_X3_says_b75 hC _ _ _ _ _ hF
def F_X3_says_b24 (Q : Int32 → gM → Prop)    (a0 : Nat)   (M : gM) : Prop :=
  rc M 3 a0 ∧ F_X3_refuse M a0 (-2 : Int32) fun x_2 M_1 =>
  Q x_2 M_1
theorem w_X3_says_b24 {G : gG} {Q : Int32 → gM → Prop} (hC : gCx G cX3_says 4 RX3 (some .int) (gQi Q) rm_X3_says)  (a0 : Nat)     (M : gM) (hF : F_X3_says_b24 Q a0 M) : gAt G 0 0 M [(0, .ref a0)] 24 [] := by
  unfold F_X3_says_b24 at hF
  refine g_aload_n 25 hC dX3_says_24 rfl 0 rfl rfl ?_
  refine g_bipush 27 hC (-2 : Int32) dX3_says_25 (by decide) rfl ?_
  refine g_cV (rest := []) wl_X3_119 hd_X3_refuse (ci := 3) rfl 30 hC hF.1 (met_X3_refuse hF.2) rfl ⟨Nat.le_of_ble_eq_true rfl, Nat.le_of_ble_eq_true rfl⟩ ⟨Nat.zero_le _, Nat.zero_le _⟩ rfl (Nat.le_of_ble_eq_true rfl) dX3_says_27 rfl (g_ty_i 0 0 (Nat.le_refl _) (Nat.le_refl _) (fun x_2 M_1 hF => ?_))
  exact g_ireturn hC ⟨_, rfl, hF⟩ dX3_says_30 (Nat.zero_le _) (Nat.zero_le _)
def F_X3_says  (M : gM) (a0 : Nat) (x1 : Int32) (x2 : Int32) (Q : Int32 → gM → Prop)  : Prop :=
  F_X3_in M x1.toInt64 (0 : Int64) (7 : Int64) fun x_2 M_1 =>
  ((x_2 = 0 →
    F_X3_says_b24 Q a0 M_1) ∧
    (¬ x_2 = 0 →
    F_X3_in M_1 x2.toInt64 (0 : Int64) (5 : Int64) fun x_4 M_3 =>
    ((¬ x_4 = 0 →
      gN M_3 3 a0 0 fun a_5 =>
      aI M_3 .int a_5 x1 fun x_6 =>
      ((¬ x_6 = (2 : Int32) →
        F_X3_says_b74 Q a0 x1 x2 M_3) ∧
        (x_6 = (2 : Int32) →
        ((x2 = 0 →
          F_X3_says_b70 Q a0 x1 x2 M_3) ∧
          (¬ x2 = 0 →
          gN M_3 3 a0 5 fun a_7 =>
          aI M_3 .int a_7 x1 fun x_8 =>
          ((x_8 = x2 →
            F_X3_says_b70 Q a0 x1 x2 M_3) ∧
            (¬ x_8 = x2 →
            ((¬ x2 = (1 : Int32) →
              F_X3_says_b74 Q a0 x1 x2 M_3) ∧
              (x2 = (1 : Int32) →
              gN M_3 3 a0 5 fun a_9 =>
              aI M_3 .int a_9 x1 fun x_10 =>
              ((¬ x_10 = (3 : Int32) →
                F_X3_says_b74 Q a0 x1 x2 M_3) ∧
                (x_10 = (3 : Int32) →
                F_X3_says_b70 Q a0 x1 x2 M_3))))))))))) ∧
      (x_4 = 0 →
      F_X3_says_b24 Q a0 M_3))))
theorem met_X3_says {M : gM} {a0 : Nat} {x1 : Int32} {x2 : Int32} {Q : Int32 → gM → Prop} (hF : F_X3_says M a0 x1 x2 Q) : gMt yX3_says (ws_ yX3_says cX3_says 4 (some .int)) rm_X3_says M [.ref a0, .int x1, .int x2] (gQi Q) := by
  refine gMet (bytes := cX3_says) (maxL := 4) (ret := (some .int)) rfl rfl (by decide) (Nat.le_of_ble_eq_true rfl) (lv := [(0, .ref a0), (1, .int x1), (2, .int x2)]) rfl (fun G hC hin => ?_)
  unfold F_X3_says at hF
  refine g_iload_n 1 hC dX3_says_0 rfl 1 rfl rfl ?_
  refine g_i2l 2 hC dX3_says_1 rfl ?_
  refine g_lconst 3 hC (0 : Int64) dX3_says_2 (by decide) rfl ?_
  refine g_ldc2 6 hC q1530 dX3_says_3 rfl ?_
  refine g_cS (rest := []) wl_X3_94 hd_X3_in 9 hC (met_X3_in hF) rfl ⟨Nat.le_of_ble_eq_true rfl, Nat.le_of_ble_eq_true rfl⟩ ⟨Nat.zero_le _, Nat.zero_le _⟩ rfl (Nat.le_of_ble_eq_true rfl) dX3_says_6 rfl (g_ty_i 0 0 (Nat.le_refl _) (Nat.le_refl _) (fun x_2 M_1 hF => ?_))
  refine g_if_eq 12 24 hC dX3_says_9 (by decide) rfl (fun c => ?_) (fun c => ?_)
  · have hF := hF.1 c
    refine g_sub [0] rfl ?_
    exact w_X3_says_b24 hC _ _ hF
  · have hF := hF.2 c
    refine g_iload_n 13 hC dX3_says_12 rfl 2 rfl rfl ?_
    refine g_i2l 14 hC dX3_says_13 rfl ?_
    refine g_lconst 15 hC (0 : Int64) dX3_says_14 (by decide) rfl ?_
    refine g_ldc2 18 hC q1563 dX3_says_15 rfl ?_
    refine g_cS (rest := []) wl_X3_94 hd_X3_in 21 hC (met_X3_in hF) rfl ⟨Nat.le_of_ble_eq_true rfl, Nat.le_of_ble_eq_true rfl⟩ ⟨Nat.zero_le _, Nat.zero_le _⟩ rfl (Nat.le_of_ble_eq_true rfl) dX3_says_18 rfl (g_ty_i 0 0 (Nat.le_refl _) (Nat.le_refl _) (fun x_4 M_3 hF => ?_))
    refine g_if_ne 24 31 hC dX3_says_21 (by decide) rfl (fun c => ?_) (fun c => ?_)
    · have hF := hF.1 c
      refine g_aload_n 32 hC dX3_says_31 rfl 0 rfl rfl ?_
      refine gf_X3_7_3N 35 hC hF dX3_says_32 rfl (fun a_5 hF => ?_)
      refine g_iload_n 36 hC dX3_says_35 rfl 1 rfl rfl ?_
      refine g_iald 37 hC hF dX3_says_36 rfl (fun x_6 hF => ?_)
      refine g_iconst 38 hC (2 : Int32) dX3_says_37 (by decide) rfl ?_
      refine g_icmp_ne 41 74 hC dX3_says_38 (by decide) rfl (fun c => ?_) (fun c => ?_)
      · have hF := hF.1 c
        exact w_X3_says_b74 hC _ _ _ _ hF
      · have hF := hF.2 c
        refine g_iload_n 42 hC dX3_says_41 rfl 2 rfl rfl ?_
        refine g_if_eq 45 70 hC dX3_says_42 (by decide) rfl (fun c => ?_) (fun c => ?_)
        · have hF := hF.1 c
          exact w_X3_says_b70 hC _ _ _ _ hF
        · have hF := hF.2 c
          refine g_aload_n 46 hC dX3_says_45 rfl 0 rfl rfl ?_
          refine gf_X3_28_3N 49 hC hF dX3_says_46 rfl (fun a_7 hF => ?_)
          refine g_iload_n 50 hC dX3_says_49 rfl 1 rfl rfl ?_
          refine g_iald 51 hC hF dX3_says_50 rfl (fun x_8 hF => ?_)
          refine g_iload_n 52 hC dX3_says_51 rfl 2 rfl rfl ?_
          refine g_icmp_eq 55 70 hC dX3_says_52 (by decide) rfl (fun c => ?_) (fun c => ?_)
          · have hF := hF.1 c
            exact w_X3_says_b70 hC _ _ _ _ hF
          · have hF := hF.2 c
            refine g_iload_n 56 hC dX3_says_55 rfl 2 rfl rfl ?_
            refine g_iconst 57 hC (1 : Int32) dX3_says_56 (by decide) rfl ?_
            refine g_icmp_ne 60 74 hC dX3_says_57 (by decide) rfl (fun c => ?_) (fun c => ?_)
            · have hF := hF.1 c
              exact w_X3_says_b74 hC _ _ _ _ hF
            · have hF := hF.2 c
              refine g_aload_n 61 hC dX3_says_60 rfl 0 rfl rfl ?_
              refine gf_X3_28_3N 64 hC hF dX3_says_61 rfl (fun a_9 hF => ?_)
              refine g_iload_n 65 hC dX3_says_64 rfl 1 rfl rfl ?_
              refine g_iald 66 hC hF dX3_says_65 rfl (fun x_10 hF => ?_)
              refine g_iconst 67 hC (3 : Int32) dX3_says_66 (by decide) rfl ?_
              refine g_icmp_ne 70 74 hC dX3_says_67 (by decide) rfl (fun c => ?_) (fun c => ?_)
              · have hF := hF.1 c
                exact w_X3_says_b74 hC _ _ _ _ hF
              · have hF := hF.2 c
                exact w_X3_says_b70 hC _ _ _ _ hF
    · have hF := hF.2 c
      refine g_sub [0] rfl ?_
      exact w_X3_says_b24 hC _ _ hF
theorem gf_X3_136_3I {G : gG} {cc : ByteArray} {nL : Nat} {ret : Option FieldType} {Qf : Option Value → gM → Prop} {rm : Room} {cells slots : Nat} {M : gM} {lv : List (Nat × Value)} {pc : Nat} {st : List Value} {a : Nat} (n : Nat) (hC : gCx G cc nL RX3 ret Qf rm) {κ : Int32 → Prop} (hF : gI M 3 a 9 κ) (hdg : decode cc pc = .ok (.getfield 136, 3)) (hn : pc + 3 = n) (kk : ∀ x, κ x → gAt G cells slots M lv n (.int x :: st)) : gAt G cells slots M lv pc (.ref a :: st) :=
  g_getI (C := RX3) (T := TX3) (N := 46) in_X3 rfl (by decide) q1396 (fun _ _ _ => rfl) n hC hF hdg hn kk
theorem gf_X3_39_3N {G : gG} {cc : ByteArray} {nL : Nat} {ret : Option FieldType} {Qf : Option Value → gM → Prop} {rm : Room} {cells slots : Nat} {M : gM} {lv : List (Nat × Value)} {pc : Nat} {st : List Value} {a : Nat} (n : Nat) (hC : gCx G cc nL RX3 ret Qf rm) {κ : Nat → Prop} (hF : gN M 3 a 8 κ) (hdg : decode cc pc = .ok (.getfield 39, 3)) (hn : pc + 3 = n) (kk : ∀ x, κ x → gAt G cells slots M lv n (.ref x :: st)) : gAt G cells slots M lv pc (.ref a :: st) :=
  g_getN (C := RX3) (T := TX3) (N := 46) in_X3 rfl (by decide) q1395 (fun _ _ _ => rfl) n hC hF hdg hn kk
abbrev rm_X3_feed : Room := { frames := 1, cells := 0, slots := 0, locals := 25 }
def F_X3_feed_b42 (Q : Int32 → gM → Prop)    (a0 : Nat) (x1 : Int32) : Nat → Int32 → gM → Prop
  | 0, _, _ => False
  | n + 1, x3, M =>
    ((x3 < 0 →
      gI M 3 a0 9 fun x_1 =>
      Q x_1 M) ∧
      (¬ x3 < 0 →
      gN M 3 a0 8 fun a_2 =>
      gI M 3 a0 9 fun x_3 =>
      pI M 3 a0 9 (x_3 + (1 : Int32)) fun M_4 =>
      uI M_4 a_2 x_3 ((x1 >>> (((8 : Int32) * x3) &&& 31)) &&& (255 : Int32)) fun M_5 =>
      (F_X3_feed_b42 Q a0 x1 n) (x3 + (-1 : Int32)) M_5))
theorem w_X3_feed_b42 {G : gG} {Q : Int32 → gM → Prop} (hC : gCx G cX3_feed 4 RX3 (some .int) (gQi Q) rm_X3_feed)  (a0 : Nat) (x1 : Int32)  : ∀ (n : Nat) (x3 : Int32)   (M : gM), F_X3_feed_b42 Q a0 x1 n x3 M → gAt G 0 0 M [(0, .ref a0), (1, .int x1), (3, .int x3)] 42 [] := by
  intro n
  induction n with
  | zero =>
    intro x3 M hF
    exact hF.elim
  | succ n ih =>
    intro x3 M hF
    have hK42 := ih
    unfold F_X3_feed_b42 at hF
    refine g_iload_n 43 hC dX3_feed_42 rfl 2 rfl rfl ?_
    refine g_if_lt 46 78 hC dX3_feed_43 (by decide) rfl (fun c => ?_) (fun c => ?_)
    · have hF := hF.1 c
      refine g_aload_n 79 hC dX3_feed_78 rfl 0 rfl rfl ?_
      refine gf_X3_136_3I 82 hC hF dX3_feed_79 rfl (fun x_1 hF => ?_)
      exact g_ireturn hC ⟨_, rfl, hF⟩ dX3_feed_82 (Nat.zero_le _) (Nat.zero_le _)
    · have hF := hF.2 c
      refine g_aload_n 47 hC dX3_feed_46 rfl 0 rfl rfl ?_
      refine gf_X3_39_3N 50 hC hF dX3_feed_47 rfl (fun a_2 hF => ?_)
      refine g_aload_n 51 hC dX3_feed_50 rfl 0 rfl rfl ?_
      refine g_dup 52 hC dX3_feed_51 rfl rfl ?_
      refine gf_X3_136_3I 55 hC hF dX3_feed_52 rfl (fun x_3 hF => ?_)
      refine g_dup_x1 56 hC dX3_feed_55 rfl rfl rfl ?_
      refine g_iconst 57 hC (1 : Int32) dX3_feed_56 (by decide) rfl ?_
      refine g_iadd 58 hC dX3_feed_57 rfl ?_
      refine g_putI (C := RX3) (T := TX3) (N := 46) (ci := 3) (k := 9) (ty := .int) in_X3 tyX3 tyX3_ok nmX3 rfl (by decide) q1396 rfl rfl (fun _ _ _ => rfl) rfl rfl 61 hC hF dX3_feed_58 rfl (fun M_4 hF => ?_)
      refine g_iload_n 62 hC dX3_feed_61 rfl 1 rfl rfl ?_
      refine g_bipush 64 hC (8 : Int32) dX3_feed_62 (by decide) rfl ?_
      refine g_iload_n 65 hC dX3_feed_64 rfl 2 rfl rfl ?_
      refine g_imul 66 hC dX3_feed_65 rfl ?_
      refine g_ishr 67 hC dX3_feed_66 rfl ?_
      refine g_sipush 70 hC (255 : Int32) dX3_feed_67 (by decide) rfl ?_
      refine g_iand 71 hC dX3_feed_70 rfl ?_
      refine g_iast 72 hC hF dX3_feed_71 rfl (fun M_5 hF => ?_)
      refine g_iinc 75 hC (x3 + (-1 : Int32)) (lv' := [(3, .int _), (0, .ref _), (1, .int _)]) dX3_feed_72 rfl 2 rfl rfl (by decide) rfl ?_
      refine g_goto 42 hC dX3_feed_75 (by decide) ?_
      refine g_sub [1, 2, 0] rfl ?_
      exact hK42 _ _ hF
def F_X3_feed  (M : gM) (a0 : Nat) (x1 : Int32) (x2 : Int32) (Q : Int32 → gM → Prop)  : Prop :=
  F_X3_in M x2.toInt64 (1 : Int64) (4 : Int64) fun x_2 M_1 =>
  ((¬ x_2 = 0 →
    gI M_1 3 a0 9 fun x_3 =>
    ((x2 ≤ ((160 : Int32) - x_3) →
      ∃ n_4, F_X3_feed_b42 Q a0 x1 n_4 (x2 - (1 : Int32)) M_1) ∧
      (¬ x2 ≤ ((160 : Int32) - x_3) →
      rc M_1 3 a0 ∧ F_X3_refuse M_1 a0 (-6 : Int32) fun x_6 M_5 =>
      Q x_6 M_5))) ∧
    (x_2 = 0 →
    rc M_1 3 a0 ∧ F_X3_refuse M_1 a0 (-2 : Int32) fun x_8 M_7 =>
    Q x_8 M_7))
theorem met_X3_feed {M : gM} {a0 : Nat} {x1 : Int32} {x2 : Int32} {Q : Int32 → gM → Prop} (hF : F_X3_feed M a0 x1 x2 Q) : gMt yX3_feed (ws_ yX3_feed cX3_feed 4 (some .int)) rm_X3_feed M [.ref a0, .int x1, .int x2] (gQi Q) := by
  refine gMet (bytes := cX3_feed) (maxL := 4) (ret := (some .int)) rfl rfl (by decide) (Nat.le_of_ble_eq_true rfl) (lv := [(0, .ref a0), (1, .int x1), (2, .int x2)]) rfl (fun G hC hin => ?_)
  unfold F_X3_feed at hF
  refine g_iload_n 1 hC dX3_feed_0 rfl 2 rfl rfl ?_
  refine g_i2l 2 hC dX3_feed_1 rfl ?_
  refine g_lconst 3 hC (1 : Int64) dX3_feed_2 (by decide) rfl ?_
  refine g_ldc2 6 hC q1534 dX3_feed_3 rfl ?_
  refine g_cS (rest := []) wl_X3_94 hd_X3_in 9 hC (met_X3_in hF) rfl ⟨Nat.le_of_ble_eq_true rfl, Nat.le_of_ble_eq_true rfl⟩ ⟨Nat.zero_le _, Nat.zero_le _⟩ rfl (Nat.le_of_ble_eq_true rfl) dX3_feed_6 rfl (g_ty_i 0 0 (Nat.le_refl _) (Nat.le_refl _) (fun x_2 M_1 hF => ?_))
  refine g_if_ne 12 19 hC dX3_feed_9 (by decide) rfl (fun c => ?_) (fun c => ?_)
  · have hF := hF.1 c
    refine g_iload_n 20 hC dX3_feed_19 rfl 2 rfl rfl ?_
    refine g_sipush 23 hC (160 : Int32) dX3_feed_20 (by decide) rfl ?_
    refine g_aload_n 24 hC dX3_feed_23 rfl 0 rfl rfl ?_
    refine gf_X3_136_3I 27 hC hF dX3_feed_24 rfl (fun x_3 hF => ?_)
    refine g_isub 28 hC dX3_feed_27 rfl ?_
    refine g_icmp_le 31 38 hC dX3_feed_28 (by decide) rfl (fun c => ?_) (fun c => ?_)
    · have hF := hF.1 c
      refine g_iload_n 39 hC dX3_feed_38 rfl 2 rfl rfl ?_
      refine g_iconst 40 hC (1 : Int32) dX3_feed_39 (by decide) rfl ?_
      refine g_isub 41 hC dX3_feed_40 rfl ?_
      refine g_istore_n 42 hC (lv' := [(3, .int _), (0, .ref _), (1, .int _), (2, .int _)]) dX3_feed_41 rfl rfl (by decide) rfl ?_
      refine g_sub [1, 2, 0] rfl ?_
      obtain ⟨n_4, hF⟩ := hF
      exact w_X3_feed_b42 hC _ _ n_4 _ _ hF
    · have hF := hF.2 c
      refine g_aload_n 32 hC dX3_feed_31 rfl 0 rfl rfl ?_
      refine g_bipush 34 hC (-6 : Int32) dX3_feed_32 (by decide) rfl ?_
      refine g_cV (rest := []) wl_X3_119 hd_X3_refuse (ci := 3) rfl 37 hC hF.1 (met_X3_refuse hF.2) rfl ⟨Nat.le_of_ble_eq_true rfl, Nat.le_of_ble_eq_true rfl⟩ ⟨Nat.zero_le _, Nat.zero_le _⟩ rfl (Nat.le_of_ble_eq_true rfl) dX3_feed_34 rfl (g_ty_i 0 0 (Nat.le_refl _) (Nat.le_refl _) (fun x_6 M_5 hF => ?_))
      exact g_ireturn hC ⟨_, rfl, hF⟩ dX3_feed_37 (Nat.zero_le _) (Nat.zero_le _)
  · have hF := hF.2 c
    refine g_aload_n 13 hC dX3_feed_12 rfl 0 rfl rfl ?_
    refine g_bipush 15 hC (-2 : Int32) dX3_feed_13 (by decide) rfl ?_
    refine g_cV (rest := []) wl_X3_119 hd_X3_refuse (ci := 3) rfl 18 hC hF.1 (met_X3_refuse hF.2) rfl ⟨Nat.le_of_ble_eq_true rfl, Nat.le_of_ble_eq_true rfl⟩ ⟨Nat.zero_le _, Nat.zero_le _⟩ rfl (Nat.le_of_ble_eq_true rfl) dX3_feed_15 rfl (g_ty_i 0 0 (Nat.le_refl _) (Nat.le_refl _) (fun x_8 M_7 hF => ?_))
    exact g_ireturn hC ⟨_, rfl, hF⟩ dX3_feed_18 (Nat.zero_le _) (Nat.zero_le _)
abbrev rm_X3_wipe : Room := { frames := 0, cells := 0, slots := 0, locals := 0 }
def F_X3_wipe  (M : gM) (a0 : Nat) (Q : Int32 → gM → Prop)  : Prop :=
  gI M 3 a0 9 fun x_1 =>
  pI M 3 a0 9 (0 : Int32) fun M_2 =>
  Q x_1 M_2
theorem met_X3_wipe {M : gM} {a0 : Nat} {Q : Int32 → gM → Prop} (hF : F_X3_wipe M a0 Q) : gMt yX3_wipe (ws_ yX3_wipe cX3_wipe 2 (some .int)) rm_X3_wipe M [.ref a0] (gQi Q) := by
  refine gMet (bytes := cX3_wipe) (maxL := 2) (ret := (some .int)) rfl rfl (by decide) (Nat.le_of_ble_eq_true rfl) (lv := [(0, .ref a0)]) rfl (fun G hC hin => ?_)
  unfold F_X3_wipe at hF
  refine g_aload_n 1 hC dX3_wipe_0 rfl 0 rfl rfl ?_
  refine gf_X3_136_3I 4 hC hF dX3_wipe_1 rfl (fun x_1 hF => ?_)
  refine g_istore_n 5 hC (lv' := [(1, .int _), (0, .ref _)]) dX3_wipe_4 rfl rfl (by decide) rfl ?_
  refine g_aload_n 6 hC dX3_wipe_5 rfl 1 rfl rfl ?_
  refine g_iconst 7 hC (0 : Int32) dX3_wipe_6 (by decide) rfl ?_
  refine g_putI (C := RX3) (T := TX3) (N := 46) (ci := 3) (k := 9) (ty := .int) in_X3 tyX3 tyX3_ok nmX3 rfl (by decide) q1396 rfl rfl (fun _ _ _ => rfl) rfl rfl 10 hC hF dX3_wipe_7 rfl (fun M_2 hF => ?_)
  refine g_iload_n 11 hC dX3_wipe_10 rfl 0 rfl rfl ?_
  exact g_ireturn hC ⟨_, rfl, hF⟩ dX3_wipe_11 (Nat.zero_le _) (Nat.zero_le _)
abbrev rm_X3_isDigit : Room := { frames := 0, cells := 0, slots := 0, locals := 0 }
def F_X3_isDigit  (M : gM) (x0 : Int32) (Q : Int32 → gM → Prop)  : Prop :=
  ((x0 < (48 : Int32) →
    Q (0 : Int32) M) ∧
    (¬ x0 < (48 : Int32) →
    (((57 : Int32) < x0 →
      Q (0 : Int32) M) ∧
      (¬ (57 : Int32) < x0 →
      Q (1 : Int32) M))))
theorem met_X3_isDigit {M : gM} {x0 : Int32} {Q : Int32 → gM → Prop} (hF : F_X3_isDigit M x0 Q) : gMt yX3_isDigit (ws_ yX3_isDigit cX3_isDigit 1 (some .boolean)) rm_X3_isDigit M [.int x0] (gQi Q) := by
  refine gMet (bytes := cX3_isDigit) (maxL := 1) (ret := (some .boolean)) rfl rfl (by decide) (Nat.le_of_ble_eq_true rfl) (lv := [(0, .int x0)]) rfl (fun G hC hin => ?_)
  unfold F_X3_isDigit at hF
  refine g_iload_n 1 hC dX3_isDigit_0 rfl 0 rfl rfl ?_
  refine g_bipush 3 hC (48 : Int32) dX3_isDigit_1 (by decide) rfl ?_
  refine g_icmp_lt 6 16 hC dX3_isDigit_3 (by decide) rfl (fun c => ?_) (fun c => ?_)
  · have hF := hF.1 c
    refine g_iconst 17 hC (0 : Int32) dX3_isDigit_16 (by decide) rfl ?_
    exact g_zreturn hC ⟨_, rfl, hF⟩ (Or.inl rfl) dX3_isDigit_17 (Nat.zero_le _) (Nat.zero_le _)
  · have hF := hF.2 c
    refine g_iload_n 7 hC dX3_isDigit_6 rfl 0 rfl rfl ?_
    refine g_bipush 9 hC (57 : Int32) dX3_isDigit_7 (by decide) rfl ?_
    refine g_icmp_gt 12 16 hC dX3_isDigit_9 (by decide) rfl (fun c => ?_) (fun c => ?_)
    · have hF := hF.1 c
      refine g_iconst 17 hC (0 : Int32) dX3_isDigit_16 (by decide) rfl ?_
      exact g_zreturn hC ⟨_, rfl, hF⟩ (Or.inl rfl) dX3_isDigit_17 (Nat.zero_le _) (Nat.zero_le _)
    · have hF := hF.2 c
      refine g_iconst 13 hC (1 : Int32) dX3_isDigit_12 (by decide) rfl ?_
      refine g_goto 17 hC dX3_isDigit_13 (by decide) ?_
      exact g_zreturn hC ⟨_, rfl, hF⟩ (Or.inr rfl) dX3_isDigit_17 (Nat.zero_le _) (Nat.zero_le _)
abbrev rm_X3_isLetter : Room := { frames := 0, cells := 0, slots := 0, locals := 0 }
def F_X3_isLetter  (M : gM) (x0 : Int32) (Q : Int32 → gM → Prop)  : Prop :=
  ((x0 < (97 : Int32) →
    Q (0 : Int32) M) ∧
    (¬ x0 < (97 : Int32) →
    (((122 : Int32) < x0 →
      Q (0 : Int32) M) ∧
      (¬ (122 : Int32) < x0 →
      Q (1 : Int32) M))))
theorem met_X3_isLetter {M : gM} {x0 : Int32} {Q : Int32 → gM → Prop} (hF : F_X3_isLetter M x0 Q) : gMt yX3_isLetter (ws_ yX3_isLetter cX3_isLetter 1 (some .boolean)) rm_X3_isLetter M [.int x0] (gQi Q) := by
  refine gMet (bytes := cX3_isLetter) (maxL := 1) (ret := (some .boolean)) rfl rfl (by decide) (Nat.le_of_ble_eq_true rfl) (lv := [(0, .int x0)]) rfl (fun G hC hin => ?_)
  unfold F_X3_isLetter at hF
  refine g_iload_n 1 hC dX3_isLetter_0 rfl 0 rfl rfl ?_
  refine g_bipush 3 hC (97 : Int32) dX3_isLetter_1 (by decide) rfl ?_
  refine g_icmp_lt 6 16 hC dX3_isLetter_3 (by decide) rfl (fun c => ?_) (fun c => ?_)
  · have hF := hF.1 c
    refine g_iconst 17 hC (0 : Int32) dX3_isLetter_16 (by decide) rfl ?_
    exact g_zreturn hC ⟨_, rfl, hF⟩ (Or.inl rfl) dX3_isLetter_17 (Nat.zero_le _) (Nat.zero_le _)
  · have hF := hF.2 c
    refine g_iload_n 7 hC dX3_isLetter_6 rfl 0 rfl rfl ?_
    refine g_bipush 9 hC (122 : Int32) dX3_isLetter_7 (by decide) rfl ?_
    refine g_icmp_gt 12 16 hC dX3_isLetter_9 (by decide) rfl (fun c => ?_) (fun c => ?_)
    · have hF := hF.1 c
      refine g_iconst 17 hC (0 : Int32) dX3_isLetter_16 (by decide) rfl ?_
      exact g_zreturn hC ⟨_, rfl, hF⟩ (Or.inl rfl) dX3_isLetter_17 (Nat.zero_le _) (Nat.zero_le _)
    · have hF := hF.2 c
      refine g_iconst 13 hC (1 : Int32) dX3_isLetter_12 (by decide) rfl ?_
      refine g_goto 17 hC dX3_isLetter_13 (by decide) ?_
      exact g_zreturn hC ⟨_, rfl, hF⟩ (Or.inr rfl) dX3_isLetter_17 (Nat.zero_le _) (Nat.zero_le _)
theorem gf_X3_139_3I {G : gG} {cc : ByteArray} {nL : Nat} {ret : Option FieldType} {Qf : Option Value → gM → Prop} {rm : Room} {cells slots : Nat} {M : gM} {lv : List (Nat × Value)} {pc : Nat} {st : List Value} {a : Nat} (n : Nat) (hC : gCx G cc nL RX3 ret Qf rm) {κ : Int32 → Prop} (hF : gI M 3 a 23 κ) (hdg : decode cc pc = .ok (.getfield 139, 3)) (hn : pc + 3 = n) (kk : ∀ x, κ x → gAt G cells slots M lv n (.int x :: st)) : gAt G cells slots M lv pc (.ref a :: st) :=
  g_getI (C := RX3) (T := TX3) (N := 46) in_X3 rfl (by decide) q1410 (fun _ _ _ => rfl) n hC hF hdg hn kk
theorem hd_X3_isLetter : yX3_isLetter.cls ≠ "java/lang/invoke/MethodHandle" ∧ yX3_isLetter.cls ≠ "java/lang/invoke/VarHandle" ∧ (parseMethodDescriptor yX3_isLetter.desc).map (fun d => d.parameters.length) = some 1 := by decide +kernel
theorem wl_X3_152 : GoodIn lw_all (va_wsS RX3 152 yX3_isLetter (ws_ yX3_isLetter cX3_isLetter 1 (some .boolean))) := lw_S q1593 q1594 q72 q1595
theorem hd_X3_isDigit : yX3_isDigit.cls ≠ "java/lang/invoke/MethodHandle" ∧ yX3_isDigit.cls ≠ "java/lang/invoke/VarHandle" ∧ (parseMethodDescriptor yX3_isDigit.desc).map (fun d => d.parameters.length) = some 1 := by decide +kernel
theorem wl_X3_155 : GoodIn lw_all (va_wsS RX3 155 yX3_isDigit (ws_ yX3_isDigit cX3_isDigit 1 (some .boolean))) := lw_S q1596 q1597 q72 q1598
theorem gf_X3_142_3I {G : gG} {cc : ByteArray} {nL : Nat} {ret : Option FieldType} {Qf : Option Value → gM → Prop} {rm : Room} {cells slots : Nat} {M : gM} {lv : List (Nat × Value)} {pc : Nat} {st : List Value} {a : Nat} (n : Nat) (hC : gCx G cc nL RX3 ret Qf rm) {κ : Int32 → Prop} (hF : gI M 3 a 25 κ) (hdg : decode cc pc = .ok (.getfield 142, 3)) (hn : pc + 3 = n) (kk : ∀ x, κ x → gAt G cells slots M lv n (.int x :: st)) : gAt G cells slots M lv pc (.ref a :: st) :=
  g_getI (C := RX3) (T := TX3) (N := 46) in_X3 rfl (by decide) q1412 (fun _ _ _ => rfl) n hC hF hdg hn kk
theorem gf_X3_145_3J {G : gG} {cc : ByteArray} {nL : Nat} {ret : Option FieldType} {Qf : Option Value → gM → Prop} {rm : Room} {cells slots : Nat} {M : gM} {lv : List (Nat × Value)} {pc : Nat} {st : List Value} {a : Nat} (n : Nat) (hC : gCx G cc nL RX3 ret Qf rm) {κ : Int64 → Prop} (hF : gJ M 3 a 26 κ) (hdg : decode cc pc = .ok (.getfield 145, 3)) (hn : pc + 3 = n) (kk : ∀ x, κ x → gAt G cells slots M lv n (.long x :: st)) : gAt G cells slots M lv pc (.ref a :: st) :=
  g_getJ (C := RX3) (T := TX3) (N := 46) in_X3 rfl (by decide) q1413 (fun _ _ _ => rfl) n hC hF hdg hn kk
abbrev rm_X3_look : Room := { frames := 1, cells := 0, slots := 0, locals := 20 }
def F_X3_look_b90 (Q : gM → Prop)    (a0 : Nat) : Nat → gM → Prop
  | 0, _ => False
  | n + 1, M =>
    gI M 3 a0 23 fun x_1 =>
    gI M 3 a0 9 fun x_2 =>
    ((x_2 ≤ x_1 →
      Q M) ∧
      (¬ x_2 ≤ x_1 →
      gN M 3 a0 8 fun a_3 =>
      gI M 3 a0 23 fun x_4 =>
      aI M .int a_3 x_4 fun x_5 =>
      F_X3_isLetter M x_5 fun x_7 M_6 =>
      ((x_7 = 0 →
        Q M_6) ∧
        (¬ x_7 = 0 →
        gI M_6 3 a0 23 fun x_8 =>
        pI M_6 3 a0 23 (x_8 + (1 : Int32)) fun M_9 =>
        (F_X3_look_b90 Q a0 n) M_9))))
theorem w_X3_look_b90 {G : gG} {Q : gM → Prop} (hC : gCx G cX3_look 1 RX3 none (gQv Q) rm_X3_look)  (a0 : Nat)  : ∀ (n : Nat)    (M : gM), F_X3_look_b90 Q a0 n  M → gAt G 0 0 M [(0, .ref a0)] 90 [] := by
  intro n
  induction n with
  | zero =>
    intro  M hF
    exact hF.elim
  | succ n ih =>
    intro  M hF
    have hK90 := ih
    unfold F_X3_look_b90 at hF
    refine g_aload_n 91 hC dX3_look_90 rfl 0 rfl rfl ?_
    refine gf_X3_139_3I 94 hC hF dX3_look_91 rfl (fun x_1 hF => ?_)
    refine g_aload_n 95 hC dX3_look_94 rfl 0 rfl rfl ?_
    refine gf_X3_136_3I 98 hC hF dX3_look_95 rfl (fun x_2 hF => ?_)
    refine g_icmp_ge 101 267 hC dX3_look_98 (by decide) rfl (fun c => ?_) (fun c => ?_)
    · have hF := hF.1 c
      exact g_return hC ⟨rfl, hF⟩ dX3_look_267 (Nat.zero_le _) (Nat.zero_le _)
    · have hF := hF.2 c
      refine g_aload_n 102 hC dX3_look_101 rfl 0 rfl rfl ?_
      refine gf_X3_39_3N 105 hC hF dX3_look_102 rfl (fun a_3 hF => ?_)
      refine g_aload_n 106 hC dX3_look_105 rfl 0 rfl rfl ?_
      refine gf_X3_139_3I 109 hC hF dX3_look_106 rfl (fun x_4 hF => ?_)
      refine g_iald 110 hC hF dX3_look_109 rfl (fun x_5 hF => ?_)
      refine g_cS (rest := []) wl_X3_152 hd_X3_isLetter 113 hC (met_X3_isLetter hF) rfl ⟨Nat.le_of_ble_eq_true rfl, Nat.le_of_ble_eq_true rfl⟩ ⟨Nat.zero_le _, Nat.zero_le _⟩ rfl (Nat.le_of_ble_eq_true rfl) dX3_look_110 rfl (g_ty_i 0 0 (Nat.le_refl _) (Nat.le_refl _) (fun x_7 M_6 hF => ?_))
      refine g_if_eq 116 267 hC dX3_look_113 (by decide) rfl (fun c => ?_) (fun c => ?_)
      · have hF := hF.1 c
        exact g_return hC ⟨rfl, hF⟩ dX3_look_267 (Nat.zero_le _) (Nat.zero_le _)
      · have hF := hF.2 c
        refine g_aload_n 117 hC dX3_look_116 rfl 0 rfl rfl ?_
        refine g_dup 118 hC dX3_look_117 rfl rfl ?_
        refine gf_X3_139_3I 121 hC hF dX3_look_118 rfl (fun x_8 hF => ?_)
        refine g_iconst 122 hC (1 : Int32) dX3_look_121 (by decide) rfl ?_
        refine g_iadd 123 hC dX3_look_122 rfl ?_
        refine g_putI (C := RX3) (T := TX3) (N := 46) (ci := 3) (k := 23) (ty := .int) in_X3 tyX3 tyX3_ok nmX3 rfl (by decide) q1410 rfl rfl (fun _ _ _ => rfl) rfl rfl 126 hC hF dX3_look_123 rfl (fun M_9 hF => ?_)
        refine g_goto 90 hC dX3_look_126 (by decide) ?_
        exact hK90 _ hF
def F_X3_look_b218 (Q : gM → Prop)   (K149 : gM → Prop) (a0 : Nat) (t0 : Nat) (t1 : Int64)  (M : gM) : Prop :=
  pJ M 3 t0 26 t1 fun M_1 =>
  gI M_1 3 a0 23 fun x_2 =>
  pI M_1 3 a0 23 (x_2 + (1 : Int32)) fun M_3 =>
  K149 M_3
theorem w_X3_look_b218 {G : gG} {Q : gM → Prop} (hC : gCx G cX3_look 1 RX3 none (gQv Q) rm_X3_look) (K149 : gM → Prop) (a0 : Nat) (t0 : Nat) (t1 : Int64) (hK149 : ∀  M', K149  M' → gAt G 0 0 M' [(0, .ref a0)] 149 [])   (M : gM) (hF : F_X3_look_b218 Q K149 a0 t0 t1 M) : gAt G 0 0 M [(0, .ref a0)] 218 [.long t1, .ref t0] := by
  unfold F_X3_look_b218 at hF
  refine g_putJ (C := RX3) (T := TX3) (N := 46) (ci := 3) (k := 26) (ty := .long) in_X3 tyX3 tyX3_ok nmX3 rfl (by decide) q1413 rfl rfl (fun _ _ _ => rfl) rfl rfl 221 hC hF dX3_look_218 rfl (fun M_1 hF => ?_)
  refine g_aload_n 222 hC dX3_look_221 rfl 0 rfl rfl ?_
  refine g_dup 223 hC dX3_look_222 rfl rfl ?_
  refine gf_X3_139_3I 226 hC hF dX3_look_223 rfl (fun x_2 hF => ?_)
  refine g_iconst 227 hC (1 : Int32) dX3_look_226 (by decide) rfl ?_
  refine g_iadd 228 hC dX3_look_227 rfl ?_
  refine g_putI (C := RX3) (T := TX3) (N := 46) (ci := 3) (k := 23) (ty := .int) in_X3 tyX3 tyX3_ok nmX3 rfl (by decide) q1410 rfl rfl (fun _ _ _ => rfl) rfl rfl 231 hC hF dX3_look_228 rfl (fun M_3 hF => ?_)
  refine g_goto 149 hC dX3_look_231 (by decide) ?_
  exact hK149 _ hF
def F_X3_look_b149 (Q : gM → Prop)    (a0 : Nat) : Nat → gM → Prop
  | 0, _ => False
  | n + 1, M =>
    gI M 3 a0 23 fun x_1 =>
    gI M 3 a0 9 fun x_2 =>
    ((x_2 ≤ x_1 →
      Q M) ∧
      (¬ x_2 ≤ x_1 →
      gN M 3 a0 8 fun a_3 =>
      gI M 3 a0 23 fun x_4 =>
      aI M .int a_3 x_4 fun x_5 =>
      F_X3_isDigit M x_5 fun x_7 M_6 =>
      ((x_7 = 0 →
        Q M_6) ∧
        (¬ x_7 = 0 →
        gI M_6 3 a0 23 fun x_8 =>
        gI M_6 3 a0 25 fun x_9 =>
        (((2 : Int32) ≤ (x_8 - x_9) →
          F_X3_look_b218 Q (F_X3_look_b149 Q a0 n) a0 a0 (100000 : Int64) M_6) ∧
          (¬ (2 : Int32) ≤ (x_8 - x_9) →
          gJ M_6 3 a0 26 fun j_10 =>
          gN M_6 3 a0 8 fun a_11 =>
          gI M_6 3 a0 23 fun x_12 =>
          aI M_6 .int a_11 x_12 fun x_13 =>
          F_X3_look_b218 Q (F_X3_look_b149 Q a0 n) a0 a0 (((j_10 * (10 : Int64)) + x_13.toInt64) - (48 : Int64)) M_6))))))
theorem w_X3_look_b149 {G : gG} {Q : gM → Prop} (hC : gCx G cX3_look 1 RX3 none (gQv Q) rm_X3_look)  (a0 : Nat)  : ∀ (n : Nat)    (M : gM), F_X3_look_b149 Q a0 n  M → gAt G 0 0 M [(0, .ref a0)] 149 [] := by
  intro n
  induction n with
  | zero =>
    intro  M hF
    exact hF.elim
  | succ n ih =>
    intro  M hF
    have hK149 := ih
    unfold F_X3_look_b149 at hF
    refine g_aload_n 150 hC dX3_look_149 rfl 0 rfl rfl ?_
    refine gf_X3_139_3I 153 hC hF dX3_look_150 rfl (fun x_1 hF => ?_)
    refine g_aload_n 154 hC dX3_look_153 rfl 0 rfl rfl ?_
    refine gf_X3_136_3I 157 hC hF dX3_look_154 rfl (fun x_2 hF => ?_)
    refine g_icmp_ge 160 267 hC dX3_look_157 (by decide) rfl (fun c => ?_) (fun c => ?_)
    · have hF := hF.1 c
      exact g_return hC ⟨rfl, hF⟩ dX3_look_267 (Nat.zero_le _) (Nat.zero_le _)
    · have hF := hF.2 c
      refine g_aload_n 161 hC dX3_look_160 rfl 0 rfl rfl ?_
      refine gf_X3_39_3N 164 hC hF dX3_look_161 rfl (fun a_3 hF => ?_)
      refine g_aload_n 165 hC dX3_look_164 rfl 0 rfl rfl ?_
      refine gf_X3_139_3I 168 hC hF dX3_look_165 rfl (fun x_4 hF => ?_)
      refine g_iald 169 hC hF dX3_look_168 rfl (fun x_5 hF => ?_)
      refine g_cS (rest := []) wl_X3_155 hd_X3_isDigit 172 hC (met_X3_isDigit hF) rfl ⟨Nat.le_of_ble_eq_true rfl, Nat.le_of_ble_eq_true rfl⟩ ⟨Nat.zero_le _, Nat.zero_le _⟩ rfl (Nat.le_of_ble_eq_true rfl) dX3_look_169 rfl (g_ty_i 0 0 (Nat.le_refl _) (Nat.le_refl _) (fun x_7 M_6 hF => ?_))
      refine g_if_eq 175 267 hC dX3_look_172 (by decide) rfl (fun c => ?_) (fun c => ?_)
      · have hF := hF.1 c
        exact g_return hC ⟨rfl, hF⟩ dX3_look_267 (Nat.zero_le _) (Nat.zero_le _)
      · have hF := hF.2 c
        refine g_aload_n 176 hC dX3_look_175 rfl 0 rfl rfl ?_
        refine g_aload_n 177 hC dX3_look_176 rfl 0 rfl rfl ?_
        refine gf_X3_139_3I 180 hC hF dX3_look_177 rfl (fun x_8 hF => ?_)
        refine g_aload_n 181 hC dX3_look_180 rfl 0 rfl rfl ?_
        refine gf_X3_142_3I 184 hC hF dX3_look_181 rfl (fun x_9 hF => ?_)
        refine g_isub 185 hC dX3_look_184 rfl ?_
        refine g_iconst 186 hC (2 : Int32) dX3_look_185 (by decide) rfl ?_
        refine g_icmp_ge 189 215 hC dX3_look_186 (by decide) rfl (fun c => ?_) (fun c => ?_)
        · have hF := hF.1 c
          refine g_ldc2 218 hC q1601 dX3_look_215 rfl ?_
          exact w_X3_look_b218 hC _ _ _ _ hK149 _ hF
        · have hF := hF.2 c
          refine g_aload_n 190 hC dX3_look_189 rfl 0 rfl rfl ?_
          refine gf_X3_145_3J 193 hC hF dX3_look_190 rfl (fun j_10 hF => ?_)
          refine g_ldc2 196 hC q1599 dX3_look_193 rfl ?_
          refine g_lmul 197 hC dX3_look_196 rfl ?_
          refine g_aload_n 198 hC dX3_look_197 rfl 0 rfl rfl ?_
          refine gf_X3_39_3N 201 hC hF dX3_look_198 rfl (fun a_11 hF => ?_)
          refine g_aload_n 202 hC dX3_look_201 rfl 0 rfl rfl ?_
          refine gf_X3_139_3I 205 hC hF dX3_look_202 rfl (fun x_12 hF => ?_)
          refine g_iald 206 hC hF dX3_look_205 rfl (fun x_13 hF => ?_)
          refine g_i2l 207 hC dX3_look_206 rfl ?_
          refine g_ladd 208 hC dX3_look_207 rfl ?_
          refine g_ldc2 211 hC q1600 dX3_look_208 rfl ?_
          refine g_lsub 212 hC dX3_look_211 rfl ?_
          refine g_goto 218 hC dX3_look_212 (by decide) ?_
          exact w_X3_look_b218 hC _ _ _ _ hK149 _ hF
def F_X3_look_b254 (Q : gM → Prop)    (a0 : Nat) (t0 : Nat) (t1 : Int32)  (M : gM) : Prop :=
  pI M 3 t0 24 t1 fun M_1 =>
  gI M_1 3 a0 23 fun x_2 =>
  pI M_1 3 a0 23 (x_2 + (1 : Int32)) fun M_3 =>
  Q M_3
theorem w_X3_look_b254 {G : gG} {Q : gM → Prop} (hC : gCx G cX3_look 1 RX3 none (gQv Q) rm_X3_look)  (a0 : Nat) (t0 : Nat) (t1 : Int32)    (M : gM) (hF : F_X3_look_b254 Q a0 t0 t1 M) : gAt G 0 0 M [(0, .ref a0)] 254 [.int t1, .ref t0] := by
  unfold F_X3_look_b254 at hF
  refine g_putI (C := RX3) (T := TX3) (N := 46) (ci := 3) (k := 24) (ty := .int) in_X3 tyX3 tyX3_ok nmX3 rfl (by decide) q1411 rfl rfl (fun _ _ _ => rfl) rfl rfl 257 hC hF dX3_look_254 rfl (fun M_1 hF => ?_)
  refine g_aload_n 258 hC dX3_look_257 rfl 0 rfl rfl ?_
  refine g_dup 259 hC dX3_look_258 rfl rfl ?_
  refine gf_X3_139_3I 262 hC hF dX3_look_259 rfl (fun x_2 hF => ?_)
  refine g_iconst 263 hC (1 : Int32) dX3_look_262 (by decide) rfl ?_
  refine g_iadd 264 hC dX3_look_263 rfl ?_
  refine g_putI (C := RX3) (T := TX3) (N := 46) (ci := 3) (k := 23) (ty := .int) in_X3 tyX3 tyX3_ok nmX3 rfl (by decide) q1410 rfl rfl (fun _ _ _ => rfl) rfl rfl 267 hC hF dX3_look_264 rfl (fun M_3 hF => ?_)
  exact g_return hC ⟨rfl, hF⟩ dX3_look_267 (Nat.zero_le _) (Nat.zero_le _)
def F_X3_look_b38 (Q : gM → Prop)    (a0 : Nat)   (M : gM) : Prop :=
  gI M 3 a0 23 fun x_1 =>
  pI M 3 a0 25 x_1 fun M_2 =>
  pJ M_2 3 a0 26 (0 : Int64) fun M_3 =>
  gI M_3 3 a0 23 fun x_4 =>
  gI M_3 3 a0 9 fun x_5 =>
  ((¬ x_4 = x_5 →
    gN M_3 3 a0 8 fun a_6 =>
    gI M_3 3 a0 23 fun x_7 =>
    aI M_3 .int a_6 x_7 fun x_8 =>
    F_X3_isLetter M_3 x_8 fun x_10 M_9 =>
    ((x_10 = 0 →
      gN M_9 3 a0 8 fun a_11 =>
      gI M_9 3 a0 23 fun x_12 =>
      aI M_9 .int a_11 x_12 fun x_13 =>
      F_X3_isDigit M_9 x_13 fun x_15 M_14 =>
      ((x_15 = 0 →
        gN M_14 3 a0 8 fun a_16 =>
        gI M_14 3 a0 23 fun x_17 =>
        aI M_14 .int a_16 x_17 fun x_18 =>
        ((¬ x_18 = (59 : Int32) →
          F_X3_look_b254 Q a0 a0 (4 : Int32) M_14) ∧
          (x_18 = (59 : Int32) →
          F_X3_look_b254 Q a0 a0 (3 : Int32) M_14))) ∧
        (¬ x_15 = 0 →
        pI M_14 3 a0 24 (2 : Int32) fun M_19 =>
        ∃ n_20, F_X3_look_b149 Q a0 n_20 M_19))) ∧
      (¬ x_10 = 0 →
      pI M_9 3 a0 24 (1 : Int32) fun M_21 =>
      ∃ n_22, F_X3_look_b90 Q a0 n_22 M_21))) ∧
    (x_4 = x_5 →
    pI M_3 3 a0 24 (0 : Int32) fun M_23 =>
    Q M_23))
theorem w_X3_look_b38 {G : gG} {Q : gM → Prop} (hC : gCx G cX3_look 1 RX3 none (gQv Q) rm_X3_look)  (a0 : Nat)     (M : gM) (hF : F_X3_look_b38 Q a0 M) : gAt G 0 0 M [(0, .ref a0)] 38 [] := by
  unfold F_X3_look_b38 at hF
  refine g_aload_n 39 hC dX3_look_38 rfl 0 rfl rfl ?_
  refine g_aload_n 40 hC dX3_look_39 rfl 0 rfl rfl ?_
  refine gf_X3_139_3I 43 hC hF dX3_look_40 rfl (fun x_1 hF => ?_)
  refine g_putI (C := RX3) (T := TX3) (N := 46) (ci := 3) (k := 25) (ty := .int) in_X3 tyX3 tyX3_ok nmX3 rfl (by decide) q1412 rfl rfl (fun _ _ _ => rfl) rfl rfl 46 hC hF dX3_look_43 rfl (fun M_2 hF => ?_)
  refine g_aload_n 47 hC dX3_look_46 rfl 0 rfl rfl ?_
  refine g_lconst 48 hC (0 : Int64) dX3_look_47 (by decide) rfl ?_
  refine g_putJ (C := RX3) (T := TX3) (N := 46) (ci := 3) (k := 26) (ty := .long) in_X3 tyX3 tyX3_ok nmX3 rfl (by decide) q1413 rfl rfl (fun _ _ _ => rfl) rfl rfl 51 hC hF dX3_look_48 rfl (fun M_3 hF => ?_)
  refine g_aload_n 52 hC dX3_look_51 rfl 0 rfl rfl ?_
  refine gf_X3_139_3I 55 hC hF dX3_look_52 rfl (fun x_4 hF => ?_)
  refine g_aload_n 56 hC dX3_look_55 rfl 0 rfl rfl ?_
  refine gf_X3_136_3I 59 hC hF dX3_look_56 rfl (fun x_5 hF => ?_)
  refine g_icmp_ne 62 70 hC dX3_look_59 (by decide) rfl (fun c => ?_) (fun c => ?_)
  · have hF := hF.1 c
    refine g_aload_n 71 hC dX3_look_70 rfl 0 rfl rfl ?_
    refine gf_X3_39_3N 74 hC hF dX3_look_71 rfl (fun a_6 hF => ?_)
    refine g_aload_n 75 hC dX3_look_74 rfl 0 rfl rfl ?_
    refine gf_X3_139_3I 78 hC hF dX3_look_75 rfl (fun x_7 hF => ?_)
    refine g_iald 79 hC hF dX3_look_78 rfl (fun x_8 hF => ?_)
    refine g_cS (rest := []) wl_X3_152 hd_X3_isLetter 82 hC (met_X3_isLetter hF) rfl ⟨Nat.le_of_ble_eq_true rfl, Nat.le_of_ble_eq_true rfl⟩ ⟨Nat.zero_le _, Nat.zero_le _⟩ rfl (Nat.le_of_ble_eq_true rfl) dX3_look_79 rfl (g_ty_i 0 0 (Nat.le_refl _) (Nat.le_refl _) (fun x_10 M_9 hF => ?_))
    refine g_if_eq 85 129 hC dX3_look_82 (by decide) rfl (fun c => ?_) (fun c => ?_)
    · have hF := hF.1 c
      refine g_aload_n 130 hC dX3_look_129 rfl 0 rfl rfl ?_
      refine gf_X3_39_3N 133 hC hF dX3_look_130 rfl (fun a_11 hF => ?_)
      refine g_aload_n 134 hC dX3_look_133 rfl 0 rfl rfl ?_
      refine gf_X3_139_3I 137 hC hF dX3_look_134 rfl (fun x_12 hF => ?_)
      refine g_iald 138 hC hF dX3_look_137 rfl (fun x_13 hF => ?_)
      refine g_cS (rest := []) wl_X3_155 hd_X3_isDigit 141 hC (met_X3_isDigit hF) rfl ⟨Nat.le_of_ble_eq_true rfl, Nat.le_of_ble_eq_true rfl⟩ ⟨Nat.zero_le _, Nat.zero_le _⟩ rfl (Nat.le_of_ble_eq_true rfl) dX3_look_138 rfl (g_ty_i 0 0 (Nat.le_refl _) (Nat.le_refl _) (fun x_15 M_14 hF => ?_))
      refine g_if_eq 144 234 hC dX3_look_141 (by decide) rfl (fun c => ?_) (fun c => ?_)
      · have hF := hF.1 c
        refine g_aload_n 235 hC dX3_look_234 rfl 0 rfl rfl ?_
        refine g_aload_n 236 hC dX3_look_235 rfl 0 rfl rfl ?_
        refine gf_X3_39_3N 239 hC hF dX3_look_236 rfl (fun a_16 hF => ?_)
        refine g_aload_n 240 hC dX3_look_239 rfl 0 rfl rfl ?_
        refine gf_X3_139_3I 243 hC hF dX3_look_240 rfl (fun x_17 hF => ?_)
        refine g_iald 244 hC hF dX3_look_243 rfl (fun x_18 hF => ?_)
        refine g_bipush 246 hC (59 : Int32) dX3_look_244 (by decide) rfl ?_
        refine g_icmp_ne 249 253 hC dX3_look_246 (by decide) rfl (fun c => ?_) (fun c => ?_)
        · have hF := hF.1 c
          refine g_iconst 254 hC (4 : Int32) dX3_look_253 (by decide) rfl ?_
          exact w_X3_look_b254 hC _ _ _ _ hF
        · have hF := hF.2 c
          refine g_iconst 250 hC (3 : Int32) dX3_look_249 (by decide) rfl ?_
          refine g_goto 254 hC dX3_look_250 (by decide) ?_
          exact w_X3_look_b254 hC _ _ _ _ hF
      · have hF := hF.2 c
        refine g_aload_n 145 hC dX3_look_144 rfl 0 rfl rfl ?_
        refine g_iconst 146 hC (2 : Int32) dX3_look_145 (by decide) rfl ?_
        refine g_putI (C := RX3) (T := TX3) (N := 46) (ci := 3) (k := 24) (ty := .int) in_X3 tyX3 tyX3_ok nmX3 rfl (by decide) q1411 rfl rfl (fun _ _ _ => rfl) rfl rfl 149 hC hF dX3_look_146 rfl (fun M_19 hF => ?_)
        obtain ⟨n_20, hF⟩ := hF
        exact w_X3_look_b149 hC _ n_20 _ hF
    · have hF := hF.2 c
      refine g_aload_n 86 hC dX3_look_85 rfl 0 rfl rfl ?_
      refine g_iconst 87 hC (1 : Int32) dX3_look_86 (by decide) rfl ?_
      refine g_putI (C := RX3) (T := TX3) (N := 46) (ci := 3) (k := 24) (ty := .int) in_X3 tyX3 tyX3_ok nmX3 rfl (by decide) q1411 rfl rfl (fun _ _ _ => rfl) rfl rfl 90 hC hF dX3_look_87 rfl (fun M_21 hF => ?_)
      obtain ⟨n_22, hF⟩ := hF
      exact w_X3_look_b90 hC _ n_22 _ hF
  · have hF := hF.2 c
    refine g_aload_n 63 hC dX3_look_62 rfl 0 rfl rfl ?_
    refine g_iconst 64 hC (0 : Int32) dX3_look_63 (by decide) rfl ?_
    refine g_putI (C := RX3) (T := TX3) (N := 46) (ci := 3) (k := 24) (ty := .int) in_X3 tyX3 tyX3_ok nmX3 rfl (by decide) q1411 rfl rfl (fun _ _ _ => rfl) rfl rfl 67 hC hF dX3_look_64 rfl (fun M_23 hF => ?_)
    refine g_goto 267 hC dX3_look_67 (by decide) ?_
    exact g_return hC ⟨rfl, hF⟩ dX3_look_267 (Nat.zero_le _) (Nat.zero_le _)
def F_X3_look_b0 (Q : gM → Prop)    (a0 : Nat) : Nat → gM → Prop
  | 0, _ => False
  | n + 1, M =>
    gI M 3 a0 23 fun x_1 =>
    gI M 3 a0 9 fun x_2 =>
    ((x_2 ≤ x_1 →
      F_X3_look_b38 Q a0 M) ∧
      (¬ x_2 ≤ x_1 →
      gN M 3 a0 8 fun a_3 =>
      gI M 3 a0 23 fun x_4 =>
      aI M .int a_3 x_4 fun x_5 =>
      ((¬ x_5 = (32 : Int32) →
        F_X3_look_b38 Q a0 M) ∧
        (x_5 = (32 : Int32) →
        gI M 3 a0 23 fun x_6 =>
        pI M 3 a0 23 (x_6 + (1 : Int32)) fun M_7 =>
        (F_X3_look_b0 Q a0 n) M_7))))
theorem w_X3_look_b0 {G : gG} {Q : gM → Prop} (hC : gCx G cX3_look 1 RX3 none (gQv Q) rm_X3_look)  (a0 : Nat)  : ∀ (n : Nat)    (M : gM), F_X3_look_b0 Q a0 n  M → gAt G 0 0 M [(0, .ref a0)] 0 [] := by
  intro n
  induction n with
  | zero =>
    intro  M hF
    exact hF.elim
  | succ n ih =>
    intro  M hF
    have hK0 := ih
    unfold F_X3_look_b0 at hF
    refine g_aload_n 1 hC dX3_look_0 rfl 0 rfl rfl ?_
    refine gf_X3_139_3I 4 hC hF dX3_look_1 rfl (fun x_1 hF => ?_)
    refine g_aload_n 5 hC dX3_look_4 rfl 0 rfl rfl ?_
    refine gf_X3_136_3I 8 hC hF dX3_look_5 rfl (fun x_2 hF => ?_)
    refine g_icmp_ge 11 38 hC dX3_look_8 (by decide) rfl (fun c => ?_) (fun c => ?_)
    · have hF := hF.1 c
      exact w_X3_look_b38 hC _ _ hF
    · have hF := hF.2 c
      refine g_aload_n 12 hC dX3_look_11 rfl 0 rfl rfl ?_
      refine gf_X3_39_3N 15 hC hF dX3_look_12 rfl (fun a_3 hF => ?_)
      refine g_aload_n 16 hC dX3_look_15 rfl 0 rfl rfl ?_
      refine gf_X3_139_3I 19 hC hF dX3_look_16 rfl (fun x_4 hF => ?_)
      refine g_iald 20 hC hF dX3_look_19 rfl (fun x_5 hF => ?_)
      refine g_bipush 22 hC (32 : Int32) dX3_look_20 (by decide) rfl ?_
      refine g_icmp_ne 25 38 hC dX3_look_22 (by decide) rfl (fun c => ?_) (fun c => ?_)
      · have hF := hF.1 c
        exact w_X3_look_b38 hC _ _ hF
      · have hF := hF.2 c
        refine g_aload_n 26 hC dX3_look_25 rfl 0 rfl rfl ?_
        refine g_dup 27 hC dX3_look_26 rfl rfl ?_
        refine gf_X3_139_3I 30 hC hF dX3_look_27 rfl (fun x_6 hF => ?_)
        refine g_iconst 31 hC (1 : Int32) dX3_look_30 (by decide) rfl ?_
        refine g_iadd 32 hC dX3_look_31 rfl ?_
        refine g_putI (C := RX3) (T := TX3) (N := 46) (ci := 3) (k := 23) (ty := .int) in_X3 tyX3 tyX3_ok nmX3 rfl (by decide) q1410 rfl rfl (fun _ _ _ => rfl) rfl rfl 35 hC hF dX3_look_32 rfl (fun M_7 hF => ?_)
        refine g_goto 0 hC dX3_look_35 (by decide) ?_
        exact hK0 _ hF
def F_X3_look  (M : gM) (a0 : Nat) (Q : gM → Prop)  : Prop :=
  ∃ n_1, F_X3_look_b0 Q a0 n_1 M
theorem met_X3_look {M : gM} {a0 : Nat} {Q : gM → Prop} (hF : F_X3_look M a0 Q) : gMt yX3_look (ws_ yX3_look cX3_look 1 none) rm_X3_look M [.ref a0] (gQv Q) := by
  refine gMet (bytes := cX3_look) (maxL := 1) (ret := none) rfl rfl (by decide) (Nat.le_of_ble_eq_true rfl) (lv := [(0, .ref a0)]) rfl (fun G hC hin => ?_)
  unfold F_X3_look at hF
  obtain ⟨n_1, hF⟩ := hF
  exact w_X3_look_b0 hC _ n_1 _ hF
theorem hd_J4_length : yJ4_length.cls = RJ4 ∧ yJ4_length.cls ≠ "java/lang/invoke/MethodHandle" ∧ yJ4_length.cls ≠ "java/lang/invoke/VarHandle" ∧ (parseMethodDescriptor yJ4_length.desc).map (fun d => d.parameters.length) = some 0 := by decide +kernel
theorem wl_X3_167 : GoodIn lw_all (wsV RX3 167 RJ4 yJ4_length (ws_ yJ4_length cJ4_length 1 (some .int))) := lw_V q1611 q1612 q1613 q77 q1614
theorem hd_J4_charAt : yJ4_charAt.cls = RJ4 ∧ yJ4_charAt.cls ≠ "java/lang/invoke/MethodHandle" ∧ yJ4_charAt.cls ≠ "java/lang/invoke/VarHandle" ∧ (parseMethodDescriptor yJ4_charAt.desc).map (fun d => d.parameters.length) = some 1 := by decide +kernel
theorem wl_X3_173 : GoodIn lw_all (wsV RX3 173 RJ4 yJ4_charAt (ws_ yJ4_charAt cJ4_charAt 2 (some .char))) := lw_V q1619 q1620 q1621 q77 q1622
theorem gf_X3_149_3I {G : gG} {cc : ByteArray} {nL : Nat} {ret : Option FieldType} {Qf : Option Value → gM → Prop} {rm : Room} {cells slots : Nat} {M : gM} {lv : List (Nat × Value)} {pc : Nat} {st : List Value} {a : Nat} (n : Nat) (hC : gCx G cc nL RX3 ret Qf rm) {κ : Int32 → Prop} (hF : gI M 3 a 24 κ) (hdg : decode cc pc = .ok (.getfield 149, 3)) (hn : pc + 3 = n) (kk : ∀ x, κ x → gAt G cells slots M lv n (.int x :: st)) : gAt G cells slots M lv pc (.ref a :: st) :=
  g_getI (C := RX3) (T := TX3) (N := 46) in_X3 rfl (by decide) q1411 (fun _ _ _ => rfl) n hC hF hdg hn kk
abbrev rm_X3_isWord : Room := { frames := 4, cells := 0, slots := 0, locals := 85 }
def F_X3_isWord_b28 (Q : Int32 → gM → Prop)    (a0 : Nat) (a1 : Nat) : Nat → Int32 → gM → Prop
  | 0, _, _ => False
  | n + 1, x2, M =>
    rc M 15 a1 ∧ F_J4_length M a1 fun x_2 M_1 =>
    ((x_2 ≤ x2 →
      Q (1 : Int32) M_1) ∧
      (¬ x_2 ≤ x2 →
      gN M_1 3 a0 8 fun a_3 =>
      gI M_1 3 a0 25 fun x_4 =>
      aI M_1 .int a_3 (x_4 + x2) fun x_5 =>
      rc M_1 15 a1 ∧ F_J4_charAt M_1 a1 x2 fun x_7 M_6 =>
      ((x_5 = x_7 →
        (F_X3_isWord_b28 Q a0 a1 n) (x2 + (1 : Int32)) M_6) ∧
        (¬ x_5 = x_7 →
        Q (0 : Int32) M_6))))
theorem w_X3_isWord_b28 {G : gG} {Q : Int32 → gM → Prop} (hC : gCx G cX3_isWord 3 RX3 (some .boolean) (gQi Q) rm_X3_isWord)  (a0 : Nat) (a1 : Nat)  : ∀ (n : Nat) (x2 : Int32)   (M : gM), F_X3_isWord_b28 Q a0 a1 n x2 M → gAt G 0 0 M [(0, .ref a0), (1, .ref a1), (2, .int x2)] 28 [] := by
  intro n
  induction n with
  | zero =>
    intro x2 M hF
    exact hF.elim
  | succ n ih =>
    intro x2 M hF
    have hK28 := ih
    unfold F_X3_isWord_b28 at hF
    refine g_iload_n 29 hC dX3_isWord_28 rfl 2 rfl rfl ?_
    refine g_aload_n 30 hC dX3_isWord_29 rfl 1 rfl rfl ?_
    refine g_cV (rest := [_]) wl_X3_167 hd_J4_length (ci := 15) rfl 33 hC hF.1 (met_J4_length hF.2) rfl ⟨Nat.le_of_ble_eq_true rfl, Nat.le_of_ble_eq_true rfl⟩ ⟨Nat.zero_le _, Nat.zero_le _⟩ rfl (Nat.le_of_ble_eq_true rfl) dX3_isWord_30 rfl (g_ty_i 0 0 (Nat.le_refl _) (Nat.le_refl _) (fun x_2 M_1 hF => ?_))
    refine g_icmp_ge 36 63 hC dX3_isWord_33 (by decide) rfl (fun c => ?_) (fun c => ?_)
    · have hF := hF.1 c
      refine g_iconst 64 hC (1 : Int32) dX3_isWord_63 (by decide) rfl ?_
      exact g_zreturn hC ⟨_, rfl, hF⟩ (Or.inr rfl) dX3_isWord_64 (Nat.zero_le _) (Nat.zero_le _)
    · have hF := hF.2 c
      refine g_aload_n 37 hC dX3_isWord_36 rfl 0 rfl rfl ?_
      refine gf_X3_39_3N 40 hC hF dX3_isWord_37 rfl (fun a_3 hF => ?_)
      refine g_aload_n 41 hC dX3_isWord_40 rfl 0 rfl rfl ?_
      refine gf_X3_142_3I 44 hC hF dX3_isWord_41 rfl (fun x_4 hF => ?_)
      refine g_iload_n 45 hC dX3_isWord_44 rfl 2 rfl rfl ?_
      refine g_iadd 46 hC dX3_isWord_45 rfl ?_
      refine g_iald 47 hC hF dX3_isWord_46 rfl (fun x_5 hF => ?_)
      refine g_aload_n 48 hC dX3_isWord_47 rfl 1 rfl rfl ?_
      refine g_iload_n 49 hC dX3_isWord_48 rfl 2 rfl rfl ?_
      refine g_cV (rest := [_]) wl_X3_173 hd_J4_charAt (ci := 15) rfl 52 hC hF.1 (met_J4_charAt hF.2) rfl ⟨Nat.le_of_ble_eq_true rfl, Nat.le_of_ble_eq_true rfl⟩ ⟨Nat.zero_le _, Nat.zero_le _⟩ rfl (Nat.le_of_ble_eq_true rfl) dX3_isWord_49 rfl (g_ty_i 0 0 (Nat.le_refl _) (Nat.le_refl _) (fun x_7 M_6 hF => ?_))
      refine g_icmp_eq 55 57 hC dX3_isWord_52 (by decide) rfl (fun c => ?_) (fun c => ?_)
      · have hF := hF.1 c
        refine g_iinc 60 hC (x2 + (1 : Int32)) (lv' := [(2, .int _), (0, .ref _), (1, .ref _)]) dX3_isWord_57 rfl 2 rfl rfl (by decide) rfl ?_
        refine g_goto 28 hC dX3_isWord_60 (by decide) ?_
        refine g_sub [1, 2, 0] rfl ?_
        exact hK28 _ _ hF
      · have hF := hF.2 c
        refine g_iconst 56 hC (0 : Int32) dX3_isWord_55 (by decide) rfl ?_
        exact g_zreturn hC ⟨_, rfl, hF⟩ (Or.inl rfl) dX3_isWord_56 (Nat.zero_le _) (Nat.zero_le _)
def F_X3_isWord  (M : gM) (a0 : Nat) (a1 : Nat) (Q : Int32 → gM → Prop)  : Prop :=
  gI M 3 a0 24 fun x_1 =>
  ((¬ x_1 = (1 : Int32) →
    Q (0 : Int32) M) ∧
    (x_1 = (1 : Int32) →
    gI M 3 a0 23 fun x_2 =>
    gI M 3 a0 25 fun x_3 =>
    rc M 15 a1 ∧ F_J4_length M a1 fun x_5 M_4 =>
    (((x_2 - x_3) = x_5 →
      ∃ n_6, F_X3_isWord_b28 Q a0 a1 n_6 (0 : Int32) M_4) ∧
      (¬ (x_2 - x_3) = x_5 →
      Q (0 : Int32) M_4))))
theorem met_X3_isWord {M : gM} {a0 : Nat} {a1 : Nat} {Q : Int32 → gM → Prop} (hF : F_X3_isWord M a0 a1 Q) : gMt yX3_isWord (ws_ yX3_isWord cX3_isWord 3 (some .boolean)) rm_X3_isWord M [.ref a0, .ref a1] (gQi Q) := by
  refine gMet (bytes := cX3_isWord) (maxL := 3) (ret := (some .boolean)) rfl rfl (by decide) (Nat.le_of_ble_eq_true rfl) (lv := [(0, .ref a0), (1, .ref a1)]) rfl (fun G hC hin => ?_)
  unfold F_X3_isWord at hF
  refine g_aload_n 1 hC dX3_isWord_0 rfl 0 rfl rfl ?_
  refine gf_X3_149_3I 4 hC hF dX3_isWord_1 rfl (fun x_1 hF => ?_)
  refine g_iconst 5 hC (1 : Int32) dX3_isWord_4 (by decide) rfl ?_
  refine g_icmp_ne 8 24 hC dX3_isWord_5 (by decide) rfl (fun c => ?_) (fun c => ?_)
  · have hF := hF.1 c
    refine g_iconst 25 hC (0 : Int32) dX3_isWord_24 (by decide) rfl ?_
    exact g_zreturn hC ⟨_, rfl, hF⟩ (Or.inl rfl) dX3_isWord_25 (Nat.zero_le _) (Nat.zero_le _)
  · have hF := hF.2 c
    refine g_aload_n 9 hC dX3_isWord_8 rfl 0 rfl rfl ?_
    refine gf_X3_139_3I 12 hC hF dX3_isWord_9 rfl (fun x_2 hF => ?_)
    refine g_aload_n 13 hC dX3_isWord_12 rfl 0 rfl rfl ?_
    refine gf_X3_142_3I 16 hC hF dX3_isWord_13 rfl (fun x_3 hF => ?_)
    refine g_isub 17 hC dX3_isWord_16 rfl ?_
    refine g_aload_n 18 hC dX3_isWord_17 rfl 1 rfl rfl ?_
    refine g_cV (rest := [_]) wl_X3_167 hd_J4_length (ci := 15) rfl 21 hC hF.1 (met_J4_length hF.2) rfl ⟨Nat.le_of_ble_eq_true rfl, Nat.le_of_ble_eq_true rfl⟩ ⟨Nat.zero_le _, Nat.zero_le _⟩ rfl (Nat.le_of_ble_eq_true rfl) dX3_isWord_18 rfl (g_ty_i 0 0 (Nat.le_refl _) (Nat.le_refl _) (fun x_5 M_4 hF => ?_))
    refine g_icmp_eq 24 26 hC dX3_isWord_21 (by decide) rfl (fun c => ?_) (fun c => ?_)
    · have hF := hF.1 c
      refine g_iconst 27 hC (0 : Int32) dX3_isWord_26 (by decide) rfl ?_
      refine g_istore_n 28 hC (lv' := [(2, .int _), (0, .ref _), (1, .ref _)]) dX3_isWord_27 rfl rfl (by decide) rfl ?_
      refine g_sub [1, 2, 0] rfl ?_
      obtain ⟨n_6, hF⟩ := hF
      exact w_X3_isWord_b28 hC _ _ n_6 _ _ hF
    · have hF := hF.2 c
      refine g_iconst 25 hC (0 : Int32) dX3_isWord_24 (by decide) rfl ?_
      exact g_zreturn hC ⟨_, rfl, hF⟩ (Or.inl rfl) dX3_isWord_25 (Nat.zero_le _) (Nat.zero_le _)
abbrev rm_X3_wrong : Room := { frames := 0, cells := 0, slots := 0, locals := 0 }
def F_X3_wrong  (M : gM) (a0 : Nat) (Q : Int32 → gM → Prop)  : Prop :=
  gI M 3 a0 25 fun x_1 =>
  pI M 3 a0 27 x_1 fun M_2 =>
  Q (0 : Int32) M_2
theorem met_X3_wrong {M : gM} {a0 : Nat} {Q : Int32 → gM → Prop} (hF : F_X3_wrong M a0 Q) : gMt yX3_wrong (ws_ yX3_wrong cX3_wrong 1 (some .boolean)) rm_X3_wrong M [.ref a0] (gQi Q) := by
  refine gMet (bytes := cX3_wrong) (maxL := 1) (ret := (some .boolean)) rfl rfl (by decide) (Nat.le_of_ble_eq_true rfl) (lv := [(0, .ref a0)]) rfl (fun G hC hin => ?_)
  unfold F_X3_wrong at hF
  refine g_aload_n 1 hC dX3_wrong_0 rfl 0 rfl rfl ?_
  refine g_aload_n 2 hC dX3_wrong_1 rfl 0 rfl rfl ?_
  refine gf_X3_142_3I 5 hC hF dX3_wrong_2 rfl (fun x_1 hF => ?_)
  refine g_putI (C := RX3) (T := TX3) (N := 46) (ci := 3) (k := 27) (ty := .int) in_X3 tyX3 tyX3_ok nmX3 rfl (by decide) q1414 rfl rfl (fun _ _ _ => rfl) rfl rfl 8 hC hF dX3_wrong_5 rfl (fun M_2 hF => ?_)
  refine g_iconst 9 hC (0 : Int32) dX3_wrong_8 (by decide) rfl ?_
  exact g_zreturn hC ⟨_, rfl, hF⟩ (Or.inl rfl) dX3_wrong_9 (Nat.zero_le _) (Nat.zero_le _)
theorem hd_X3_wrong : yX3_wrong.cls = RX3 ∧ yX3_wrong.cls ≠ "java/lang/invoke/MethodHandle" ∧ yX3_wrong.cls ≠ "java/lang/invoke/VarHandle" ∧ (parseMethodDescriptor yX3_wrong.desc).map (fun d => d.parameters.length) = some 0 := by decide +kernel
theorem wl_X3_181 : GoodIn lw_all (wsV RX3 181 RX3 yX3_wrong (ws_ yX3_wrong cX3_wrong 1 (some .boolean))) := lw_V q1638 q1640 qs34 q72 q1641
theorem hd_X3_isWord : yX3_isWord.cls = RX3 ∧ yX3_isWord.cls ≠ "java/lang/invoke/MethodHandle" ∧ yX3_isWord.cls ≠ "java/lang/invoke/VarHandle" ∧ (parseMethodDescriptor yX3_isWord.desc).map (fun d => d.parameters.length) = some 1 := by decide +kernel
theorem wl_X3_177 : GoodIn lw_all (wsV RX3 177 RX3 yX3_isWord (ws_ yX3_isWord cX3_isWord 3 (some .boolean))) := lw_V q1607 q1609 qs32 q72 q1610
theorem hd_X3_look : yX3_look.cls = RX3 ∧ yX3_look.cls ≠ "java/lang/invoke/MethodHandle" ∧ yX3_look.cls ≠ "java/lang/invoke/VarHandle" ∧ (parseMethodDescriptor yX3_look.desc).map (fun d => d.parameters.length) = some 0 := by decide +kernel
theorem wl_X3_185 : GoodIn lw_all (wsV RX3 185 RX3 yX3_look (ws_ yX3_look cX3_look 1 none)) := lw_V q1589 q1591 qs30 q72 q1592
abbrev rm_X3_told : Room := { frames := 5, cells := 0, slots := 0, locals := 107 }
def F_X3_told_b41 (Q : Int32 → gM → Prop)    (a0 : Nat)   (M : gM) : Prop :=
  rc M 3 a0 ∧ F_X3_wrong M a0 fun x_2 M_1 =>
  zq x_2 (Q x_2 M_1)
theorem w_X3_told_b41 {G : gG} {Q : Int32 → gM → Prop} (hC : gCx G cX3_told 6 RX3 (some .boolean) (gQi Q) rm_X3_told)  (a0 : Nat)     (M : gM) (hF : F_X3_told_b41 Q a0 M) : gAt G 0 0 M [(0, .ref a0)] 41 [] := by
  unfold F_X3_told_b41 at hF
  refine g_aload_n 42 hC dX3_told_41 rfl 0 rfl rfl ?_
  refine g_cV (rest := []) wl_X3_181 hd_X3_wrong (ci := 3) rfl 45 hC hF.1 (met_X3_wrong hF.2) rfl ⟨Nat.le_of_ble_eq_true rfl, Nat.le_of_ble_eq_true rfl⟩ ⟨Nat.zero_le _, Nat.zero_le _⟩ rfl (Nat.le_of_ble_eq_true rfl) dX3_told_42 rfl (g_ty_i 0 0 (Nat.le_refl _) (Nat.le_refl _) (fun x_2 M_1 hF => ?_))
  exact g_zreturn hC ⟨_, rfl, hF.2⟩ hF.1 dX3_told_45 (Nat.zero_le _) (Nat.zero_le _)
def F_X3_told  (M : gM) (a0 : Nat) (a1 : Nat) (a2 : Nat) (x3 : Int32) (x4 : Int32) (x5 : Int32) (Q : Int32 → gM → Prop)  : Prop :=
  rc M 3 a0 ∧ F_X3_isWord M a0 a1 fun x_2 M_1 =>
  ((¬ x_2 = 0 →
    rc M_1 3 a0 ∧ F_X3_look M_1 a0 fun M_3 =>
    gI M_3 3 a0 24 fun x_5 =>
    ((¬ x_5 = (2 : Int32) →
      F_X3_told_b41 Q a0 M_3) ∧
      (x_5 = (2 : Int32) →
      gJ M_3 3 a0 26 fun j_6 =>
      F_X3_in M_3 j_6 x4.toInt64 x5.toInt64 fun x_8 M_7 =>
      ((¬ x_8 = 0 →
        gJ M_7 3 a0 26 fun j_9 =>
        uI M_7 a2 x3 j_9.toInt32 fun M_10 =>
        rc M_10 3 a0 ∧ F_X3_look M_10 a0 fun M_11 =>
        Q (1 : Int32) M_11) ∧
        (x_8 = 0 →
        F_X3_told_b41 Q a0 M_7))))) ∧
    (x_2 = 0 →
    rc M_1 3 a0 ∧ F_X3_wrong M_1 a0 fun x_14 M_13 =>
    zq x_14 (Q x_14 M_13)))
theorem met_X3_told {M : gM} {a0 : Nat} {a1 : Nat} {a2 : Nat} {x3 : Int32} {x4 : Int32} {x5 : Int32} {Q : Int32 → gM → Prop} (hF : F_X3_told M a0 a1 a2 x3 x4 x5 Q) : gMt yX3_told (ws_ yX3_told cX3_told 6 (some .boolean)) rm_X3_told M [.ref a0, .ref a1, .ref a2, .int x3, .int x4, .int x5] (gQi Q) := by
  refine gMet (bytes := cX3_told) (maxL := 6) (ret := (some .boolean)) rfl rfl (by decide) (Nat.le_of_ble_eq_true rfl) (lv := [(0, .ref a0), (1, .ref a1), (2, .ref a2), (3, .int x3), (4, .int x4), (5, .int x5)]) rfl (fun G hC hin => ?_)
  unfold F_X3_told at hF
  refine g_aload_n 1 hC dX3_told_0 rfl 0 rfl rfl ?_
  refine g_aload_n 2 hC dX3_told_1 rfl 1 rfl rfl ?_
  refine g_cV (rest := []) wl_X3_177 hd_X3_isWord (ci := 3) rfl 5 hC hF.1 (met_X3_isWord hF.2) rfl ⟨Nat.le_of_ble_eq_true rfl, Nat.le_of_ble_eq_true rfl⟩ ⟨Nat.zero_le _, Nat.zero_le _⟩ rfl (Nat.le_of_ble_eq_true rfl) dX3_told_2 rfl (g_ty_i 0 0 (Nat.le_refl _) (Nat.le_refl _) (fun x_2 M_1 hF => ?_))
  refine g_if_ne 8 13 hC dX3_told_5 (by decide) rfl (fun c => ?_) (fun c => ?_)
  · have hF := hF.1 c
    refine g_aload_n 14 hC dX3_told_13 rfl 0 rfl rfl ?_
    refine g_cV (rest := []) wl_X3_185 hd_X3_look (ci := 3) rfl 17 hC hF.1 (met_X3_look hF.2) rfl ⟨Nat.le_of_ble_eq_true rfl, Nat.le_of_ble_eq_true rfl⟩ ⟨Nat.zero_le _, Nat.zero_le _⟩ rfl (Nat.le_of_ble_eq_true rfl) dX3_told_14 rfl (g_ty_v 0 0 (Nat.le_refl _) (Nat.le_refl _) (fun M_3 hF => ?_))
    refine g_aload_n 18 hC dX3_told_17 rfl 0 rfl rfl ?_
    refine gf_X3_149_3I 21 hC hF dX3_told_18 rfl (fun x_5 hF => ?_)
    refine g_iconst 22 hC (2 : Int32) dX3_told_21 (by decide) rfl ?_
    refine g_icmp_ne 25 41 hC dX3_told_22 (by decide) rfl (fun c => ?_) (fun c => ?_)
    · have hF := hF.1 c
      refine g_sub [0] rfl ?_
      exact w_X3_told_b41 hC _ _ hF
    · have hF := hF.2 c
      refine g_aload_n 26 hC dX3_told_25 rfl 0 rfl rfl ?_
      refine gf_X3_145_3J 29 hC hF dX3_told_26 rfl (fun j_6 hF => ?_)
      refine g_iload 31 hC dX3_told_29 rfl 4 rfl ?_
      refine g_i2l 32 hC dX3_told_31 rfl ?_
      refine g_iload 34 hC dX3_told_32 rfl 5 rfl ?_
      refine g_i2l 35 hC dX3_told_34 rfl ?_
      refine g_cS (rest := []) wl_X3_94 hd_X3_in 38 hC (met_X3_in hF) rfl ⟨Nat.le_of_ble_eq_true rfl, Nat.le_of_ble_eq_true rfl⟩ ⟨Nat.zero_le _, Nat.zero_le _⟩ rfl (Nat.le_of_ble_eq_true rfl) dX3_told_35 rfl (g_ty_i 0 0 (Nat.le_refl _) (Nat.le_refl _) (fun x_8 M_7 hF => ?_))
      refine g_if_ne 41 46 hC dX3_told_38 (by decide) rfl (fun c => ?_) (fun c => ?_)
      · have hF := hF.1 c
        refine g_aload_n 47 hC dX3_told_46 rfl 2 rfl rfl ?_
        refine g_iload_n 48 hC dX3_told_47 rfl 3 rfl rfl ?_
        refine g_aload_n 49 hC dX3_told_48 rfl 0 rfl rfl ?_
        refine gf_X3_145_3J 52 hC hF dX3_told_49 rfl (fun j_9 hF => ?_)
        refine g_l2i 53 hC dX3_told_52 rfl ?_
        refine g_iast 54 hC hF dX3_told_53 rfl (fun M_10 hF => ?_)
        refine g_aload_n 55 hC dX3_told_54 rfl 0 rfl rfl ?_
        refine g_cV (rest := []) wl_X3_185 hd_X3_look (ci := 3) rfl 58 hC hF.1 (met_X3_look hF.2) rfl ⟨Nat.le_of_ble_eq_true rfl, Nat.le_of_ble_eq_true rfl⟩ ⟨Nat.zero_le _, Nat.zero_le _⟩ rfl (Nat.le_of_ble_eq_true rfl) dX3_told_55 rfl (g_ty_v 0 0 (Nat.le_refl _) (Nat.le_refl _) (fun M_11 hF => ?_))
        refine g_iconst 59 hC (1 : Int32) dX3_told_58 (by decide) rfl ?_
        exact g_zreturn hC ⟨_, rfl, hF⟩ (Or.inr rfl) dX3_told_59 (Nat.zero_le _) (Nat.zero_le _)
      · have hF := hF.2 c
        refine g_sub [0] rfl ?_
        exact w_X3_told_b41 hC _ _ hF
  · have hF := hF.2 c
    refine g_aload_n 9 hC dX3_told_8 rfl 0 rfl rfl ?_
    refine g_cV (rest := []) wl_X3_181 hd_X3_wrong (ci := 3) rfl 12 hC hF.1 (met_X3_wrong hF.2) rfl ⟨Nat.le_of_ble_eq_true rfl, Nat.le_of_ble_eq_true rfl⟩ ⟨Nat.zero_le _, Nat.zero_le _⟩ rfl (Nat.le_of_ble_eq_true rfl) dX3_told_9 rfl (g_ty_i 0 0 (Nat.le_refl _) (Nat.le_refl _) (fun x_14 M_13 hF => ?_))
    exact g_zreturn hC ⟨_, rfl, hF.2⟩ hF.1 dX3_told_12 (Nat.zero_le _) (Nat.zero_le _)
theorem hd_X3_told : yX3_told.cls = RX3 ∧ yX3_told.cls ≠ "java/lang/invoke/MethodHandle" ∧ yX3_told.cls ≠ "java/lang/invoke/VarHandle" ∧ (parseMethodDescriptor yX3_told.desc).map (fun d => d.parameters.length) = some 5 := by decide +kernel
theorem wl_X3_190 : GoodIn lw_all (wsV RX3 190 RX3 yX3_told (ws_ yX3_told cX3_told 6 (some .boolean))) := lw_V q1634 q1636 qs33 q72 q1637
abbrev rm_X3_statement : Room := { frames := 6, cells := 0, slots := 0, locals := 132 }
def F_X3_statement_b230 (Q : Int32 → gM → Prop)    (a1 : Nat)   (M : gM) : Prop :=
  aI M .int a1 (4 : Int32) fun x_1 =>
  uI M a1 (4 : Int32) (x_1 + (1 : Int32)) fun M_2 =>
  Q (1 : Int32) M_2
theorem w_X3_statement_b230 {G : gG} {Q : Int32 → gM → Prop} (hC : gCx G cX3_statement 3 RX3 (some .boolean) (gQi Q) rm_X3_statement)  (a1 : Nat)     (M : gM) (hF : F_X3_statement_b230 Q a1 M) : gAt G 0 0 M [(1, .ref a1)] 230 [] := by
  unfold F_X3_statement_b230 at hF
  refine g_aload_n 231 hC dX3_statement_230 rfl 0 rfl rfl ?_
  refine g_iconst 232 hC (4 : Int32) dX3_statement_231 (by decide) rfl ?_
  refine g_dup2_11 233 hC dX3_statement_232 rfl rfl rfl ?_
  refine g_iald 234 hC hF dX3_statement_233 rfl (fun x_1 hF => ?_)
  refine g_iconst 235 hC (1 : Int32) dX3_statement_234 (by decide) rfl ?_
  refine g_iadd 236 hC dX3_statement_235 rfl ?_
  refine g_iast 237 hC hF dX3_statement_236 rfl (fun M_2 hF => ?_)
  refine g_iconst 238 hC (1 : Int32) dX3_statement_237 (by decide) rfl ?_
  exact g_zreturn hC ⟨_, rfl, hF⟩ (Or.inr rfl) dX3_statement_238 (Nat.zero_le _) (Nat.zero_le _)
def F_X3_statement_b203 (Q : Int32 → gM → Prop)    (a0 : Nat) (a1 : Nat) (x2 : Int32)   (M : gM) : Prop :=
  rc M 3 a0 ∧ F_X3_isWord M a0 (gl M 19) fun x_2 M_1 =>
  ((x_2 = 0 →
    F_X3_statement_b230 Q a1 M_1) ∧
    (¬ x_2 = 0 →
    rc M_1 3 a0 ∧ F_X3_told M_1 a0 (gl M_1 19) a1 (x2 + (4 : Int32)) (0 : Int32) (99 : Int32) fun x_4 M_3 =>
    ((¬ x_4 = 0 →
      F_X3_statement_b230 Q a1 M_3) ∧
      (x_4 = 0 →
      Q (0 : Int32) M_3))))
theorem w_X3_statement_b203 {G : gG} {Q : Int32 → gM → Prop} (hC : gCx G cX3_statement 3 RX3 (some .boolean) (gQi Q) rm_X3_statement)  (a0 : Nat) (a1 : Nat) (x2 : Int32)     (M : gM) (hF : F_X3_statement_b203 Q a0 a1 x2 M) : gAt G 0 0 M [(0, .ref a0), (1, .ref a1), (2, .int x2)] 203 [] := by
  unfold F_X3_statement_b203 at hF
  refine g_aload_n 204 hC dX3_statement_203 rfl 0 rfl rfl ?_
  refine g_ldcS 206 hC (j := 18) rfl dX3_statement_204 rfl ?_
  refine g_cV (rest := []) wl_X3_177 hd_X3_isWord (ci := 3) rfl 209 hC hF.1 (met_X3_isWord hF.2) rfl ⟨Nat.le_of_ble_eq_true rfl, Nat.le_of_ble_eq_true rfl⟩ ⟨Nat.zero_le _, Nat.zero_le _⟩ rfl (Nat.le_of_ble_eq_true rfl) dX3_statement_206 rfl (g_ty_i 0 0 (Nat.le_refl _) (Nat.le_refl _) (fun x_2 M_1 hF => ?_))
  refine g_if_eq 212 230 hC dX3_statement_209 (by decide) rfl (fun c => ?_) (fun c => ?_)
  · have hF := hF.1 c
    refine g_sub [1] rfl ?_
    exact w_X3_statement_b230 hC _ _ hF
  · have hF := hF.2 c
    refine g_aload_n 213 hC dX3_statement_212 rfl 0 rfl rfl ?_
    refine g_ldcS 215 hC (j := 18) rfl dX3_statement_213 rfl ?_
    refine g_aload_n 216 hC dX3_statement_215 rfl 1 rfl rfl ?_
    refine g_iload_n 217 hC dX3_statement_216 rfl 2 rfl rfl ?_
    refine g_iconst 218 hC (4 : Int32) dX3_statement_217 (by decide) rfl ?_
    refine g_iadd 219 hC dX3_statement_218 rfl ?_
    refine g_iconst 220 hC (0 : Int32) dX3_statement_219 (by decide) rfl ?_
    refine g_bipush 222 hC (99 : Int32) dX3_statement_220 (by decide) rfl ?_
    refine g_cV (rest := []) wl_X3_190 hd_X3_told (ci := 3) rfl 225 hC hF.1 (met_X3_told hF.2) rfl ⟨Nat.le_of_ble_eq_true rfl, Nat.le_of_ble_eq_true rfl⟩ ⟨Nat.zero_le _, Nat.zero_le _⟩ rfl (Nat.le_of_ble_eq_true rfl) dX3_statement_222 rfl (g_ty_i 0 0 (Nat.le_refl _) (Nat.le_refl _) (fun x_4 M_3 hF => ?_))
    refine g_if_ne 228 230 hC dX3_statement_225 (by decide) rfl (fun c => ?_) (fun c => ?_)
    · have hF := hF.1 c
      refine g_sub [1] rfl ?_
      exact w_X3_statement_b230 hC _ _ hF
    · have hF := hF.2 c
      refine g_iconst 229 hC (0 : Int32) dX3_statement_228 (by decide) rfl ?_
      exact g_zreturn hC ⟨_, rfl, hF⟩ (Or.inl rfl) dX3_statement_229 (Nat.zero_le _) (Nat.zero_le _)
def F_X3_statement_b100 (Q : Int32 → gM → Prop)    (a0 : Nat)   (M : gM) : Prop :=
  rc M 3 a0 ∧ F_X3_wrong M a0 fun x_2 M_1 =>
  zq x_2 (Q x_2 M_1)
theorem w_X3_statement_b100 {G : gG} {Q : Int32 → gM → Prop} (hC : gCx G cX3_statement 3 RX3 (some .boolean) (gQi Q) rm_X3_statement)  (a0 : Nat)     (M : gM) (hF : F_X3_statement_b100 Q a0 M) : gAt G 0 0 M [(0, .ref a0)] 100 [] := by
  unfold F_X3_statement_b100 at hF
  refine g_aload_n 101 hC dX3_statement_100 rfl 0 rfl rfl ?_
  refine g_cV (rest := []) wl_X3_181 hd_X3_wrong (ci := 3) rfl 104 hC hF.1 (met_X3_wrong hF.2) rfl ⟨Nat.le_of_ble_eq_true rfl, Nat.le_of_ble_eq_true rfl⟩ ⟨Nat.zero_le _, Nat.zero_le _⟩ rfl (Nat.le_of_ble_eq_true rfl) dX3_statement_101 rfl (g_ty_i 0 0 (Nat.le_refl _) (Nat.le_refl _) (fun x_2 M_1 hF => ?_))
  exact g_zreturn hC ⟨_, rfl, hF.2⟩ hF.1 dX3_statement_104 (Nat.zero_le _) (Nat.zero_le _)
def F_X3_statement  (M : gM) (a0 : Nat) (a1 : Nat) (Q : Int32 → gM → Prop)  : Prop :=
  rc M 3 a0 ∧ F_X3_isWord M a0 (gl M 11) fun x_2 M_1 =>
  ((x_2 = 0 →
    rc M_1 3 a0 ∧ F_X3_isWord M_1 a0 (gl M_1 12) fun x_4 M_3 =>
    ((x_4 = 0 →
      rc M_3 3 a0 ∧ F_X3_isWord M_3 a0 (gl M_3 14) fun x_6 M_5 =>
      ((x_6 = 0 →
        rc M_5 3 a0 ∧ F_X3_isWord M_5 a0 (gl M_5 15) fun x_8 M_7 =>
        ((x_8 = 0 →
          F_X3_statement_b100 Q a0 M_7) ∧
          (¬ x_8 = 0 →
          aI M_7 .int a1 (4 : Int32) fun x_9 =>
          ((¬ x_9 = (3 : Int32) →
            rc M_7 3 a0 ∧ F_X3_look M_7 a0 fun M_10 =>
            aI M_10 .int a1 (4 : Int32) fun x_12 =>
            uI M_10 a1 (((5 : Int32) + ((5 : Int32) * x_12)) + (3 : Int32)) (0 : Int32) fun M_13 =>
            uI M_13 a1 (((5 : Int32) + ((5 : Int32) * x_12)) + (4 : Int32)) (0 : Int32) fun M_14 =>
            rc M_14 3 a0 ∧ F_X3_told M_14 a0 (gl M_14 13) a1 ((5 : Int32) + ((5 : Int32) * x_12)) (1 : Int32) (9 : Int32) fun x_16 M_15 =>
            ((x_16 = 0 →
              Q (0 : Int32) M_15) ∧
              (¬ x_16 = 0 →
              rc M_15 3 a0 ∧ F_X3_told M_15 a0 (gl M_15 16) a1 (((5 : Int32) + ((5 : Int32) * x_12)) + (1 : Int32)) (0 : Int32) (4 : Int32) fun x_18 M_17 =>
              ((x_18 = 0 →
                Q (0 : Int32) M_17) ∧
                (¬ x_18 = 0 →
                rc M_17 3 a0 ∧ F_X3_told M_17 a0 (gl M_17 17) a1 (((5 : Int32) + ((5 : Int32) * x_12)) + (2 : Int32)) (0 : Int32) (9 : Int32) fun x_20 M_19 =>
                ((¬ x_20 = 0 →
                  rc M_19 3 a0 ∧ F_X3_isWord M_19 a0 (gl M_19 18) fun x_22 M_21 =>
                  ((x_22 = 0 →
                    F_X3_statement_b203 Q a0 a1 ((5 : Int32) + ((5 : Int32) * x_12)) M_21) ∧
                    (¬ x_22 = 0 →
                    rc M_21 3 a0 ∧ F_X3_told M_21 a0 (gl M_21 18) a1 (((5 : Int32) + ((5 : Int32) * x_12)) + (3 : Int32)) (0 : Int32) (99 : Int32) fun x_24 M_23 =>
                    ((¬ x_24 = 0 →
                      F_X3_statement_b203 Q a0 a1 ((5 : Int32) + ((5 : Int32) * x_12)) M_23) ∧
                      (x_24 = 0 →
                      Q (0 : Int32) M_23))))) ∧
                  (x_20 = 0 →
                  Q (0 : Int32) M_19))))))) ∧
            (x_9 = (3 : Int32) →
            F_X3_statement_b100 Q a0 M_7))))) ∧
        (¬ x_6 = 0 →
        rc M_5 3 a0 ∧ F_X3_told M_5 a0 (gl M_5 14) a1 (3 : Int32) (0 : Int32) (3 : Int32) fun x_26 M_25 =>
        zq x_26 (Q x_26 M_25)))) ∧
      (¬ x_4 = 0 →
      rc M_3 3 a0 ∧ F_X3_told M_3 a0 (gl M_3 12) a1 (1 : Int32) (0 : Int32) (99 : Int32) fun x_28 M_27 =>
      ((x_28 = 0 →
        Q (0 : Int32) M_27) ∧
        (¬ x_28 = 0 →
        rc M_27 3 a0 ∧ F_X3_told M_27 a0 (gl M_27 13) a1 (2 : Int32) (1 : Int32) (40 : Int32) fun x_30 M_29 =>
        ((x_30 = 0 →
          Q (0 : Int32) M_29) ∧
          (¬ x_30 = 0 →
          Q (1 : Int32) M_29))))))) ∧
    (¬ x_2 = 0 →
    rc M_1 3 a0 ∧ F_X3_told M_1 a0 (gl M_1 11) a1 (0 : Int32) (1 : Int32) (6 : Int32) fun x_32 M_31 =>
    zq x_32 (Q x_32 M_31)))
theorem met_X3_statement {M : gM} {a0 : Nat} {a1 : Nat} {Q : Int32 → gM → Prop} (hF : F_X3_statement M a0 a1 Q) : gMt yX3_statement (ws_ yX3_statement cX3_statement 3 (some .boolean)) rm_X3_statement M [.ref a0, .ref a1] (gQi Q) := by
  refine gMet (bytes := cX3_statement) (maxL := 3) (ret := (some .boolean)) rfl rfl (by decide) (Nat.le_of_ble_eq_true rfl) (lv := [(0, .ref a0), (1, .ref a1)]) rfl (fun G hC hin => ?_)
  unfold F_X3_statement at hF
  refine g_aload_n 1 hC dX3_statement_0 rfl 0 rfl rfl ?_
  refine g_ldcS 3 hC (j := 10) rfl dX3_statement_1 rfl ?_
  refine g_cV (rest := []) wl_X3_177 hd_X3_isWord (ci := 3) rfl 6 hC hF.1 (met_X3_isWord hF.2) rfl ⟨Nat.le_of_ble_eq_true rfl, Nat.le_of_ble_eq_true rfl⟩ ⟨Nat.zero_le _, Nat.zero_le _⟩ rfl (Nat.le_of_ble_eq_true rfl) dX3_statement_3 rfl (g_ty_i 0 0 (Nat.le_refl _) (Nat.le_refl _) (fun x_2 M_1 hF => ?_))
  refine g_if_eq 9 21 hC dX3_statement_6 (by decide) rfl (fun c => ?_) (fun c => ?_)
  · have hF := hF.1 c
    refine g_aload_n 22 hC dX3_statement_21 rfl 0 rfl rfl ?_
    refine g_ldcS 24 hC (j := 11) rfl dX3_statement_22 rfl ?_
    refine g_cV (rest := []) wl_X3_177 hd_X3_isWord (ci := 3) rfl 27 hC hF.1 (met_X3_isWord hF.2) rfl ⟨Nat.le_of_ble_eq_true rfl, Nat.le_of_ble_eq_true rfl⟩ ⟨Nat.zero_le _, Nat.zero_le _⟩ rfl (Nat.le_of_ble_eq_true rfl) dX3_statement_24 rfl (g_ty_i 0 0 (Nat.le_refl _) (Nat.le_refl _) (fun x_4 M_3 hF => ?_))
    refine g_if_eq 30 64 hC dX3_statement_27 (by decide) rfl (fun c => ?_) (fun c => ?_)
    · have hF := hF.1 c
      refine g_aload_n 65 hC dX3_statement_64 rfl 0 rfl rfl ?_
      refine g_ldcS 67 hC (j := 13) rfl dX3_statement_65 rfl ?_
      refine g_cV (rest := []) wl_X3_177 hd_X3_isWord (ci := 3) rfl 70 hC hF.1 (met_X3_isWord hF.2) rfl ⟨Nat.le_of_ble_eq_true rfl, Nat.le_of_ble_eq_true rfl⟩ ⟨Nat.zero_le _, Nat.zero_le _⟩ rfl (Nat.le_of_ble_eq_true rfl) dX3_statement_67 rfl (g_ty_i 0 0 (Nat.le_refl _) (Nat.le_refl _) (fun x_6 M_5 hF => ?_))
      refine g_if_eq 73 84 hC dX3_statement_70 (by decide) rfl (fun c => ?_) (fun c => ?_)
      · have hF := hF.1 c
        refine g_aload_n 85 hC dX3_statement_84 rfl 0 rfl rfl ?_
        refine g_ldcS 87 hC (j := 14) rfl dX3_statement_85 rfl ?_
        refine g_cV (rest := []) wl_X3_177 hd_X3_isWord (ci := 3) rfl 90 hC hF.1 (met_X3_isWord hF.2) rfl ⟨Nat.le_of_ble_eq_true rfl, Nat.le_of_ble_eq_true rfl⟩ ⟨Nat.zero_le _, Nat.zero_le _⟩ rfl (Nat.le_of_ble_eq_true rfl) dX3_statement_87 rfl (g_ty_i 0 0 (Nat.le_refl _) (Nat.le_refl _) (fun x_8 M_7 hF => ?_))
        refine g_if_eq 93 100 hC dX3_statement_90 (by decide) rfl (fun c => ?_) (fun c => ?_)
        · have hF := hF.1 c
          refine g_sub [0] rfl ?_
          exact w_X3_statement_b100 hC _ _ hF
        · have hF := hF.2 c
          refine g_aload_n 94 hC dX3_statement_93 rfl 1 rfl rfl ?_
          refine g_iconst 95 hC (4 : Int32) dX3_statement_94 (by decide) rfl ?_
          refine g_iald 96 hC hF dX3_statement_95 rfl (fun x_9 hF => ?_)
          refine g_iconst 97 hC (3 : Int32) dX3_statement_96 (by decide) rfl ?_
          refine g_icmp_ne 100 105 hC dX3_statement_97 (by decide) rfl (fun c => ?_) (fun c => ?_)
          · have hF := hF.1 c
            refine g_aload_n 106 hC dX3_statement_105 rfl 0 rfl rfl ?_
            refine g_cV (rest := []) wl_X3_185 hd_X3_look (ci := 3) rfl 109 hC hF.1 (met_X3_look hF.2) rfl ⟨Nat.le_of_ble_eq_true rfl, Nat.le_of_ble_eq_true rfl⟩ ⟨Nat.zero_le _, Nat.zero_le _⟩ rfl (Nat.le_of_ble_eq_true rfl) dX3_statement_106 rfl (g_ty_v 0 0 (Nat.le_refl _) (Nat.le_refl _) (fun M_10 hF => ?_))
            refine g_iconst 110 hC (5 : Int32) dX3_statement_109 (by decide) rfl ?_
            refine g_iconst 111 hC (5 : Int32) dX3_statement_110 (by decide) rfl ?_
            refine g_aload_n 112 hC dX3_statement_111 rfl 1 rfl rfl ?_
            refine g_iconst 113 hC (4 : Int32) dX3_statement_112 (by decide) rfl ?_
            refine g_iald 114 hC hF dX3_statement_113 rfl (fun x_12 hF => ?_)
            refine g_imul 115 hC dX3_statement_114 rfl ?_
            refine g_iadd 116 hC dX3_statement_115 rfl ?_
            refine g_istore_n 117 hC (lv' := [(2, .int _), (0, .ref _), (1, .ref _)]) dX3_statement_116 rfl rfl (by decide) rfl ?_
            refine g_aload_n 118 hC dX3_statement_117 rfl 2 rfl rfl ?_
            refine g_iload_n 119 hC dX3_statement_118 rfl 0 rfl rfl ?_
            refine g_iconst 120 hC (3 : Int32) dX3_statement_119 (by decide) rfl ?_
            refine g_iadd 121 hC dX3_statement_120 rfl ?_
            refine g_iconst 122 hC (0 : Int32) dX3_statement_121 (by decide) rfl ?_
            refine g_iast 123 hC hF dX3_statement_122 rfl (fun M_13 hF => ?_)
            refine g_aload_n 124 hC dX3_statement_123 rfl 2 rfl rfl ?_
            refine g_iload_n 125 hC dX3_statement_124 rfl 0 rfl rfl ?_
            refine g_iconst 126 hC (4 : Int32) dX3_statement_125 (by decide) rfl ?_
            refine g_iadd 127 hC dX3_statement_126 rfl ?_
            refine g_iconst 128 hC (0 : Int32) dX3_statement_127 (by decide) rfl ?_
            refine g_iast 129 hC hF dX3_statement_128 rfl (fun M_14 hF => ?_)
            refine g_aload_n 130 hC dX3_statement_129 rfl 1 rfl rfl ?_
            refine g_ldcS 132 hC (j := 12) rfl dX3_statement_130 rfl ?_
            refine g_aload_n 133 hC dX3_statement_132 rfl 2 rfl rfl ?_
            refine g_iload_n 134 hC dX3_statement_133 rfl 0 rfl rfl ?_
            refine g_iconst 135 hC (1 : Int32) dX3_statement_134 (by decide) rfl ?_
            refine g_bipush 137 hC (9 : Int32) dX3_statement_135 (by decide) rfl ?_
            refine g_cV (rest := []) wl_X3_190 hd_X3_told (ci := 3) rfl 140 hC hF.1 (met_X3_told hF.2) rfl ⟨Nat.le_of_ble_eq_true rfl, Nat.le_of_ble_eq_true rfl⟩ ⟨Nat.zero_le _, Nat.zero_le _⟩ rfl (Nat.le_of_ble_eq_true rfl) dX3_statement_137 rfl (g_ty_i 0 0 (Nat.le_refl _) (Nat.le_refl _) (fun x_16 M_15 hF => ?_))
            refine g_if_eq 143 174 hC dX3_statement_140 (by decide) rfl (fun c => ?_) (fun c => ?_)
            · have hF := hF.1 c
              refine g_iconst 175 hC (0 : Int32) dX3_statement_174 (by decide) rfl ?_
              exact g_zreturn hC ⟨_, rfl, hF⟩ (Or.inl rfl) dX3_statement_175 (Nat.zero_le _) (Nat.zero_le _)
            · have hF := hF.2 c
              refine g_aload_n 144 hC dX3_statement_143 rfl 1 rfl rfl ?_
              refine g_ldcS 146 hC (j := 15) rfl dX3_statement_144 rfl ?_
              refine g_aload_n 147 hC dX3_statement_146 rfl 2 rfl rfl ?_
              refine g_iload_n 148 hC dX3_statement_147 rfl 0 rfl rfl ?_
              refine g_iconst 149 hC (1 : Int32) dX3_statement_148 (by decide) rfl ?_
              refine g_iadd 150 hC dX3_statement_149 rfl ?_
              refine g_iconst 151 hC (0 : Int32) dX3_statement_150 (by decide) rfl ?_
              refine g_iconst 152 hC (4 : Int32) dX3_statement_151 (by decide) rfl ?_
              refine g_cV (rest := []) wl_X3_190 hd_X3_told (ci := 3) rfl 155 hC hF.1 (met_X3_told hF.2) rfl ⟨Nat.le_of_ble_eq_true rfl, Nat.le_of_ble_eq_true rfl⟩ ⟨Nat.zero_le _, Nat.zero_le _⟩ rfl (Nat.le_of_ble_eq_true rfl) dX3_statement_152 rfl (g_ty_i 0 0 (Nat.le_refl _) (Nat.le_refl _) (fun x_18 M_17 hF => ?_))
              refine g_if_eq 158 174 hC dX3_statement_155 (by decide) rfl (fun c => ?_) (fun c => ?_)
              · have hF := hF.1 c
                refine g_iconst 175 hC (0 : Int32) dX3_statement_174 (by decide) rfl ?_
                exact g_zreturn hC ⟨_, rfl, hF⟩ (Or.inl rfl) dX3_statement_175 (Nat.zero_le _) (Nat.zero_le _)
              · have hF := hF.2 c
                refine g_aload_n 159 hC dX3_statement_158 rfl 1 rfl rfl ?_
                refine g_ldcS 161 hC (j := 16) rfl dX3_statement_159 rfl ?_
                refine g_aload_n 162 hC dX3_statement_161 rfl 2 rfl rfl ?_
                refine g_iload_n 163 hC dX3_statement_162 rfl 0 rfl rfl ?_
                refine g_iconst 164 hC (2 : Int32) dX3_statement_163 (by decide) rfl ?_
                refine g_iadd 165 hC dX3_statement_164 rfl ?_
                refine g_iconst 166 hC (0 : Int32) dX3_statement_165 (by decide) rfl ?_
                refine g_bipush 168 hC (9 : Int32) dX3_statement_166 (by decide) rfl ?_
                refine g_cV (rest := []) wl_X3_190 hd_X3_told (ci := 3) rfl 171 hC hF.1 (met_X3_told hF.2) rfl ⟨Nat.le_of_ble_eq_true rfl, Nat.le_of_ble_eq_true rfl⟩ ⟨Nat.zero_le _, Nat.zero_le _⟩ rfl (Nat.le_of_ble_eq_true rfl) dX3_statement_168 rfl (g_ty_i 0 0 (Nat.le_refl _) (Nat.le_refl _) (fun x_20 M_19 hF => ?_))
                refine g_if_ne 174 176 hC dX3_statement_171 (by decide) rfl (fun c => ?_) (fun c => ?_)
                · have hF := hF.1 c
                  refine g_aload_n 177 hC dX3_statement_176 rfl 1 rfl rfl ?_
                  refine g_ldcS 179 hC (j := 17) rfl dX3_statement_177 rfl ?_
                  refine g_cV (rest := []) wl_X3_177 hd_X3_isWord (ci := 3) rfl 182 hC hF.1 (met_X3_isWord hF.2) rfl ⟨Nat.le_of_ble_eq_true rfl, Nat.le_of_ble_eq_true rfl⟩ ⟨Nat.zero_le _, Nat.zero_le _⟩ rfl (Nat.le_of_ble_eq_true rfl) dX3_statement_179 rfl (g_ty_i 0 0 (Nat.le_refl _) (Nat.le_refl _) (fun x_22 M_21 hF => ?_))
                  refine g_if_eq 185 203 hC dX3_statement_182 (by decide) rfl (fun c => ?_) (fun c => ?_)
                  · have hF := hF.1 c
                    refine g_sub [1, 2, 0] rfl ?_
                    exact w_X3_statement_b203 hC _ _ _ _ hF
                  · have hF := hF.2 c
                    refine g_aload_n 186 hC dX3_statement_185 rfl 1 rfl rfl ?_
                    refine g_ldcS 188 hC (j := 17) rfl dX3_statement_186 rfl ?_
                    refine g_aload_n 189 hC dX3_statement_188 rfl 2 rfl rfl ?_
                    refine g_iload_n 190 hC dX3_statement_189 rfl 0 rfl rfl ?_
                    refine g_iconst 191 hC (3 : Int32) dX3_statement_190 (by decide) rfl ?_
                    refine g_iadd 192 hC dX3_statement_191 rfl ?_
                    refine g_iconst 193 hC (0 : Int32) dX3_statement_192 (by decide) rfl ?_
                    refine g_bipush 195 hC (99 : Int32) dX3_statement_193 (by decide) rfl ?_
                    refine g_cV (rest := []) wl_X3_190 hd_X3_told (ci := 3) rfl 198 hC hF.1 (met_X3_told hF.2) rfl ⟨Nat.le_of_ble_eq_true rfl, Nat.le_of_ble_eq_true rfl⟩ ⟨Nat.zero_le _, Nat.zero_le _⟩ rfl (Nat.le_of_ble_eq_true rfl) dX3_statement_195 rfl (g_ty_i 0 0 (Nat.le_refl _) (Nat.le_refl _) (fun x_24 M_23 hF => ?_))
                    refine g_if_ne 201 203 hC dX3_statement_198 (by decide) rfl (fun c => ?_) (fun c => ?_)
                    · have hF := hF.1 c
                      refine g_sub [1, 2, 0] rfl ?_
                      exact w_X3_statement_b203 hC _ _ _ _ hF
                    · have hF := hF.2 c
                      refine g_iconst 202 hC (0 : Int32) dX3_statement_201 (by decide) rfl ?_
                      exact g_zreturn hC ⟨_, rfl, hF⟩ (Or.inl rfl) dX3_statement_202 (Nat.zero_le _) (Nat.zero_le _)
                · have hF := hF.2 c
                  refine g_iconst 175 hC (0 : Int32) dX3_statement_174 (by decide) rfl ?_
                  exact g_zreturn hC ⟨_, rfl, hF⟩ (Or.inl rfl) dX3_statement_175 (Nat.zero_le _) (Nat.zero_le _)
          · have hF := hF.2 c
            refine g_sub [0] rfl ?_
            exact w_X3_statement_b100 hC _ _ hF
      · have hF := hF.2 c
        refine g_aload_n 74 hC dX3_statement_73 rfl 0 rfl rfl ?_
        refine g_ldcS 76 hC (j := 13) rfl dX3_statement_74 rfl ?_
        refine g_aload_n 77 hC dX3_statement_76 rfl 1 rfl rfl ?_
        refine g_iconst 78 hC (3 : Int32) dX3_statement_77 (by decide) rfl ?_
        refine g_iconst 79 hC (0 : Int32) dX3_statement_78 (by decide) rfl ?_
        refine g_iconst 80 hC (3 : Int32) dX3_statement_79 (by decide) rfl ?_
        refine g_cV (rest := []) wl_X3_190 hd_X3_told (ci := 3) rfl 83 hC hF.1 (met_X3_told hF.2) rfl ⟨Nat.le_of_ble_eq_true rfl, Nat.le_of_ble_eq_true rfl⟩ ⟨Nat.zero_le _, Nat.zero_le _⟩ rfl (Nat.le_of_ble_eq_true rfl) dX3_statement_80 rfl (g_ty_i 0 0 (Nat.le_refl _) (Nat.le_refl _) (fun x_26 M_25 hF => ?_))
        exact g_zreturn hC ⟨_, rfl, hF.2⟩ hF.1 dX3_statement_83 (Nat.zero_le _) (Nat.zero_le _)
    · have hF := hF.2 c
      refine g_aload_n 31 hC dX3_statement_30 rfl 0 rfl rfl ?_
      refine g_ldcS 33 hC (j := 11) rfl dX3_statement_31 rfl ?_
      refine g_aload_n 34 hC dX3_statement_33 rfl 1 rfl rfl ?_
      refine g_iconst 35 hC (1 : Int32) dX3_statement_34 (by decide) rfl ?_
      refine g_iconst 36 hC (0 : Int32) dX3_statement_35 (by decide) rfl ?_
      refine g_bipush 38 hC (99 : Int32) dX3_statement_36 (by decide) rfl ?_
      refine g_cV (rest := []) wl_X3_190 hd_X3_told (ci := 3) rfl 41 hC hF.1 (met_X3_told hF.2) rfl ⟨Nat.le_of_ble_eq_true rfl, Nat.le_of_ble_eq_true rfl⟩ ⟨Nat.zero_le _, Nat.zero_le _⟩ rfl (Nat.le_of_ble_eq_true rfl) dX3_statement_38 rfl (g_ty_i 0 0 (Nat.le_refl _) (Nat.le_refl _) (fun x_28 M_27 hF => ?_))
      refine g_if_eq 44 62 hC dX3_statement_41 (by decide) rfl (fun c => ?_) (fun c => ?_)
      · have hF := hF.1 c
        refine g_iconst 63 hC (0 : Int32) dX3_statement_62 (by decide) rfl ?_
        exact g_zreturn hC ⟨_, rfl, hF⟩ (Or.inl rfl) dX3_statement_63 (Nat.zero_le _) (Nat.zero_le _)
      · have hF := hF.2 c
        refine g_aload_n 45 hC dX3_statement_44 rfl 0 rfl rfl ?_
        refine g_ldcS 47 hC (j := 12) rfl dX3_statement_45 rfl ?_
        refine g_aload_n 48 hC dX3_statement_47 rfl 1 rfl rfl ?_
        refine g_iconst 49 hC (2 : Int32) dX3_statement_48 (by decide) rfl ?_
        refine g_iconst 50 hC (1 : Int32) dX3_statement_49 (by decide) rfl ?_
        refine g_bipush 52 hC (40 : Int32) dX3_statement_50 (by decide) rfl ?_
        refine g_cV (rest := []) wl_X3_190 hd_X3_told (ci := 3) rfl 55 hC hF.1 (met_X3_told hF.2) rfl ⟨Nat.le_of_ble_eq_true rfl, Nat.le_of_ble_eq_true rfl⟩ ⟨Nat.zero_le _, Nat.zero_le _⟩ rfl (Nat.le_of_ble_eq_true rfl) dX3_statement_52 rfl (g_ty_i 0 0 (Nat.le_refl _) (Nat.le_refl _) (fun x_30 M_29 hF => ?_))
        refine g_if_eq 58 62 hC dX3_statement_55 (by decide) rfl (fun c => ?_) (fun c => ?_)
        · have hF := hF.1 c
          refine g_iconst 63 hC (0 : Int32) dX3_statement_62 (by decide) rfl ?_
          exact g_zreturn hC ⟨_, rfl, hF⟩ (Or.inl rfl) dX3_statement_63 (Nat.zero_le _) (Nat.zero_le _)
        · have hF := hF.2 c
          refine g_iconst 59 hC (1 : Int32) dX3_statement_58 (by decide) rfl ?_
          refine g_goto 63 hC dX3_statement_59 (by decide) ?_
          exact g_zreturn hC ⟨_, rfl, hF⟩ (Or.inr rfl) dX3_statement_63 (Nat.zero_le _) (Nat.zero_le _)
  · have hF := hF.2 c
    refine g_aload_n 10 hC dX3_statement_9 rfl 0 rfl rfl ?_
    refine g_ldcS 12 hC (j := 10) rfl dX3_statement_10 rfl ?_
    refine g_aload_n 13 hC dX3_statement_12 rfl 1 rfl rfl ?_
    refine g_iconst 14 hC (0 : Int32) dX3_statement_13 (by decide) rfl ?_
    refine g_iconst 15 hC (1 : Int32) dX3_statement_14 (by decide) rfl ?_
    refine g_bipush 17 hC (6 : Int32) dX3_statement_15 (by decide) rfl ?_
    refine g_cV (rest := []) wl_X3_190 hd_X3_told (ci := 3) rfl 20 hC hF.1 (met_X3_told hF.2) rfl ⟨Nat.le_of_ble_eq_true rfl, Nat.le_of_ble_eq_true rfl⟩ ⟨Nat.zero_le _, Nat.zero_le _⟩ rfl (Nat.le_of_ble_eq_true rfl) dX3_statement_17 rfl (g_ty_i 0 0 (Nat.le_refl _) (Nat.le_refl _) (fun x_32 M_31 hF => ?_))
    exact g_zreturn hC ⟨_, rfl, hF.2⟩ hF.1 dX3_statement_20 (Nat.zero_le _) (Nat.zero_le _)
theorem hd_X3_statement : yX3_statement.cls = RX3 ∧ yX3_statement.cls ≠ "java/lang/invoke/MethodHandle" ∧ yX3_statement.cls ≠ "java/lang/invoke/VarHandle" ∧ (parseMethodDescriptor yX3_statement.desc).map (fun d => d.parameters.length) = some 1 := by decide +kernel
theorem wl_X3_209 : GoodIn lw_all (wsV RX3 209 RX3 yX3_statement (ws_ yX3_statement cX3_statement 3 (some .boolean))) := lw_V q1602 q1604 qs31 q72 q1605
abbrev rm_X3_read : Room := { frames := 7, cells := 0, slots := 0, locals := 154 }
def F_X3_read_b41 (Q : Int32 → gM → Prop)    (a0 : Nat) (a1 : Nat) : Nat → gM → Prop
  | 0, _ => False
  | n + 1, M =>
    gI M 3 a0 24 fun x_1 =>
    ((x_1 = 0 →
      aI M .int a1 (4 : Int32) fun x_2 =>
      ((0 < x_2 →
        Q (1 : Int32) M) ∧
        (¬ 0 < x_2 →
        rc M 3 a0 ∧ F_X3_wrong M a0 fun x_4 M_3 =>
        ((x_4 = 0 →
          Q (0 : Int32) M_3) ∧
          (¬ x_4 = 0 →
          Q (1 : Int32) M_3))))) ∧
      (¬ x_1 = 0 →
      gI M 3 a0 24 fun x_5 =>
      ((x_5 = (3 : Int32) →
        rc M 3 a0 ∧ F_X3_look M a0 fun M_6 =>
        rc M_6 3 a0 ∧ F_X3_statement M_6 a0 a1 fun x_9 M_8 =>
        ((¬ x_9 = 0 →
          (F_X3_read_b41 Q a0 a1 n) M_8) ∧
          (x_9 = 0 →
          Q (0 : Int32) M_8))) ∧
        (¬ x_5 = (3 : Int32) →
        rc M 3 a0 ∧ F_X3_wrong M a0 fun x_11 M_10 =>
        zq x_11 (Q x_11 M_10)))))
theorem w_X3_read_b41 {G : gG} {Q : Int32 → gM → Prop} (hC : gCx G cX3_read 2 RX3 (some .boolean) (gQi Q) rm_X3_read)  (a0 : Nat) (a1 : Nat)  : ∀ (n : Nat)    (M : gM), F_X3_read_b41 Q a0 a1 n  M → gAt G 0 0 M [(0, .ref a0), (1, .ref a1)] 41 [] := by
  intro n
  induction n with
  | zero =>
    intro  M hF
    exact hF.elim
  | succ n ih =>
    intro  M hF
    have hK41 := ih
    unfold F_X3_read_b41 at hF
    refine g_aload_n 42 hC dX3_read_41 rfl 0 rfl rfl ?_
    refine gf_X3_149_3I 45 hC hF dX3_read_42 rfl (fun x_1 hF => ?_)
    refine g_if_eq 48 75 hC dX3_read_45 (by decide) rfl (fun c => ?_) (fun c => ?_)
    · have hF := hF.1 c
      refine g_aload_n 76 hC dX3_read_75 rfl 1 rfl rfl ?_
      refine g_iconst 77 hC (4 : Int32) dX3_read_76 (by decide) rfl ?_
      refine g_iald 78 hC hF dX3_read_77 rfl (fun x_2 hF => ?_)
      refine g_if_gt 81 88 hC dX3_read_78 (by decide) rfl (fun c => ?_) (fun c => ?_)
      · have hF := hF.1 c
        refine g_iconst 89 hC (1 : Int32) dX3_read_88 (by decide) rfl ?_
        refine g_goto 93 hC dX3_read_89 (by decide) ?_
        exact g_zreturn hC ⟨_, rfl, hF⟩ (Or.inr rfl) dX3_read_93 (Nat.zero_le _) (Nat.zero_le _)
      · have hF := hF.2 c
        refine g_aload_n 82 hC dX3_read_81 rfl 0 rfl rfl ?_
        refine g_cV (rest := []) wl_X3_181 hd_X3_wrong (ci := 3) rfl 85 hC hF.1 (met_X3_wrong hF.2) rfl ⟨Nat.le_of_ble_eq_true rfl, Nat.le_of_ble_eq_true rfl⟩ ⟨Nat.zero_le _, Nat.zero_le _⟩ rfl (Nat.le_of_ble_eq_true rfl) dX3_read_82 rfl (g_ty_i 0 0 (Nat.le_refl _) (Nat.le_refl _) (fun x_4 M_3 hF => ?_))
        refine g_if_eq 88 92 hC dX3_read_85 (by decide) rfl (fun c => ?_) (fun c => ?_)
        · have hF := hF.1 c
          refine g_iconst 93 hC (0 : Int32) dX3_read_92 (by decide) rfl ?_
          exact g_zreturn hC ⟨_, rfl, hF⟩ (Or.inl rfl) dX3_read_93 (Nat.zero_le _) (Nat.zero_le _)
        · have hF := hF.2 c
          refine g_iconst 89 hC (1 : Int32) dX3_read_88 (by decide) rfl ?_
          refine g_goto 93 hC dX3_read_89 (by decide) ?_
          exact g_zreturn hC ⟨_, rfl, hF⟩ (Or.inr rfl) dX3_read_93 (Nat.zero_le _) (Nat.zero_le _)
    · have hF := hF.2 c
      refine g_aload_n 49 hC dX3_read_48 rfl 0 rfl rfl ?_
      refine gf_X3_149_3I 52 hC hF dX3_read_49 rfl (fun x_5 hF => ?_)
      refine g_iconst 53 hC (3 : Int32) dX3_read_52 (by decide) rfl ?_
      refine g_icmp_eq 56 61 hC dX3_read_53 (by decide) rfl (fun c => ?_) (fun c => ?_)
      · have hF := hF.1 c
        refine g_aload_n 62 hC dX3_read_61 rfl 0 rfl rfl ?_
        refine g_cV (rest := []) wl_X3_185 hd_X3_look (ci := 3) rfl 65 hC hF.1 (met_X3_look hF.2) rfl ⟨Nat.le_of_ble_eq_true rfl, Nat.le_of_ble_eq_true rfl⟩ ⟨Nat.zero_le _, Nat.zero_le _⟩ rfl (Nat.le_of_ble_eq_true rfl) dX3_read_62 rfl (g_ty_v 0 0 (Nat.le_refl _) (Nat.le_refl _) (fun M_6 hF => ?_))
        refine g_aload_n 66 hC dX3_read_65 rfl 0 rfl rfl ?_
        refine g_aload_n 67 hC dX3_read_66 rfl 1 rfl rfl ?_
        refine g_cV (rest := []) wl_X3_209 hd_X3_statement (ci := 3) rfl 70 hC hF.1 (met_X3_statement hF.2) rfl ⟨Nat.le_of_ble_eq_true rfl, Nat.le_of_ble_eq_true rfl⟩ ⟨Nat.zero_le _, Nat.zero_le _⟩ rfl (Nat.le_of_ble_eq_true rfl) dX3_read_67 rfl (g_ty_i 0 0 (Nat.le_refl _) (Nat.le_refl _) (fun x_9 M_8 hF => ?_))
        refine g_if_ne 73 41 hC dX3_read_70 (by decide) rfl (fun c => ?_) (fun c => ?_)
        · have hF := hF.1 c
          exact hK41 _ hF
        · have hF := hF.2 c
          refine g_iconst 74 hC (0 : Int32) dX3_read_73 (by decide) rfl ?_
          exact g_zreturn hC ⟨_, rfl, hF⟩ (Or.inl rfl) dX3_read_74 (Nat.zero_le _) (Nat.zero_le _)
      · have hF := hF.2 c
        refine g_aload_n 57 hC dX3_read_56 rfl 0 rfl rfl ?_
        refine g_cV (rest := []) wl_X3_181 hd_X3_wrong (ci := 3) rfl 60 hC hF.1 (met_X3_wrong hF.2) rfl ⟨Nat.le_of_ble_eq_true rfl, Nat.le_of_ble_eq_true rfl⟩ ⟨Nat.zero_le _, Nat.zero_le _⟩ rfl (Nat.le_of_ble_eq_true rfl) dX3_read_57 rfl (g_ty_i 0 0 (Nat.le_refl _) (Nat.le_refl _) (fun x_11 M_10 hF => ?_))
        exact g_zreturn hC ⟨_, rfl, hF.2⟩ hF.1 dX3_read_60 (Nat.zero_le _) (Nat.zero_le _)
def F_X3_read  (M : gM) (a0 : Nat) (a1 : Nat) (Q : Int32 → gM → Prop)  : Prop :=
  uI M a1 (0 : Int32) (3 : Int32) fun M_1 =>
  uI M_1 a1 (1 : Int32) (10 : Int32) fun M_2 =>
  uI M_2 a1 (2 : Int32) (10 : Int32) fun M_3 =>
  uI M_3 a1 (3 : Int32) (0 : Int32) fun M_4 =>
  uI M_4 a1 (4 : Int32) (0 : Int32) fun M_5 =>
  pI M_5 3 a0 23 (0 : Int32) fun M_6 =>
  rc M_6 3 a0 ∧ F_X3_look M_6 a0 fun M_7 =>
  rc M_7 3 a0 ∧ F_X3_statement M_7 a0 a1 fun x_10 M_9 =>
  ((¬ x_10 = 0 →
    ∃ n_11, F_X3_read_b41 Q a0 a1 n_11 M_9) ∧
    (x_10 = 0 →
    Q (0 : Int32) M_9))
theorem met_X3_read {M : gM} {a0 : Nat} {a1 : Nat} {Q : Int32 → gM → Prop} (hF : F_X3_read M a0 a1 Q) : gMt yX3_read (ws_ yX3_read cX3_read 2 (some .boolean)) rm_X3_read M [.ref a0, .ref a1] (gQi Q) := by
  refine gMet (bytes := cX3_read) (maxL := 2) (ret := (some .boolean)) rfl rfl (by decide) (Nat.le_of_ble_eq_true rfl) (lv := [(0, .ref a0), (1, .ref a1)]) rfl (fun G hC hin => ?_)
  unfold F_X3_read at hF
  refine g_aload_n 1 hC dX3_read_0 rfl 1 rfl rfl ?_
  refine g_iconst 2 hC (0 : Int32) dX3_read_1 (by decide) rfl ?_
  refine g_iconst 3 hC (3 : Int32) dX3_read_2 (by decide) rfl ?_
  refine g_iast 4 hC hF dX3_read_3 rfl (fun M_1 hF => ?_)
  refine g_aload_n 5 hC dX3_read_4 rfl 1 rfl rfl ?_
  refine g_iconst 6 hC (1 : Int32) dX3_read_5 (by decide) rfl ?_
  refine g_bipush 8 hC (10 : Int32) dX3_read_6 (by decide) rfl ?_
  refine g_iast 9 hC hF dX3_read_8 rfl (fun M_2 hF => ?_)
  refine g_aload_n 10 hC dX3_read_9 rfl 1 rfl rfl ?_
  refine g_iconst 11 hC (2 : Int32) dX3_read_10 (by decide) rfl ?_
  refine g_bipush 13 hC (10 : Int32) dX3_read_11 (by decide) rfl ?_
  refine g_iast 14 hC hF dX3_read_13 rfl (fun M_3 hF => ?_)
  refine g_aload_n 15 hC dX3_read_14 rfl 1 rfl rfl ?_
  refine g_iconst 16 hC (3 : Int32) dX3_read_15 (by decide) rfl ?_
  refine g_iconst 17 hC (0 : Int32) dX3_read_16 (by decide) rfl ?_
  refine g_iast 18 hC hF dX3_read_17 rfl (fun M_4 hF => ?_)
  refine g_aload_n 19 hC dX3_read_18 rfl 1 rfl rfl ?_
  refine g_iconst 20 hC (4 : Int32) dX3_read_19 (by decide) rfl ?_
  refine g_iconst 21 hC (0 : Int32) dX3_read_20 (by decide) rfl ?_
  refine g_iast 22 hC hF dX3_read_21 rfl (fun M_5 hF => ?_)
  refine g_aload_n 23 hC dX3_read_22 rfl 0 rfl rfl ?_
  refine g_iconst 24 hC (0 : Int32) dX3_read_23 (by decide) rfl ?_
  refine g_putI (C := RX3) (T := TX3) (N := 46) (ci := 3) (k := 23) (ty := .int) in_X3 tyX3 tyX3_ok nmX3 rfl (by decide) q1410 rfl rfl (fun _ _ _ => rfl) rfl rfl 27 hC hF dX3_read_24 rfl (fun M_6 hF => ?_)
  refine g_aload_n 28 hC dX3_read_27 rfl 0 rfl rfl ?_
  refine g_cV (rest := []) wl_X3_185 hd_X3_look (ci := 3) rfl 31 hC hF.1 (met_X3_look hF.2) rfl ⟨Nat.le_of_ble_eq_true rfl, Nat.le_of_ble_eq_true rfl⟩ ⟨Nat.zero_le _, Nat.zero_le _⟩ rfl (Nat.le_of_ble_eq_true rfl) dX3_read_28 rfl (g_ty_v 0 0 (Nat.le_refl _) (Nat.le_refl _) (fun M_7 hF => ?_))
  refine g_aload_n 32 hC dX3_read_31 rfl 0 rfl rfl ?_
  refine g_aload_n 33 hC dX3_read_32 rfl 1 rfl rfl ?_
  refine g_cV (rest := []) wl_X3_209 hd_X3_statement (ci := 3) rfl 36 hC hF.1 (met_X3_statement hF.2) rfl ⟨Nat.le_of_ble_eq_true rfl, Nat.le_of_ble_eq_true rfl⟩ ⟨Nat.zero_le _, Nat.zero_le _⟩ rfl (Nat.le_of_ble_eq_true rfl) dX3_read_33 rfl (g_ty_i 0 0 (Nat.le_refl _) (Nat.le_refl _) (fun x_10 M_9 hF => ?_))
  refine g_if_ne 39 41 hC dX3_read_36 (by decide) rfl (fun c => ?_) (fun c => ?_)
  · have hF := hF.1 c
    obtain ⟨n_11, hF⟩ := hF
    exact w_X3_read_b41 hC _ _ n_11 _ hF
  · have hF := hF.2 c
    refine g_iconst 40 hC (0 : Int32) dX3_read_39 (by decide) rfl ?_
    exact g_zreturn hC ⟨_, rfl, hF⟩ (Or.inl rfl) dX3_read_40 (Nat.zero_le _) (Nat.zero_le _)
theorem gf_X3_91_3I {G : gG} {cc : ByteArray} {nL : Nat} {ret : Option FieldType} {Qf : Option Value → gM → Prop} {rm : Room} {cells slots : Nat} {M : gM} {lv : List (Nat × Value)} {pc : Nat} {st : List Value} {a : Nat} (n : Nat) (hC : gCx G cc nL RX3 ret Qf rm) {κ : Int32 → Prop} (hF : gI M 3 a 11 κ) (hdg : decode cc pc = .ok (.getfield 91, 3)) (hn : pc + 3 = n) (kk : ∀ x, κ x → gAt G cells slots M lv n (.int x :: st)) : gAt G cells slots M lv pc (.ref a :: st) :=
  g_getI (C := RX3) (T := TX3) (N := 46) in_X3 rfl (by decide) q1398 (fun _ _ _ => rfl) n hC hF hdg hn kk
theorem gf_X3_45_3N {G : gG} {cc : ByteArray} {nL : Nat} {ret : Option FieldType} {Qf : Option Value → gM → Prop} {rm : Room} {cells slots : Nat} {M : gM} {lv : List (Nat × Value)} {pc : Nat} {st : List Value} {a : Nat} (n : Nat) (hC : gCx G cc nL RX3 ret Qf rm) {κ : Nat → Prop} (hF : gN M 3 a 12 κ) (hdg : decode cc pc = .ok (.getfield 45, 3)) (hn : pc + 3 = n) (kk : ∀ x, κ x → gAt G cells slots M lv n (.ref x :: st)) : gAt G cells slots M lv pc (.ref a :: st) :=
  g_getN (C := RX3) (T := TX3) (N := 46) in_X3 rfl (by decide) q1399 (fun _ _ _ => rfl) n hC hF hdg hn kk
theorem hd_X3_read : yX3_read.cls = RX3 ∧ yX3_read.cls ≠ "java/lang/invoke/MethodHandle" ∧ yX3_read.cls ≠ "java/lang/invoke/VarHandle" ∧ (parseMethodDescriptor yX3_read.desc).map (fun d => d.parameters.length) = some 1 := by decide +kernel
theorem wl_X3_213 : GoodIn lw_all (wsV RX3 213 RX3 yX3_read (ws_ yX3_read cX3_read 2 (some .boolean))) := lw_V q1585 q1587 qs29 q72 q1588
theorem gf_X3_164_3I {G : gG} {cc : ByteArray} {nL : Nat} {ret : Option FieldType} {Qf : Option Value → gM → Prop} {rm : Room} {cells slots : Nat} {M : gM} {lv : List (Nat × Value)} {pc : Nat} {st : List Value} {a : Nat} (n : Nat) (hC : gCx G cc nL RX3 ret Qf rm) {κ : Int32 → Prop} (hF : gI M 3 a 27 κ) (hdg : decode cc pc = .ok (.getfield 164, 3)) (hn : pc + 3 = n) (kk : ∀ x, κ x → gAt G cells slots M lv n (.int x :: st)) : gAt G cells slots M lv pc (.ref a :: st) :=
  g_getI (C := RX3) (T := TX3) (N := 46) in_X3 rfl (by decide) q1414 (fun _ _ _ => rfl) n hC hF hdg hn kk
abbrev rm_X3_house : Room := { frames := 8, cells := 0, slots := 0, locals := 175 }
def F_X3_house  (M : gM) (a0 : Nat) (Q : Int32 → gM → Prop)  : Prop :=
  gI M 3 a0 11 fun x_1 =>
  ((¬ x_1 = (6 : Int32) →
    gN M 3 a0 12 fun a_2 =>
    gI M 3 a0 11 fun x_3 =>
    aN M (.array .int) a_2 x_3 fun a_4 =>
    rc M 3 a0 ∧ F_X3_read M a0 a_4 fun x_6 M_5 =>
    pI M_5 3 a0 9 (0 : Int32) fun M_7 =>
    ((¬ x_6 = 0 →
      gI M_7 3 a0 11 fun x_8 =>
      pI M_7 3 a0 11 (x_8 + (1 : Int32)) fun M_9 =>
      Q x_8 M_9) ∧
      (x_6 = 0 →
      rc M_7 3 a0 ∧ F_X3_refuse M_7 a0 (-2 : Int32) fun x_11 M_10 =>
      gI M_10 3 a0 27 fun x_12 =>
      Q ((-20 : Int32) - x_12) M_10))) ∧
    (x_1 = (6 : Int32) →
    rc M 3 a0 ∧ F_X3_refuse M a0 (-6 : Int32) fun x_14 M_13 =>
    Q x_14 M_13))
theorem met_X3_house {M : gM} {a0 : Nat} {Q : Int32 → gM → Prop} (hF : F_X3_house M a0 Q) : gMt yX3_house (ws_ yX3_house cX3_house 2 (some .int)) rm_X3_house M [.ref a0] (gQi Q) := by
  refine gMet (bytes := cX3_house) (maxL := 2) (ret := (some .int)) rfl rfl (by decide) (Nat.le_of_ble_eq_true rfl) (lv := [(0, .ref a0)]) rfl (fun G hC hin => ?_)
  unfold F_X3_house at hF
  refine g_aload_n 1 hC dX3_house_0 rfl 0 rfl rfl ?_
  refine gf_X3_91_3I 4 hC hF dX3_house_1 rfl (fun x_1 hF => ?_)
  refine g_bipush 6 hC (6 : Int32) dX3_house_4 (by decide) rfl ?_
  refine g_icmp_ne 9 16 hC dX3_house_6 (by decide) rfl (fun c => ?_) (fun c => ?_)
  · have hF := hF.1 c
    refine g_aload_n 17 hC dX3_house_16 rfl 0 rfl rfl ?_
    refine g_aload_n 18 hC dX3_house_17 rfl 0 rfl rfl ?_
    refine gf_X3_45_3N 21 hC hF dX3_house_18 rfl (fun a_2 hF => ?_)
    refine g_aload_n 22 hC dX3_house_21 rfl 0 rfl rfl ?_
    refine gf_X3_91_3I 25 hC hF dX3_house_22 rfl (fun x_3 hF => ?_)
    refine g_aaldN 26 hC hF (by decide) rfl (fun _ _ _ => rfl) dX3_house_25 rfl (fun a_4 hF => ?_)
    refine g_cV (rest := []) wl_X3_213 hd_X3_read (ci := 3) rfl 29 hC hF.1 (met_X3_read hF.2) rfl ⟨Nat.le_of_ble_eq_true rfl, Nat.le_of_ble_eq_true rfl⟩ ⟨Nat.zero_le _, Nat.zero_le _⟩ rfl (Nat.le_of_ble_eq_true rfl) dX3_house_26 rfl (g_ty_i 0 0 (Nat.le_refl _) (Nat.le_refl _) (fun x_6 M_5 hF => ?_))
    refine g_istore_n 30 hC (lv' := [(1, .int _), (0, .ref _)]) dX3_house_29 rfl rfl (by decide) rfl ?_
    refine g_aload_n 31 hC dX3_house_30 rfl 1 rfl rfl ?_
    refine g_iconst 32 hC (0 : Int32) dX3_house_31 (by decide) rfl ?_
    refine g_putI (C := RX3) (T := TX3) (N := 46) (ci := 3) (k := 9) (ty := .int) in_X3 tyX3 tyX3_ok nmX3 rfl (by decide) q1396 rfl rfl (fun _ _ _ => rfl) rfl rfl 35 hC hF dX3_house_32 rfl (fun M_7 hF => ?_)
    refine g_iload_n 36 hC dX3_house_35 rfl 0 rfl rfl ?_
    refine g_if_ne 39 54 hC dX3_house_36 (by decide) rfl (fun c => ?_) (fun c => ?_)
    · have hF := hF.1 c
      refine g_aload_n 55 hC dX3_house_54 rfl 1 rfl rfl ?_
      refine g_dup 56 hC dX3_house_55 rfl rfl ?_
      refine gf_X3_91_3I 59 hC hF dX3_house_56 rfl (fun x_8 hF => ?_)
      refine g_dup_x1 60 hC dX3_house_59 rfl rfl rfl ?_
      refine g_iconst 61 hC (1 : Int32) dX3_house_60 (by decide) rfl ?_
      refine g_iadd 62 hC dX3_house_61 rfl ?_
      refine g_putI (C := RX3) (T := TX3) (N := 46) (ci := 3) (k := 11) (ty := .int) in_X3 tyX3 tyX3_ok nmX3 rfl (by decide) q1398 rfl rfl (fun _ _ _ => rfl) rfl rfl 65 hC hF dX3_house_62 rfl (fun M_9 hF => ?_)
      exact g_ireturn hC ⟨_, rfl, hF⟩ dX3_house_65 (Nat.zero_le _) (Nat.zero_le _)
    · have hF := hF.2 c
      refine g_aload_n 40 hC dX3_house_39 rfl 1 rfl rfl ?_
      refine g_bipush 42 hC (-2 : Int32) dX3_house_40 (by decide) rfl ?_
      refine g_cV (rest := []) wl_X3_119 hd_X3_refuse (ci := 3) rfl 45 hC hF.1 (met_X3_refuse hF.2) rfl ⟨Nat.le_of_ble_eq_true rfl, Nat.le_of_ble_eq_true rfl⟩ ⟨Nat.zero_le _, Nat.zero_le _⟩ rfl (Nat.le_of_ble_eq_true rfl) dX3_house_42 rfl (g_ty_i 0 0 (Nat.le_refl _) (Nat.le_refl _) (fun x_11 M_10 hF => ?_))
      refine g_pop 46 hC dX3_house_45 rfl rfl ?_
      refine g_bipush 48 hC (-20 : Int32) dX3_house_46 (by decide) rfl ?_
      refine g_aload_n 49 hC dX3_house_48 rfl 1 rfl rfl ?_
      refine gf_X3_164_3I 52 hC hF dX3_house_49 rfl (fun x_12 hF => ?_)
      refine g_isub 53 hC dX3_house_52 rfl ?_
      exact g_ireturn hC ⟨_, rfl, hF⟩ dX3_house_53 (Nat.zero_le _) (Nat.zero_le _)
  · have hF := hF.2 c
    refine g_aload_n 10 hC dX3_house_9 rfl 0 rfl rfl ?_
    refine g_bipush 12 hC (-6 : Int32) dX3_house_10 (by decide) rfl ?_
    refine g_cV (rest := []) wl_X3_119 hd_X3_refuse (ci := 3) rfl 15 hC hF.1 (met_X3_refuse hF.2) rfl ⟨Nat.le_of_ble_eq_true rfl, Nat.le_of_ble_eq_true rfl⟩ ⟨Nat.zero_le _, Nat.zero_le _⟩ rfl (Nat.le_of_ble_eq_true rfl) dX3_house_12 rfl (g_ty_i 0 0 (Nat.le_refl _) (Nat.le_refl _) (fun x_14 M_13 hF => ?_))
    exact g_ireturn hC ⟨_, rfl, hF⟩ dX3_house_15 (Nat.zero_le _) (Nat.zero_le _)
abbrev rm_X3_isHouse : Room := { frames := 1, cells := 0, slots := 0, locals := 25 }
def F_X3_isHouse  (M : gM) (a0 : Nat) (x1 : Int32) (Q : Int32 → gM → Prop)  : Prop :=
  gI M 3 a0 11 fun x_1 =>
  F_X3_in M x1.toInt64 (0 : Int64) ((x_1 - (1 : Int32)).toInt64) fun x_3 M_2 =>
  zq x_3 (Q x_3 M_2)
theorem met_X3_isHouse {M : gM} {a0 : Nat} {x1 : Int32} {Q : Int32 → gM → Prop} (hF : F_X3_isHouse M a0 x1 Q) : gMt yX3_isHouse (ws_ yX3_isHouse cX3_isHouse 2 (some .boolean)) rm_X3_isHouse M [.ref a0, .int x1] (gQi Q) := by
  refine gMet (bytes := cX3_isHouse) (maxL := 2) (ret := (some .boolean)) rfl rfl (by decide) (Nat.le_of_ble_eq_true rfl) (lv := [(0, .ref a0), (1, .int x1)]) rfl (fun G hC hin => ?_)
  unfold F_X3_isHouse at hF
  refine g_iload_n 1 hC dX3_isHouse_0 rfl 1 rfl rfl ?_
  refine g_i2l 2 hC dX3_isHouse_1 rfl ?_
  refine g_lconst 3 hC (0 : Int64) dX3_isHouse_2 (by decide) rfl ?_
  refine g_aload_n 4 hC dX3_isHouse_3 rfl 0 rfl rfl ?_
  refine gf_X3_91_3I 7 hC hF dX3_isHouse_4 rfl (fun x_1 hF => ?_)
  refine g_iconst 8 hC (1 : Int32) dX3_isHouse_7 (by decide) rfl ?_
  refine g_isub 9 hC dX3_isHouse_8 rfl ?_
  refine g_i2l 10 hC dX3_isHouse_9 rfl ?_
  refine g_cS (rest := []) wl_X3_94 hd_X3_in 13 hC (met_X3_in hF) rfl ⟨Nat.le_of_ble_eq_true rfl, Nat.le_of_ble_eq_true rfl⟩ ⟨Nat.zero_le _, Nat.zero_le _⟩ rfl (Nat.le_of_ble_eq_true rfl) dX3_isHouse_10 rfl (g_ty_i 0 0 (Nat.le_refl _) (Nat.le_refl _) (fun x_3 M_2 hF => ?_))
  exact g_zreturn hC ⟨_, rfl, hF.2⟩ hF.1 dX3_isHouse_13 (Nat.zero_le _) (Nat.zero_le _)
theorem hd_X3_isHouse : yX3_isHouse.cls = RX3 ∧ yX3_isHouse.cls ≠ "java/lang/invoke/MethodHandle" ∧ yX3_isHouse.cls ≠ "java/lang/invoke/VarHandle" ∧ (parseMethodDescriptor yX3_isHouse.desc).map (fun d => d.parameters.length) = some 1 := by decide +kernel
theorem wl_X3_106 : GoodIn lw_all (wsV RX3 106 RX3 yX3_isHouse (ws_ yX3_isHouse cX3_isHouse 2 (some .boolean))) := lw_V q1654 q1656 qs35 q72 q1657
abbrev rm_X3_houseOf : Room := { frames := 2, cells := 0, slots := 0, locals := 46 }
def F_X3_houseOf_b31 (Q : Int32 → gM → Prop)    (a0 : Nat)   (M : gM) : Prop :=
  rc M 3 a0 ∧ F_X3_refuse M a0 (-2 : Int32) fun x_2 M_1 =>
  Q x_2 M_1
theorem w_X3_houseOf_b31 {G : gG} {Q : Int32 → gM → Prop} (hC : gCx G cX3_houseOf 3 RX3 (some .int) (gQi Q) rm_X3_houseOf)  (a0 : Nat)     (M : gM) (hF : F_X3_houseOf_b31 Q a0 M) : gAt G 0 0 M [(0, .ref a0)] 31 [] := by
  unfold F_X3_houseOf_b31 at hF
  refine g_aload_n 32 hC dX3_houseOf_31 rfl 0 rfl rfl ?_
  refine g_bipush 34 hC (-2 : Int32) dX3_houseOf_32 (by decide) rfl ?_
  refine g_cV (rest := []) wl_X3_119 hd_X3_refuse (ci := 3) rfl 37 hC hF.1 (met_X3_refuse hF.2) rfl ⟨Nat.le_of_ble_eq_true rfl, Nat.le_of_ble_eq_true rfl⟩ ⟨Nat.zero_le _, Nat.zero_le _⟩ rfl (Nat.le_of_ble_eq_true rfl) dX3_houseOf_34 rfl (g_ty_i 0 0 (Nat.le_refl _) (Nat.le_refl _) (fun x_2 M_1 hF => ?_))
  exact g_ireturn hC ⟨_, rfl, hF⟩ dX3_houseOf_37 (Nat.zero_le _) (Nat.zero_le _)
def F_X3_houseOf  (M : gM) (a0 : Nat) (x1 : Int32) (x2 : Int32) (Q : Int32 → gM → Prop)  : Prop :=
  rc M 3 a0 ∧ F_X3_isHouse M a0 x1 fun x_2 M_1 =>
  ((x_2 = 0 →
    F_X3_houseOf_b31 Q a0 M_1) ∧
    (¬ x_2 = 0 →
    F_X3_in M_1 x2.toInt64 (0 : Int64) (4 : Int64) fun x_4 M_3 =>
    ((x_4 = 0 →
      F_X3_houseOf_b31 Q a0 M_3) ∧
      (¬ x_4 = 0 →
      gN M_3 3 a0 12 fun a_5 =>
      aN M_3 (.array .int) a_5 x1 fun a_6 =>
      aI M_3 .int a_6 x2 fun x_7 =>
      Q x_7 M_3))))
theorem met_X3_houseOf {M : gM} {a0 : Nat} {x1 : Int32} {x2 : Int32} {Q : Int32 → gM → Prop} (hF : F_X3_houseOf M a0 x1 x2 Q) : gMt yX3_houseOf (ws_ yX3_houseOf cX3_houseOf 3 (some .int)) rm_X3_houseOf M [.ref a0, .int x1, .int x2] (gQi Q) := by
  refine gMet (bytes := cX3_houseOf) (maxL := 3) (ret := (some .int)) rfl rfl (by decide) (Nat.le_of_ble_eq_true rfl) (lv := [(0, .ref a0), (1, .int x1), (2, .int x2)]) rfl (fun G hC hin => ?_)
  unfold F_X3_houseOf at hF
  refine g_aload_n 1 hC dX3_houseOf_0 rfl 0 rfl rfl ?_
  refine g_iload_n 2 hC dX3_houseOf_1 rfl 1 rfl rfl ?_
  refine g_cV (rest := []) wl_X3_106 hd_X3_isHouse (ci := 3) rfl 5 hC hF.1 (met_X3_isHouse hF.2) rfl ⟨Nat.le_of_ble_eq_true rfl, Nat.le_of_ble_eq_true rfl⟩ ⟨Nat.zero_le _, Nat.zero_le _⟩ rfl (Nat.le_of_ble_eq_true rfl) dX3_houseOf_2 rfl (g_ty_i 0 0 (Nat.le_refl _) (Nat.le_refl _) (fun x_2 M_1 hF => ?_))
  refine g_if_eq 8 31 hC dX3_houseOf_5 (by decide) rfl (fun c => ?_) (fun c => ?_)
  · have hF := hF.1 c
    refine g_sub [0] rfl ?_
    exact w_X3_houseOf_b31 hC _ _ hF
  · have hF := hF.2 c
    refine g_iload_n 9 hC dX3_houseOf_8 rfl 2 rfl rfl ?_
    refine g_i2l 10 hC dX3_houseOf_9 rfl ?_
    refine g_lconst 11 hC (0 : Int64) dX3_houseOf_10 (by decide) rfl ?_
    refine g_ldc2 14 hC q1534 dX3_houseOf_11 rfl ?_
    refine g_cS (rest := []) wl_X3_94 hd_X3_in 17 hC (met_X3_in hF) rfl ⟨Nat.le_of_ble_eq_true rfl, Nat.le_of_ble_eq_true rfl⟩ ⟨Nat.zero_le _, Nat.zero_le _⟩ rfl (Nat.le_of_ble_eq_true rfl) dX3_houseOf_14 rfl (g_ty_i 0 0 (Nat.le_refl _) (Nat.le_refl _) (fun x_4 M_3 hF => ?_))
    refine g_if_eq 20 31 hC dX3_houseOf_17 (by decide) rfl (fun c => ?_) (fun c => ?_)
    · have hF := hF.1 c
      refine g_sub [0] rfl ?_
      exact w_X3_houseOf_b31 hC _ _ hF
    · have hF := hF.2 c
      refine g_aload_n 21 hC dX3_houseOf_20 rfl 0 rfl rfl ?_
      refine gf_X3_45_3N 24 hC hF dX3_houseOf_21 rfl (fun a_5 hF => ?_)
      refine g_iload_n 25 hC dX3_houseOf_24 rfl 1 rfl rfl ?_
      refine g_aaldN 26 hC hF (by decide) rfl (fun _ _ _ => rfl) dX3_houseOf_25 rfl (fun a_6 hF => ?_)
      refine g_iload_n 27 hC dX3_houseOf_26 rfl 2 rfl rfl ?_
      refine g_iald 28 hC hF dX3_houseOf_27 rfl (fun x_7 hF => ?_)
      refine g_goto 37 hC dX3_houseOf_28 (by decide) ?_
      exact g_ireturn hC ⟨_, rfl, hF⟩ dX3_houseOf_37 (Nat.zero_le _) (Nat.zero_le _)
abbrev rm_X3_sorts : Room := { frames := 0, cells := 0, slots := 0, locals := 0 }
def F_X3_sorts  (M : gM) (a0 : Nat) (x1 : Int32) (Q : Int32 → gM → Prop)  : Prop :=
  gN M 3 a0 12 fun a_1 =>
  aN M (.array .int) a_1 x1 fun a_2 =>
  aI M .int a_2 (4 : Int32) fun x_3 =>
  Q x_3 M
theorem met_X3_sorts {M : gM} {a0 : Nat} {x1 : Int32} {Q : Int32 → gM → Prop} (hF : F_X3_sorts M a0 x1 Q) : gMt yX3_sorts (ws_ yX3_sorts cX3_sorts 2 (some .int)) rm_X3_sorts M [.ref a0, .int x1] (gQi Q) := by
  refine gMet (bytes := cX3_sorts) (maxL := 2) (ret := (some .int)) rfl rfl (by decide) (Nat.le_of_ble_eq_true rfl) (lv := [(0, .ref a0), (1, .int x1)]) rfl (fun G hC hin => ?_)
  unfold F_X3_sorts at hF
  refine g_aload_n 1 hC dX3_sorts_0 rfl 0 rfl rfl ?_
  refine gf_X3_45_3N 4 hC hF dX3_sorts_1 rfl (fun a_1 hF => ?_)
  refine g_iload_n 5 hC dX3_sorts_4 rfl 1 rfl rfl ?_
  refine g_aaldN 6 hC hF (by decide) rfl (fun _ _ _ => rfl) dX3_sorts_5 rfl (fun a_2 hF => ?_)
  refine g_iconst 7 hC (4 : Int32) dX3_sorts_6 (by decide) rfl ?_
  refine g_iald 8 hC hF dX3_sorts_7 rfl (fun x_3 hF => ?_)
  exact g_ireturn hC ⟨_, rfl, hF⟩ dX3_sorts_8 (Nat.zero_le _) (Nat.zero_le _)
theorem hd_X3_sorts : yX3_sorts.cls = RX3 ∧ yX3_sorts.cls ≠ "java/lang/invoke/MethodHandle" ∧ yX3_sorts.cls ≠ "java/lang/invoke/VarHandle" ∧ (parseMethodDescriptor yX3_sorts.desc).map (fun d => d.parameters.length) = some 1 := by decide +kernel
theorem wl_X3_98 : GoodIn lw_all (wsV RX3 98 RX3 yX3_sorts (ws_ yX3_sorts cX3_sorts 2 (some .int))) := lw_V q1662 q1664 qs36 q72 q1665
abbrev rm_X3_sortOf : Room := { frames := 2, cells := 0, slots := 0, locals := 46 }
def F_X3_sortOf_b37 (Q : Int32 → gM → Prop)    (a0 : Nat)   (M : gM) : Prop :=
  rc M 3 a0 ∧ F_X3_refuse M a0 (-2 : Int32) fun x_2 M_1 =>
  Q x_2 M_1
theorem w_X3_sortOf_b37 {G : gG} {Q : Int32 → gM → Prop} (hC : gCx G cX3_sortOf 4 RX3 (some .int) (gQi Q) rm_X3_sortOf)  (a0 : Nat)     (M : gM) (hF : F_X3_sortOf_b37 Q a0 M) : gAt G 0 0 M [(0, .ref a0)] 37 [] := by
  unfold F_X3_sortOf_b37 at hF
  refine g_aload_n 38 hC dX3_sortOf_37 rfl 0 rfl rfl ?_
  refine g_bipush 40 hC (-2 : Int32) dX3_sortOf_38 (by decide) rfl ?_
  refine g_cV (rest := []) wl_X3_119 hd_X3_refuse (ci := 3) rfl 43 hC hF.1 (met_X3_refuse hF.2) rfl ⟨Nat.le_of_ble_eq_true rfl, Nat.le_of_ble_eq_true rfl⟩ ⟨Nat.zero_le _, Nat.zero_le _⟩ rfl (Nat.le_of_ble_eq_true rfl) dX3_sortOf_40 rfl (g_ty_i 0 0 (Nat.le_refl _) (Nat.le_refl _) (fun x_2 M_1 hF => ?_))
  exact g_ireturn hC ⟨_, rfl, hF⟩ dX3_sortOf_43 (Nat.zero_le _) (Nat.zero_le _)
def F_X3_sortOf  (M : gM) (a0 : Nat) (x1 : Int32) (x2 : Int32) (x3 : Int32) (Q : Int32 → gM → Prop)  : Prop :=
  rc M 3 a0 ∧ F_X3_isHouse M a0 x1 fun x_2 M_1 =>
  ((x_2 = 0 →
    F_X3_sortOf_b37 Q a0 M_1) ∧
    (¬ x_2 = 0 →
    rc M_1 3 a0 ∧ F_X3_sorts M_1 a0 x1 fun x_4 M_3 =>
    F_X3_in M_3 x2.toInt64 (0 : Int64) ((x_4 - (1 : Int32)).toInt64) fun x_6 M_5 =>
    ((x_6 = 0 →
      F_X3_sortOf_b37 Q a0 M_5) ∧
      (¬ x_6 = 0 →
      F_X3_in M_5 x3.toInt64 (0 : Int64) (4 : Int64) fun x_8 M_7 =>
      ((¬ x_8 = 0 →
        gN M_7 3 a0 12 fun a_9 =>
        aN M_7 (.array .int) a_9 x1 fun a_10 =>
        aI M_7 .int a_10 (((5 : Int32) + ((5 : Int32) * x2)) + x3) fun x_11 =>
        Q x_11 M_7) ∧
        (x_8 = 0 →
        F_X3_sortOf_b37 Q a0 M_7))))))
theorem met_X3_sortOf {M : gM} {a0 : Nat} {x1 : Int32} {x2 : Int32} {x3 : Int32} {Q : Int32 → gM → Prop} (hF : F_X3_sortOf M a0 x1 x2 x3 Q) : gMt yX3_sortOf (ws_ yX3_sortOf cX3_sortOf 4 (some .int)) rm_X3_sortOf M [.ref a0, .int x1, .int x2, .int x3] (gQi Q) := by
  refine gMet (bytes := cX3_sortOf) (maxL := 4) (ret := (some .int)) rfl rfl (by decide) (Nat.le_of_ble_eq_true rfl) (lv := [(0, .ref a0), (1, .int x1), (2, .int x2), (3, .int x3)]) rfl (fun G hC hin => ?_)
  unfold F_X3_sortOf at hF
  refine g_aload_n 1 hC dX3_sortOf_0 rfl 0 rfl rfl ?_
  refine g_iload_n 2 hC dX3_sortOf_1 rfl 1 rfl rfl ?_
  refine g_cV (rest := []) wl_X3_106 hd_X3_isHouse (ci := 3) rfl 5 hC hF.1 (met_X3_isHouse hF.2) rfl ⟨Nat.le_of_ble_eq_true rfl, Nat.le_of_ble_eq_true rfl⟩ ⟨Nat.zero_le _, Nat.zero_le _⟩ rfl (Nat.le_of_ble_eq_true rfl) dX3_sortOf_2 rfl (g_ty_i 0 0 (Nat.le_refl _) (Nat.le_refl _) (fun x_2 M_1 hF => ?_))
  refine g_if_eq 8 37 hC dX3_sortOf_5 (by decide) rfl (fun c => ?_) (fun c => ?_)
  · have hF := hF.1 c
    refine g_sub [0] rfl ?_
    exact w_X3_sortOf_b37 hC _ _ hF
  · have hF := hF.2 c
    refine g_iload_n 9 hC dX3_sortOf_8 rfl 2 rfl rfl ?_
    refine g_i2l 10 hC dX3_sortOf_9 rfl ?_
    refine g_lconst 11 hC (0 : Int64) dX3_sortOf_10 (by decide) rfl ?_
    refine g_aload_n 12 hC dX3_sortOf_11 rfl 0 rfl rfl ?_
    refine g_iload_n 13 hC dX3_sortOf_12 rfl 1 rfl rfl ?_
    refine g_cV (rest := [_, _]) wl_X3_98 hd_X3_sorts (ci := 3) rfl 16 hC hF.1 (met_X3_sorts hF.2) rfl ⟨Nat.le_of_ble_eq_true rfl, Nat.le_of_ble_eq_true rfl⟩ ⟨Nat.zero_le _, Nat.zero_le _⟩ rfl (Nat.le_of_ble_eq_true rfl) dX3_sortOf_13 rfl (g_ty_i 0 0 (Nat.le_refl _) (Nat.le_refl _) (fun x_4 M_3 hF => ?_))
    refine g_iconst 17 hC (1 : Int32) dX3_sortOf_16 (by decide) rfl ?_
    refine g_isub 18 hC dX3_sortOf_17 rfl ?_
    refine g_i2l 19 hC dX3_sortOf_18 rfl ?_
    refine g_cS (rest := []) wl_X3_94 hd_X3_in 22 hC (met_X3_in hF) rfl ⟨Nat.le_of_ble_eq_true rfl, Nat.le_of_ble_eq_true rfl⟩ ⟨Nat.zero_le _, Nat.zero_le _⟩ rfl (Nat.le_of_ble_eq_true rfl) dX3_sortOf_19 rfl (g_ty_i 0 0 (Nat.le_refl _) (Nat.le_refl _) (fun x_6 M_5 hF => ?_))
    refine g_if_eq 25 37 hC dX3_sortOf_22 (by decide) rfl (fun c => ?_) (fun c => ?_)
    · have hF := hF.1 c
      refine g_sub [0] rfl ?_
      exact w_X3_sortOf_b37 hC _ _ hF
    · have hF := hF.2 c
      refine g_iload_n 26 hC dX3_sortOf_25 rfl 3 rfl rfl ?_
      refine g_i2l 27 hC dX3_sortOf_26 rfl ?_
      refine g_lconst 28 hC (0 : Int64) dX3_sortOf_27 (by decide) rfl ?_
      refine g_ldc2 31 hC q1534 dX3_sortOf_28 rfl ?_
      refine g_cS (rest := []) wl_X3_94 hd_X3_in 34 hC (met_X3_in hF) rfl ⟨Nat.le_of_ble_eq_true rfl, Nat.le_of_ble_eq_true rfl⟩ ⟨Nat.zero_le _, Nat.zero_le _⟩ rfl (Nat.le_of_ble_eq_true rfl) dX3_sortOf_31 rfl (g_ty_i 0 0 (Nat.le_refl _) (Nat.le_refl _) (fun x_8 M_7 hF => ?_))
      refine g_if_ne 37 44 hC dX3_sortOf_34 (by decide) rfl (fun c => ?_) (fun c => ?_)
      · have hF := hF.1 c
        refine g_aload_n 45 hC dX3_sortOf_44 rfl 0 rfl rfl ?_
        refine gf_X3_45_3N 48 hC hF dX3_sortOf_45 rfl (fun a_9 hF => ?_)
        refine g_iload_n 49 hC dX3_sortOf_48 rfl 1 rfl rfl ?_
        refine g_aaldN 50 hC hF (by decide) rfl (fun _ _ _ => rfl) dX3_sortOf_49 rfl (fun a_10 hF => ?_)
        refine g_iconst 51 hC (5 : Int32) dX3_sortOf_50 (by decide) rfl ?_
        refine g_iconst 52 hC (5 : Int32) dX3_sortOf_51 (by decide) rfl ?_
        refine g_iload_n 53 hC dX3_sortOf_52 rfl 2 rfl rfl ?_
        refine g_imul 54 hC dX3_sortOf_53 rfl ?_
        refine g_iadd 55 hC dX3_sortOf_54 rfl ?_
        refine g_iload_n 56 hC dX3_sortOf_55 rfl 3 rfl rfl ?_
        refine g_iadd 57 hC dX3_sortOf_56 rfl ?_
        refine g_iald 58 hC hF dX3_sortOf_57 rfl (fun x_11 hF => ?_)
        exact g_ireturn hC ⟨_, rfl, hF⟩ dX3_sortOf_58 (Nat.zero_le _) (Nat.zero_le _)
      · have hF := hF.2 c
        refine g_sub [0] rfl ?_
        exact w_X3_sortOf_b37 hC _ _ hF
abbrev rm_X3_alter : Room := { frames := 2, cells := 0, slots := 0, locals := 46 }
def F_X3_alter_b62 (Q : Int32 → gM → Prop)    (a0 : Nat)   (M : gM) : Prop :=
  rc M 3 a0 ∧ F_X3_refuse M a0 (-2 : Int32) fun x_2 M_1 =>
  Q x_2 M_1
theorem w_X3_alter_b62 {G : gG} {Q : Int32 → gM → Prop} (hC : gCx G cX3_alter 5 RX3 (some .int) (gQi Q) rm_X3_alter)  (a0 : Nat)     (M : gM) (hF : F_X3_alter_b62 Q a0 M) : gAt G 0 0 M [(0, .ref a0)] 62 [] := by
  unfold F_X3_alter_b62 at hF
  refine g_aload_n 63 hC dX3_alter_62 rfl 0 rfl rfl ?_
  refine g_bipush 65 hC (-2 : Int32) dX3_alter_63 (by decide) rfl ?_
  refine g_cV (rest := []) wl_X3_119 hd_X3_refuse (ci := 3) rfl 68 hC hF.1 (met_X3_refuse hF.2) rfl ⟨Nat.le_of_ble_eq_true rfl, Nat.le_of_ble_eq_true rfl⟩ ⟨Nat.zero_le _, Nat.zero_le _⟩ rfl (Nat.le_of_ble_eq_true rfl) dX3_alter_65 rfl (g_ty_i 0 0 (Nat.le_refl _) (Nat.le_refl _) (fun x_2 M_1 hF => ?_))
  exact g_ireturn hC ⟨_, rfl, hF⟩ dX3_alter_68 (Nat.zero_le _) (Nat.zero_le _)
def F_X3_alter_b56 (Q : Int32 → gM → Prop)    (a0 : Nat) (x1 : Int32) (x2 : Int32) (x3 : Int32) (t0 : Int64) (t1 : Int64) (t2 : Int64)  (M : gM) : Prop :=
  F_X3_in M t0 t1 t2 fun x_2 M_1 =>
  ((¬ x_2 = 0 →
    gN M_1 3 a0 12 fun a_3 =>
    aN M_1 (.array .int) a_3 x1 fun a_4 =>
    aI M_1 .int a_4 ((1 : Int32) + x2) fun x_5 =>
    gN M_1 3 a0 12 fun a_6 =>
    aN M_1 (.array .int) a_6 x1 fun a_7 =>
    uI M_1 a_7 ((1 : Int32) + x2) x3 fun M_8 =>
    Q x_5 M_8) ∧
    (x_2 = 0 →
    F_X3_alter_b62 Q a0 M_1))
theorem w_X3_alter_b56 {G : gG} {Q : Int32 → gM → Prop} (hC : gCx G cX3_alter 5 RX3 (some .int) (gQi Q) rm_X3_alter)  (a0 : Nat) (x1 : Int32) (x2 : Int32) (x3 : Int32) (t0 : Int64) (t1 : Int64) (t2 : Int64)    (M : gM) (hF : F_X3_alter_b56 Q a0 x1 x2 x3 t0 t1 t2 M) : gAt G 0 0 M [(0, .ref a0), (1, .int x1), (2, .int x2), (3, .int x3)] 56 [.long t2, .long t1, .long t0] := by
  unfold F_X3_alter_b56 at hF
  refine g_cS (rest := []) wl_X3_94 hd_X3_in 59 hC (met_X3_in hF) rfl ⟨Nat.le_of_ble_eq_true rfl, Nat.le_of_ble_eq_true rfl⟩ ⟨Nat.zero_le _, Nat.zero_le _⟩ rfl (Nat.le_of_ble_eq_true rfl) dX3_alter_56 rfl (g_ty_i 0 0 (Nat.le_refl _) (Nat.le_refl _) (fun x_2 M_1 hF => ?_))
  refine g_if_ne 62 69 hC dX3_alter_59 (by decide) rfl (fun c => ?_) (fun c => ?_)
  · have hF := hF.1 c
    refine g_aload_n 70 hC dX3_alter_69 rfl 0 rfl rfl ?_
    refine gf_X3_45_3N 73 hC hF dX3_alter_70 rfl (fun a_3 hF => ?_)
    refine g_iload_n 74 hC dX3_alter_73 rfl 1 rfl rfl ?_
    refine g_aaldN 75 hC hF (by decide) rfl (fun _ _ _ => rfl) dX3_alter_74 rfl (fun a_4 hF => ?_)
    refine g_iconst 76 hC (1 : Int32) dX3_alter_75 (by decide) rfl ?_
    refine g_iload_n 77 hC dX3_alter_76 rfl 2 rfl rfl ?_
    refine g_iadd 78 hC dX3_alter_77 rfl ?_
    refine g_iald 79 hC hF dX3_alter_78 rfl (fun x_5 hF => ?_)
    refine g_istore 81 hC (lv' := [(4, .int _), (0, .ref _), (1, .int _), (2, .int _), (3, .int _)]) dX3_alter_79 rfl (by decide) rfl ?_
    refine g_aload_n 82 hC dX3_alter_81 rfl 1 rfl rfl ?_
    refine gf_X3_45_3N 85 hC hF dX3_alter_82 rfl (fun a_6 hF => ?_)
    refine g_iload_n 86 hC dX3_alter_85 rfl 2 rfl rfl ?_
    refine g_aaldN 87 hC hF (by decide) rfl (fun _ _ _ => rfl) dX3_alter_86 rfl (fun a_7 hF => ?_)
    refine g_iconst 88 hC (1 : Int32) dX3_alter_87 (by decide) rfl ?_
    refine g_iload_n 89 hC dX3_alter_88 rfl 3 rfl rfl ?_
    refine g_iadd 90 hC dX3_alter_89 rfl ?_
    refine g_iload_n 91 hC dX3_alter_90 rfl 4 rfl rfl ?_
    refine g_iast 92 hC hF dX3_alter_91 rfl (fun M_8 hF => ?_)
    refine g_iload 94 hC dX3_alter_92 rfl 0 rfl ?_
    exact g_ireturn hC ⟨_, rfl, hF⟩ dX3_alter_94 (Nat.zero_le _) (Nat.zero_le _)
  · have hF := hF.2 c
    refine g_sub [0] rfl ?_
    exact w_X3_alter_b62 hC _ _ hF
def F_X3_alter_b32 (Q : Int32 → gM → Prop)    (a0 : Nat) (x1 : Int32) (x2 : Int32) (x3 : Int32) (t0 : Int64) (t1 : Int64)  (M : gM) : Prop :=
  ((¬ x2 = 0 →
    ((¬ x2 = (1 : Int32) →
      F_X3_alter_b56 Q a0 x1 x2 x3 t0 t1 (3 : Int64) M) ∧
      (x2 = (1 : Int32) →
      F_X3_alter_b56 Q a0 x1 x2 x3 t0 t1 (40 : Int64) M))) ∧
    (x2 = 0 →
    F_X3_alter_b56 Q a0 x1 x2 x3 t0 t1 (99 : Int64) M))
theorem w_X3_alter_b32 {G : gG} {Q : Int32 → gM → Prop} (hC : gCx G cX3_alter 5 RX3 (some .int) (gQi Q) rm_X3_alter)  (a0 : Nat) (x1 : Int32) (x2 : Int32) (x3 : Int32) (t0 : Int64) (t1 : Int64)    (M : gM) (hF : F_X3_alter_b32 Q a0 x1 x2 x3 t0 t1 M) : gAt G 0 0 M [(0, .ref a0), (1, .int x1), (2, .int x2), (3, .int x3)] 32 [.long t1, .long t0] := by
  unfold F_X3_alter_b32 at hF
  refine g_iload_n 33 hC dX3_alter_32 rfl 2 rfl rfl ?_
  refine g_if_ne 36 42 hC dX3_alter_33 (by decide) rfl (fun c => ?_) (fun c => ?_)
  · have hF := hF.1 c
    refine g_iload_n 43 hC dX3_alter_42 rfl 2 rfl rfl ?_
    refine g_iconst 44 hC (1 : Int32) dX3_alter_43 (by decide) rfl ?_
    refine g_icmp_ne 47 53 hC dX3_alter_44 (by decide) rfl (fun c => ?_) (fun c => ?_)
    · have hF := hF.1 c
      refine g_ldc2 56 hC q1672 dX3_alter_53 rfl ?_
      exact w_X3_alter_b56 hC _ _ _ _ _ _ _ _ hF
    · have hF := hF.2 c
      refine g_ldc2 50 hC q1671 dX3_alter_47 rfl ?_
      refine g_goto 56 hC dX3_alter_50 (by decide) ?_
      exact w_X3_alter_b56 hC _ _ _ _ _ _ _ _ hF
  · have hF := hF.2 c
    refine g_ldc2 39 hC q1567 dX3_alter_36 rfl ?_
    refine g_goto 56 hC dX3_alter_39 (by decide) ?_
    exact w_X3_alter_b56 hC _ _ _ _ _ _ _ _ hF
def F_X3_alter  (M : gM) (a0 : Nat) (x1 : Int32) (x2 : Int32) (x3 : Int32) (Q : Int32 → gM → Prop)  : Prop :=
  rc M 3 a0 ∧ F_X3_isHouse M a0 x1 fun x_2 M_1 =>
  ((x_2 = 0 →
    F_X3_alter_b62 Q a0 M_1) ∧
    (¬ x_2 = 0 →
    F_X3_in M_1 x2.toInt64 (0 : Int64) (2 : Int64) fun x_4 M_3 =>
    ((x_4 = 0 →
      F_X3_alter_b62 Q a0 M_3) ∧
      (¬ x_4 = 0 →
      ((¬ x2 = (1 : Int32) →
        F_X3_alter_b32 Q a0 x1 x2 x3 x3.toInt64 (0 : Int64) M_3) ∧
        (x2 = (1 : Int32) →
        F_X3_alter_b32 Q a0 x1 x2 x3 x3.toInt64 (1 : Int64) M_3))))))
theorem met_X3_alter {M : gM} {a0 : Nat} {x1 : Int32} {x2 : Int32} {x3 : Int32} {Q : Int32 → gM → Prop} (hF : F_X3_alter M a0 x1 x2 x3 Q) : gMt yX3_alter (ws_ yX3_alter cX3_alter 5 (some .int)) rm_X3_alter M [.ref a0, .int x1, .int x2, .int x3] (gQi Q) := by
  refine gMet (bytes := cX3_alter) (maxL := 5) (ret := (some .int)) rfl rfl (by decide) (Nat.le_of_ble_eq_true rfl) (lv := [(0, .ref a0), (1, .int x1), (2, .int x2), (3, .int x3)]) rfl (fun G hC hin => ?_)
  unfold F_X3_alter at hF
  refine g_aload_n 1 hC dX3_alter_0 rfl 0 rfl rfl ?_
  refine g_iload_n 2 hC dX3_alter_1 rfl 1 rfl rfl ?_
  refine g_cV (rest := []) wl_X3_106 hd_X3_isHouse (ci := 3) rfl 5 hC hF.1 (met_X3_isHouse hF.2) rfl ⟨Nat.le_of_ble_eq_true rfl, Nat.le_of_ble_eq_true rfl⟩ ⟨Nat.zero_le _, Nat.zero_le _⟩ rfl (Nat.le_of_ble_eq_true rfl) dX3_alter_2 rfl (g_ty_i 0 0 (Nat.le_refl _) (Nat.le_refl _) (fun x_2 M_1 hF => ?_))
  refine g_if_eq 8 62 hC dX3_alter_5 (by decide) rfl (fun c => ?_) (fun c => ?_)
  · have hF := hF.1 c
    refine g_sub [0] rfl ?_
    exact w_X3_alter_b62 hC _ _ hF
  · have hF := hF.2 c
    refine g_iload_n 9 hC dX3_alter_8 rfl 2 rfl rfl ?_
    refine g_i2l 10 hC dX3_alter_9 rfl ?_
    refine g_lconst 11 hC (0 : Int64) dX3_alter_10 (by decide) rfl ?_
    refine g_ldc2 14 hC q1670 dX3_alter_11 rfl ?_
    refine g_cS (rest := []) wl_X3_94 hd_X3_in 17 hC (met_X3_in hF) rfl ⟨Nat.le_of_ble_eq_true rfl, Nat.le_of_ble_eq_true rfl⟩ ⟨Nat.zero_le _, Nat.zero_le _⟩ rfl (Nat.le_of_ble_eq_true rfl) dX3_alter_14 rfl (g_ty_i 0 0 (Nat.le_refl _) (Nat.le_refl _) (fun x_4 M_3 hF => ?_))
    refine g_if_eq 20 62 hC dX3_alter_17 (by decide) rfl (fun c => ?_) (fun c => ?_)
    · have hF := hF.1 c
      refine g_sub [0] rfl ?_
      exact w_X3_alter_b62 hC _ _ hF
    · have hF := hF.2 c
      refine g_iload_n 21 hC dX3_alter_20 rfl 3 rfl rfl ?_
      refine g_i2l 22 hC dX3_alter_21 rfl ?_
      refine g_iload_n 23 hC dX3_alter_22 rfl 2 rfl rfl ?_
      refine g_iconst 24 hC (1 : Int32) dX3_alter_23 (by decide) rfl ?_
      refine g_icmp_ne 27 31 hC dX3_alter_24 (by decide) rfl (fun c => ?_) (fun c => ?_)
      · have hF := hF.1 c
        refine g_lconst 32 hC (0 : Int64) dX3_alter_31 (by decide) rfl ?_
        exact w_X3_alter_b32 hC _ _ _ _ _ _ _ hF
      · have hF := hF.2 c
        refine g_lconst 28 hC (1 : Int64) dX3_alter_27 (by decide) rfl ?_
        refine g_goto 32 hC dX3_alter_28 (by decide) ?_
        exact w_X3_alter_b32 hC _ _ _ _ _ _ _ hF
abbrev rm_X3_change : Room := { frames := 2, cells := 0, slots := 0, locals := 46 }
def F_X3_change_b71 (Q : Int32 → gM → Prop)    (a0 : Nat)   (M : gM) : Prop :=
  rc M 3 a0 ∧ F_X3_refuse M a0 (-2 : Int32) fun x_2 M_1 =>
  Q x_2 M_1
theorem w_X3_change_b71 {G : gG} {Q : Int32 → gM → Prop} (hC : gCx G cX3_change 7 RX3 (some .int) (gQi Q) rm_X3_change)  (a0 : Nat)     (M : gM) (hF : F_X3_change_b71 Q a0 M) : gAt G 0 0 M [(0, .ref a0)] 71 [] := by
  unfold F_X3_change_b71 at hF
  refine g_aload_n 72 hC dX3_change_71 rfl 0 rfl rfl ?_
  refine g_bipush 74 hC (-2 : Int32) dX3_change_72 (by decide) rfl ?_
  refine g_cV (rest := []) wl_X3_119 hd_X3_refuse (ci := 3) rfl 77 hC hF.1 (met_X3_refuse hF.2) rfl ⟨Nat.le_of_ble_eq_true rfl, Nat.le_of_ble_eq_true rfl⟩ ⟨Nat.zero_le _, Nat.zero_le _⟩ rfl (Nat.le_of_ble_eq_true rfl) dX3_change_74 rfl (g_ty_i 0 0 (Nat.le_refl _) (Nat.le_refl _) (fun x_2 M_1 hF => ?_))
  exact g_ireturn hC ⟨_, rfl, hF⟩ dX3_change_77 (Nat.zero_le _) (Nat.zero_le _)
def F_X3_change_b65 (Q : Int32 → gM → Prop)    (a0 : Nat) (x1 : Int32) (x2 : Int32) (x3 : Int32) (x4 : Int32) (t0 : Int64) (t1 : Int64) (t2 : Int64)  (M : gM) : Prop :=
  F_X3_in M t0 t1 t2 fun x_2 M_1 =>
  ((¬ x_2 = 0 →
    gN M_1 3 a0 12 fun a_3 =>
    aN M_1 (.array .int) a_3 x1 fun a_4 =>
    aI M_1 .int a_4 (((6 : Int32) + ((5 : Int32) * x2)) + x3) fun x_5 =>
    gN M_1 3 a0 12 fun a_6 =>
    aN M_1 (.array .int) a_6 x1 fun a_7 =>
    uI M_1 a_7 (((6 : Int32) + ((5 : Int32) * x2)) + x3) x4 fun M_8 =>
    Q x_5 M_8) ∧
    (x_2 = 0 →
    F_X3_change_b71 Q a0 M_1))
theorem w_X3_change_b65 {G : gG} {Q : Int32 → gM → Prop} (hC : gCx G cX3_change 7 RX3 (some .int) (gQi Q) rm_X3_change)  (a0 : Nat) (x1 : Int32) (x2 : Int32) (x3 : Int32) (x4 : Int32) (t0 : Int64) (t1 : Int64) (t2 : Int64)    (M : gM) (hF : F_X3_change_b65 Q a0 x1 x2 x3 x4 t0 t1 t2 M) : gAt G 0 0 M [(0, .ref a0), (1, .int x1), (2, .int x2), (3, .int x3), (4, .int x4)] 65 [.long t2, .long t1, .long t0] := by
  unfold F_X3_change_b65 at hF
  refine g_cS (rest := []) wl_X3_94 hd_X3_in 68 hC (met_X3_in hF) rfl ⟨Nat.le_of_ble_eq_true rfl, Nat.le_of_ble_eq_true rfl⟩ ⟨Nat.zero_le _, Nat.zero_le _⟩ rfl (Nat.le_of_ble_eq_true rfl) dX3_change_65 rfl (g_ty_i 0 0 (Nat.le_refl _) (Nat.le_refl _) (fun x_2 M_1 hF => ?_))
  refine g_if_ne 71 78 hC dX3_change_68 (by decide) rfl (fun c => ?_) (fun c => ?_)
  · have hF := hF.1 c
    refine g_bipush 80 hC (6 : Int32) dX3_change_78 (by decide) rfl ?_
    refine g_iconst 81 hC (5 : Int32) dX3_change_80 (by decide) rfl ?_
    refine g_iload_n 82 hC dX3_change_81 rfl 2 rfl rfl ?_
    refine g_imul 83 hC dX3_change_82 rfl ?_
    refine g_iadd 84 hC dX3_change_83 rfl ?_
    refine g_iload_n 85 hC dX3_change_84 rfl 3 rfl rfl ?_
    refine g_iadd 86 hC dX3_change_85 rfl ?_
    refine g_istore 88 hC (lv' := [(5, .int _), (0, .ref _), (1, .int _), (2, .int _), (3, .int _), (4, .int _)]) dX3_change_86 rfl (by decide) rfl ?_
    refine g_aload_n 89 hC dX3_change_88 rfl 1 rfl rfl ?_
    refine gf_X3_45_3N 92 hC hF dX3_change_89 rfl (fun a_3 hF => ?_)
    refine g_iload_n 93 hC dX3_change_92 rfl 2 rfl rfl ?_
    refine g_aaldN 94 hC hF (by decide) rfl (fun _ _ _ => rfl) dX3_change_93 rfl (fun a_4 hF => ?_)
    refine g_iload 96 hC dX3_change_94 rfl 0 rfl ?_
    refine g_iald 97 hC hF dX3_change_96 rfl (fun x_5 hF => ?_)
    refine g_istore 99 hC (lv' := [(6, .int _), (5, .int _), (0, .ref _), (1, .int _), (2, .int _), (3, .int _), (4, .int _)]) dX3_change_97 rfl (by decide) rfl ?_
    refine g_aload_n 100 hC dX3_change_99 rfl 2 rfl rfl ?_
    refine gf_X3_45_3N 103 hC hF dX3_change_100 rfl (fun a_6 hF => ?_)
    refine g_iload_n 104 hC dX3_change_103 rfl 3 rfl rfl ?_
    refine g_aaldN 105 hC hF (by decide) rfl (fun _ _ _ => rfl) dX3_change_104 rfl (fun a_7 hF => ?_)
    refine g_iload 107 hC dX3_change_105 rfl 1 rfl ?_
    refine g_iload 109 hC dX3_change_107 rfl 6 rfl ?_
    refine g_iast 110 hC hF dX3_change_109 rfl (fun M_8 hF => ?_)
    refine g_iload 112 hC dX3_change_110 rfl 0 rfl ?_
    exact g_ireturn hC ⟨_, rfl, hF⟩ dX3_change_112 (Nat.zero_le _) (Nat.zero_le _)
  · have hF := hF.2 c
    refine g_sub [0] rfl ?_
    exact w_X3_change_b71 hC _ _ hF
def F_X3_change  (M : gM) (a0 : Nat) (x1 : Int32) (x2 : Int32) (x3 : Int32) (x4 : Int32) (Q : Int32 → gM → Prop)  : Prop :=
  rc M 3 a0 ∧ F_X3_isHouse M a0 x1 fun x_2 M_1 =>
  ((x_2 = 0 →
    F_X3_change_b71 Q a0 M_1) ∧
    (¬ x_2 = 0 →
    rc M_1 3 a0 ∧ F_X3_sorts M_1 a0 x1 fun x_4 M_3 =>
    F_X3_in M_3 x2.toInt64 (0 : Int64) ((x_4 - (1 : Int32)).toInt64) fun x_6 M_5 =>
    ((x_6 = 0 →
      F_X3_change_b71 Q a0 M_5) ∧
      (¬ x_6 = 0 →
      F_X3_in M_5 x3.toInt64 (0 : Int64) (3 : Int64) fun x_8 M_7 =>
      ((x_8 = 0 →
        F_X3_change_b71 Q a0 M_7) ∧
        (¬ x_8 = 0 →
        ((¬ x3 = 0 →
          ((¬ x3 = (1 : Int32) →
            F_X3_change_b65 Q a0 x1 x2 x3 x4 x4.toInt64 (0 : Int64) (99 : Int64) M_7) ∧
            (x3 = (1 : Int32) →
            F_X3_change_b65 Q a0 x1 x2 x3 x4 x4.toInt64 (0 : Int64) (9 : Int64) M_7))) ∧
          (x3 = 0 →
          F_X3_change_b65 Q a0 x1 x2 x3 x4 x4.toInt64 (0 : Int64) (4 : Int64) M_7))))))))
theorem met_X3_change {M : gM} {a0 : Nat} {x1 : Int32} {x2 : Int32} {x3 : Int32} {x4 : Int32} {Q : Int32 → gM → Prop} (hF : F_X3_change M a0 x1 x2 x3 x4 Q) : gMt yX3_change (ws_ yX3_change cX3_change 7 (some .int)) rm_X3_change M [.ref a0, .int x1, .int x2, .int x3, .int x4] (gQi Q) := by
  refine gMet (bytes := cX3_change) (maxL := 7) (ret := (some .int)) rfl rfl (by decide) (Nat.le_of_ble_eq_true rfl) (lv := [(0, .ref a0), (1, .int x1), (2, .int x2), (3, .int x3), (4, .int x4)]) rfl (fun G hC hin => ?_)
  unfold F_X3_change at hF
  refine g_aload_n 1 hC dX3_change_0 rfl 0 rfl rfl ?_
  refine g_iload_n 2 hC dX3_change_1 rfl 1 rfl rfl ?_
  refine g_cV (rest := []) wl_X3_106 hd_X3_isHouse (ci := 3) rfl 5 hC hF.1 (met_X3_isHouse hF.2) rfl ⟨Nat.le_of_ble_eq_true rfl, Nat.le_of_ble_eq_true rfl⟩ ⟨Nat.zero_le _, Nat.zero_le _⟩ rfl (Nat.le_of_ble_eq_true rfl) dX3_change_2 rfl (g_ty_i 0 0 (Nat.le_refl _) (Nat.le_refl _) (fun x_2 M_1 hF => ?_))
  refine g_if_eq 8 71 hC dX3_change_5 (by decide) rfl (fun c => ?_) (fun c => ?_)
  · have hF := hF.1 c
    refine g_sub [0] rfl ?_
    exact w_X3_change_b71 hC _ _ hF
  · have hF := hF.2 c
    refine g_iload_n 9 hC dX3_change_8 rfl 2 rfl rfl ?_
    refine g_i2l 10 hC dX3_change_9 rfl ?_
    refine g_lconst 11 hC (0 : Int64) dX3_change_10 (by decide) rfl ?_
    refine g_aload_n 12 hC dX3_change_11 rfl 0 rfl rfl ?_
    refine g_iload_n 13 hC dX3_change_12 rfl 1 rfl rfl ?_
    refine g_cV (rest := [_, _]) wl_X3_98 hd_X3_sorts (ci := 3) rfl 16 hC hF.1 (met_X3_sorts hF.2) rfl ⟨Nat.le_of_ble_eq_true rfl, Nat.le_of_ble_eq_true rfl⟩ ⟨Nat.zero_le _, Nat.zero_le _⟩ rfl (Nat.le_of_ble_eq_true rfl) dX3_change_13 rfl (g_ty_i 0 0 (Nat.le_refl _) (Nat.le_refl _) (fun x_4 M_3 hF => ?_))
    refine g_iconst 17 hC (1 : Int32) dX3_change_16 (by decide) rfl ?_
    refine g_isub 18 hC dX3_change_17 rfl ?_
    refine g_i2l 19 hC dX3_change_18 rfl ?_
    refine g_cS (rest := []) wl_X3_94 hd_X3_in 22 hC (met_X3_in hF) rfl ⟨Nat.le_of_ble_eq_true rfl, Nat.le_of_ble_eq_true rfl⟩ ⟨Nat.zero_le _, Nat.zero_le _⟩ rfl (Nat.le_of_ble_eq_true rfl) dX3_change_19 rfl (g_ty_i 0 0 (Nat.le_refl _) (Nat.le_refl _) (fun x_6 M_5 hF => ?_))
    refine g_if_eq 25 71 hC dX3_change_22 (by decide) rfl (fun c => ?_) (fun c => ?_)
    · have hF := hF.1 c
      refine g_sub [0] rfl ?_
      exact w_X3_change_b71 hC _ _ hF
    · have hF := hF.2 c
      refine g_iload_n 26 hC dX3_change_25 rfl 3 rfl rfl ?_
      refine g_i2l 27 hC dX3_change_26 rfl ?_
      refine g_lconst 28 hC (0 : Int64) dX3_change_27 (by decide) rfl ?_
      refine g_ldc2 31 hC q1672 dX3_change_28 rfl ?_
      refine g_cS (rest := []) wl_X3_94 hd_X3_in 34 hC (met_X3_in hF) rfl ⟨Nat.le_of_ble_eq_true rfl, Nat.le_of_ble_eq_true rfl⟩ ⟨Nat.zero_le _, Nat.zero_le _⟩ rfl (Nat.le_of_ble_eq_true rfl) dX3_change_31 rfl (g_ty_i 0 0 (Nat.le_refl _) (Nat.le_refl _) (fun x_8 M_7 hF => ?_))
      refine g_if_eq 37 71 hC dX3_change_34 (by decide) rfl (fun c => ?_) (fun c => ?_)
      · have hF := hF.1 c
        refine g_sub [0] rfl ?_
        exact w_X3_change_b71 hC _ _ hF
      · have hF := hF.2 c
        refine g_iload 39 hC dX3_change_37 rfl 4 rfl ?_
        refine g_i2l 40 hC dX3_change_39 rfl ?_
        refine g_lconst 41 hC (0 : Int64) dX3_change_40 (by decide) rfl ?_
        refine g_iload_n 42 hC dX3_change_41 rfl 3 rfl rfl ?_
        refine g_if_ne 45 51 hC dX3_change_42 (by decide) rfl (fun c => ?_) (fun c => ?_)
        · have hF := hF.1 c
          refine g_iload_n 52 hC dX3_change_51 rfl 3 rfl rfl ?_
          refine g_iconst 53 hC (1 : Int32) dX3_change_52 (by decide) rfl ?_
          refine g_icmp_ne 56 62 hC dX3_change_53 (by decide) rfl (fun c => ?_) (fun c => ?_)
          · have hF := hF.1 c
            refine g_ldc2 65 hC q1567 dX3_change_62 rfl ?_
            exact w_X3_change_b65 hC _ _ _ _ _ _ _ _ _ hF
          · have hF := hF.2 c
            refine g_ldc2 59 hC q1677 dX3_change_56 rfl ?_
            refine g_goto 65 hC dX3_change_59 (by decide) ?_
            exact w_X3_change_b65 hC _ _ _ _ _ _ _ _ _ hF
        · have hF := hF.2 c
          refine g_ldc2 48 hC q1534 dX3_change_45 rfl ?_
          refine g_goto 65 hC dX3_change_48 (by decide) ?_
          exact w_X3_change_b65 hC _ _ _ _ _ _ _ _ _ hF
abbrev rm_X3_power : Room := { frames := 0, cells := 0, slots := 0, locals := 0 }
def F_X3_power_b4 (Q : Int32 → gM → Prop)    (x0 : Int32) (x1 : Int32) : Nat → Int32 → Int32 → gM → Prop
  | 0, _, _, _ => False
  | n + 1, x2, x3, M =>
    ((x1 ≤ x3 →
      Q x2 M) ∧
      (¬ x1 ≤ x3 →
      (F_X3_power_b4 Q x0 x1 n) (x2 * x0) (x3 + (1 : Int32)) M))
theorem w_X3_power_b4 {G : gG} {Q : Int32 → gM → Prop} (hC : gCx G cX3_power 4 RX3 (some .int) (gQi Q) rm_X3_power)  (x0 : Int32) (x1 : Int32)  : ∀ (n : Nat) (x2 : Int32) (x3 : Int32)   (M : gM), F_X3_power_b4 Q x0 x1 n x2 x3 M → gAt G 0 0 M [(0, .int x0), (1, .int x1), (2, .int x2), (3, .int x3)] 4 [] := by
  intro n
  induction n with
  | zero =>
    intro x2 x3 M hF
    exact hF.elim
  | succ n ih =>
    intro x2 x3 M hF
    have hK4 := ih
    unfold F_X3_power_b4 at hF
    refine g_iload_n 5 hC dX3_power_4 rfl 3 rfl rfl ?_
    refine g_iload_n 6 hC dX3_power_5 rfl 1 rfl rfl ?_
    refine g_icmp_ge 9 19 hC dX3_power_6 (by decide) rfl (fun c => ?_) (fun c => ?_)
    · have hF := hF.1 c
      refine g_iload_n 20 hC dX3_power_19 rfl 2 rfl rfl ?_
      exact g_ireturn hC ⟨_, rfl, hF⟩ dX3_power_20 (Nat.zero_le _) (Nat.zero_le _)
    · have hF := hF.2 c
      refine g_iload_n 10 hC dX3_power_9 rfl 2 rfl rfl ?_
      refine g_iload_n 11 hC dX3_power_10 rfl 0 rfl rfl ?_
      refine g_imul 12 hC dX3_power_11 rfl ?_
      refine g_istore_n 13 hC (lv' := [(2, .int _), (0, .int _), (1, .int _), (3, .int _)]) dX3_power_12 rfl rfl (by decide) rfl ?_
      refine g_iinc 16 hC (x3 + (1 : Int32)) (lv' := [(3, .int _), (2, .int _), (0, .int _), (1, .int _)]) dX3_power_13 rfl 3 rfl rfl (by decide) rfl ?_
      refine g_goto 4 hC dX3_power_16 (by decide) ?_
      refine g_sub [2, 3, 1, 0] rfl ?_
      exact hK4 _ _ _ hF
def F_X3_power  (M : gM) (x0 : Int32) (x1 : Int32) (Q : Int32 → gM → Prop)  : Prop :=
  ∃ n_1, F_X3_power_b4 Q x0 x1 n_1 (1 : Int32) (0 : Int32) M
theorem met_X3_power {M : gM} {x0 : Int32} {x1 : Int32} {Q : Int32 → gM → Prop} (hF : F_X3_power M x0 x1 Q) : gMt yX3_power (ws_ yX3_power cX3_power 4 (some .int)) rm_X3_power M [.int x0, .int x1] (gQi Q) := by
  refine gMet (bytes := cX3_power) (maxL := 4) (ret := (some .int)) rfl rfl (by decide) (Nat.le_of_ble_eq_true rfl) (lv := [(0, .int x0), (1, .int x1)]) rfl (fun G hC hin => ?_)
  unfold F_X3_power at hF
  refine g_iconst 1 hC (1 : Int32) dX3_power_0 (by decide) rfl ?_
  refine g_istore_n 2 hC (lv' := [(2, .int _), (0, .int _), (1, .int _)]) dX3_power_1 rfl rfl (by decide) rfl ?_
  refine g_iconst 3 hC (0 : Int32) dX3_power_2 (by decide) rfl ?_
  refine g_istore_n 4 hC (lv' := [(3, .int _), (2, .int _), (0, .int _), (1, .int _)]) dX3_power_3 rfl rfl (by decide) rfl ?_
  refine g_sub [2, 3, 1, 0] rfl ?_
  obtain ⟨n_1, hF⟩ := hF
  exact w_X3_power_b4 hC _ _ n_1 _ _ _ hF
theorem hd_X3_power : yX3_power.cls ≠ "java/lang/invoke/MethodHandle" ∧ yX3_power.cls ≠ "java/lang/invoke/VarHandle" ∧ (parseMethodDescriptor yX3_power.desc).map (fun d => d.parameters.length) = some 2 := by decide +kernel
theorem wl_X3_102 : GoodIn lw_all (va_wsS RX3 102 yX3_power (ws_ yX3_power cX3_power 4 (some .int))) := lw_S q1686 q1687 q72 q1688
abbrev rm_X3_ofState : Room := { frames := 1, cells := 0, slots := 0, locals := 23 }
def F_X3_ofState  (M : gM) (x0 : Int32) (x1 : Int32) (Q : Int32 → gM → Prop)  : Prop :=
  F_X3_power M (5 : Int32) x1 fun x_2 M_1 =>
  dz x_2 <|
  Q ((x0 / x_2) - (x0 / x_2) / (5 : Int32) * (5 : Int32)) M_1
theorem met_X3_ofState {M : gM} {x0 : Int32} {x1 : Int32} {Q : Int32 → gM → Prop} (hF : F_X3_ofState M x0 x1 Q) : gMt yX3_ofState (ws_ yX3_ofState cX3_ofState 2 (some .int)) rm_X3_ofState M [.int x0, .int x1] (gQi Q) := by
  refine gMet (bytes := cX3_ofState) (maxL := 2) (ret := (some .int)) rfl rfl (by decide) (Nat.le_of_ble_eq_true rfl) (lv := [(0, .int x0), (1, .int x1)]) rfl (fun G hC hin => ?_)
  unfold F_X3_ofState at hF
  refine g_iload_n 1 hC dX3_ofState_0 rfl 0 rfl rfl ?_
  refine g_iconst 2 hC (5 : Int32) dX3_ofState_1 (by decide) rfl ?_
  refine g_iload_n 3 hC dX3_ofState_2 rfl 1 rfl rfl ?_
  refine g_cS (rest := [_]) wl_X3_102 hd_X3_power 6 hC (met_X3_power hF) rfl ⟨Nat.le_of_ble_eq_true rfl, Nat.le_of_ble_eq_true rfl⟩ ⟨Nat.zero_le _, Nat.zero_le _⟩ rfl (Nat.le_of_ble_eq_true rfl) dX3_ofState_3 rfl (g_ty_i 0 0 (Nat.le_refl _) (Nat.le_refl _) (fun x_2 M_1 hF => ?_))
  refine g_idiv 7 hC hF.1 dX3_ofState_6 rfl ?_
  have hF := hF.2
  refine g_iconst 8 hC (5 : Int32) dX3_ofState_7 (by decide) rfl ?_
  refine g_irem 9 hC (by decide) dX3_ofState_8 rfl ?_
  exact g_ireturn hC ⟨_, rfl, hF⟩ dX3_ofState_9 (Nat.zero_le _) (Nat.zero_le _)
theorem hd_X3_ofState : yX3_ofState.cls ≠ "java/lang/invoke/MethodHandle" ∧ yX3_ofState.cls ≠ "java/lang/invoke/VarHandle" ∧ (parseMethodDescriptor yX3_ofState.desc).map (fun d => d.parameters.length) = some 2 := by decide +kernel
theorem wl_X3_226 : GoodIn lw_all (va_wsS RX3 226 yX3_ofState (ws_ yX3_ofState cX3_ofState 2 (some .int))) := lw_S q1683 q1684 q72 q1685
abbrev rm_X3_of : Room := { frames := 2, cells := 0, slots := 0, locals := 44 }
def F_X3_of_b32 (Q : Int32 → gM → Prop)    (a0 : Nat)   (M : gM) : Prop :=
  rc M 3 a0 ∧ F_X3_refuse M a0 (-2 : Int32) fun x_2 M_1 =>
  Q x_2 M_1
theorem w_X3_of_b32 {G : gG} {Q : Int32 → gM → Prop} (hC : gCx G cX3_of 3 RX3 (some .int) (gQi Q) rm_X3_of)  (a0 : Nat)     (M : gM) (hF : F_X3_of_b32 Q a0 M) : gAt G 0 0 M [(0, .ref a0)] 32 [] := by
  unfold F_X3_of_b32 at hF
  refine g_aload_n 33 hC dX3_of_32 rfl 0 rfl rfl ?_
  refine g_bipush 35 hC (-2 : Int32) dX3_of_33 (by decide) rfl ?_
  refine g_cV (rest := []) wl_X3_119 hd_X3_refuse (ci := 3) rfl 38 hC hF.1 (met_X3_refuse hF.2) rfl ⟨Nat.le_of_ble_eq_true rfl, Nat.le_of_ble_eq_true rfl⟩ ⟨Nat.zero_le _, Nat.zero_le _⟩ rfl (Nat.le_of_ble_eq_true rfl) dX3_of_35 rfl (g_ty_i 0 0 (Nat.le_refl _) (Nat.le_refl _) (fun x_2 M_1 hF => ?_))
  exact g_ireturn hC ⟨_, rfl, hF⟩ dX3_of_38 (Nat.zero_le _) (Nat.zero_le _)
def F_X3_of  (M : gM) (a0 : Nat) (x1 : Int32) (x2 : Int32) (Q : Int32 → gM → Prop)  : Prop :=
  F_X3_in M x1.toInt64 (0 : Int64) (124 : Int64) fun x_2 M_1 =>
  ((x_2 = 0 →
    F_X3_of_b32 Q a0 M_1) ∧
    (¬ x_2 = 0 →
    F_X3_in M_1 x2.toInt64 (0 : Int64) (2 : Int64) fun x_4 M_3 =>
    ((x_4 = 0 →
      F_X3_of_b32 Q a0 M_3) ∧
      (¬ x_4 = 0 →
      F_X3_ofState M_3 x1 x2 fun x_6 M_5 =>
      Q x_6 M_5))))
theorem met_X3_of {M : gM} {a0 : Nat} {x1 : Int32} {x2 : Int32} {Q : Int32 → gM → Prop} (hF : F_X3_of M a0 x1 x2 Q) : gMt yX3_of (ws_ yX3_of cX3_of 3 (some .int)) rm_X3_of M [.ref a0, .int x1, .int x2] (gQi Q) := by
  refine gMet (bytes := cX3_of) (maxL := 3) (ret := (some .int)) rfl rfl (by decide) (Nat.le_of_ble_eq_true rfl) (lv := [(0, .ref a0), (1, .int x1), (2, .int x2)]) rfl (fun G hC hin => ?_)
  unfold F_X3_of at hF
  refine g_iload_n 1 hC dX3_of_0 rfl 1 rfl rfl ?_
  refine g_i2l 2 hC dX3_of_1 rfl ?_
  refine g_lconst 3 hC (0 : Int64) dX3_of_2 (by decide) rfl ?_
  refine g_ldc2 6 hC q1682 dX3_of_3 rfl ?_
  refine g_cS (rest := []) wl_X3_94 hd_X3_in 9 hC (met_X3_in hF) rfl ⟨Nat.le_of_ble_eq_true rfl, Nat.le_of_ble_eq_true rfl⟩ ⟨Nat.zero_le _, Nat.zero_le _⟩ rfl (Nat.le_of_ble_eq_true rfl) dX3_of_6 rfl (g_ty_i 0 0 (Nat.le_refl _) (Nat.le_refl _) (fun x_2 M_1 hF => ?_))
  refine g_if_eq 12 32 hC dX3_of_9 (by decide) rfl (fun c => ?_) (fun c => ?_)
  · have hF := hF.1 c
    refine g_sub [0] rfl ?_
    exact w_X3_of_b32 hC _ _ hF
  · have hF := hF.2 c
    refine g_iload_n 13 hC dX3_of_12 rfl 2 rfl rfl ?_
    refine g_i2l 14 hC dX3_of_13 rfl ?_
    refine g_lconst 15 hC (0 : Int64) dX3_of_14 (by decide) rfl ?_
    refine g_ldc2 18 hC q1670 dX3_of_15 rfl ?_
    refine g_cS (rest := []) wl_X3_94 hd_X3_in 21 hC (met_X3_in hF) rfl ⟨Nat.le_of_ble_eq_true rfl, Nat.le_of_ble_eq_true rfl⟩ ⟨Nat.zero_le _, Nat.zero_le _⟩ rfl (Nat.le_of_ble_eq_true rfl) dX3_of_18 rfl (g_ty_i 0 0 (Nat.le_refl _) (Nat.le_refl _) (fun x_4 M_3 hF => ?_))
    refine g_if_eq 24 32 hC dX3_of_21 (by decide) rfl (fun c => ?_) (fun c => ?_)
    · have hF := hF.1 c
      refine g_sub [0] rfl ?_
      exact w_X3_of_b32 hC _ _ hF
    · have hF := hF.2 c
      refine g_iload_n 25 hC dX3_of_24 rfl 1 rfl rfl ?_
      refine g_iload_n 26 hC dX3_of_25 rfl 2 rfl rfl ?_
      refine g_cS (rest := []) wl_X3_226 hd_X3_ofState 29 hC (met_X3_ofState hF) rfl ⟨Nat.le_of_ble_eq_true rfl, Nat.le_of_ble_eq_true rfl⟩ ⟨Nat.zero_le _, Nat.zero_le _⟩ rfl (Nat.le_of_ble_eq_true rfl) dX3_of_26 rfl (g_ty_i 0 0 (Nat.le_refl _) (Nat.le_refl _) (fun x_6 M_5 hF => ?_))
      refine g_goto 38 hC dX3_of_29 (by decide) ?_
      exact g_ireturn hC ⟨_, rfl, hF⟩ dX3_of_38 (Nat.zero_le _) (Nat.zero_le _)
abbrev rm_X3_states : Room := { frames := 1, cells := 0, slots := 0, locals := 23 }
def F_X3_states  (M : gM) (a0 : Nat) (x1 : Int32) (Q : Int32 → gM → Prop)  : Prop :=
  rc M 3 a0 ∧ F_X3_sorts M a0 x1 fun x_2 M_1 =>
  F_X3_power M_1 (5 : Int32) x_2 fun x_4 M_3 =>
  Q x_4 M_3
theorem met_X3_states {M : gM} {a0 : Nat} {x1 : Int32} {Q : Int32 → gM → Prop} (hF : F_X3_states M a0 x1 Q) : gMt yX3_states (ws_ yX3_states cX3_states 2 (some .int)) rm_X3_states M [.ref a0, .int x1] (gQi Q) := by
  refine gMet (bytes := cX3_states) (maxL := 2) (ret := (some .int)) rfl rfl (by decide) (Nat.le_of_ble_eq_true rfl) (lv := [(0, .ref a0), (1, .int x1)]) rfl (fun G hC hin => ?_)
  unfold F_X3_states at hF
  refine g_iconst 1 hC (5 : Int32) dX3_states_0 (by decide) rfl ?_
  refine g_aload_n 2 hC dX3_states_1 rfl 0 rfl rfl ?_
  refine g_iload_n 3 hC dX3_states_2 rfl 1 rfl rfl ?_
  refine g_cV (rest := [_]) wl_X3_98 hd_X3_sorts (ci := 3) rfl 6 hC hF.1 (met_X3_sorts hF.2) rfl ⟨Nat.le_of_ble_eq_true rfl, Nat.le_of_ble_eq_true rfl⟩ ⟨Nat.zero_le _, Nat.zero_le _⟩ rfl (Nat.le_of_ble_eq_true rfl) dX3_states_3 rfl (g_ty_i 0 0 (Nat.le_refl _) (Nat.le_refl _) (fun x_2 M_1 hF => ?_))
  refine g_cS (rest := []) wl_X3_102 hd_X3_power 9 hC (met_X3_power hF) rfl ⟨Nat.le_of_ble_eq_true rfl, Nat.le_of_ble_eq_true rfl⟩ ⟨Nat.zero_le _, Nat.zero_le _⟩ rfl (Nat.le_of_ble_eq_true rfl) dX3_states_6 rfl (g_ty_i 0 0 (Nat.le_refl _) (Nat.le_refl _) (fun x_4 M_3 hF => ?_))
  exact g_ireturn hC ⟨_, rfl, hF⟩ dX3_states_9 (Nat.zero_le _) (Nat.zero_le _)
theorem hd_X3_states : yX3_states.cls = RX3 ∧ yX3_states.cls ≠ "java/lang/invoke/MethodHandle" ∧ yX3_states.cls ≠ "java/lang/invoke/VarHandle" ∧ (parseMethodDescriptor yX3_states.desc).map (fun d => d.parameters.length) = some 1 := by decide +kernel
theorem wl_X3_110 : GoodIn lw_all (wsV RX3 110 RX3 yX3_states (ws_ yX3_states cX3_states 2 (some .int))) := lw_V q1697 q1699 qs38 q72 q1700
abbrev rm_X3_isState : Room := { frames := 2, cells := 0, slots := 0, locals := 46 }
def F_X3_isState  (M : gM) (a0 : Nat) (x1 : Int32) (x2 : Int32) (Q : Int32 → gM → Prop)  : Prop :=
  rc M 3 a0 ∧ F_X3_isHouse M a0 x1 fun x_2 M_1 =>
  ((x_2 = 0 →
    Q (0 : Int32) M_1) ∧
    (¬ x_2 = 0 →
    rc M_1 3 a0 ∧ F_X3_states M_1 a0 x1 fun x_4 M_3 =>
    F_X3_in M_3 x2.toInt64 (0 : Int64) ((x_4 - (1 : Int32)).toInt64) fun x_6 M_5 =>
    ((x_6 = 0 →
      Q (0 : Int32) M_5) ∧
      (¬ x_6 = 0 →
      Q (1 : Int32) M_5))))
theorem met_X3_isState {M : gM} {a0 : Nat} {x1 : Int32} {x2 : Int32} {Q : Int32 → gM → Prop} (hF : F_X3_isState M a0 x1 x2 Q) : gMt yX3_isState (ws_ yX3_isState cX3_isState 3 (some .boolean)) rm_X3_isState M [.ref a0, .int x1, .int x2] (gQi Q) := by
  refine gMet (bytes := cX3_isState) (maxL := 3) (ret := (some .boolean)) rfl rfl (by decide) (Nat.le_of_ble_eq_true rfl) (lv := [(0, .ref a0), (1, .int x1), (2, .int x2)]) rfl (fun G hC hin => ?_)
  unfold F_X3_isState at hF
  refine g_aload_n 1 hC dX3_isState_0 rfl 0 rfl rfl ?_
  refine g_iload_n 2 hC dX3_isState_1 rfl 1 rfl rfl ?_
  refine g_cV (rest := []) wl_X3_106 hd_X3_isHouse (ci := 3) rfl 5 hC hF.1 (met_X3_isHouse hF.2) rfl ⟨Nat.le_of_ble_eq_true rfl, Nat.le_of_ble_eq_true rfl⟩ ⟨Nat.zero_le _, Nat.zero_le _⟩ rfl (Nat.le_of_ble_eq_true rfl) dX3_isState_2 rfl (g_ty_i 0 0 (Nat.le_refl _) (Nat.le_refl _) (fun x_2 M_1 hF => ?_))
  refine g_if_eq 8 29 hC dX3_isState_5 (by decide) rfl (fun c => ?_) (fun c => ?_)
  · have hF := hF.1 c
    refine g_iconst 30 hC (0 : Int32) dX3_isState_29 (by decide) rfl ?_
    exact g_zreturn hC ⟨_, rfl, hF⟩ (Or.inl rfl) dX3_isState_30 (Nat.zero_le _) (Nat.zero_le _)
  · have hF := hF.2 c
    refine g_iload_n 9 hC dX3_isState_8 rfl 2 rfl rfl ?_
    refine g_i2l 10 hC dX3_isState_9 rfl ?_
    refine g_lconst 11 hC (0 : Int64) dX3_isState_10 (by decide) rfl ?_
    refine g_aload_n 12 hC dX3_isState_11 rfl 0 rfl rfl ?_
    refine g_iload_n 13 hC dX3_isState_12 rfl 1 rfl rfl ?_
    refine g_cV (rest := [_, _]) wl_X3_110 hd_X3_states (ci := 3) rfl 16 hC hF.1 (met_X3_states hF.2) rfl ⟨Nat.le_of_ble_eq_true rfl, Nat.le_of_ble_eq_true rfl⟩ ⟨Nat.zero_le _, Nat.zero_le _⟩ rfl (Nat.le_of_ble_eq_true rfl) dX3_isState_13 rfl (g_ty_i 0 0 (Nat.le_refl _) (Nat.le_refl _) (fun x_4 M_3 hF => ?_))
    refine g_iconst 17 hC (1 : Int32) dX3_isState_16 (by decide) rfl ?_
    refine g_isub 18 hC dX3_isState_17 rfl ?_
    refine g_i2l 19 hC dX3_isState_18 rfl ?_
    refine g_cS (rest := []) wl_X3_94 hd_X3_in 22 hC (met_X3_in hF) rfl ⟨Nat.le_of_ble_eq_true rfl, Nat.le_of_ble_eq_true rfl⟩ ⟨Nat.zero_le _, Nat.zero_le _⟩ rfl (Nat.le_of_ble_eq_true rfl) dX3_isState_19 rfl (g_ty_i 0 0 (Nat.le_refl _) (Nat.le_refl _) (fun x_6 M_5 hF => ?_))
    refine g_if_eq 25 29 hC dX3_isState_22 (by decide) rfl (fun c => ?_) (fun c => ?_)
    · have hF := hF.1 c
      refine g_iconst 30 hC (0 : Int32) dX3_isState_29 (by decide) rfl ?_
      exact g_zreturn hC ⟨_, rfl, hF⟩ (Or.inl rfl) dX3_isState_30 (Nat.zero_le _) (Nat.zero_le _)
    · have hF := hF.2 c
      refine g_iconst 26 hC (1 : Int32) dX3_isState_25 (by decide) rfl ?_
      refine g_goto 30 hC dX3_isState_26 (by decide) ?_
      exact g_zreturn hC ⟨_, rfl, hF⟩ (Or.inr rfl) dX3_isState_30 (Nat.zero_le _) (Nat.zero_le _)
abbrev rm_X3_numberOf : Room := { frames := 0, cells := 0, slots := 0, locals := 0 }
def F_X3_numberOf  (M : gM) (a0 : Nat) (x1 : Int32) (x2 : Int32) (x3 : Int32) (Q : Int32 → gM → Prop)  : Prop :=
  gN M 3 a0 12 fun a_1 =>
  aN M (.array .int) a_1 x1 fun a_2 =>
  aI M .int a_2 (((5 : Int32) + ((5 : Int32) * x2)) + x3) fun x_3 =>
  Q x_3 M
theorem met_X3_numberOf {M : gM} {a0 : Nat} {x1 : Int32} {x2 : Int32} {x3 : Int32} {Q : Int32 → gM → Prop} (hF : F_X3_numberOf M a0 x1 x2 x3 Q) : gMt yX3_numberOf (ws_ yX3_numberOf cX3_numberOf 4 (some .int)) rm_X3_numberOf M [.ref a0, .int x1, .int x2, .int x3] (gQi Q) := by
  refine gMet (bytes := cX3_numberOf) (maxL := 4) (ret := (some .int)) rfl rfl (by decide) (Nat.le_of_ble_eq_true rfl) (lv := [(0, .ref a0), (1, .int x1), (2, .int x2), (3, .int x3)]) rfl (fun G hC hin => ?_)
  unfold F_X3_numberOf at hF
  refine g_aload_n 1 hC dX3_numberOf_0 rfl 0 rfl rfl ?_
  refine gf_X3_45_3N 4 hC hF dX3_numberOf_1 rfl (fun a_1 hF => ?_)
  refine g_iload_n 5 hC dX3_numberOf_4 rfl 1 rfl rfl ?_
  refine g_aaldN 6 hC hF (by decide) rfl (fun _ _ _ => rfl) dX3_numberOf_5 rfl (fun a_2 hF => ?_)
  refine g_iconst 7 hC (5 : Int32) dX3_numberOf_6 (by decide) rfl ?_
  refine g_iconst 8 hC (5 : Int32) dX3_numberOf_7 (by decide) rfl ?_
  refine g_iload_n 9 hC dX3_numberOf_8 rfl 2 rfl rfl ?_
  refine g_imul 10 hC dX3_numberOf_9 rfl ?_
  refine g_iadd 11 hC dX3_numberOf_10 rfl ?_
  refine g_iload_n 12 hC dX3_numberOf_11 rfl 3 rfl rfl ?_
  refine g_iadd 13 hC dX3_numberOf_12 rfl ?_
  refine g_iald 14 hC hF dX3_numberOf_13 rfl (fun x_3 hF => ?_)
  exact g_ireturn hC ⟨_, rfl, hF⟩ dX3_numberOf_14 (Nat.zero_le _) (Nat.zero_le _)
theorem hd_X3_numberOf : yX3_numberOf.cls = RX3 ∧ yX3_numberOf.cls ≠ "java/lang/invoke/MethodHandle" ∧ yX3_numberOf.cls ≠ "java/lang/invoke/VarHandle" ∧ (parseMethodDescriptor yX3_numberOf.desc).map (fun d => d.parameters.length) = some 3 := by decide +kernel
theorem wl_X3_229 : GoodIn lw_all (wsV RX3 229 RX3 yX3_numberOf (ws_ yX3_numberOf cX3_numberOf 4 (some .int))) := lw_V q1705 q1707 qs40 q72 q1708
abbrev rm_X3_sum : Room := { frames := 2, cells := 0, slots := 0, locals := 44 }
def F_X3_sum_b6 (Q : Int32 → gM → Prop)    (a0 : Nat) (x1 : Int32) (x2 : Int32) (x3 : Int32) : Nat → Int32 → Int32 → gM → Prop
  | 0, _, _, _ => False
  | n + 1, x4, x5, M =>
    rc M 3 a0 ∧ F_X3_sorts M a0 x1 fun x_2 M_1 =>
    ((x_2 ≤ x5 →
      Q x4 M_1) ∧
      (¬ x_2 ≤ x5 →
      F_X3_ofState M_1 x2 x5 fun x_4 M_3 =>
      rc M_3 3 a0 ∧ F_X3_numberOf M_3 a0 x1 x5 x3 fun x_6 M_5 =>
      (F_X3_sum_b6 Q a0 x1 x2 x3 n) (x4 + (x_4 * x_6)) (x5 + (1 : Int32)) M_5))
theorem w_X3_sum_b6 {G : gG} {Q : Int32 → gM → Prop} (hC : gCx G cX3_sum 6 RX3 (some .int) (gQi Q) rm_X3_sum)  (a0 : Nat) (x1 : Int32) (x2 : Int32) (x3 : Int32)  : ∀ (n : Nat) (x4 : Int32) (x5 : Int32)   (M : gM), F_X3_sum_b6 Q a0 x1 x2 x3 n x4 x5 M → gAt G 0 0 M [(0, .ref a0), (1, .int x1), (2, .int x2), (3, .int x3), (4, .int x4), (5, .int x5)] 6 [] := by
  intro n
  induction n with
  | zero =>
    intro x4 x5 M hF
    exact hF.elim
  | succ n ih =>
    intro x4 x5 M hF
    have hK6 := ih
    unfold F_X3_sum_b6 at hF
    refine g_iload 8 hC dX3_sum_6 rfl 5 rfl ?_
    refine g_aload_n 9 hC dX3_sum_8 rfl 0 rfl rfl ?_
    refine g_iload_n 10 hC dX3_sum_9 rfl 1 rfl rfl ?_
    refine g_cV (rest := [_]) wl_X3_98 hd_X3_sorts (ci := 3) rfl 13 hC hF.1 (met_X3_sorts hF.2) rfl ⟨Nat.le_of_ble_eq_true rfl, Nat.le_of_ble_eq_true rfl⟩ ⟨Nat.zero_le _, Nat.zero_le _⟩ rfl (Nat.le_of_ble_eq_true rfl) dX3_sum_10 rfl (g_ty_i 0 0 (Nat.le_refl _) (Nat.le_refl _) (fun x_2 M_1 hF => ?_))
    refine g_icmp_ge 16 42 hC dX3_sum_13 (by decide) rfl (fun c => ?_) (fun c => ?_)
    · have hF := hF.1 c
      refine g_iload 44 hC dX3_sum_42 rfl 4 rfl ?_
      exact g_ireturn hC ⟨_, rfl, hF⟩ dX3_sum_44 (Nat.zero_le _) (Nat.zero_le _)
    · have hF := hF.2 c
      refine g_iload 18 hC dX3_sum_16 rfl 4 rfl ?_
      refine g_iload_n 19 hC dX3_sum_18 rfl 2 rfl rfl ?_
      refine g_iload 21 hC dX3_sum_19 rfl 5 rfl ?_
      refine g_cS (rest := [_]) wl_X3_226 hd_X3_ofState 24 hC (met_X3_ofState hF) rfl ⟨Nat.le_of_ble_eq_true rfl, Nat.le_of_ble_eq_true rfl⟩ ⟨Nat.zero_le _, Nat.zero_le _⟩ rfl (Nat.le_of_ble_eq_true rfl) dX3_sum_21 rfl (g_ty_i 0 0 (Nat.le_refl _) (Nat.le_refl _) (fun x_4 M_3 hF => ?_))
      refine g_aload_n 25 hC dX3_sum_24 rfl 0 rfl rfl ?_
      refine g_iload_n 26 hC dX3_sum_25 rfl 1 rfl rfl ?_
      refine g_iload 28 hC dX3_sum_26 rfl 5 rfl ?_
      refine g_iload_n 29 hC dX3_sum_28 rfl 3 rfl rfl ?_
      refine g_cV (rest := [_, _]) wl_X3_229 hd_X3_numberOf (ci := 3) rfl 32 hC hF.1 (met_X3_numberOf hF.2) rfl ⟨Nat.le_of_ble_eq_true rfl, Nat.le_of_ble_eq_true rfl⟩ ⟨Nat.zero_le _, Nat.zero_le _⟩ rfl (Nat.le_of_ble_eq_true rfl) dX3_sum_29 rfl (g_ty_i 0 0 (Nat.le_refl _) (Nat.le_refl _) (fun x_6 M_5 hF => ?_))
      refine g_imul 33 hC dX3_sum_32 rfl ?_
      refine g_iadd 34 hC dX3_sum_33 rfl ?_
      refine g_istore 36 hC (lv' := [(4, .int _), (0, .ref _), (1, .int _), (2, .int _), (3, .int _), (5, .int _)]) dX3_sum_34 rfl (by decide) rfl ?_
      refine g_iinc 39 hC (x5 + (1 : Int32)) (lv' := [(5, .int _), (4, .int _), (0, .ref _), (1, .int _), (2, .int _), (3, .int _)]) dX3_sum_36 rfl 5 rfl rfl (by decide) rfl ?_
      refine g_goto 6 hC dX3_sum_39 (by decide) ?_
      refine g_sub [2, 3, 4, 5, 1, 0] rfl ?_
      exact hK6 _ _ _ hF
def F_X3_sum  (M : gM) (a0 : Nat) (x1 : Int32) (x2 : Int32) (x3 : Int32) (Q : Int32 → gM → Prop)  : Prop :=
  ∃ n_1, F_X3_sum_b6 Q a0 x1 x2 x3 n_1 (0 : Int32) (0 : Int32) M
theorem met_X3_sum {M : gM} {a0 : Nat} {x1 : Int32} {x2 : Int32} {x3 : Int32} {Q : Int32 → gM → Prop} (hF : F_X3_sum M a0 x1 x2 x3 Q) : gMt yX3_sum (ws_ yX3_sum cX3_sum 6 (some .int)) rm_X3_sum M [.ref a0, .int x1, .int x2, .int x3] (gQi Q) := by
  refine gMet (bytes := cX3_sum) (maxL := 6) (ret := (some .int)) rfl rfl (by decide) (Nat.le_of_ble_eq_true rfl) (lv := [(0, .ref a0), (1, .int x1), (2, .int x2), (3, .int x3)]) rfl (fun G hC hin => ?_)
  unfold F_X3_sum at hF
  refine g_iconst 1 hC (0 : Int32) dX3_sum_0 (by decide) rfl ?_
  refine g_istore 3 hC (lv' := [(4, .int _), (0, .ref _), (1, .int _), (2, .int _), (3, .int _)]) dX3_sum_1 rfl (by decide) rfl ?_
  refine g_iconst 4 hC (0 : Int32) dX3_sum_3 (by decide) rfl ?_
  refine g_istore 6 hC (lv' := [(5, .int _), (4, .int _), (0, .ref _), (1, .int _), (2, .int _), (3, .int _)]) dX3_sum_4 rfl (by decide) rfl ?_
  refine g_sub [2, 3, 4, 5, 1, 0] rfl ?_
  obtain ⟨n_1, hF⟩ := hF
  exact w_X3_sum_b6 hC _ _ _ _ n_1 _ _ _ hF
theorem hd_X3_isState : yX3_isState.cls = RX3 ∧ yX3_isState.cls ≠ "java/lang/invoke/MethodHandle" ∧ yX3_isState.cls ≠ "java/lang/invoke/VarHandle" ∧ (parseMethodDescriptor yX3_isState.desc).map (fun d => d.parameters.length) = some 2 := by decide +kernel
theorem wl_X3_233 : GoodIn lw_all (wsV RX3 233 RX3 yX3_isState (ws_ yX3_isState cX3_isState 3 (some .boolean))) := lw_V q1693 q1695 qs37 q72 q1696
theorem hd_X3_sum : yX3_sum.cls = RX3 ∧ yX3_sum.cls ≠ "java/lang/invoke/MethodHandle" ∧ yX3_sum.cls ≠ "java/lang/invoke/VarHandle" ∧ (parseMethodDescriptor yX3_sum.desc).map (fun d => d.parameters.length) = some 3 := by decide +kernel
theorem wl_X3_236 : GoodIn lw_all (wsV RX3 236 RX3 yX3_sum (ws_ yX3_sum cX3_sum 6 (some .int))) := lw_V q1701 q1703 qs39 q72 q1704
abbrev rm_X3_space : Room := { frames := 3, cells := 0, slots := 0, locals := 69 }
def F_X3_space  (M : gM) (a0 : Nat) (x1 : Int32) (x2 : Int32) (Q : Int32 → gM → Prop)  : Prop :=
  rc M 3 a0 ∧ F_X3_isState M a0 x1 x2 fun x_2 M_1 =>
  ((x_2 = 0 →
    rc M_1 3 a0 ∧ F_X3_refuse M_1 a0 (-2 : Int32) fun x_4 M_3 =>
    Q x_4 M_3) ∧
    (¬ x_2 = 0 →
    rc M_1 3 a0 ∧ F_X3_sum M_1 a0 x1 x2 (0 : Int32) fun x_6 M_5 =>
    Q x_6 M_5))
theorem met_X3_space {M : gM} {a0 : Nat} {x1 : Int32} {x2 : Int32} {Q : Int32 → gM → Prop} (hF : F_X3_space M a0 x1 x2 Q) : gMt yX3_space (ws_ yX3_space cX3_space 3 (some .int)) rm_X3_space M [.ref a0, .int x1, .int x2] (gQi Q) := by
  refine gMet (bytes := cX3_space) (maxL := 3) (ret := (some .int)) rfl rfl (by decide) (Nat.le_of_ble_eq_true rfl) (lv := [(0, .ref a0), (1, .int x1), (2, .int x2)]) rfl (fun G hC hin => ?_)
  unfold F_X3_space at hF
  refine g_aload_n 1 hC dX3_space_0 rfl 0 rfl rfl ?_
  refine g_iload_n 2 hC dX3_space_1 rfl 1 rfl rfl ?_
  refine g_iload_n 3 hC dX3_space_2 rfl 2 rfl rfl ?_
  refine g_cV (rest := []) wl_X3_233 hd_X3_isState (ci := 3) rfl 6 hC hF.1 (met_X3_isState hF.2) rfl ⟨Nat.le_of_ble_eq_true rfl, Nat.le_of_ble_eq_true rfl⟩ ⟨Nat.zero_le _, Nat.zero_le _⟩ rfl (Nat.le_of_ble_eq_true rfl) dX3_space_3 rfl (g_ty_i 0 0 (Nat.le_refl _) (Nat.le_refl _) (fun x_2 M_1 hF => ?_))
  refine g_if_eq 9 19 hC dX3_space_6 (by decide) rfl (fun c => ?_) (fun c => ?_)
  · have hF := hF.1 c
    refine g_aload_n 20 hC dX3_space_19 rfl 0 rfl rfl ?_
    refine g_bipush 22 hC (-2 : Int32) dX3_space_20 (by decide) rfl ?_
    refine g_cV (rest := []) wl_X3_119 hd_X3_refuse (ci := 3) rfl 25 hC hF.1 (met_X3_refuse hF.2) rfl ⟨Nat.le_of_ble_eq_true rfl, Nat.le_of_ble_eq_true rfl⟩ ⟨Nat.zero_le _, Nat.zero_le _⟩ rfl (Nat.le_of_ble_eq_true rfl) dX3_space_22 rfl (g_ty_i 0 0 (Nat.le_refl _) (Nat.le_refl _) (fun x_4 M_3 hF => ?_))
    exact g_ireturn hC ⟨_, rfl, hF⟩ dX3_space_25 (Nat.zero_le _) (Nat.zero_le _)
  · have hF := hF.2 c
    refine g_aload_n 10 hC dX3_space_9 rfl 0 rfl rfl ?_
    refine g_iload_n 11 hC dX3_space_10 rfl 1 rfl rfl ?_
    refine g_iload_n 12 hC dX3_space_11 rfl 2 rfl rfl ?_
    refine g_iconst 13 hC (0 : Int32) dX3_space_12 (by decide) rfl ?_
    refine g_cV (rest := []) wl_X3_236 hd_X3_sum (ci := 3) rfl 16 hC hF.1 (met_X3_sum hF.2) rfl ⟨Nat.le_of_ble_eq_true rfl, Nat.le_of_ble_eq_true rfl⟩ ⟨Nat.zero_le _, Nat.zero_le _⟩ rfl (Nat.le_of_ble_eq_true rfl) dX3_space_13 rfl (g_ty_i 0 0 (Nat.le_refl _) (Nat.le_refl _) (fun x_6 M_5 hF => ?_))
    refine g_goto 25 hC dX3_space_16 (by decide) ?_
    exact g_ireturn hC ⟨_, rfl, hF⟩ dX3_space_25 (Nat.zero_le _) (Nat.zero_le _)
abbrev rm_X3_isLeft : Room := { frames := 2, cells := 0, slots := 0, locals := 46 }
def F_X3_isLeft  (M : gM) (a0 : Nat) (x1 : Int32) (x2 : Int32) (Q : Int32 → gM → Prop)  : Prop :=
  rc M 3 a0 ∧ F_X3_isHouse M a0 x1 fun x_2 M_1 =>
  ((x_2 = 0 →
    Q (0 : Int32) M_1) ∧
    (¬ x_2 = 0 →
    gN M_1 3 a0 12 fun a_3 =>
    aN M_1 (.array .int) a_3 x1 fun a_4 =>
    aI M_1 .int a_4 (0 : Int32) fun x_5 =>
    F_X3_in M_1 x2.toInt64 (0 : Int64) x_5.toInt64 fun x_7 M_6 =>
    ((x_7 = 0 →
      Q (0 : Int32) M_6) ∧
      (¬ x_7 = 0 →
      Q (1 : Int32) M_6))))
theorem met_X3_isLeft {M : gM} {a0 : Nat} {x1 : Int32} {x2 : Int32} {Q : Int32 → gM → Prop} (hF : F_X3_isLeft M a0 x1 x2 Q) : gMt yX3_isLeft (ws_ yX3_isLeft cX3_isLeft 3 (some .boolean)) rm_X3_isLeft M [.ref a0, .int x1, .int x2] (gQi Q) := by
  refine gMet (bytes := cX3_isLeft) (maxL := 3) (ret := (some .boolean)) rfl rfl (by decide) (Nat.le_of_ble_eq_true rfl) (lv := [(0, .ref a0), (1, .int x1), (2, .int x2)]) rfl (fun G hC hin => ?_)
  unfold F_X3_isLeft at hF
  refine g_aload_n 1 hC dX3_isLeft_0 rfl 0 rfl rfl ?_
  refine g_iload_n 2 hC dX3_isLeft_1 rfl 1 rfl rfl ?_
  refine g_cV (rest := []) wl_X3_106 hd_X3_isHouse (ci := 3) rfl 5 hC hF.1 (met_X3_isHouse hF.2) rfl ⟨Nat.le_of_ble_eq_true rfl, Nat.le_of_ble_eq_true rfl⟩ ⟨Nat.zero_le _, Nat.zero_le _⟩ rfl (Nat.le_of_ble_eq_true rfl) dX3_isLeft_2 rfl (g_ty_i 0 0 (Nat.le_refl _) (Nat.le_refl _) (fun x_2 M_1 hF => ?_))
  refine g_if_eq 8 30 hC dX3_isLeft_5 (by decide) rfl (fun c => ?_) (fun c => ?_)
  · have hF := hF.1 c
    refine g_iconst 31 hC (0 : Int32) dX3_isLeft_30 (by decide) rfl ?_
    exact g_zreturn hC ⟨_, rfl, hF⟩ (Or.inl rfl) dX3_isLeft_31 (Nat.zero_le _) (Nat.zero_le _)
  · have hF := hF.2 c
    refine g_iload_n 9 hC dX3_isLeft_8 rfl 2 rfl rfl ?_
    refine g_i2l 10 hC dX3_isLeft_9 rfl ?_
    refine g_lconst 11 hC (0 : Int64) dX3_isLeft_10 (by decide) rfl ?_
    refine g_aload_n 12 hC dX3_isLeft_11 rfl 0 rfl rfl ?_
    refine gf_X3_45_3N 15 hC hF dX3_isLeft_12 rfl (fun a_3 hF => ?_)
    refine g_iload_n 16 hC dX3_isLeft_15 rfl 1 rfl rfl ?_
    refine g_aaldN 17 hC hF (by decide) rfl (fun _ _ _ => rfl) dX3_isLeft_16 rfl (fun a_4 hF => ?_)
    refine g_iconst 18 hC (0 : Int32) dX3_isLeft_17 (by decide) rfl ?_
    refine g_iald 19 hC hF dX3_isLeft_18 rfl (fun x_5 hF => ?_)
    refine g_i2l 20 hC dX3_isLeft_19 rfl ?_
    refine g_cS (rest := []) wl_X3_94 hd_X3_in 23 hC (met_X3_in hF) rfl ⟨Nat.le_of_ble_eq_true rfl, Nat.le_of_ble_eq_true rfl⟩ ⟨Nat.zero_le _, Nat.zero_le _⟩ rfl (Nat.le_of_ble_eq_true rfl) dX3_isLeft_20 rfl (g_ty_i 0 0 (Nat.le_refl _) (Nat.le_refl _) (fun x_7 M_6 hF => ?_))
    refine g_if_eq 26 30 hC dX3_isLeft_23 (by decide) rfl (fun c => ?_) (fun c => ?_)
    · have hF := hF.1 c
      refine g_iconst 31 hC (0 : Int32) dX3_isLeft_30 (by decide) rfl ?_
      exact g_zreturn hC ⟨_, rfl, hF⟩ (Or.inl rfl) dX3_isLeft_31 (Nat.zero_le _) (Nat.zero_le _)
    · have hF := hF.2 c
      refine g_iconst 27 hC (1 : Int32) dX3_isLeft_26 (by decide) rfl ?_
      refine g_goto 31 hC dX3_isLeft_27 (by decide) ?_
      exact g_zreturn hC ⟨_, rfl, hF⟩ (Or.inr rfl) dX3_isLeft_31 (Nat.zero_le _) (Nat.zero_le _)
abbrev rm_X3_scaleOf : Room := { frames := 1, cells := 0, slots := 0, locals := 21 }
def F_X3_scaleOf_b5 (Q : Int64 → gM → Prop)    (a0 : Nat) (x1 : Int32) (x2 : Int32) : Nat → Int64 → Int32 → gM → Prop
  | 0, _, _, _ => False
  | n + 1, j3, x5, M =>
    rc M 3 a0 ∧ F_X3_sorts M a0 x1 fun x_2 M_1 =>
    (((x2 * ((1 : Int32) + x_2)) ≤ x5 →
      Q j3 M_1) ∧
      (¬ (x2 * ((1 : Int32) + x_2)) ≤ x5 →
      (F_X3_scaleOf_b5 Q a0 x1 x2 n) (j3 * (4 : Int64)) (x5 + (1 : Int32)) M_1))
theorem w_X3_scaleOf_b5 {G : gG} {Q : Int64 → gM → Prop} (hC : gCx G cX3_scaleOf 6 RX3 (some .long) (gQj Q) rm_X3_scaleOf)  (a0 : Nat) (x1 : Int32) (x2 : Int32)  : ∀ (n : Nat) (j3 : Int64) (x5 : Int32)   (M : gM), F_X3_scaleOf_b5 Q a0 x1 x2 n j3 x5 M → gAt G 0 0 M [(0, .ref a0), (1, .int x1), (2, .int x2), (3, .long j3), (5, .int x5)] 5 [] := by
  intro n
  induction n with
  | zero =>
    intro j3 x5 M hF
    exact hF.elim
  | succ n ih =>
    intro j3 x5 M hF
    have hK5 := ih
    unfold F_X3_scaleOf_b5 at hF
    refine g_iload 7 hC dX3_scaleOf_5 rfl 4 rfl ?_
    refine g_iload_n 8 hC dX3_scaleOf_7 rfl 2 rfl rfl ?_
    refine g_iconst 9 hC (1 : Int32) dX3_scaleOf_8 (by decide) rfl ?_
    refine g_aload_n 10 hC dX3_scaleOf_9 rfl 0 rfl rfl ?_
    refine g_iload_n 11 hC dX3_scaleOf_10 rfl 1 rfl rfl ?_
    refine g_cV (rest := [_, _, _]) wl_X3_98 hd_X3_sorts (ci := 3) rfl 14 hC hF.1 (met_X3_sorts hF.2) rfl ⟨Nat.le_of_ble_eq_true rfl, Nat.le_of_ble_eq_true rfl⟩ ⟨Nat.zero_le _, Nat.zero_le _⟩ rfl (Nat.le_of_ble_eq_true rfl) dX3_scaleOf_11 rfl (g_ty_i 0 0 (Nat.le_refl _) (Nat.le_refl _) (fun x_2 M_1 hF => ?_))
    refine g_iadd 15 hC dX3_scaleOf_14 rfl ?_
    refine g_imul 16 hC dX3_scaleOf_15 rfl ?_
    refine g_icmp_ge 19 31 hC dX3_scaleOf_16 (by decide) rfl (fun c => ?_) (fun c => ?_)
    · have hF := hF.1 c
      refine g_lload_n 32 hC dX3_scaleOf_31 rfl 3 rfl rfl ?_
      exact g_lreturn hC ⟨_, rfl, hF⟩ dX3_scaleOf_32 (Nat.zero_le _) (Nat.zero_le _)
    · have hF := hF.2 c
      refine g_lload_n 20 hC dX3_scaleOf_19 rfl 3 rfl rfl ?_
      refine g_ldc2 23 hC q1534 dX3_scaleOf_20 rfl ?_
      refine g_lmul 24 hC dX3_scaleOf_23 rfl ?_
      refine g_lstore_n 25 hC (lv' := [(3, .long _), (0, .ref _), (1, .int _), (2, .int _), (5, .int _)]) dX3_scaleOf_24 rfl rfl (by decide) rfl ?_
      refine g_iinc 28 hC (x5 + (1 : Int32)) (lv' := [(5, .int _), (3, .long _), (0, .ref _), (1, .int _), (2, .int _)]) dX3_scaleOf_25 rfl 4 rfl rfl (by decide) rfl ?_
      refine g_goto 5 hC dX3_scaleOf_28 (by decide) ?_
      refine g_sub [2, 3, 4, 1, 0] rfl ?_
      exact hK5 _ _ _ hF
def F_X3_scaleOf  (M : gM) (a0 : Nat) (x1 : Int32) (x2 : Int32) (Q : Int64 → gM → Prop)  : Prop :=
  ∃ n_1, F_X3_scaleOf_b5 Q a0 x1 x2 n_1 (1 : Int64) (0 : Int32) M
theorem met_X3_scaleOf {M : gM} {a0 : Nat} {x1 : Int32} {x2 : Int32} {Q : Int64 → gM → Prop} (hF : F_X3_scaleOf M a0 x1 x2 Q) : gMt yX3_scaleOf (ws_ yX3_scaleOf cX3_scaleOf 6 (some .long)) rm_X3_scaleOf M [.ref a0, .int x1, .int x2] (gQj Q) := by
  refine gMet (bytes := cX3_scaleOf) (maxL := 6) (ret := (some .long)) rfl rfl (by decide) (Nat.le_of_ble_eq_true rfl) (lv := [(0, .ref a0), (1, .int x1), (2, .int x2)]) rfl (fun G hC hin => ?_)
  unfold F_X3_scaleOf at hF
  refine g_lconst 1 hC (1 : Int64) dX3_scaleOf_0 (by decide) rfl ?_
  refine g_lstore_n 2 hC (lv' := [(3, .long _), (0, .ref _), (1, .int _), (2, .int _)]) dX3_scaleOf_1 rfl rfl (by decide) rfl ?_
  refine g_iconst 3 hC (0 : Int32) dX3_scaleOf_2 (by decide) rfl ?_
  refine g_istore 5 hC (lv' := [(5, .int _), (3, .long _), (0, .ref _), (1, .int _), (2, .int _)]) dX3_scaleOf_3 rfl (by decide) rfl ?_
  refine g_sub [2, 3, 4, 1, 0] rfl ?_
  obtain ⟨n_1, hF⟩ := hF
  exact w_X3_scaleOf_b5 hC _ _ _ n_1 _ _ _ hF
theorem hd_X3_isLeft : yX3_isLeft.cls = RX3 ∧ yX3_isLeft.cls ≠ "java/lang/invoke/MethodHandle" ∧ yX3_isLeft.cls ≠ "java/lang/invoke/VarHandle" ∧ (parseMethodDescriptor yX3_isLeft.desc).map (fun d => d.parameters.length) = some 2 := by decide +kernel
theorem wl_X3_239 : GoodIn lw_all (wsV RX3 239 RX3 yX3_isLeft (ws_ yX3_isLeft cX3_isLeft 3 (some .boolean))) := lw_V q1713 q1715 qs41 q72 q1716
theorem hd_X3_scaleOf : yX3_scaleOf.cls = RX3 ∧ yX3_scaleOf.cls ≠ "java/lang/invoke/MethodHandle" ∧ yX3_scaleOf.cls ≠ "java/lang/invoke/VarHandle" ∧ (parseMethodDescriptor yX3_scaleOf.desc).map (fun d => d.parameters.length) = some 2 := by decide +kernel
theorem wl_X3_242 : GoodIn lw_all (wsV RX3 242 RX3 yX3_scaleOf (ws_ yX3_scaleOf cX3_scaleOf 6 (some .long))) := lw_V q1717 q1719 qs42 q72 q1720
abbrev rm_X3_scale : Room := { frames := 3, cells := 0, slots := 0, locals := 68 }
def F_X3_scale  (M : gM) (a0 : Nat) (x1 : Int32) (x2 : Int32) (Q : Int64 → gM → Prop)  : Prop :=
  rc M 3 a0 ∧ F_X3_isLeft M a0 x1 x2 fun x_2 M_1 =>
  ((x_2 = 0 →
    rc M_1 3 a0 ∧ F_X3_refuse M_1 a0 (-2 : Int32) fun x_4 M_3 =>
    Q x_4.toInt64 M_3) ∧
    (¬ x_2 = 0 →
    rc M_1 3 a0 ∧ F_X3_scaleOf M_1 a0 x1 x2 fun j_6 M_5 =>
    Q j_6 M_5))
theorem met_X3_scale {M : gM} {a0 : Nat} {x1 : Int32} {x2 : Int32} {Q : Int64 → gM → Prop} (hF : F_X3_scale M a0 x1 x2 Q) : gMt yX3_scale (ws_ yX3_scale cX3_scale 3 (some .long)) rm_X3_scale M [.ref a0, .int x1, .int x2] (gQj Q) := by
  refine gMet (bytes := cX3_scale) (maxL := 3) (ret := (some .long)) rfl rfl (by decide) (Nat.le_of_ble_eq_true rfl) (lv := [(0, .ref a0), (1, .int x1), (2, .int x2)]) rfl (fun G hC hin => ?_)
  unfold F_X3_scale at hF
  refine g_aload_n 1 hC dX3_scale_0 rfl 0 rfl rfl ?_
  refine g_iload_n 2 hC dX3_scale_1 rfl 1 rfl rfl ?_
  refine g_iload_n 3 hC dX3_scale_2 rfl 2 rfl rfl ?_
  refine g_cV (rest := []) wl_X3_239 hd_X3_isLeft (ci := 3) rfl 6 hC hF.1 (met_X3_isLeft hF.2) rfl ⟨Nat.le_of_ble_eq_true rfl, Nat.le_of_ble_eq_true rfl⟩ ⟨Nat.zero_le _, Nat.zero_le _⟩ rfl (Nat.le_of_ble_eq_true rfl) dX3_scale_3 rfl (g_ty_i 0 0 (Nat.le_refl _) (Nat.le_refl _) (fun x_2 M_1 hF => ?_))
  refine g_if_eq 9 18 hC dX3_scale_6 (by decide) rfl (fun c => ?_) (fun c => ?_)
  · have hF := hF.1 c
    refine g_aload_n 19 hC dX3_scale_18 rfl 0 rfl rfl ?_
    refine g_bipush 21 hC (-2 : Int32) dX3_scale_19 (by decide) rfl ?_
    refine g_cV (rest := []) wl_X3_119 hd_X3_refuse (ci := 3) rfl 24 hC hF.1 (met_X3_refuse hF.2) rfl ⟨Nat.le_of_ble_eq_true rfl, Nat.le_of_ble_eq_true rfl⟩ ⟨Nat.zero_le _, Nat.zero_le _⟩ rfl (Nat.le_of_ble_eq_true rfl) dX3_scale_21 rfl (g_ty_i 0 0 (Nat.le_refl _) (Nat.le_refl _) (fun x_4 M_3 hF => ?_))
    refine g_i2l 25 hC dX3_scale_24 rfl ?_
    exact g_lreturn hC ⟨_, rfl, hF⟩ dX3_scale_25 (Nat.zero_le _) (Nat.zero_le _)
  · have hF := hF.2 c
    refine g_aload_n 10 hC dX3_scale_9 rfl 0 rfl rfl ?_
    refine g_iload_n 11 hC dX3_scale_10 rfl 1 rfl rfl ?_
    refine g_iload_n 12 hC dX3_scale_11 rfl 2 rfl rfl ?_
    refine g_cV (rest := []) wl_X3_242 hd_X3_scaleOf (ci := 3) rfl 15 hC hF.1 (met_X3_scaleOf hF.2) rfl ⟨Nat.le_of_ble_eq_true rfl, Nat.le_of_ble_eq_true rfl⟩ ⟨Nat.zero_le _, Nat.zero_le _⟩ rfl (Nat.le_of_ble_eq_true rfl) dX3_scale_12 rfl (g_ty_j 0 0 (Nat.le_refl _) (Nat.le_refl _) (fun j_6 M_5 hF => ?_))
    refine g_goto 25 hC dX3_scale_15 (by decide) ?_
    exact g_lreturn hC ⟨_, rfl, hF⟩ dX3_scale_25 (Nat.zero_le _) (Nat.zero_le _)
abbrev rm_X3_fillOf : Room := { frames := 2, cells := 0, slots := 0, locals := 44 }
def F_X3_fillOf_b83 (Q : Int32 → gM → Prop)   (K18 : Int32 → Int32 → Int32 → Int32 → gM → Prop) (K34 : Int32 → Int32 → gM → Prop) (a0 : Nat) (x1 : Int32) (x2 : Int32) (x3 : Int32) (x4 : Int32) (x5 : Int32) (x6 : Int32) (x7 : Int32) (x8 : Int32)   (M : gM) : Prop :=
  K34 x7 (x8 + (1 : Int32)) M
theorem w_X3_fillOf_b83 {G : gG} {Q : Int32 → gM → Prop} (hC : gCx G cX3_fillOf 10 RX3 (some .int) (gQi Q) rm_X3_fillOf) (K18 : Int32 → Int32 → Int32 → Int32 → gM → Prop) (K34 : Int32 → Int32 → gM → Prop) (a0 : Nat) (x1 : Int32) (x2 : Int32) (x3 : Int32) (x4 : Int32) (x5 : Int32) (x6 : Int32) (x7 : Int32) (x8 : Int32)  (hK18 : ∀ x3' x4' x5' x6' M', K18 x3' x4' x5' x6' M' → gAt G 0 0 M' [(0, .ref a0), (1, .int x1), (2, .int x2), (3, .int x3'), (4, .int x4'), (5, .int x5'), (6, .int x6')] 18 []) (hK34 : ∀ x7' x8' M', K34 x7' x8' M' → gAt G 0 0 M' [(0, .ref a0), (1, .int x1), (2, .int x2), (3, .int x3), (4, .int x4), (5, .int x5), (6, .int x6), (7, .int x7'), (8, .int x8')] 34 [])   (M : gM) (hF : F_X3_fillOf_b83 Q K18 K34 a0 x1 x2 x3 x4 x5 x6 x7 x8 M) : gAt G 0 0 M [(0, .ref a0), (1, .int x1), (2, .int x2), (3, .int x3), (4, .int x4), (5, .int x5), (6, .int x6), (7, .int x7), (8, .int x8)] 83 [] := by
  unfold F_X3_fillOf_b83 at hF
  refine g_iinc 86 hC (x8 + (1 : Int32)) (lv' := [(8, .int _), (0, .ref _), (1, .int _), (2, .int _), (3, .int _), (4, .int _), (5, .int _), (6, .int _), (7, .int _)]) dX3_fillOf_83 rfl 8 rfl rfl (by decide) rfl ?_
  refine g_goto 34 hC dX3_fillOf_86 (by decide) ?_
  refine g_sub [1, 2, 3, 4, 5, 6, 7, 8, 0] rfl ?_
  exact hK34 _ _ _ hF
def F_X3_fillOf_b79 (Q : Int32 → gM → Prop)   (K18 : Int32 → Int32 → Int32 → Int32 → gM → Prop) (K34 : Int32 → Int32 → gM → Prop) (a0 : Nat) (x1 : Int32) (x2 : Int32) (x3 : Int32) (x4 : Int32) (x5 : Int32) (x6 : Int32) (x8 : Int32)   (M : gM) : Prop :=
  F_X3_fillOf_b83 Q K18 K34 a0 x1 x2 x3 x4 x5 x6 x8 x8 M
theorem w_X3_fillOf_b79 {G : gG} {Q : Int32 → gM → Prop} (hC : gCx G cX3_fillOf 10 RX3 (some .int) (gQi Q) rm_X3_fillOf) (K18 : Int32 → Int32 → Int32 → Int32 → gM → Prop) (K34 : Int32 → Int32 → gM → Prop) (a0 : Nat) (x1 : Int32) (x2 : Int32) (x3 : Int32) (x4 : Int32) (x5 : Int32) (x6 : Int32) (x8 : Int32)  (hK18 : ∀ x3' x4' x5' x6' M', K18 x3' x4' x5' x6' M' → gAt G 0 0 M' [(0, .ref a0), (1, .int x1), (2, .int x2), (3, .int x3'), (4, .int x4'), (5, .int x5'), (6, .int x6')] 18 []) (hK34 : ∀ x7' x8' M', K34 x7' x8' M' → gAt G 0 0 M' [(0, .ref a0), (1, .int x1), (2, .int x2), (3, .int x3), (4, .int x4), (5, .int x5), (6, .int x6), (7, .int x7'), (8, .int x8')] 34 [])   (M : gM) (hF : F_X3_fillOf_b79 Q K18 K34 a0 x1 x2 x3 x4 x5 x6 x8 M) : gAt G 0 0 M [(0, .ref a0), (1, .int x1), (2, .int x2), (3, .int x3), (4, .int x4), (5, .int x5), (6, .int x6), (8, .int x8)] 79 [] := by
  unfold F_X3_fillOf_b79 at hF
  refine g_iload 81 hC dX3_fillOf_79 rfl 7 rfl ?_
  refine g_istore 83 hC (lv' := [(7, .int _), (0, .ref _), (1, .int _), (2, .int _), (3, .int _), (4, .int _), (5, .int _), (6, .int _), (8, .int _)]) dX3_fillOf_81 rfl (by decide) rfl ?_
  refine g_sub [1, 2, 3, 4, 5, 6, 7, 0, 8] rfl ?_
  exact w_X3_fillOf_b83 hC _ _ _ _ _ _ _ _ _ _ _ hK18 hK34 _ hF
def F_X3_fillOf_b137 (Q : Int32 → gM → Prop)   (K18 : Int32 → Int32 → Int32 → Int32 → gM → Prop) (a0 : Nat) (x1 : Int32) (x2 : Int32) (x3 : Int32) (x4 : Int32) (x5 : Int32) (x6 : Int32) (x7 : Int32) (x8 : Int32) (t0 : Int32)  (M : gM) : Prop :=
  F_X3_power M (5 : Int32) x7 fun x_2 M_1 =>
  K18 (x3 + (t0 * x_2)) (x4 - (t0 * x8)) x5 (x6 + (1 : Int32)) M_1
theorem w_X3_fillOf_b137 {G : gG} {Q : Int32 → gM → Prop} (hC : gCx G cX3_fillOf 10 RX3 (some .int) (gQi Q) rm_X3_fillOf) (K18 : Int32 → Int32 → Int32 → Int32 → gM → Prop) (a0 : Nat) (x1 : Int32) (x2 : Int32) (x3 : Int32) (x4 : Int32) (x5 : Int32) (x6 : Int32) (x7 : Int32) (x8 : Int32) (t0 : Int32) (hK18 : ∀ x3' x4' x5' x6' M', K18 x3' x4' x5' x6' M' → gAt G 0 0 M' [(0, .ref a0), (1, .int x1), (2, .int x2), (3, .int x3'), (4, .int x4'), (5, .int x5'), (6, .int x6')] 18 [])   (M : gM) (hF : F_X3_fillOf_b137 Q K18 a0 x1 x2 x3 x4 x5 x6 x7 x8 t0 M) : gAt G 0 0 M [(0, .ref a0), (1, .int x1), (2, .int x2), (3, .int x3), (4, .int x4), (5, .int x5), (6, .int x6), (7, .int x7), (8, .int x8)] 137 [.int t0] := by
  unfold F_X3_fillOf_b137 at hF
  refine g_istore 139 hC (lv' := [(9, .int _), (0, .ref _), (1, .int _), (2, .int _), (3, .int _), (4, .int _), (5, .int _), (6, .int _), (7, .int _), (8, .int _)]) dX3_fillOf_137 rfl (by decide) rfl ?_
  refine g_iload 141 hC dX3_fillOf_139 rfl 5 rfl ?_
  refine g_iload 143 hC dX3_fillOf_141 rfl 0 rfl ?_
  refine g_iload 145 hC dX3_fillOf_143 rfl 9 rfl ?_
  refine g_imul 146 hC dX3_fillOf_145 rfl ?_
  refine g_isub 147 hC dX3_fillOf_146 rfl ?_
  refine g_istore 149 hC (lv' := [(4, .int _), (9, .int _), (0, .ref _), (1, .int _), (2, .int _), (3, .int _), (5, .int _), (6, .int _), (7, .int _), (8, .int _)]) dX3_fillOf_147 rfl (by decide) rfl ?_
  refine g_iload_n 150 hC dX3_fillOf_149 rfl 5 rfl rfl ?_
  refine g_iload 152 hC dX3_fillOf_150 rfl 1 rfl ?_
  refine g_iconst 153 hC (5 : Int32) dX3_fillOf_152 (by decide) rfl ?_
  refine g_iload 155 hC dX3_fillOf_153 rfl 8 rfl ?_
  refine g_cS (rest := [_, _]) wl_X3_102 hd_X3_power 158 hC (met_X3_power hF) rfl ⟨Nat.le_of_ble_eq_true rfl, Nat.le_of_ble_eq_true rfl⟩ ⟨Nat.zero_le _, Nat.zero_le _⟩ rfl (Nat.le_of_ble_eq_true rfl) dX3_fillOf_155 rfl (g_ty_i 0 0 (Nat.le_refl _) (Nat.le_refl _) (fun x_2 M_1 hF => ?_))
  refine g_imul 159 hC dX3_fillOf_158 rfl ?_
  refine g_iadd 160 hC dX3_fillOf_159 rfl ?_
  refine g_istore_n 161 hC (lv' := [(3, .int _), (4, .int _), (9, .int _), (0, .ref _), (1, .int _), (2, .int _), (5, .int _), (6, .int _), (7, .int _), (8, .int _)]) dX3_fillOf_160 rfl rfl (by decide) rfl ?_
  refine g_iinc 164 hC (x6 + (1 : Int32)) (lv' := [(6, .int _), (3, .int _), (4, .int _), (9, .int _), (0, .ref _), (1, .int _), (2, .int _), (5, .int _), (7, .int _), (8, .int _)]) dX3_fillOf_161 rfl 7 rfl rfl (by decide) rfl ?_
  refine g_goto 18 hC dX3_fillOf_164 (by decide) ?_
  refine g_sub [4, 5, 6, 1, 2, 7, 0] rfl ?_
  exact hK18 _ _ _ _ _ hF
def F_X3_fillOf_b34 (Q : Int32 → gM → Prop)   (K18 : Int32 → Int32 → Int32 → Int32 → gM → Prop) (a0 : Nat) (x1 : Int32) (x2 : Int32) (x3 : Int32) (x4 : Int32) (x5 : Int32) (x6 : Int32) : Nat → Int32 → Int32 → gM → Prop
  | 0, _, _, _ => False
  | n + 1, x7, x8, M =>
    rc M 3 a0 ∧ F_X3_sorts M a0 x1 fun x_2 M_1 =>
    ((x_2 ≤ x8 →
      rc M_1 3 a0 ∧ F_X3_numberOf M_1 a0 x1 x7 (0 : Int32) fun x_4 M_3 =>
      dz x_4 <|
      F_X3_ofState M_3 x2 x7 fun x_6 M_5 =>
      (((x4 / x_4) ≤ x_6 →
        F_X3_fillOf_b137 Q K18 a0 x1 x2 x3 x4 (x5 ||| ((1 : Int32) <<< (x7 &&& 31))) x6 x7 x_4 (x4 / x_4) M_5) ∧
        (¬ (x4 / x_4) ≤ x_6 →
        F_X3_ofState M_5 x2 x7 fun x_8 M_7 =>
        F_X3_fillOf_b137 Q K18 a0 x1 x2 x3 x4 (x5 ||| ((1 : Int32) <<< (x7 &&& 31))) x6 x7 x_4 x_8 M_7))) ∧
      (¬ x_2 ≤ x8 →
      ((¬ ((x5 >>> (x8 &&& 31)) &&& (1 : Int32)) = 0 →
        F_X3_fillOf_b83 Q K18 (F_X3_fillOf_b34 Q K18 a0 x1 x2 x3 x4 x5 x6 n) a0 x1 x2 x3 x4 x5 x6 x7 x8 M_1) ∧
        (((x5 >>> (x8 &&& 31)) &&& (1 : Int32)) = 0 →
        ((x7 = (-1 : Int32) →
          F_X3_fillOf_b79 Q K18 (F_X3_fillOf_b34 Q K18 a0 x1 x2 x3 x4 x5 x6 n) a0 x1 x2 x3 x4 x5 x6 x8 M_1) ∧
          (¬ x7 = (-1 : Int32) →
          rc M_1 3 a0 ∧ F_X3_numberOf M_1 a0 x1 x8 (2 : Int32) fun x_10 M_9 =>
          rc M_9 3 a0 ∧ F_X3_numberOf M_9 a0 x1 x7 (2 : Int32) fun x_12 M_11 =>
          ((x_10 ≤ x_12 →
            F_X3_fillOf_b83 Q K18 (F_X3_fillOf_b34 Q K18 a0 x1 x2 x3 x4 x5 x6 n) a0 x1 x2 x3 x4 x5 x6 x7 x8 M_11) ∧
            (¬ x_10 ≤ x_12 →
            F_X3_fillOf_b79 Q K18 (F_X3_fillOf_b34 Q K18 a0 x1 x2 x3 x4 x5 x6 n) a0 x1 x2 x3 x4 x5 x6 x8 M_11))))))))
theorem w_X3_fillOf_b34 {G : gG} {Q : Int32 → gM → Prop} (hC : gCx G cX3_fillOf 10 RX3 (some .int) (gQi Q) rm_X3_fillOf) (K18 : Int32 → Int32 → Int32 → Int32 → gM → Prop) (a0 : Nat) (x1 : Int32) (x2 : Int32) (x3 : Int32) (x4 : Int32) (x5 : Int32) (x6 : Int32) (hK18 : ∀ x3' x4' x5' x6' M', K18 x3' x4' x5' x6' M' → gAt G 0 0 M' [(0, .ref a0), (1, .int x1), (2, .int x2), (3, .int x3'), (4, .int x4'), (5, .int x5'), (6, .int x6')] 18 []) : ∀ (n : Nat) (x7 : Int32) (x8 : Int32)   (M : gM), F_X3_fillOf_b34 Q K18 a0 x1 x2 x3 x4 x5 x6 n x7 x8 M → gAt G 0 0 M [(0, .ref a0), (1, .int x1), (2, .int x2), (3, .int x3), (4, .int x4), (5, .int x5), (6, .int x6), (7, .int x7), (8, .int x8)] 34 [] := by
  intro n
  induction n with
  | zero =>
    intro x7 x8 M hF
    exact hF.elim
  | succ n ih =>
    intro x7 x8 M hF
    have hK34 := ih
    unfold F_X3_fillOf_b34 at hF
    refine g_iload 36 hC dX3_fillOf_34 rfl 8 rfl ?_
    refine g_aload_n 37 hC dX3_fillOf_36 rfl 0 rfl rfl ?_
    refine g_iload_n 38 hC dX3_fillOf_37 rfl 1 rfl rfl ?_
    refine g_cV (rest := [_]) wl_X3_98 hd_X3_sorts (ci := 3) rfl 41 hC hF.1 (met_X3_sorts hF.2) rfl ⟨Nat.le_of_ble_eq_true rfl, Nat.le_of_ble_eq_true rfl⟩ ⟨Nat.zero_le _, Nat.zero_le _⟩ rfl (Nat.le_of_ble_eq_true rfl) dX3_fillOf_38 rfl (g_ty_i 0 0 (Nat.le_refl _) (Nat.le_refl _) (fun x_2 M_1 hF => ?_))
    refine g_icmp_ge 44 89 hC dX3_fillOf_41 (by decide) rfl (fun c => ?_) (fun c => ?_)
    · have hF := hF.1 c
      refine g_iload 91 hC dX3_fillOf_89 rfl 5 rfl ?_
      refine g_iconst 92 hC (1 : Int32) dX3_fillOf_91 (by decide) rfl ?_
      refine g_iload 94 hC dX3_fillOf_92 rfl 7 rfl ?_
      refine g_ishl 95 hC dX3_fillOf_94 rfl ?_
      refine g_ior 96 hC dX3_fillOf_95 rfl ?_
      refine g_istore 98 hC (lv' := [(5, .int _), (0, .ref _), (1, .int _), (2, .int _), (3, .int _), (4, .int _), (6, .int _), (7, .int _), (8, .int _)]) dX3_fillOf_96 rfl (by decide) rfl ?_
      refine g_aload_n 99 hC dX3_fillOf_98 rfl 1 rfl rfl ?_
      refine g_iload_n 100 hC dX3_fillOf_99 rfl 2 rfl rfl ?_
      refine g_iload 102 hC dX3_fillOf_100 rfl 7 rfl ?_
      refine g_iconst 103 hC (0 : Int32) dX3_fillOf_102 (by decide) rfl ?_
      refine g_cV (rest := []) wl_X3_229 hd_X3_numberOf (ci := 3) rfl 106 hC hF.1 (met_X3_numberOf hF.2) rfl ⟨Nat.le_of_ble_eq_true rfl, Nat.le_of_ble_eq_true rfl⟩ ⟨Nat.zero_le _, Nat.zero_le _⟩ rfl (Nat.le_of_ble_eq_true rfl) dX3_fillOf_103 rfl (g_ty_i 0 0 (Nat.le_refl _) (Nat.le_refl _) (fun x_4 M_3 hF => ?_))
      refine g_istore 108 hC (lv' := [(8, .int _), (5, .int _), (0, .ref _), (1, .int _), (2, .int _), (3, .int _), (4, .int _), (6, .int _), (7, .int _)]) dX3_fillOf_106 rfl (by decide) rfl ?_
      refine g_iload 110 hC dX3_fillOf_108 rfl 6 rfl ?_
      refine g_iload 112 hC dX3_fillOf_110 rfl 0 rfl ?_
      refine g_idiv 113 hC hF.1 dX3_fillOf_112 rfl ?_
      have hF := hF.2
      refine g_istore 115 hC (lv' := [(9, .int _), (8, .int _), (5, .int _), (0, .ref _), (1, .int _), (2, .int _), (3, .int _), (4, .int _), (6, .int _), (7, .int _)]) dX3_fillOf_113 rfl (by decide) rfl ?_
      refine g_iload 117 hC dX3_fillOf_115 rfl 0 rfl ?_
      refine g_iload_n 118 hC dX3_fillOf_117 rfl 5 rfl rfl ?_
      refine g_iload 120 hC dX3_fillOf_118 rfl 9 rfl ?_
      refine g_cS (rest := [_]) wl_X3_226 hd_X3_ofState 123 hC (met_X3_ofState hF) rfl ⟨Nat.le_of_ble_eq_true rfl, Nat.le_of_ble_eq_true rfl⟩ ⟨Nat.zero_le _, Nat.zero_le _⟩ rfl (Nat.le_of_ble_eq_true rfl) dX3_fillOf_120 rfl (g_ty_i 0 0 (Nat.le_refl _) (Nat.le_refl _) (fun x_6 M_5 hF => ?_))
      refine g_icmp_le 126 135 hC dX3_fillOf_123 (by decide) rfl (fun c => ?_) (fun c => ?_)
      · have hF := hF.1 c
        refine g_iload 137 hC dX3_fillOf_135 rfl 0 rfl ?_
        refine g_sub [3, 4, 5, 6, 7, 2, 8, 9, 1] rfl ?_
        exact w_X3_fillOf_b137 hC _ _ _ _ _ _ _ _ _ _ _ hK18 _ hF
      · have hF := hF.2 c
        refine g_iload_n 127 hC dX3_fillOf_126 rfl 5 rfl rfl ?_
        refine g_iload 129 hC dX3_fillOf_127 rfl 9 rfl ?_
        refine g_cS (rest := []) wl_X3_226 hd_X3_ofState 132 hC (met_X3_ofState hF) rfl ⟨Nat.le_of_ble_eq_true rfl, Nat.le_of_ble_eq_true rfl⟩ ⟨Nat.zero_le _, Nat.zero_le _⟩ rfl (Nat.le_of_ble_eq_true rfl) dX3_fillOf_129 rfl (g_ty_i 0 0 (Nat.le_refl _) (Nat.le_refl _) (fun x_8 M_7 hF => ?_))
        refine g_goto 137 hC dX3_fillOf_132 (by decide) ?_
        refine g_sub [3, 4, 5, 6, 7, 2, 8, 9, 1] rfl ?_
        exact w_X3_fillOf_b137 hC _ _ _ _ _ _ _ _ _ _ _ hK18 _ hF
    · have hF := hF.2 c
      refine g_iload 46 hC dX3_fillOf_44 rfl 5 rfl ?_
      refine g_iload 48 hC dX3_fillOf_46 rfl 8 rfl ?_
      refine g_ishr 49 hC dX3_fillOf_48 rfl ?_
      refine g_iconst 50 hC (1 : Int32) dX3_fillOf_49 (by decide) rfl ?_
      refine g_iand 51 hC dX3_fillOf_50 rfl ?_
      refine g_if_ne 54 83 hC dX3_fillOf_51 (by decide) rfl (fun c => ?_) (fun c => ?_)
      · have hF := hF.1 c
        exact w_X3_fillOf_b83 hC _ _ _ _ _ _ _ _ _ _ _ hK18 hK34 _ hF
      · have hF := hF.2 c
        refine g_iload 56 hC dX3_fillOf_54 rfl 7 rfl ?_
        refine g_iconst 57 hC (-1 : Int32) dX3_fillOf_56 (by decide) rfl ?_
        refine g_icmp_eq 60 79 hC dX3_fillOf_57 (by decide) rfl (fun c => ?_) (fun c => ?_)
        · have hF := hF.1 c
          refine g_sub [0, 1, 2, 3, 4, 5, 6, 8] rfl ?_
          exact w_X3_fillOf_b79 hC _ _ _ _ _ _ _ _ _ _ hK18 hK34 _ hF
        · have hF := hF.2 c
          refine g_aload_n 61 hC dX3_fillOf_60 rfl 0 rfl rfl ?_
          refine g_iload_n 62 hC dX3_fillOf_61 rfl 1 rfl rfl ?_
          refine g_iload 64 hC dX3_fillOf_62 rfl 8 rfl ?_
          refine g_iconst 65 hC (2 : Int32) dX3_fillOf_64 (by decide) rfl ?_
          refine g_cV (rest := []) wl_X3_229 hd_X3_numberOf (ci := 3) rfl 68 hC hF.1 (met_X3_numberOf hF.2) rfl ⟨Nat.le_of_ble_eq_true rfl, Nat.le_of_ble_eq_true rfl⟩ ⟨Nat.zero_le _, Nat.zero_le _⟩ rfl (Nat.le_of_ble_eq_true rfl) dX3_fillOf_65 rfl (g_ty_i 0 0 (Nat.le_refl _) (Nat.le_refl _) (fun x_10 M_9 hF => ?_))
          refine g_aload_n 69 hC dX3_fillOf_68 rfl 0 rfl rfl ?_
          refine g_iload_n 70 hC dX3_fillOf_69 rfl 1 rfl rfl ?_
          refine g_iload 72 hC dX3_fillOf_70 rfl 7 rfl ?_
          refine g_iconst 73 hC (2 : Int32) dX3_fillOf_72 (by decide) rfl ?_
          refine g_cV (rest := [_]) wl_X3_229 hd_X3_numberOf (ci := 3) rfl 76 hC hF.1 (met_X3_numberOf hF.2) rfl ⟨Nat.le_of_ble_eq_true rfl, Nat.le_of_ble_eq_true rfl⟩ ⟨Nat.zero_le _, Nat.zero_le _⟩ rfl (Nat.le_of_ble_eq_true rfl) dX3_fillOf_73 rfl (g_ty_i 0 0 (Nat.le_refl _) (Nat.le_refl _) (fun x_12 M_11 hF => ?_))
          refine g_icmp_le 79 83 hC dX3_fillOf_76 (by decide) rfl (fun c => ?_) (fun c => ?_)
          · have hF := hF.1 c
            exact w_X3_fillOf_b83 hC _ _ _ _ _ _ _ _ _ _ _ hK18 hK34 _ hF
          · have hF := hF.2 c
            refine g_sub [0, 1, 2, 3, 4, 5, 6, 8] rfl ?_
            exact w_X3_fillOf_b79 hC _ _ _ _ _ _ _ _ _ _ hK18 hK34 _ hF
def F_X3_fillOf_b18 (Q : Int32 → gM → Prop)    (a0 : Nat) (x1 : Int32) (x2 : Int32) : Nat → Int32 → Int32 → Int32 → Int32 → gM → Prop
  | 0, _, _, _, _, _ => False
  | n + 1, x3, x4, x5, x6, M =>
    rc M 3 a0 ∧ F_X3_sorts M a0 x1 fun x_2 M_1 =>
    ((x_2 ≤ x6 →
      Q x3 M_1) ∧
      (¬ x_2 ≤ x6 →
      ∃ n_3, F_X3_fillOf_b34 Q (F_X3_fillOf_b18 Q a0 x1 x2 n) a0 x1 x2 x3 x4 x5 x6 n_3 (-1 : Int32) (0 : Int32) M_1))
theorem w_X3_fillOf_b18 {G : gG} {Q : Int32 → gM → Prop} (hC : gCx G cX3_fillOf 10 RX3 (some .int) (gQi Q) rm_X3_fillOf)  (a0 : Nat) (x1 : Int32) (x2 : Int32)  : ∀ (n : Nat) (x3 : Int32) (x4 : Int32) (x5 : Int32) (x6 : Int32)   (M : gM), F_X3_fillOf_b18 Q a0 x1 x2 n x3 x4 x5 x6 M → gAt G 0 0 M [(0, .ref a0), (1, .int x1), (2, .int x2), (3, .int x3), (4, .int x4), (5, .int x5), (6, .int x6)] 18 [] := by
  intro n
  induction n with
  | zero =>
    intro x3 x4 x5 x6 M hF
    exact hF.elim
  | succ n ih =>
    intro x3 x4 x5 x6 M hF
    have hK18 := ih
    unfold F_X3_fillOf_b18 at hF
    refine g_iload 20 hC dX3_fillOf_18 rfl 6 rfl ?_
    refine g_aload_n 21 hC dX3_fillOf_20 rfl 0 rfl rfl ?_
    refine g_iload_n 22 hC dX3_fillOf_21 rfl 1 rfl rfl ?_
    refine g_cV (rest := [_]) wl_X3_98 hd_X3_sorts (ci := 3) rfl 25 hC hF.1 (met_X3_sorts hF.2) rfl ⟨Nat.le_of_ble_eq_true rfl, Nat.le_of_ble_eq_true rfl⟩ ⟨Nat.zero_le _, Nat.zero_le _⟩ rfl (Nat.le_of_ble_eq_true rfl) dX3_fillOf_22 rfl (g_ty_i 0 0 (Nat.le_refl _) (Nat.le_refl _) (fun x_2 M_1 hF => ?_))
    refine g_icmp_ge 28 167 hC dX3_fillOf_25 (by decide) rfl (fun c => ?_) (fun c => ?_)
    · have hF := hF.1 c
      refine g_iload_n 168 hC dX3_fillOf_167 rfl 3 rfl rfl ?_
      exact g_ireturn hC ⟨_, rfl, hF⟩ dX3_fillOf_168 (Nat.zero_le _) (Nat.zero_le _)
    · have hF := hF.2 c
      refine g_iconst 29 hC (-1 : Int32) dX3_fillOf_28 (by decide) rfl ?_
      refine g_istore 31 hC (lv' := [(7, .int _), (0, .ref _), (1, .int _), (2, .int _), (3, .int _), (4, .int _), (5, .int _), (6, .int _)]) dX3_fillOf_29 rfl (by decide) rfl ?_
      refine g_iconst 32 hC (0 : Int32) dX3_fillOf_31 (by decide) rfl ?_
      refine g_istore 34 hC (lv' := [(8, .int _), (7, .int _), (0, .ref _), (1, .int _), (2, .int _), (3, .int _), (4, .int _), (5, .int _), (6, .int _)]) dX3_fillOf_32 rfl (by decide) rfl ?_
      refine g_sub [2, 3, 4, 5, 6, 7, 8, 1, 0] rfl ?_
      obtain ⟨n_3, hF⟩ := hF
      exact w_X3_fillOf_b34 hC _ _ _ _ _ _ _ _ hK18 n_3 _ _ _ hF
def F_X3_fillOf  (M : gM) (a0 : Nat) (x1 : Int32) (x2 : Int32) (Q : Int32 → gM → Prop)  : Prop :=
  gN M 3 a0 12 fun a_1 =>
  aN M (.array .int) a_1 x1 fun a_2 =>
  aI M .int a_2 (2 : Int32) fun x_3 =>
  ∃ n_4, F_X3_fillOf_b18 Q a0 x1 x2 n_4 (0 : Int32) x_3 (0 : Int32) (0 : Int32) M
theorem met_X3_fillOf {M : gM} {a0 : Nat} {x1 : Int32} {x2 : Int32} {Q : Int32 → gM → Prop} (hF : F_X3_fillOf M a0 x1 x2 Q) : gMt yX3_fillOf (ws_ yX3_fillOf cX3_fillOf 10 (some .int)) rm_X3_fillOf M [.ref a0, .int x1, .int x2] (gQi Q) := by
  refine gMet (bytes := cX3_fillOf) (maxL := 10) (ret := (some .int)) rfl rfl (by decide) (Nat.le_of_ble_eq_true rfl) (lv := [(0, .ref a0), (1, .int x1), (2, .int x2)]) rfl (fun G hC hin => ?_)
  unfold F_X3_fillOf at hF
  refine g_iconst 1 hC (0 : Int32) dX3_fillOf_0 (by decide) rfl ?_
  refine g_istore_n 2 hC (lv' := [(3, .int _), (0, .ref _), (1, .int _), (2, .int _)]) dX3_fillOf_1 rfl rfl (by decide) rfl ?_
  refine g_aload_n 3 hC dX3_fillOf_2 rfl 1 rfl rfl ?_
  refine gf_X3_45_3N 6 hC hF dX3_fillOf_3 rfl (fun a_1 hF => ?_)
  refine g_iload_n 7 hC dX3_fillOf_6 rfl 2 rfl rfl ?_
  refine g_aaldN 8 hC hF (by decide) rfl (fun _ _ _ => rfl) dX3_fillOf_7 rfl (fun a_2 hF => ?_)
  refine g_iconst 9 hC (2 : Int32) dX3_fillOf_8 (by decide) rfl ?_
  refine g_iald 10 hC hF dX3_fillOf_9 rfl (fun x_3 hF => ?_)
  refine g_istore 12 hC (lv' := [(4, .int _), (3, .int _), (0, .ref _), (1, .int _), (2, .int _)]) dX3_fillOf_10 rfl (by decide) rfl ?_
  refine g_iconst 13 hC (0 : Int32) dX3_fillOf_12 (by decide) rfl ?_
  refine g_istore 15 hC (lv' := [(5, .int _), (4, .int _), (3, .int _), (0, .ref _), (1, .int _), (2, .int _)]) dX3_fillOf_13 rfl (by decide) rfl ?_
  refine g_iconst 16 hC (0 : Int32) dX3_fillOf_15 (by decide) rfl ?_
  refine g_istore 18 hC (lv' := [(6, .int _), (5, .int _), (4, .int _), (3, .int _), (0, .ref _), (1, .int _), (2, .int _)]) dX3_fillOf_16 rfl (by decide) rfl ?_
  refine g_sub [4, 5, 6, 3, 2, 1, 0] rfl ?_
  obtain ⟨n_4, hF⟩ := hF
  exact w_X3_fillOf_b18 hC _ _ _ n_4 _ _ _ _ _ hF
theorem hd_X3_fillOf : yX3_fillOf.cls = RX3 ∧ yX3_fillOf.cls ≠ "java/lang/invoke/MethodHandle" ∧ yX3_fillOf.cls ≠ "java/lang/invoke/VarHandle" ∧ (parseMethodDescriptor yX3_fillOf.desc).map (fun d => d.parameters.length) = some 2 := by decide +kernel
theorem wl_X3_246 : GoodIn lw_all (wsV RX3 246 RX3 yX3_fillOf (ws_ yX3_fillOf cX3_fillOf 10 (some .int))) := lw_V q1725 q1727 qs43 q72 q1728
abbrev rm_X3_fill : Room := { frames := 3, cells := 0, slots := 0, locals := 73 }
def F_X3_fill  (M : gM) (a0 : Nat) (x1 : Int32) (x2 : Int32) (Q : Int32 → gM → Prop)  : Prop :=
  rc M 3 a0 ∧ F_X3_isState M a0 x1 x2 fun x_2 M_1 =>
  ((x_2 = 0 →
    rc M_1 3 a0 ∧ F_X3_refuse M_1 a0 (-2 : Int32) fun x_4 M_3 =>
    Q x_4 M_3) ∧
    (¬ x_2 = 0 →
    rc M_1 3 a0 ∧ F_X3_fillOf M_1 a0 x1 x2 fun x_6 M_5 =>
    Q x_6 M_5))
theorem met_X3_fill {M : gM} {a0 : Nat} {x1 : Int32} {x2 : Int32} {Q : Int32 → gM → Prop} (hF : F_X3_fill M a0 x1 x2 Q) : gMt yX3_fill (ws_ yX3_fill cX3_fill 3 (some .int)) rm_X3_fill M [.ref a0, .int x1, .int x2] (gQi Q) := by
  refine gMet (bytes := cX3_fill) (maxL := 3) (ret := (some .int)) rfl rfl (by decide) (Nat.le_of_ble_eq_true rfl) (lv := [(0, .ref a0), (1, .int x1), (2, .int x2)]) rfl (fun G hC hin => ?_)
  unfold F_X3_fill at hF
  refine g_aload_n 1 hC dX3_fill_0 rfl 0 rfl rfl ?_
  refine g_iload_n 2 hC dX3_fill_1 rfl 1 rfl rfl ?_
  refine g_iload_n 3 hC dX3_fill_2 rfl 2 rfl rfl ?_
  refine g_cV (rest := []) wl_X3_233 hd_X3_isState (ci := 3) rfl 6 hC hF.1 (met_X3_isState hF.2) rfl ⟨Nat.le_of_ble_eq_true rfl, Nat.le_of_ble_eq_true rfl⟩ ⟨Nat.zero_le _, Nat.zero_le _⟩ rfl (Nat.le_of_ble_eq_true rfl) dX3_fill_3 rfl (g_ty_i 0 0 (Nat.le_refl _) (Nat.le_refl _) (fun x_2 M_1 hF => ?_))
  refine g_if_eq 9 18 hC dX3_fill_6 (by decide) rfl (fun c => ?_) (fun c => ?_)
  · have hF := hF.1 c
    refine g_aload_n 19 hC dX3_fill_18 rfl 0 rfl rfl ?_
    refine g_bipush 21 hC (-2 : Int32) dX3_fill_19 (by decide) rfl ?_
    refine g_cV (rest := []) wl_X3_119 hd_X3_refuse (ci := 3) rfl 24 hC hF.1 (met_X3_refuse hF.2) rfl ⟨Nat.le_of_ble_eq_true rfl, Nat.le_of_ble_eq_true rfl⟩ ⟨Nat.zero_le _, Nat.zero_le _⟩ rfl (Nat.le_of_ble_eq_true rfl) dX3_fill_21 rfl (g_ty_i 0 0 (Nat.le_refl _) (Nat.le_refl _) (fun x_4 M_3 hF => ?_))
    exact g_ireturn hC ⟨_, rfl, hF⟩ dX3_fill_24 (Nat.zero_le _) (Nat.zero_le _)
  · have hF := hF.2 c
    refine g_aload_n 10 hC dX3_fill_9 rfl 0 rfl rfl ?_
    refine g_iload_n 11 hC dX3_fill_10 rfl 1 rfl rfl ?_
    refine g_iload_n 12 hC dX3_fill_11 rfl 2 rfl rfl ?_
    refine g_cV (rest := []) wl_X3_246 hd_X3_fillOf (ci := 3) rfl 15 hC hF.1 (met_X3_fillOf hF.2) rfl ⟨Nat.le_of_ble_eq_true rfl, Nat.le_of_ble_eq_true rfl⟩ ⟨Nat.zero_le _, Nat.zero_le _⟩ rfl (Nat.le_of_ble_eq_true rfl) dX3_fill_12 rfl (g_ty_i 0 0 (Nat.le_refl _) (Nat.le_refl _) (fun x_6 M_5 hF => ?_))
    refine g_goto 24 hC dX3_fill_15 (by decide) ?_
    exact g_ireturn hC ⟨_, rfl, hF⟩ dX3_fill_24 (Nat.zero_le _) (Nat.zero_le _)
theorem gf_X3_64_3N {G : gG} {cc : ByteArray} {nL : Nat} {ret : Option FieldType} {Qf : Option Value → gM → Prop} {rm : Room} {cells slots : Nat} {M : gM} {lv : List (Nat × Value)} {pc : Nat} {st : List Value} {a : Nat} (n : Nat) (hC : gCx G cc nL RX3 ret Qf rm) {κ : Nat → Prop} (hF : gN M 3 a 31 κ) (hdg : decode cc pc = .ok (.getfield 64, 3)) (hn : pc + 3 = n) (kk : ∀ x, κ x → gAt G cells slots M lv n (.ref x :: st)) : gAt G cells slots M lv pc (.ref a :: st) :=
  g_getN (C := RX3) (T := TX3) (N := 46) in_X3 rfl (by decide) q1418 (fun _ _ _ => rfl) n hC hF hdg hn kk
theorem gf_X3_70_3N {G : gG} {cc : ByteArray} {nL : Nat} {ret : Option FieldType} {Qf : Option Value → gM → Prop} {rm : Room} {cells slots : Nat} {M : gM} {lv : List (Nat × Value)} {pc : Nat} {st : List Value} {a : Nat} (n : Nat) (hC : gCx G cc nL RX3 ret Qf rm) {κ : Nat → Prop} (hF : gN M 3 a 33 κ) (hdg : decode cc pc = .ok (.getfield 70, 3)) (hn : pc + 3 = n) (kk : ∀ x, κ x → gAt G cells slots M lv n (.ref x :: st)) : gAt G cells slots M lv pc (.ref a :: st) :=
  g_getN (C := RX3) (T := TX3) (N := 46) in_X3 rfl (by decide) q1420 (fun _ _ _ => rfl) n hC hF hdg hn kk
theorem gf_X3_67_3N {G : gG} {cc : ByteArray} {nL : Nat} {ret : Option FieldType} {Qf : Option Value → gM → Prop} {rm : Room} {cells slots : Nat} {M : gM} {lv : List (Nat × Value)} {pc : Nat} {st : List Value} {a : Nat} (n : Nat) (hC : gCx G cc nL RX3 ret Qf rm) {κ : Nat → Prop} (hF : gN M 3 a 32 κ) (hdg : decode cc pc = .ok (.getfield 67, 3)) (hn : pc + 3 = n) (kk : ∀ x, κ x → gAt G cells slots M lv n (.ref x :: st)) : gAt G cells slots M lv pc (.ref a :: st) :=
  g_getN (C := RX3) (T := TX3) (N := 46) in_X3 rfl (by decide) q1419 (fun _ _ _ => rfl) n hC hF hdg hn kk
theorem gf_X3_79_3N {G : gG} {cc : ByteArray} {nL : Nat} {ret : Option FieldType} {Qf : Option Value → gM → Prop} {rm : Room} {cells slots : Nat} {M : gM} {lv : List (Nat × Value)} {pc : Nat} {st : List Value} {a : Nat} (n : Nat) (hC : gCx G cc nL RX3 ret Qf rm) {κ : Nat → Prop} (hF : gN M 3 a 36 κ) (hdg : decode cc pc = .ok (.getfield 79, 3)) (hn : pc + 3 = n) (kk : ∀ x, κ x → gAt G cells slots M lv n (.ref x :: st)) : gAt G cells slots M lv pc (.ref a :: st) :=
  g_getN (C := RX3) (T := TX3) (N := 46) in_X3 rfl (by decide) q1423 (fun _ _ _ => rfl) n hC hF hdg hn kk
abbrev rm_X3_behind : Room := { frames := 2, cells := 0, slots := 0, locals := 46 }
def F_X3_behind_b100 (Q : Int64 → gM → Prop)   (K40 : Int64 → Int32 → gM → Prop) (a0 : Nat) (x3 : Int32) (a4 : Nat) (x5 : Int32) (j6 : Int64) (j8 : Int64) (x10 : Int32)   (M : gM) : Prop :=
  K40 j8 (x10 + (1 : Int32)) M
theorem w_X3_behind_b100 {G : gG} {Q : Int64 → gM → Prop} (hC : gCx G cX3_behind 11 RX3 (some .long) (gQj Q) rm_X3_behind) (K40 : Int64 → Int32 → gM → Prop) (a0 : Nat) (x3 : Int32) (a4 : Nat) (x5 : Int32) (j6 : Int64) (j8 : Int64) (x10 : Int32)  (hK40 : ∀ j8' x10' M', K40 j8' x10' M' → gAt G 0 0 M' [(0, .ref a0), (3, .int x3), (4, .ref a4), (5, .int x5), (6, .long j6), (8, .long j8'), (10, .int x10')] 40 [])   (M : gM) (hF : F_X3_behind_b100 Q K40 a0 x3 a4 x5 j6 j8 x10 M) : gAt G 0 0 M [(0, .ref a0), (3, .int x3), (4, .ref a4), (5, .int x5), (6, .long j6), (8, .long j8), (10, .int x10)] 100 [] := by
  unfold F_X3_behind_b100 at hF
  refine g_iinc 103 hC (x10 + (1 : Int32)) (lv' := [(10, .int _), (0, .ref _), (3, .int _), (4, .ref _), (5, .int _), (6, .long _), (8, .long _)]) dX3_behind_100 rfl 6 rfl rfl (by decide) rfl ?_
  refine g_goto 40 hC dX3_behind_103 (by decide) ?_
  refine g_sub [1, 2, 3, 4, 5, 6, 0] rfl ?_
  exact hK40 _ _ _ hF
def F_X3_behind_b40 (Q : Int64 → gM → Prop)    (a0 : Nat) (x3 : Int32) (a4 : Nat) (x5 : Int32) (j6 : Int64) : Nat → Int64 → Int32 → gM → Prop
  | 0, _, _, _ => False
  | n + 1, j8, x10, M =>
    ((((1 : Int32) <<< (x5 &&& 31)) ≤ x10 →
      Q j8 M) ∧
      (¬ ((1 : Int32) <<< (x5 &&& 31)) ≤ x10 →
      gN M 3 a0 31 fun a_1 =>
      aJ M a_1 x10 fun j_2 =>
      ((j_2 ≤ (0 : Int64) →
        F_X3_behind_b100 Q (F_X3_behind_b40 Q a0 x3 a4 x5 j6 n) a0 x3 a4 x5 j6 j8 x10 M) ∧
        (¬ j_2 ≤ (0 : Int64) →
        gN M 3 a0 31 fun a_3 =>
        aJ M a_3 x10 fun j_4 =>
        gN M 3 a0 33 fun a_5 =>
        aN M (.array .int) a_5 x10 fun a_6 =>
        aI M .int a_6 x3 fun x_7 =>
        gN M 3 a0 32 fun a_8 =>
        aN M (.array .int) a_8 x10 fun a_9 =>
        aI M .int a_9 x3 fun x_10 =>
        aJ M a4 x_10 fun j_11 =>
        F_X3_behind_b100 Q (F_X3_behind_b40 Q a0 x3 a4 x5 j6 n) a0 x3 a4 x5 j6 (j8 + (j_4 * ((x_7.toInt64 * j6) + j_11))) x10 M))))
theorem w_X3_behind_b40 {G : gG} {Q : Int64 → gM → Prop} (hC : gCx G cX3_behind 11 RX3 (some .long) (gQj Q) rm_X3_behind)  (a0 : Nat) (x3 : Int32) (a4 : Nat) (x5 : Int32) (j6 : Int64)  : ∀ (n : Nat) (j8 : Int64) (x10 : Int32)   (M : gM), F_X3_behind_b40 Q a0 x3 a4 x5 j6 n j8 x10 M → gAt G 0 0 M [(0, .ref a0), (3, .int x3), (4, .ref a4), (5, .int x5), (6, .long j6), (8, .long j8), (10, .int x10)] 40 [] := by
  intro n
  induction n with
  | zero =>
    intro j8 x10 M hF
    exact hF.elim
  | succ n ih =>
    intro j8 x10 M hF
    have hK40 := ih
    unfold F_X3_behind_b40 at hF
    refine g_iload 42 hC dX3_behind_40 rfl 6 rfl ?_
    refine g_iconst 43 hC (1 : Int32) dX3_behind_42 (by decide) rfl ?_
    refine g_iload 45 hC dX3_behind_43 rfl 3 rfl ?_
    refine g_ishl 46 hC dX3_behind_45 rfl ?_
    refine g_icmp_ge 49 106 hC dX3_behind_46 (by decide) rfl (fun c => ?_) (fun c => ?_)
    · have hF := hF.1 c
      refine g_lload 108 hC dX3_behind_106 rfl 5 rfl ?_
      exact g_lreturn hC ⟨_, rfl, hF⟩ dX3_behind_108 (Nat.zero_le _) (Nat.zero_le _)
    · have hF := hF.2 c
      refine g_aload_n 50 hC dX3_behind_49 rfl 0 rfl rfl ?_
      refine gf_X3_64_3N 53 hC hF dX3_behind_50 rfl (fun a_1 hF => ?_)
      refine g_iload 55 hC dX3_behind_53 rfl 6 rfl ?_
      refine g_lald 56 hC hF dX3_behind_55 rfl (fun j_2 hF => ?_)
      refine g_lconst 57 hC (0 : Int64) dX3_behind_56 (by decide) rfl ?_
      refine g_lcmp_le 61 100 hC dX3_behind_57 rfl dX3_behind_58 (by decide) rfl (fun c => ?_) (fun c => ?_)
      · have hF := hF.1 c
        exact w_X3_behind_b100 hC _ _ _ _ _ _ _ _ hK40 _ hF
      · have hF := hF.2 c
        refine g_lload 63 hC dX3_behind_61 rfl 5 rfl ?_
        refine g_aload_n 64 hC dX3_behind_63 rfl 0 rfl rfl ?_
        refine gf_X3_64_3N 67 hC hF dX3_behind_64 rfl (fun a_3 hF => ?_)
        refine g_iload 69 hC dX3_behind_67 rfl 6 rfl ?_
        refine g_lald 70 hC hF dX3_behind_69 rfl (fun j_4 hF => ?_)
        refine g_aload_n 71 hC dX3_behind_70 rfl 0 rfl rfl ?_
        refine gf_X3_70_3N 74 hC hF dX3_behind_71 rfl (fun a_5 hF => ?_)
        refine g_iload 76 hC dX3_behind_74 rfl 6 rfl ?_
        refine g_aaldN 77 hC hF (by decide) rfl (fun _ _ _ => rfl) dX3_behind_76 rfl (fun a_6 hF => ?_)
        refine g_iload_n 78 hC dX3_behind_77 rfl 1 rfl rfl ?_
        refine g_iald 79 hC hF dX3_behind_78 rfl (fun x_7 hF => ?_)
        refine g_i2l 80 hC dX3_behind_79 rfl ?_
        refine g_lload 82 hC dX3_behind_80 rfl 4 rfl ?_
        refine g_lmul 83 hC dX3_behind_82 rfl ?_
        refine g_aload 85 hC dX3_behind_83 rfl 2 rfl ?_
        refine g_aload_n 86 hC dX3_behind_85 rfl 0 rfl rfl ?_
        refine gf_X3_67_3N 89 hC hF dX3_behind_86 rfl (fun a_8 hF => ?_)
        refine g_iload 91 hC dX3_behind_89 rfl 6 rfl ?_
        refine g_aaldN 92 hC hF (by decide) rfl (fun _ _ _ => rfl) dX3_behind_91 rfl (fun a_9 hF => ?_)
        refine g_iload_n 93 hC dX3_behind_92 rfl 1 rfl rfl ?_
        refine g_iald 94 hC hF dX3_behind_93 rfl (fun x_10 hF => ?_)
        refine g_lald 95 hC hF dX3_behind_94 rfl (fun j_11 hF => ?_)
        refine g_ladd 96 hC dX3_behind_95 rfl ?_
        refine g_lmul 97 hC dX3_behind_96 rfl ?_
        refine g_ladd 98 hC dX3_behind_97 rfl ?_
        refine g_lstore 100 hC (lv' := [(8, .long _), (0, .ref _), (3, .int _), (4, .ref _), (5, .int _), (6, .long _), (10, .int _)]) dX3_behind_98 rfl (by decide) rfl ?_
        refine g_sub [1, 2, 3, 4, 5, 0, 6] rfl ?_
        exact w_X3_behind_b100 hC _ _ _ _ _ _ _ _ hK40 _ hF
def F_X3_behind  (M : gM) (a0 : Nat) (x1 : Int32) (x2 : Int32) (x3 : Int32) (a4 : Nat) (Q : Int64 → gM → Prop)  : Prop :=
  rc M 3 a0 ∧ F_X3_sorts M a0 x1 fun x_2 M_1 =>
  rc M_1 3 a0 ∧ F_X3_scaleOf M_1 a0 x1 (x2 - (1 : Int32)) fun j_4 M_3 =>
  gN M_3 3 a0 36 fun a_5 =>
  aI M_3 .int a_5 x3 fun x_6 =>
  F_X3_power M_3 (4 : Int32) x_2 fun x_8 M_7 =>
  ∃ n_9, F_X3_behind_b40 Q a0 x3 a4 x_2 j_4 n_9 ((x_6.toInt64 * x_8.toInt64) * j_4) (0 : Int32) M_7
theorem met_X3_behind {M : gM} {a0 : Nat} {x1 : Int32} {x2 : Int32} {x3 : Int32} {a4 : Nat} {Q : Int64 → gM → Prop} (hF : F_X3_behind M a0 x1 x2 x3 a4 Q) : gMt yX3_behind (ws_ yX3_behind cX3_behind 11 (some .long)) rm_X3_behind M [.ref a0, .int x1, .int x2, .int x3, .ref a4] (gQj Q) := by
  refine gMet (bytes := cX3_behind) (maxL := 11) (ret := (some .long)) rfl rfl (by decide) (Nat.le_of_ble_eq_true rfl) (lv := [(0, .ref a0), (1, .int x1), (2, .int x2), (3, .int x3), (4, .ref a4)]) rfl (fun G hC hin => ?_)
  unfold F_X3_behind at hF
  refine g_aload_n 1 hC dX3_behind_0 rfl 0 rfl rfl ?_
  refine g_iload_n 2 hC dX3_behind_1 rfl 1 rfl rfl ?_
  refine g_cV (rest := []) wl_X3_98 hd_X3_sorts (ci := 3) rfl 5 hC hF.1 (met_X3_sorts hF.2) rfl ⟨Nat.le_of_ble_eq_true rfl, Nat.le_of_ble_eq_true rfl⟩ ⟨Nat.zero_le _, Nat.zero_le _⟩ rfl (Nat.le_of_ble_eq_true rfl) dX3_behind_2 rfl (g_ty_i 0 0 (Nat.le_refl _) (Nat.le_refl _) (fun x_2 M_1 hF => ?_))
  refine g_istore 7 hC (lv' := [(5, .int _), (0, .ref _), (1, .int _), (2, .int _), (3, .int _), (4, .ref _)]) dX3_behind_5 rfl (by decide) rfl ?_
  refine g_aload_n 8 hC dX3_behind_7 rfl 1 rfl rfl ?_
  refine g_iload_n 9 hC dX3_behind_8 rfl 2 rfl rfl ?_
  refine g_iload_n 10 hC dX3_behind_9 rfl 3 rfl rfl ?_
  refine g_iconst 11 hC (1 : Int32) dX3_behind_10 (by decide) rfl ?_
  refine g_isub 12 hC dX3_behind_11 rfl ?_
  refine g_cV (rest := []) wl_X3_242 hd_X3_scaleOf (ci := 3) rfl 15 hC hF.1 (met_X3_scaleOf hF.2) rfl ⟨Nat.le_of_ble_eq_true rfl, Nat.le_of_ble_eq_true rfl⟩ ⟨Nat.zero_le _, Nat.zero_le _⟩ rfl (Nat.le_of_ble_eq_true rfl) dX3_behind_12 rfl (g_ty_j 0 0 (Nat.le_refl _) (Nat.le_refl _) (fun j_4 M_3 hF => ?_))
  refine g_lstore 17 hC (lv' := [(6, .long _), (5, .int _), (0, .ref _), (1, .int _), (2, .int _), (3, .int _), (4, .ref _)]) dX3_behind_15 rfl (by decide) rfl ?_
  refine g_aload_n 18 hC dX3_behind_17 rfl 2 rfl rfl ?_
  refine gf_X3_79_3N 21 hC hF dX3_behind_18 rfl (fun a_5 hF => ?_)
  refine g_iload_n 22 hC dX3_behind_21 rfl 5 rfl rfl ?_
  refine g_iald 23 hC hF dX3_behind_22 rfl (fun x_6 hF => ?_)
  refine g_i2l 24 hC dX3_behind_23 rfl ?_
  refine g_iconst 25 hC (4 : Int32) dX3_behind_24 (by decide) rfl ?_
  refine g_iload 27 hC dX3_behind_25 rfl 1 rfl ?_
  refine g_cS (rest := [_]) wl_X3_102 hd_X3_power 30 hC (met_X3_power hF) rfl ⟨Nat.le_of_ble_eq_true rfl, Nat.le_of_ble_eq_true rfl⟩ ⟨Nat.zero_le _, Nat.zero_le _⟩ rfl (Nat.le_of_ble_eq_true rfl) dX3_behind_27 rfl (g_ty_i 0 0 (Nat.le_refl _) (Nat.le_refl _) (fun x_8 M_7 hF => ?_))
  refine g_i2l 31 hC dX3_behind_30 rfl ?_
  refine g_lmul 32 hC dX3_behind_31 rfl ?_
  refine g_lload 34 hC dX3_behind_32 rfl 0 rfl ?_
  refine g_lmul 35 hC dX3_behind_34 rfl ?_
  refine g_lstore 37 hC (lv' := [(8, .long _), (6, .long _), (5, .int _), (0, .ref _), (1, .int _), (2, .int _), (3, .int _), (4, .ref _)]) dX3_behind_35 rfl (by decide) rfl ?_
  refine g_iconst 38 hC (0 : Int32) dX3_behind_37 (by decide) rfl ?_
  refine g_istore 40 hC (lv' := [(10, .int _), (8, .long _), (6, .long _), (5, .int _), (0, .ref _), (1, .int _), (2, .int _), (3, .int _), (4, .ref _)]) dX3_behind_38 rfl (by decide) rfl ?_
  refine g_sub [4, 7, 8, 3, 2, 1, 0] rfl ?_
  obtain ⟨n_9, hF⟩ := hF
  exact w_X3_behind_b40 hC _ _ _ _ _ n_9 _ _ _ hF
abbrev rm_X3_boxOf : Room := { frames := 2, cells := 0, slots := 0, locals := 46 }
def F_X3_boxOf  (M : gM) (a0 : Nat) (x1 : Int32) (x2 : Int32) (Q : Int64 → gM → Prop)  : Prop :=
  gN M 3 a0 12 fun a_1 =>
  aN M (.array .int) a_1 x1 fun a_2 =>
  aI M .int a_2 (1 : Int32) fun x_3 =>
  rc M 3 a0 ∧ F_X3_sorts M a0 x1 fun x_5 M_4 =>
  F_X3_power M_4 (4 : Int32) x_5 fun x_7 M_6 =>
  rc M_6 3 a0 ∧ F_X3_scaleOf M_6 a0 x1 (x2 - (1 : Int32)) fun j_9 M_8 =>
  Q ((x_3.toInt64 * x_7.toInt64) * j_9) M_8
theorem met_X3_boxOf {M : gM} {a0 : Nat} {x1 : Int32} {x2 : Int32} {Q : Int64 → gM → Prop} (hF : F_X3_boxOf M a0 x1 x2 Q) : gMt yX3_boxOf (ws_ yX3_boxOf cX3_boxOf 3 (some .long)) rm_X3_boxOf M [.ref a0, .int x1, .int x2] (gQj Q) := by
  refine gMet (bytes := cX3_boxOf) (maxL := 3) (ret := (some .long)) rfl rfl (by decide) (Nat.le_of_ble_eq_true rfl) (lv := [(0, .ref a0), (1, .int x1), (2, .int x2)]) rfl (fun G hC hin => ?_)
  unfold F_X3_boxOf at hF
  refine g_aload_n 1 hC dX3_boxOf_0 rfl 0 rfl rfl ?_
  refine gf_X3_45_3N 4 hC hF dX3_boxOf_1 rfl (fun a_1 hF => ?_)
  refine g_iload_n 5 hC dX3_boxOf_4 rfl 1 rfl rfl ?_
  refine g_aaldN 6 hC hF (by decide) rfl (fun _ _ _ => rfl) dX3_boxOf_5 rfl (fun a_2 hF => ?_)
  refine g_iconst 7 hC (1 : Int32) dX3_boxOf_6 (by decide) rfl ?_
  refine g_iald 8 hC hF dX3_boxOf_7 rfl (fun x_3 hF => ?_)
  refine g_i2l 9 hC dX3_boxOf_8 rfl ?_
  refine g_iconst 10 hC (4 : Int32) dX3_boxOf_9 (by decide) rfl ?_
  refine g_aload_n 11 hC dX3_boxOf_10 rfl 0 rfl rfl ?_
  refine g_iload_n 12 hC dX3_boxOf_11 rfl 1 rfl rfl ?_
  refine g_cV (rest := [_, _]) wl_X3_98 hd_X3_sorts (ci := 3) rfl 15 hC hF.1 (met_X3_sorts hF.2) rfl ⟨Nat.le_of_ble_eq_true rfl, Nat.le_of_ble_eq_true rfl⟩ ⟨Nat.zero_le _, Nat.zero_le _⟩ rfl (Nat.le_of_ble_eq_true rfl) dX3_boxOf_12 rfl (g_ty_i 0 0 (Nat.le_refl _) (Nat.le_refl _) (fun x_5 M_4 hF => ?_))
  refine g_cS (rest := [_]) wl_X3_102 hd_X3_power 18 hC (met_X3_power hF) rfl ⟨Nat.le_of_ble_eq_true rfl, Nat.le_of_ble_eq_true rfl⟩ ⟨Nat.zero_le _, Nat.zero_le _⟩ rfl (Nat.le_of_ble_eq_true rfl) dX3_boxOf_15 rfl (g_ty_i 0 0 (Nat.le_refl _) (Nat.le_refl _) (fun x_7 M_6 hF => ?_))
  refine g_i2l 19 hC dX3_boxOf_18 rfl ?_
  refine g_lmul 20 hC dX3_boxOf_19 rfl ?_
  refine g_aload_n 21 hC dX3_boxOf_20 rfl 0 rfl rfl ?_
  refine g_iload_n 22 hC dX3_boxOf_21 rfl 1 rfl rfl ?_
  refine g_iload_n 23 hC dX3_boxOf_22 rfl 2 rfl rfl ?_
  refine g_iconst 24 hC (1 : Int32) dX3_boxOf_23 (by decide) rfl ?_
  refine g_isub 25 hC dX3_boxOf_24 rfl ?_
  refine g_cV (rest := [_]) wl_X3_242 hd_X3_scaleOf (ci := 3) rfl 28 hC hF.1 (met_X3_scaleOf hF.2) rfl ⟨Nat.le_of_ble_eq_true rfl, Nat.le_of_ble_eq_true rfl⟩ ⟨Nat.zero_le _, Nat.zero_le _⟩ rfl (Nat.le_of_ble_eq_true rfl) dX3_boxOf_25 rfl (g_ty_j 0 0 (Nat.le_refl _) (Nat.le_refl _) (fun j_9 M_8 hF => ?_))
  refine g_lmul 29 hC dX3_boxOf_28 rfl ?_
  exact g_lreturn hC ⟨_, rfl, hF⟩ dX3_boxOf_29 (Nat.zero_le _) (Nat.zero_le _)
theorem gf_X3_73_3N {G : gG} {cc : ByteArray} {nL : Nat} {ret : Option FieldType} {Qf : Option Value → gM → Prop} {rm : Room} {cells slots : Nat} {M : gM} {lv : List (Nat × Value)} {pc : Nat} {st : List Value} {a : Nat} (n : Nat) (hC : gCx G cc nL RX3 ret Qf rm) {κ : Nat → Prop} (hF : gN M 3 a 34 κ) (hdg : decode cc pc = .ok (.getfield 73, 3)) (hn : pc + 3 = n) (kk : ∀ x, κ x → gAt G cells slots M lv n (.ref x :: st)) : gAt G cells slots M lv pc (.ref a :: st) :=
  g_getN (C := RX3) (T := TX3) (N := 46) in_X3 rfl (by decide) q1421 (fun _ _ _ => rfl) n hC hF hdg hn kk
theorem gf_X3_76_3N {G : gG} {cc : ByteArray} {nL : Nat} {ret : Option FieldType} {Qf : Option Value → gM → Prop} {rm : Room} {cells slots : Nat} {M : gM} {lv : List (Nat × Value)} {pc : Nat} {st : List Value} {a : Nat} (n : Nat) (hC : gCx G cc nL RX3 ret Qf rm) {κ : Nat → Prop} (hF : gN M 3 a 35 κ) (hdg : decode cc pc = .ok (.getfield 76, 3)) (hn : pc + 3 = n) (kk : ∀ x, κ x → gAt G cells slots M lv n (.ref x :: st)) : gAt G cells slots M lv pc (.ref a :: st) :=
  g_getN (C := RX3) (T := TX3) (N := 46) in_X3 rfl (by decide) q1422 (fun _ _ _ => rfl) n hC hF hdg hn kk
abbrev rm_X3_findWays : Room := { frames := 3, cells := 0, slots := 0, locals := 73 }
def F_X3_findWays_b272 (Q : gM → Prop)   (K63 : Int32 → gM → Prop) (K134 : Int32 → gM → Prop) (K168 : Int32 → gM → Prop) (a0 : Nat) (x1 : Int32) (x2 : Int32) (x3 : Int32) (x4 : Int32) (x5 : Int32) (t0 : Nat) (t1 : Int32) (t2 : Int32) (t3 : Int32)  (M : gM) : Prop :=
  uI M t0 t1 (t2 + t3) fun M_1 =>
  K168 (x5 + (1 : Int32)) M_1
theorem w_X3_findWays_b272 {G : gG} {Q : gM → Prop} (hC : gCx G cX3_findWays 8 RX3 none (gQv Q) rm_X3_findWays) (K63 : Int32 → gM → Prop) (K134 : Int32 → gM → Prop) (K168 : Int32 → gM → Prop) (a0 : Nat) (x1 : Int32) (x2 : Int32) (x3 : Int32) (x4 : Int32) (x5 : Int32) (t0 : Nat) (t1 : Int32) (t2 : Int32) (t3 : Int32) (hK63 : ∀ x3' M', K63 x3' M' → gAt G 0 0 M' [(0, .ref a0), (1, .int x1), (2, .int x2), (3, .int x3')] 63 []) (hK134 : ∀ x4' M', K134 x4' M' → gAt G 0 0 M' [(0, .ref a0), (1, .int x1), (2, .int x2), (3, .int x3), (4, .int x4')] 134 []) (hK168 : ∀ x5' M', K168 x5' M' → gAt G 0 0 M' [(0, .ref a0), (1, .int x1), (2, .int x2), (3, .int x3), (4, .int x4), (5, .int x5')] 168 [])   (M : gM) (hF : F_X3_findWays_b272 Q K63 K134 K168 a0 x1 x2 x3 x4 x5 t0 t1 t2 t3 M) : gAt G 0 0 M [(0, .ref a0), (1, .int x1), (2, .int x2), (3, .int x3), (4, .int x4), (5, .int x5)] 272 [.int t3, .int t2, .int t1, .ref t0] := by
  unfold F_X3_findWays_b272 at hF
  refine g_iadd 273 hC dX3_findWays_272 rfl ?_
  refine g_iast 274 hC hF dX3_findWays_273 rfl (fun M_1 hF => ?_)
  refine g_iinc 277 hC (x5 + (1 : Int32)) (lv' := [(5, .int _), (0, .ref _), (1, .int _), (2, .int _), (3, .int _), (4, .int _)]) dX3_findWays_274 rfl 5 rfl rfl (by decide) rfl ?_
  refine g_goto 168 hC dX3_findWays_277 (by decide) ?_
  refine g_sub [1, 2, 3, 4, 5, 0] rfl ?_
  exact hK168 _ _ hF
def F_X3_findWays_b271 (Q : gM → Prop)   (K63 : Int32 → gM → Prop) (K134 : Int32 → gM → Prop) (K168 : Int32 → gM → Prop) (a0 : Nat) (x1 : Int32) (x2 : Int32) (x3 : Int32) (x4 : Int32) (x5 : Int32) (t0 : Nat) (t1 : Int32) (t2 : Int32)  (M : gM) : Prop :=
  F_X3_findWays_b272 Q K63 K134 K168 a0 x1 x2 x3 x4 x5 t0 t1 t2 (0 : Int32) M
theorem w_X3_findWays_b271 {G : gG} {Q : gM → Prop} (hC : gCx G cX3_findWays 8 RX3 none (gQv Q) rm_X3_findWays) (K63 : Int32 → gM → Prop) (K134 : Int32 → gM → Prop) (K168 : Int32 → gM → Prop) (a0 : Nat) (x1 : Int32) (x2 : Int32) (x3 : Int32) (x4 : Int32) (x5 : Int32) (t0 : Nat) (t1 : Int32) (t2 : Int32) (hK63 : ∀ x3' M', K63 x3' M' → gAt G 0 0 M' [(0, .ref a0), (1, .int x1), (2, .int x2), (3, .int x3')] 63 []) (hK134 : ∀ x4' M', K134 x4' M' → gAt G 0 0 M' [(0, .ref a0), (1, .int x1), (2, .int x2), (3, .int x3), (4, .int x4')] 134 []) (hK168 : ∀ x5' M', K168 x5' M' → gAt G 0 0 M' [(0, .ref a0), (1, .int x1), (2, .int x2), (3, .int x3), (4, .int x4), (5, .int x5')] 168 [])   (M : gM) (hF : F_X3_findWays_b271 Q K63 K134 K168 a0 x1 x2 x3 x4 x5 t0 t1 t2 M) : gAt G 0 0 M [(0, .ref a0), (1, .int x1), (2, .int x2), (3, .int x3), (4, .int x4), (5, .int x5)] 271 [.int t2, .int t1, .ref t0] := by
  unfold F_X3_findWays_b271 at hF
  refine g_iconst 272 hC (0 : Int32) dX3_findWays_271 (by decide) rfl ?_
  exact w_X3_findWays_b272 hC _ _ _ _ _ _ _ _ _ _ _ _ _ hK63 hK134 hK168 _ hF
def F_X3_findWays_b238 (Q : gM → Prop)   (K63 : Int32 → gM → Prop) (K134 : Int32 → gM → Prop) (K168 : Int32 → gM → Prop) (a0 : Nat) (x1 : Int32) (x2 : Int32) (x3 : Int32) (x4 : Int32) (x5 : Int32) (x6 : Int32) (x7 : Int32) (t0 : Nat) (t1 : Int32) (t2 : Int32) (t3 : Int32)  (M : gM) : Prop :=
  uI M t0 t1 (t2 + t3) fun M_1 =>
  gN M_1 3 a0 33 fun a_2 =>
  aN M_1 (.array .int) a_2 x3 fun a_3 =>
  aI M_1 .int a_3 x4 fun x_4 =>
  ((x6 = 0 →
    F_X3_findWays_b271 Q K63 K134 K168 a0 x1 x2 x3 x4 x5 a_3 x4 x_4 M_1) ∧
    (¬ x6 = 0 →
    ((x7 = 0 →
      F_X3_findWays_b271 Q K63 K134 K168 a0 x1 x2 x3 x4 x5 a_3 x4 x_4 M_1) ∧
      (¬ x7 = 0 →
      rc M_1 3 a0 ∧ F_X3_numberOf M_1 a0 x1 x5 (3 : Int32) fun x_6 M_5 =>
      F_X3_findWays_b272 Q K63 K134 K168 a0 x1 x2 x3 x4 x5 a_3 x4 x_4 x_6 M_5))))
theorem w_X3_findWays_b238 {G : gG} {Q : gM → Prop} (hC : gCx G cX3_findWays 8 RX3 none (gQv Q) rm_X3_findWays) (K63 : Int32 → gM → Prop) (K134 : Int32 → gM → Prop) (K168 : Int32 → gM → Prop) (a0 : Nat) (x1 : Int32) (x2 : Int32) (x3 : Int32) (x4 : Int32) (x5 : Int32) (x6 : Int32) (x7 : Int32) (t0 : Nat) (t1 : Int32) (t2 : Int32) (t3 : Int32) (hK63 : ∀ x3' M', K63 x3' M' → gAt G 0 0 M' [(0, .ref a0), (1, .int x1), (2, .int x2), (3, .int x3')] 63 []) (hK134 : ∀ x4' M', K134 x4' M' → gAt G 0 0 M' [(0, .ref a0), (1, .int x1), (2, .int x2), (3, .int x3), (4, .int x4')] 134 []) (hK168 : ∀ x5' M', K168 x5' M' → gAt G 0 0 M' [(0, .ref a0), (1, .int x1), (2, .int x2), (3, .int x3), (4, .int x4), (5, .int x5')] 168 [])   (M : gM) (hF : F_X3_findWays_b238 Q K63 K134 K168 a0 x1 x2 x3 x4 x5 x6 x7 t0 t1 t2 t3 M) : gAt G 0 0 M [(0, .ref a0), (1, .int x1), (2, .int x2), (3, .int x3), (4, .int x4), (5, .int x5), (6, .int x6), (7, .int x7)] 238 [.int t3, .int t2, .int t1, .ref t0] := by
  unfold F_X3_findWays_b238 at hF
  refine g_iadd 239 hC dX3_findWays_238 rfl ?_
  refine g_iast 240 hC hF dX3_findWays_239 rfl (fun M_1 hF => ?_)
  refine g_aload_n 241 hC dX3_findWays_240 rfl 0 rfl rfl ?_
  refine gf_X3_70_3N 244 hC hF dX3_findWays_241 rfl (fun a_2 hF => ?_)
  refine g_iload_n 245 hC dX3_findWays_244 rfl 3 rfl rfl ?_
  refine g_aaldN 246 hC hF (by decide) rfl (fun _ _ _ => rfl) dX3_findWays_245 rfl (fun a_3 hF => ?_)
  refine g_iload 248 hC dX3_findWays_246 rfl 4 rfl ?_
  refine g_dup2_11 249 hC dX3_findWays_248 rfl rfl rfl ?_
  refine g_iald 250 hC hF dX3_findWays_249 rfl (fun x_4 hF => ?_)
  refine g_iload 252 hC dX3_findWays_250 rfl 6 rfl ?_
  refine g_if_eq 255 271 hC dX3_findWays_252 (by decide) rfl (fun c => ?_) (fun c => ?_)
  · have hF := hF.1 c
    refine g_sub [0, 1, 2, 3, 4, 5] rfl ?_
    exact w_X3_findWays_b271 hC _ _ _ _ _ _ _ _ _ _ _ _ hK63 hK134 hK168 _ hF
  · have hF := hF.2 c
    refine g_iload 257 hC dX3_findWays_255 rfl 7 rfl ?_
    refine g_if_eq 260 271 hC dX3_findWays_257 (by decide) rfl (fun c => ?_) (fun c => ?_)
    · have hF := hF.1 c
      refine g_sub [0, 1, 2, 3, 4, 5] rfl ?_
      exact w_X3_findWays_b271 hC _ _ _ _ _ _ _ _ _ _ _ _ hK63 hK134 hK168 _ hF
    · have hF := hF.2 c
      refine g_aload_n 261 hC dX3_findWays_260 rfl 0 rfl rfl ?_
      refine g_iload_n 262 hC dX3_findWays_261 rfl 1 rfl rfl ?_
      refine g_iload 264 hC dX3_findWays_262 rfl 5 rfl ?_
      refine g_iconst 265 hC (3 : Int32) dX3_findWays_264 (by decide) rfl ?_
      refine g_cV (rest := [_, _, _]) wl_X3_229 hd_X3_numberOf (ci := 3) rfl 268 hC hF.1 (met_X3_numberOf hF.2) rfl ⟨Nat.le_of_ble_eq_true rfl, Nat.le_of_ble_eq_true rfl⟩ ⟨Nat.zero_le _, Nat.zero_le _⟩ rfl (Nat.le_of_ble_eq_true rfl) dX3_findWays_265 rfl (g_ty_i 0 0 (Nat.le_refl _) (Nat.le_refl _) (fun x_6 M_5 hF => ?_))
      refine g_goto 272 hC dX3_findWays_268 (by decide) ?_
      refine g_sub [0, 1, 2, 3, 4, 5] rfl ?_
      exact w_X3_findWays_b272 hC _ _ _ _ _ _ _ _ _ _ _ _ _ hK63 hK134 hK168 _ hF
def F_X3_findWays_b237 (Q : gM → Prop)   (K63 : Int32 → gM → Prop) (K134 : Int32 → gM → Prop) (K168 : Int32 → gM → Prop) (a0 : Nat) (x1 : Int32) (x2 : Int32) (x3 : Int32) (x4 : Int32) (x5 : Int32) (x6 : Int32) (x7 : Int32) (t0 : Nat) (t1 : Int32) (t2 : Int32)  (M : gM) : Prop :=
  F_X3_findWays_b238 Q K63 K134 K168 a0 x1 x2 x3 x4 x5 x6 x7 t0 t1 t2 (0 : Int32) M
theorem w_X3_findWays_b237 {G : gG} {Q : gM → Prop} (hC : gCx G cX3_findWays 8 RX3 none (gQv Q) rm_X3_findWays) (K63 : Int32 → gM → Prop) (K134 : Int32 → gM → Prop) (K168 : Int32 → gM → Prop) (a0 : Nat) (x1 : Int32) (x2 : Int32) (x3 : Int32) (x4 : Int32) (x5 : Int32) (x6 : Int32) (x7 : Int32) (t0 : Nat) (t1 : Int32) (t2 : Int32) (hK63 : ∀ x3' M', K63 x3' M' → gAt G 0 0 M' [(0, .ref a0), (1, .int x1), (2, .int x2), (3, .int x3')] 63 []) (hK134 : ∀ x4' M', K134 x4' M' → gAt G 0 0 M' [(0, .ref a0), (1, .int x1), (2, .int x2), (3, .int x3), (4, .int x4')] 134 []) (hK168 : ∀ x5' M', K168 x5' M' → gAt G 0 0 M' [(0, .ref a0), (1, .int x1), (2, .int x2), (3, .int x3), (4, .int x4), (5, .int x5')] 168 [])   (M : gM) (hF : F_X3_findWays_b237 Q K63 K134 K168 a0 x1 x2 x3 x4 x5 x6 x7 t0 t1 t2 M) : gAt G 0 0 M [(0, .ref a0), (1, .int x1), (2, .int x2), (3, .int x3), (4, .int x4), (5, .int x5), (6, .int x6), (7, .int x7)] 237 [.int t2, .int t1, .ref t0] := by
  unfold F_X3_findWays_b237 at hF
  refine g_iconst 238 hC (0 : Int32) dX3_findWays_237 (by decide) rfl ?_
  exact w_X3_findWays_b238 hC _ _ _ _ _ _ _ _ _ _ _ _ _ _ _ hK63 hK134 hK168 _ hF
def F_X3_findWays_b206 (Q : gM → Prop)   (K63 : Int32 → gM → Prop) (K134 : Int32 → gM → Prop) (K168 : Int32 → gM → Prop) (a0 : Nat) (x1 : Int32) (x2 : Int32) (x3 : Int32) (x4 : Int32) (x5 : Int32) (x6 : Int32) (t0 : Int32)  (M : gM) : Prop :=
  gN M 3 a0 32 fun a_1 =>
  aN M (.array .int) a_1 x3 fun a_2 =>
  aI M .int a_2 x4 fun x_3 =>
  ((x6 = 0 →
    F_X3_findWays_b237 Q K63 K134 K168 a0 x1 x2 x3 x4 x5 x6 t0 a_2 x4 x_3 M) ∧
    (¬ x6 = 0 →
    ((¬ t0 = 0 →
      F_X3_findWays_b237 Q K63 K134 K168 a0 x1 x2 x3 x4 x5 x6 t0 a_2 x4 x_3 M) ∧
      (t0 = 0 →
      F_X3_power M (5 : Int32) x5 fun x_5 M_4 =>
      F_X3_findWays_b238 Q K63 K134 K168 a0 x1 x2 x3 x4 x5 x6 t0 a_2 x4 x_3 x_5 M_4))))
theorem w_X3_findWays_b206 {G : gG} {Q : gM → Prop} (hC : gCx G cX3_findWays 8 RX3 none (gQv Q) rm_X3_findWays) (K63 : Int32 → gM → Prop) (K134 : Int32 → gM → Prop) (K168 : Int32 → gM → Prop) (a0 : Nat) (x1 : Int32) (x2 : Int32) (x3 : Int32) (x4 : Int32) (x5 : Int32) (x6 : Int32) (t0 : Int32) (hK63 : ∀ x3' M', K63 x3' M' → gAt G 0 0 M' [(0, .ref a0), (1, .int x1), (2, .int x2), (3, .int x3')] 63 []) (hK134 : ∀ x4' M', K134 x4' M' → gAt G 0 0 M' [(0, .ref a0), (1, .int x1), (2, .int x2), (3, .int x3), (4, .int x4')] 134 []) (hK168 : ∀ x5' M', K168 x5' M' → gAt G 0 0 M' [(0, .ref a0), (1, .int x1), (2, .int x2), (3, .int x3), (4, .int x4), (5, .int x5')] 168 [])   (M : gM) (hF : F_X3_findWays_b206 Q K63 K134 K168 a0 x1 x2 x3 x4 x5 x6 t0 M) : gAt G 0 0 M [(0, .ref a0), (1, .int x1), (2, .int x2), (3, .int x3), (4, .int x4), (5, .int x5), (6, .int x6)] 206 [.int t0] := by
  unfold F_X3_findWays_b206 at hF
  refine g_istore 208 hC (lv' := [(7, .int _), (0, .ref _), (1, .int _), (2, .int _), (3, .int _), (4, .int _), (5, .int _), (6, .int _)]) dX3_findWays_206 rfl (by decide) rfl ?_
  refine g_aload_n 209 hC dX3_findWays_208 rfl 1 rfl rfl ?_
  refine gf_X3_67_3N 212 hC hF dX3_findWays_209 rfl (fun a_1 hF => ?_)
  refine g_iload_n 213 hC dX3_findWays_212 rfl 4 rfl rfl ?_
  refine g_aaldN 214 hC hF (by decide) rfl (fun _ _ _ => rfl) dX3_findWays_213 rfl (fun a_2 hF => ?_)
  refine g_iload 216 hC dX3_findWays_214 rfl 5 rfl ?_
  refine g_dup2_11 217 hC dX3_findWays_216 rfl rfl rfl ?_
  refine g_iald 218 hC hF dX3_findWays_217 rfl (fun x_3 hF => ?_)
  refine g_iload 220 hC dX3_findWays_218 rfl 7 rfl ?_
  refine g_if_eq 223 237 hC dX3_findWays_220 (by decide) rfl (fun c => ?_) (fun c => ?_)
  · have hF := hF.1 c
    refine g_sub [1, 2, 3, 4, 5, 6, 7, 0] rfl ?_
    exact w_X3_findWays_b237 hC _ _ _ _ _ _ _ _ _ _ _ _ _ _ hK63 hK134 hK168 _ hF
  · have hF := hF.2 c
    refine g_iload 225 hC dX3_findWays_223 rfl 0 rfl ?_
    refine g_if_ne 228 237 hC dX3_findWays_225 (by decide) rfl (fun c => ?_) (fun c => ?_)
    · have hF := hF.1 c
      refine g_sub [1, 2, 3, 4, 5, 6, 7, 0] rfl ?_
      exact w_X3_findWays_b237 hC _ _ _ _ _ _ _ _ _ _ _ _ _ _ hK63 hK134 hK168 _ hF
    · have hF := hF.2 c
      refine g_iconst 229 hC (5 : Int32) dX3_findWays_228 (by decide) rfl ?_
      refine g_iload 231 hC dX3_findWays_229 rfl 6 rfl ?_
      refine g_cS (rest := [_, _, _]) wl_X3_102 hd_X3_power 234 hC (met_X3_power hF) rfl ⟨Nat.le_of_ble_eq_true rfl, Nat.le_of_ble_eq_true rfl⟩ ⟨Nat.zero_le _, Nat.zero_le _⟩ rfl (Nat.le_of_ble_eq_true rfl) dX3_findWays_231 rfl (g_ty_i 0 0 (Nat.le_refl _) (Nat.le_refl _) (fun x_5 M_4 hF => ?_))
      refine g_goto 238 hC dX3_findWays_234 (by decide) ?_
      refine g_sub [1, 2, 3, 4, 5, 6, 7, 0] rfl ?_
      exact w_X3_findWays_b238 hC _ _ _ _ _ _ _ _ _ _ _ _ _ _ _ hK63 hK134 hK168 _ hF
def F_X3_findWays_b188 (Q : gM → Prop)   (K63 : Int32 → gM → Prop) (K134 : Int32 → gM → Prop) (K168 : Int32 → gM → Prop) (a0 : Nat) (x1 : Int32) (x2 : Int32) (x3 : Int32) (x4 : Int32) (x5 : Int32) (t0 : Int32)  (M : gM) : Prop :=
  F_X3_ofState M x4 x5 fun x_2 M_1 =>
  ((¬ x_2 = (4 : Int32) →
    F_X3_findWays_b206 Q K63 K134 K168 a0 x1 x2 x3 x4 x5 t0 (0 : Int32) M_1) ∧
    (x_2 = (4 : Int32) →
    F_X3_findWays_b206 Q K63 K134 K168 a0 x1 x2 x3 x4 x5 t0 (1 : Int32) M_1))
theorem w_X3_findWays_b188 {G : gG} {Q : gM → Prop} (hC : gCx G cX3_findWays 8 RX3 none (gQv Q) rm_X3_findWays) (K63 : Int32 → gM → Prop) (K134 : Int32 → gM → Prop) (K168 : Int32 → gM → Prop) (a0 : Nat) (x1 : Int32) (x2 : Int32) (x3 : Int32) (x4 : Int32) (x5 : Int32) (t0 : Int32) (hK63 : ∀ x3' M', K63 x3' M' → gAt G 0 0 M' [(0, .ref a0), (1, .int x1), (2, .int x2), (3, .int x3')] 63 []) (hK134 : ∀ x4' M', K134 x4' M' → gAt G 0 0 M' [(0, .ref a0), (1, .int x1), (2, .int x2), (3, .int x3), (4, .int x4')] 134 []) (hK168 : ∀ x5' M', K168 x5' M' → gAt G 0 0 M' [(0, .ref a0), (1, .int x1), (2, .int x2), (3, .int x3), (4, .int x4), (5, .int x5')] 168 [])   (M : gM) (hF : F_X3_findWays_b188 Q K63 K134 K168 a0 x1 x2 x3 x4 x5 t0 M) : gAt G 0 0 M [(0, .ref a0), (1, .int x1), (2, .int x2), (3, .int x3), (4, .int x4), (5, .int x5)] 188 [.int t0] := by
  unfold F_X3_findWays_b188 at hF
  refine g_istore 190 hC (lv' := [(6, .int _), (0, .ref _), (1, .int _), (2, .int _), (3, .int _), (4, .int _), (5, .int _)]) dX3_findWays_188 rfl (by decide) rfl ?_
  refine g_iload 192 hC dX3_findWays_190 rfl 5 rfl ?_
  refine g_iload 194 hC dX3_findWays_192 rfl 6 rfl ?_
  refine g_cS (rest := []) wl_X3_226 hd_X3_ofState 197 hC (met_X3_ofState hF) rfl ⟨Nat.le_of_ble_eq_true rfl, Nat.le_of_ble_eq_true rfl⟩ ⟨Nat.zero_le _, Nat.zero_le _⟩ rfl (Nat.le_of_ble_eq_true rfl) dX3_findWays_194 rfl (g_ty_i 0 0 (Nat.le_refl _) (Nat.le_refl _) (fun x_2 M_1 hF => ?_))
  refine g_iconst 198 hC (4 : Int32) dX3_findWays_197 (by decide) rfl ?_
  refine g_icmp_ne 201 205 hC dX3_findWays_198 (by decide) rfl (fun c => ?_) (fun c => ?_)
  · have hF := hF.1 c
    refine g_iconst 206 hC (0 : Int32) dX3_findWays_205 (by decide) rfl ?_
    refine g_sub [1, 2, 3, 4, 5, 6, 0] rfl ?_
    exact w_X3_findWays_b206 hC _ _ _ _ _ _ _ _ _ _ _ hK63 hK134 hK168 _ hF
  · have hF := hF.2 c
    refine g_iconst 202 hC (1 : Int32) dX3_findWays_201 (by decide) rfl ?_
    refine g_goto 206 hC dX3_findWays_202 (by decide) ?_
    refine g_sub [1, 2, 3, 4, 5, 6, 0] rfl ?_
    exact w_X3_findWays_b206 hC _ _ _ _ _ _ _ _ _ _ _ hK63 hK134 hK168 _ hF
def F_X3_findWays_b168 (Q : gM → Prop)   (K63 : Int32 → gM → Prop) (K134 : Int32 → gM → Prop) (a0 : Nat) (x1 : Int32) (x2 : Int32) (x3 : Int32) (x4 : Int32) : Nat → Int32 → gM → Prop
  | 0, _, _ => False
  | n + 1, x5, M =>
    ((x2 ≤ x5 →
      K134 (x4 + (1 : Int32)) M) ∧
      (¬ x2 ≤ x5 →
      ((((x3 >>> (x5 &&& 31)) &&& (1 : Int32)) = 0 →
        F_X3_findWays_b188 Q K63 K134 (F_X3_findWays_b168 Q K63 K134 a0 x1 x2 x3 x4 n) a0 x1 x2 x3 x4 x5 (0 : Int32) M) ∧
        (¬ ((x3 >>> (x5 &&& 31)) &&& (1 : Int32)) = 0 →
        F_X3_findWays_b188 Q K63 K134 (F_X3_findWays_b168 Q K63 K134 a0 x1 x2 x3 x4 n) a0 x1 x2 x3 x4 x5 (1 : Int32) M))))
theorem w_X3_findWays_b168 {G : gG} {Q : gM → Prop} (hC : gCx G cX3_findWays 8 RX3 none (gQv Q) rm_X3_findWays) (K63 : Int32 → gM → Prop) (K134 : Int32 → gM → Prop) (a0 : Nat) (x1 : Int32) (x2 : Int32) (x3 : Int32) (x4 : Int32) (hK63 : ∀ x3' M', K63 x3' M' → gAt G 0 0 M' [(0, .ref a0), (1, .int x1), (2, .int x2), (3, .int x3')] 63 []) (hK134 : ∀ x4' M', K134 x4' M' → gAt G 0 0 M' [(0, .ref a0), (1, .int x1), (2, .int x2), (3, .int x3), (4, .int x4')] 134 []) : ∀ (n : Nat) (x5 : Int32)   (M : gM), F_X3_findWays_b168 Q K63 K134 a0 x1 x2 x3 x4 n x5 M → gAt G 0 0 M [(0, .ref a0), (1, .int x1), (2, .int x2), (3, .int x3), (4, .int x4), (5, .int x5)] 168 [] := by
  intro n
  induction n with
  | zero =>
    intro x5 M hF
    exact hF.elim
  | succ n ih =>
    intro x5 M hF
    have hK168 := ih
    unfold F_X3_findWays_b168 at hF
    refine g_iload 170 hC dX3_findWays_168 rfl 5 rfl ?_
    refine g_iload_n 171 hC dX3_findWays_170 rfl 2 rfl rfl ?_
    refine g_icmp_ge 174 280 hC dX3_findWays_171 (by decide) rfl (fun c => ?_) (fun c => ?_)
    · have hF := hF.1 c
      refine g_iinc 283 hC (x4 + (1 : Int32)) (lv' := [(4, .int _), (0, .ref _), (1, .int _), (2, .int _), (3, .int _), (5, .int _)]) dX3_findWays_280 rfl 4 rfl rfl (by decide) rfl ?_
      refine g_goto 134 hC dX3_findWays_283 (by decide) ?_
      refine g_sub [1, 2, 3, 4, 0] rfl ?_
      exact hK134 _ _ hF
    · have hF := hF.2 c
      refine g_iload_n 175 hC dX3_findWays_174 rfl 3 rfl rfl ?_
      refine g_iload 177 hC dX3_findWays_175 rfl 5 rfl ?_
      refine g_ishr 178 hC dX3_findWays_177 rfl ?_
      refine g_iconst 179 hC (1 : Int32) dX3_findWays_178 (by decide) rfl ?_
      refine g_iand 180 hC dX3_findWays_179 rfl ?_
      refine g_if_eq 183 187 hC dX3_findWays_180 (by decide) rfl (fun c => ?_) (fun c => ?_)
      · have hF := hF.1 c
        refine g_iconst 188 hC (0 : Int32) dX3_findWays_187 (by decide) rfl ?_
        exact w_X3_findWays_b188 hC _ _ _ _ _ _ _ _ _ _ hK63 hK134 hK168 _ hF
      · have hF := hF.2 c
        refine g_iconst 184 hC (1 : Int32) dX3_findWays_183 (by decide) rfl ?_
        refine g_goto 188 hC dX3_findWays_184 (by decide) ?_
        exact w_X3_findWays_b188 hC _ _ _ _ _ _ _ _ _ _ hK63 hK134 hK168 _ hF
def F_X3_findWays_b134 (Q : gM → Prop)   (K63 : Int32 → gM → Prop) (a0 : Nat) (x1 : Int32) (x2 : Int32) (x3 : Int32) : Nat → Int32 → gM → Prop
  | 0, _, _ => False
  | n + 1, x4, M =>
    rc M 3 a0 ∧ F_X3_states M a0 x1 fun x_2 M_1 =>
    ((x_2 ≤ x4 →
      K63 (x3 + (1 : Int32)) M_1) ∧
      (¬ x_2 ≤ x4 →
      gN M_1 3 a0 32 fun a_3 =>
      aN M_1 (.array .int) a_3 x3 fun a_4 =>
      uI M_1 a_4 x4 x4 fun M_5 =>
      gN M_5 3 a0 33 fun a_6 =>
      aN M_5 (.array .int) a_6 x3 fun a_7 =>
      uI M_5 a_7 x4 (0 : Int32) fun M_8 =>
      ∃ n_9, F_X3_findWays_b168 Q K63 (F_X3_findWays_b134 Q K63 a0 x1 x2 x3 n) a0 x1 x2 x3 x4 n_9 (0 : Int32) M_8))
theorem w_X3_findWays_b134 {G : gG} {Q : gM → Prop} (hC : gCx G cX3_findWays 8 RX3 none (gQv Q) rm_X3_findWays) (K63 : Int32 → gM → Prop) (a0 : Nat) (x1 : Int32) (x2 : Int32) (x3 : Int32) (hK63 : ∀ x3' M', K63 x3' M' → gAt G 0 0 M' [(0, .ref a0), (1, .int x1), (2, .int x2), (3, .int x3')] 63 []) : ∀ (n : Nat) (x4 : Int32)   (M : gM), F_X3_findWays_b134 Q K63 a0 x1 x2 x3 n x4 M → gAt G 0 0 M [(0, .ref a0), (1, .int x1), (2, .int x2), (3, .int x3), (4, .int x4)] 134 [] := by
  intro n
  induction n with
  | zero =>
    intro x4 M hF
    exact hF.elim
  | succ n ih =>
    intro x4 M hF
    have hK134 := ih
    unfold F_X3_findWays_b134 at hF
    refine g_iload 136 hC dX3_findWays_134 rfl 4 rfl ?_
    refine g_aload_n 137 hC dX3_findWays_136 rfl 0 rfl rfl ?_
    refine g_iload_n 138 hC dX3_findWays_137 rfl 1 rfl rfl ?_
    refine g_cV (rest := [_]) wl_X3_110 hd_X3_states (ci := 3) rfl 141 hC hF.1 (met_X3_states hF.2) rfl ⟨Nat.le_of_ble_eq_true rfl, Nat.le_of_ble_eq_true rfl⟩ ⟨Nat.zero_le _, Nat.zero_le _⟩ rfl (Nat.le_of_ble_eq_true rfl) dX3_findWays_138 rfl (g_ty_i 0 0 (Nat.le_refl _) (Nat.le_refl _) (fun x_2 M_1 hF => ?_))
    refine g_icmp_ge 144 286 hC dX3_findWays_141 (by decide) rfl (fun c => ?_) (fun c => ?_)
    · have hF := hF.1 c
      refine g_iinc 289 hC (x3 + (1 : Int32)) (lv' := [(3, .int _), (0, .ref _), (1, .int _), (2, .int _), (4, .int _)]) dX3_findWays_286 rfl 3 rfl rfl (by decide) rfl ?_
      refine g_goto 63 hC dX3_findWays_289 (by decide) ?_
      refine g_sub [1, 2, 3, 0] rfl ?_
      exact hK63 _ _ hF
    · have hF := hF.2 c
      refine g_aload_n 145 hC dX3_findWays_144 rfl 0 rfl rfl ?_
      refine gf_X3_67_3N 148 hC hF dX3_findWays_145 rfl (fun a_3 hF => ?_)
      refine g_iload_n 149 hC dX3_findWays_148 rfl 3 rfl rfl ?_
      refine g_aaldN 150 hC hF (by decide) rfl (fun _ _ _ => rfl) dX3_findWays_149 rfl (fun a_4 hF => ?_)
      refine g_iload 152 hC dX3_findWays_150 rfl 4 rfl ?_
      refine g_iload 154 hC dX3_findWays_152 rfl 4 rfl ?_
      refine g_iast 155 hC hF dX3_findWays_154 rfl (fun M_5 hF => ?_)
      refine g_aload_n 156 hC dX3_findWays_155 rfl 0 rfl rfl ?_
      refine gf_X3_70_3N 159 hC hF dX3_findWays_156 rfl (fun a_6 hF => ?_)
      refine g_iload_n 160 hC dX3_findWays_159 rfl 3 rfl rfl ?_
      refine g_aaldN 161 hC hF (by decide) rfl (fun _ _ _ => rfl) dX3_findWays_160 rfl (fun a_7 hF => ?_)
      refine g_iload 163 hC dX3_findWays_161 rfl 4 rfl ?_
      refine g_iconst 164 hC (0 : Int32) dX3_findWays_163 (by decide) rfl ?_
      refine g_iast 165 hC hF dX3_findWays_164 rfl (fun M_8 hF => ?_)
      refine g_iconst 166 hC (0 : Int32) dX3_findWays_165 (by decide) rfl ?_
      refine g_istore 168 hC (lv' := [(5, .int _), (0, .ref _), (1, .int _), (2, .int _), (3, .int _), (4, .int _)]) dX3_findWays_166 rfl (by decide) rfl ?_
      refine g_sub [1, 2, 3, 4, 5, 0] rfl ?_
      obtain ⟨n_9, hF⟩ := hF
      exact w_X3_findWays_b168 hC _ _ _ _ _ _ _ hK63 hK134 n_9 _ _ hF
def F_X3_findWays_b123 (Q : gM → Prop)   (K63 : Int32 → gM → Prop) (K80 : Int32 → gM → Prop) (a0 : Nat) (x1 : Int32) (x2 : Int32) (x3 : Int32) (x4 : Int32) (t0 : Nat) (t1 : Int32) (t2 : Int64) (t3 : Int64)  (M : gM) : Prop :=
  uJ M t0 t1 (t2 * t3) fun M_1 =>
  K80 (x4 + (1 : Int32)) M_1
theorem w_X3_findWays_b123 {G : gG} {Q : gM → Prop} (hC : gCx G cX3_findWays 8 RX3 none (gQv Q) rm_X3_findWays) (K63 : Int32 → gM → Prop) (K80 : Int32 → gM → Prop) (a0 : Nat) (x1 : Int32) (x2 : Int32) (x3 : Int32) (x4 : Int32) (t0 : Nat) (t1 : Int32) (t2 : Int64) (t3 : Int64) (hK63 : ∀ x3' M', K63 x3' M' → gAt G 0 0 M' [(0, .ref a0), (1, .int x1), (2, .int x2), (3, .int x3')] 63 []) (hK80 : ∀ x4' M', K80 x4' M' → gAt G 0 0 M' [(0, .ref a0), (1, .int x1), (2, .int x2), (3, .int x3), (4, .int x4')] 80 [])   (M : gM) (hF : F_X3_findWays_b123 Q K63 K80 a0 x1 x2 x3 x4 t0 t1 t2 t3 M) : gAt G 0 0 M [(0, .ref a0), (1, .int x1), (2, .int x2), (3, .int x3), (4, .int x4)] 123 [.long t3, .long t2, .int t1, .ref t0] := by
  unfold F_X3_findWays_b123 at hF
  refine g_lmul 124 hC dX3_findWays_123 rfl ?_
  refine g_last 125 hC hF dX3_findWays_124 rfl (fun M_1 hF => ?_)
  refine g_iinc 128 hC (x4 + (1 : Int32)) (lv' := [(4, .int _), (0, .ref _), (1, .int _), (2, .int _), (3, .int _)]) dX3_findWays_125 rfl 4 rfl rfl (by decide) rfl ?_
  refine g_goto 80 hC dX3_findWays_128 (by decide) ?_
  refine g_sub [1, 2, 3, 4, 0] rfl ?_
  exact hK80 _ _ hF
def F_X3_findWays_b80 (Q : gM → Prop)   (K63 : Int32 → gM → Prop) (a0 : Nat) (x1 : Int32) (x2 : Int32) (x3 : Int32) : Nat → Int32 → gM → Prop
  | 0, _, _ => False
  | n + 1, x4, M =>
    ((x2 ≤ x4 →
      ∃ n_1, F_X3_findWays_b134 Q K63 a0 x1 x2 x3 n_1 (0 : Int32) M) ∧
      (¬ x2 ≤ x4 →
      rc M 3 a0 ∧ F_X3_numberOf M a0 x1 x4 (1 : Int32) fun x_3 M_2 =>
      gN M_2 3 a0 31 fun a_4 =>
      aJ M_2 a_4 x3 fun j_5 =>
      ((((x3 >>> (x4 &&& 31)) &&& (1 : Int32)) = 0 →
        F_X3_findWays_b123 Q K63 (F_X3_findWays_b80 Q K63 a0 x1 x2 x3 n) a0 x1 x2 x3 x4 a_4 x3 j_5 (((4 : Int32) - x_3).toInt64) M_2) ∧
        (¬ ((x3 >>> (x4 &&& 31)) &&& (1 : Int32)) = 0 →
        F_X3_findWays_b123 Q K63 (F_X3_findWays_b80 Q K63 a0 x1 x2 x3 n) a0 x1 x2 x3 x4 a_4 x3 j_5 x_3.toInt64 M_2))))
theorem w_X3_findWays_b80 {G : gG} {Q : gM → Prop} (hC : gCx G cX3_findWays 8 RX3 none (gQv Q) rm_X3_findWays) (K63 : Int32 → gM → Prop) (a0 : Nat) (x1 : Int32) (x2 : Int32) (x3 : Int32) (hK63 : ∀ x3' M', K63 x3' M' → gAt G 0 0 M' [(0, .ref a0), (1, .int x1), (2, .int x2), (3, .int x3')] 63 []) : ∀ (n : Nat) (x4 : Int32)   (M : gM), F_X3_findWays_b80 Q K63 a0 x1 x2 x3 n x4 M → gAt G 0 0 M [(0, .ref a0), (1, .int x1), (2, .int x2), (3, .int x3), (4, .int x4)] 80 [] := by
  intro n
  induction n with
  | zero =>
    intro x4 M hF
    exact hF.elim
  | succ n ih =>
    intro x4 M hF
    have hK80 := ih
    unfold F_X3_findWays_b80 at hF
    refine g_iload 82 hC dX3_findWays_80 rfl 4 rfl ?_
    refine g_iload_n 83 hC dX3_findWays_82 rfl 2 rfl rfl ?_
    refine g_icmp_ge 86 131 hC dX3_findWays_83 (by decide) rfl (fun c => ?_) (fun c => ?_)
    · have hF := hF.1 c
      refine g_iconst 132 hC (0 : Int32) dX3_findWays_131 (by decide) rfl ?_
      refine g_istore 134 hC (lv' := [(4, .int _), (0, .ref _), (1, .int _), (2, .int _), (3, .int _)]) dX3_findWays_132 rfl (by decide) rfl ?_
      refine g_sub [1, 2, 3, 4, 0] rfl ?_
      obtain ⟨n_1, hF⟩ := hF
      exact w_X3_findWays_b134 hC _ _ _ _ _ hK63 n_1 _ _ hF
    · have hF := hF.2 c
      refine g_aload_n 87 hC dX3_findWays_86 rfl 0 rfl rfl ?_
      refine g_iload_n 88 hC dX3_findWays_87 rfl 1 rfl rfl ?_
      refine g_iload 90 hC dX3_findWays_88 rfl 4 rfl ?_
      refine g_iconst 91 hC (1 : Int32) dX3_findWays_90 (by decide) rfl ?_
      refine g_cV (rest := []) wl_X3_229 hd_X3_numberOf (ci := 3) rfl 94 hC hF.1 (met_X3_numberOf hF.2) rfl ⟨Nat.le_of_ble_eq_true rfl, Nat.le_of_ble_eq_true rfl⟩ ⟨Nat.zero_le _, Nat.zero_le _⟩ rfl (Nat.le_of_ble_eq_true rfl) dX3_findWays_91 rfl (g_ty_i 0 0 (Nat.le_refl _) (Nat.le_refl _) (fun x_3 M_2 hF => ?_))
      refine g_istore 96 hC (lv' := [(5, .int _), (0, .ref _), (1, .int _), (2, .int _), (3, .int _), (4, .int _)]) dX3_findWays_94 rfl (by decide) rfl ?_
      refine g_aload_n 97 hC dX3_findWays_96 rfl 1 rfl rfl ?_
      refine gf_X3_64_3N 100 hC hF dX3_findWays_97 rfl (fun a_4 hF => ?_)
      refine g_iload_n 101 hC dX3_findWays_100 rfl 4 rfl rfl ?_
      refine g_dup2_11 102 hC dX3_findWays_101 rfl rfl rfl ?_
      refine g_lald 103 hC hF dX3_findWays_102 rfl (fun j_5 hF => ?_)
      refine g_iload_n 104 hC dX3_findWays_103 rfl 4 rfl rfl ?_
      refine g_iload 106 hC dX3_findWays_104 rfl 5 rfl ?_
      refine g_ishr 107 hC dX3_findWays_106 rfl ?_
      refine g_iconst 108 hC (1 : Int32) dX3_findWays_107 (by decide) rfl ?_
      refine g_iand 109 hC dX3_findWays_108 rfl ?_
      refine g_if_eq 112 118 hC dX3_findWays_109 (by decide) rfl (fun c => ?_) (fun c => ?_)
      · have hF := hF.1 c
        refine g_iconst 119 hC (4 : Int32) dX3_findWays_118 (by decide) rfl ?_
        refine g_iload 121 hC dX3_findWays_119 rfl 0 rfl ?_
        refine g_isub 122 hC dX3_findWays_121 rfl ?_
        refine g_i2l 123 hC dX3_findWays_122 rfl ?_
        refine g_sub [1, 2, 3, 4, 5] rfl ?_
        exact w_X3_findWays_b123 hC _ _ _ _ _ _ _ _ _ _ _ hK63 hK80 _ hF
      · have hF := hF.2 c
        refine g_iload 114 hC dX3_findWays_112 rfl 0 rfl ?_
        refine g_i2l 115 hC dX3_findWays_114 rfl ?_
        refine g_goto 123 hC dX3_findWays_115 (by decide) ?_
        refine g_sub [1, 2, 3, 4, 5] rfl ?_
        exact w_X3_findWays_b123 hC _ _ _ _ _ _ _ _ _ _ _ hK63 hK80 _ hF
def F_X3_findWays_b63 (Q : gM → Prop)    (a0 : Nat) (x1 : Int32) (x2 : Int32) : Nat → Int32 → gM → Prop
  | 0, _, _ => False
  | n + 1, x3, M =>
    ((((1 : Int32) <<< (x2 &&& 31)) ≤ x3 →
      Q M) ∧
      (¬ ((1 : Int32) <<< (x2 &&& 31)) ≤ x3 →
      gN M 3 a0 31 fun a_1 =>
      uJ M a_1 x3 (1 : Int64) fun M_2 =>
      ∃ n_3, F_X3_findWays_b80 Q (F_X3_findWays_b63 Q a0 x1 x2 n) a0 x1 x2 x3 n_3 (0 : Int32) M_2))
theorem w_X3_findWays_b63 {G : gG} {Q : gM → Prop} (hC : gCx G cX3_findWays 8 RX3 none (gQv Q) rm_X3_findWays)  (a0 : Nat) (x1 : Int32) (x2 : Int32)  : ∀ (n : Nat) (x3 : Int32)   (M : gM), F_X3_findWays_b63 Q a0 x1 x2 n x3 M → gAt G 0 0 M [(0, .ref a0), (1, .int x1), (2, .int x2), (3, .int x3)] 63 [] := by
  intro n
  induction n with
  | zero =>
    intro x3 M hF
    exact hF.elim
  | succ n ih =>
    intro x3 M hF
    have hK63 := ih
    unfold F_X3_findWays_b63 at hF
    refine g_iload_n 64 hC dX3_findWays_63 rfl 3 rfl rfl ?_
    refine g_iconst 65 hC (1 : Int32) dX3_findWays_64 (by decide) rfl ?_
    refine g_iload_n 66 hC dX3_findWays_65 rfl 2 rfl rfl ?_
    refine g_ishl 67 hC dX3_findWays_66 rfl ?_
    refine g_icmp_ge 70 292 hC dX3_findWays_67 (by decide) rfl (fun c => ?_) (fun c => ?_)
    · have hF := hF.1 c
      exact g_return hC ⟨rfl, hF⟩ dX3_findWays_292 (Nat.zero_le _) (Nat.zero_le _)
    · have hF := hF.2 c
      refine g_aload_n 71 hC dX3_findWays_70 rfl 0 rfl rfl ?_
      refine gf_X3_64_3N 74 hC hF dX3_findWays_71 rfl (fun a_1 hF => ?_)
      refine g_iload_n 75 hC dX3_findWays_74 rfl 3 rfl rfl ?_
      refine g_lconst 76 hC (1 : Int64) dX3_findWays_75 (by decide) rfl ?_
      refine g_last 77 hC hF dX3_findWays_76 rfl (fun M_2 hF => ?_)
      refine g_iconst 78 hC (0 : Int32) dX3_findWays_77 (by decide) rfl ?_
      refine g_istore 80 hC (lv' := [(4, .int _), (0, .ref _), (1, .int _), (2, .int _), (3, .int _)]) dX3_findWays_78 rfl (by decide) rfl ?_
      refine g_sub [1, 2, 3, 4, 0] rfl ?_
      obtain ⟨n_3, hF⟩ := hF
      exact w_X3_findWays_b80 hC _ _ _ _ _ hK63 n_3 _ _ hF
def F_X3_findWays_b8 (Q : gM → Prop)    (a0 : Nat) (x1 : Int32) (x2 : Int32) : Nat → Int32 → gM → Prop
  | 0, _, _ => False
  | n + 1, x3, M =>
    rc M 3 a0 ∧ F_X3_states M a0 x1 fun x_2 M_1 =>
    ((x_2 ≤ x3 →
      ∃ n_3, F_X3_findWays_b63 Q a0 x1 x2 n_3 (0 : Int32) M_1) ∧
      (¬ x_2 ≤ x3 →
      gN M_1 3 a0 34 fun a_4 =>
      rc M_1 3 a0 ∧ F_X3_fillOf M_1 a0 x1 x3 fun x_6 M_5 =>
      uI M_5 a_4 x3 x_6 fun M_7 =>
      gN M_7 3 a0 35 fun a_8 =>
      rc M_7 3 a0 ∧ F_X3_sum M_7 a0 x1 x3 (0 : Int32) fun x_10 M_9 =>
      uI M_9 a_8 x3 x_10 fun M_11 =>
      gN M_11 3 a0 36 fun a_12 =>
      rc M_11 3 a0 ∧ F_X3_sum M_11 a0 x1 x3 (2 : Int32) fun x_14 M_13 =>
      uI M_13 a_12 x3 x_14 fun M_15 =>
      (F_X3_findWays_b8 Q a0 x1 x2 n) (x3 + (1 : Int32)) M_15))
theorem w_X3_findWays_b8 {G : gG} {Q : gM → Prop} (hC : gCx G cX3_findWays 8 RX3 none (gQv Q) rm_X3_findWays)  (a0 : Nat) (x1 : Int32) (x2 : Int32)  : ∀ (n : Nat) (x3 : Int32)   (M : gM), F_X3_findWays_b8 Q a0 x1 x2 n x3 M → gAt G 0 0 M [(0, .ref a0), (1, .int x1), (2, .int x2), (3, .int x3)] 8 [] := by
  intro n
  induction n with
  | zero =>
    intro x3 M hF
    exact hF.elim
  | succ n ih =>
    intro x3 M hF
    have hK8 := ih
    unfold F_X3_findWays_b8 at hF
    refine g_iload_n 9 hC dX3_findWays_8 rfl 3 rfl rfl ?_
    refine g_aload_n 10 hC dX3_findWays_9 rfl 0 rfl rfl ?_
    refine g_iload_n 11 hC dX3_findWays_10 rfl 1 rfl rfl ?_
    refine g_cV (rest := [_]) wl_X3_110 hd_X3_states (ci := 3) rfl 14 hC hF.1 (met_X3_states hF.2) rfl ⟨Nat.le_of_ble_eq_true rfl, Nat.le_of_ble_eq_true rfl⟩ ⟨Nat.zero_le _, Nat.zero_le _⟩ rfl (Nat.le_of_ble_eq_true rfl) dX3_findWays_11 rfl (g_ty_i 0 0 (Nat.le_refl _) (Nat.le_refl _) (fun x_2 M_1 hF => ?_))
    refine g_icmp_ge 17 61 hC dX3_findWays_14 (by decide) rfl (fun c => ?_) (fun c => ?_)
    · have hF := hF.1 c
      refine g_iconst 62 hC (0 : Int32) dX3_findWays_61 (by decide) rfl ?_
      refine g_istore_n 63 hC (lv' := [(3, .int _), (0, .ref _), (1, .int _), (2, .int _)]) dX3_findWays_62 rfl rfl (by decide) rfl ?_
      refine g_sub [1, 2, 3, 0] rfl ?_
      obtain ⟨n_3, hF⟩ := hF
      exact w_X3_findWays_b63 hC _ _ _ n_3 _ _ hF
    · have hF := hF.2 c
      refine g_aload_n 18 hC dX3_findWays_17 rfl 0 rfl rfl ?_
      refine gf_X3_73_3N 21 hC hF dX3_findWays_18 rfl (fun a_4 hF => ?_)
      refine g_iload_n 22 hC dX3_findWays_21 rfl 3 rfl rfl ?_
      refine g_aload_n 23 hC dX3_findWays_22 rfl 0 rfl rfl ?_
      refine g_iload_n 24 hC dX3_findWays_23 rfl 1 rfl rfl ?_
      refine g_iload_n 25 hC dX3_findWays_24 rfl 3 rfl rfl ?_
      refine g_cV (rest := [_, _]) wl_X3_246 hd_X3_fillOf (ci := 3) rfl 28 hC hF.1 (met_X3_fillOf hF.2) rfl ⟨Nat.le_of_ble_eq_true rfl, Nat.le_of_ble_eq_true rfl⟩ ⟨Nat.zero_le _, Nat.zero_le _⟩ rfl (Nat.le_of_ble_eq_true rfl) dX3_findWays_25 rfl (g_ty_i 0 0 (Nat.le_refl _) (Nat.le_refl _) (fun x_6 M_5 hF => ?_))
      refine g_iast 29 hC hF dX3_findWays_28 rfl (fun M_7 hF => ?_)
      refine g_aload_n 30 hC dX3_findWays_29 rfl 0 rfl rfl ?_
      refine gf_X3_76_3N 33 hC hF dX3_findWays_30 rfl (fun a_8 hF => ?_)
      refine g_iload_n 34 hC dX3_findWays_33 rfl 3 rfl rfl ?_
      refine g_aload_n 35 hC dX3_findWays_34 rfl 0 rfl rfl ?_
      refine g_iload_n 36 hC dX3_findWays_35 rfl 1 rfl rfl ?_
      refine g_iload_n 37 hC dX3_findWays_36 rfl 3 rfl rfl ?_
      refine g_iconst 38 hC (0 : Int32) dX3_findWays_37 (by decide) rfl ?_
      refine g_cV (rest := [_, _]) wl_X3_236 hd_X3_sum (ci := 3) rfl 41 hC hF.1 (met_X3_sum hF.2) rfl ⟨Nat.le_of_ble_eq_true rfl, Nat.le_of_ble_eq_true rfl⟩ ⟨Nat.zero_le _, Nat.zero_le _⟩ rfl (Nat.le_of_ble_eq_true rfl) dX3_findWays_38 rfl (g_ty_i 0 0 (Nat.le_refl _) (Nat.le_refl _) (fun x_10 M_9 hF => ?_))
      refine g_iast 42 hC hF dX3_findWays_41 rfl (fun M_11 hF => ?_)
      refine g_aload_n 43 hC dX3_findWays_42 rfl 0 rfl rfl ?_
      refine gf_X3_79_3N 46 hC hF dX3_findWays_43 rfl (fun a_12 hF => ?_)
      refine g_iload_n 47 hC dX3_findWays_46 rfl 3 rfl rfl ?_
      refine g_aload_n 48 hC dX3_findWays_47 rfl 0 rfl rfl ?_
      refine g_iload_n 49 hC dX3_findWays_48 rfl 1 rfl rfl ?_
      refine g_iload_n 50 hC dX3_findWays_49 rfl 3 rfl rfl ?_
      refine g_iconst 51 hC (2 : Int32) dX3_findWays_50 (by decide) rfl ?_
      refine g_cV (rest := [_, _]) wl_X3_236 hd_X3_sum (ci := 3) rfl 54 hC hF.1 (met_X3_sum hF.2) rfl ⟨Nat.le_of_ble_eq_true rfl, Nat.le_of_ble_eq_true rfl⟩ ⟨Nat.zero_le _, Nat.zero_le _⟩ rfl (Nat.le_of_ble_eq_true rfl) dX3_findWays_51 rfl (g_ty_i 0 0 (Nat.le_refl _) (Nat.le_refl _) (fun x_14 M_13 hF => ?_))
      refine g_iast 55 hC hF dX3_findWays_54 rfl (fun M_15 hF => ?_)
      refine g_iinc 58 hC (x3 + (1 : Int32)) (lv' := [(3, .int _), (0, .ref _), (1, .int _), (2, .int _)]) dX3_findWays_55 rfl 3 rfl rfl (by decide) rfl ?_
      refine g_goto 8 hC dX3_findWays_58 (by decide) ?_
      refine g_sub [1, 2, 3, 0] rfl ?_
      exact hK8 _ _ hF
def F_X3_findWays  (M : gM) (a0 : Nat) (x1 : Int32) (Q : gM → Prop)  : Prop :=
  rc M 3 a0 ∧ F_X3_sorts M a0 x1 fun x_2 M_1 =>
  ∃ n_3, F_X3_findWays_b8 Q a0 x1 x_2 n_3 (0 : Int32) M_1
theorem met_X3_findWays {M : gM} {a0 : Nat} {x1 : Int32} {Q : gM → Prop} (hF : F_X3_findWays M a0 x1 Q) : gMt yX3_findWays (ws_ yX3_findWays cX3_findWays 8 none) rm_X3_findWays M [.ref a0, .int x1] (gQv Q) := by
  refine gMet (bytes := cX3_findWays) (maxL := 8) (ret := none) rfl rfl (by decide) (Nat.le_of_ble_eq_true rfl) (lv := [(0, .ref a0), (1, .int x1)]) rfl (fun G hC hin => ?_)
  unfold F_X3_findWays at hF
  refine g_aload_n 1 hC dX3_findWays_0 rfl 0 rfl rfl ?_
  refine g_iload_n 2 hC dX3_findWays_1 rfl 1 rfl rfl ?_
  refine g_cV (rest := []) wl_X3_98 hd_X3_sorts (ci := 3) rfl 5 hC hF.1 (met_X3_sorts hF.2) rfl ⟨Nat.le_of_ble_eq_true rfl, Nat.le_of_ble_eq_true rfl⟩ ⟨Nat.zero_le _, Nat.zero_le _⟩ rfl (Nat.le_of_ble_eq_true rfl) dX3_findWays_2 rfl (g_ty_i 0 0 (Nat.le_refl _) (Nat.le_refl _) (fun x_2 M_1 hF => ?_))
  refine g_istore_n 6 hC (lv' := [(2, .int _), (0, .ref _), (1, .int _)]) dX3_findWays_5 rfl rfl (by decide) rfl ?_
  refine g_iconst 7 hC (0 : Int32) dX3_findWays_6 (by decide) rfl ?_
  refine g_istore_n 8 hC (lv' := [(3, .int _), (2, .int _), (0, .ref _), (1, .int _)]) dX3_findWays_7 rfl rfl (by decide) rfl ?_
  refine g_sub [2, 3, 1, 0] rfl ?_
  obtain ⟨n_3, hF⟩ := hF
  exact w_X3_findWays_b8 hC _ _ _ n_3 _ _ hF
abbrev rm_X3_isLoad : Room := { frames := 3, cells := 0, slots := 0, locals := 69 }
def F_X3_isLoad  (M : gM) (a0 : Nat) (x1 : Int32) (x2 : Int32) (x3 : Int32) (Q : Int32 → gM → Prop)  : Prop :=
  (((x2 - x2 / (5 : Int32) * (5 : Int32)) < (x3 - x3 / (5 : Int32) * (5 : Int32)) →
    Q (0 : Int32) M) ∧
    (¬ (x2 - x2 / (5 : Int32) * (5 : Int32)) < (x3 - x3 / (5 : Int32) * (5 : Int32)) →
    ((((x2 / (5 : Int32)) - (x2 / (5 : Int32)) / (5 : Int32) * (5 : Int32)) < ((x3 / (5 : Int32)) - (x3 / (5 : Int32)) / (5 : Int32) * (5 : Int32)) →
      Q (0 : Int32) M) ∧
      (¬ ((x2 / (5 : Int32)) - (x2 / (5 : Int32)) / (5 : Int32) * (5 : Int32)) < ((x3 / (5 : Int32)) - (x3 / (5 : Int32)) / (5 : Int32) * (5 : Int32)) →
      (((x3 / (25 : Int32)) ≤ (x2 / (25 : Int32)) →
        rc M 3 a0 ∧ F_X3_sum M a0 x1 x3 (0 : Int32) fun x_2 M_1 =>
        gN M_1 3 a0 12 fun a_3 =>
        aN M_1 (.array .int) a_3 x1 fun a_4 =>
        aI M_1 .int a_4 (2 : Int32) fun x_5 =>
        ((x_5 < x_2 →
          Q (0 : Int32) M_1) ∧
          (¬ x_5 < x_2 →
          Q (1 : Int32) M_1))) ∧
        (¬ (x3 / (25 : Int32)) ≤ (x2 / (25 : Int32)) →
        Q (0 : Int32) M))))))
theorem met_X3_isLoad {M : gM} {a0 : Nat} {x1 : Int32} {x2 : Int32} {x3 : Int32} {Q : Int32 → gM → Prop} (hF : F_X3_isLoad M a0 x1 x2 x3 Q) : gMt yX3_isLoad (ws_ yX3_isLoad cX3_isLoad 4 (some .boolean)) rm_X3_isLoad M [.ref a0, .int x1, .int x2, .int x3] (gQi Q) := by
  refine gMet (bytes := cX3_isLoad) (maxL := 4) (ret := (some .boolean)) rfl rfl (by decide) (Nat.le_of_ble_eq_true rfl) (lv := [(0, .ref a0), (1, .int x1), (2, .int x2), (3, .int x3)]) rfl (fun G hC hin => ?_)
  unfold F_X3_isLoad at hF
  refine g_iload_n 1 hC dX3_isLoad_0 rfl 3 rfl rfl ?_
  refine g_iconst 2 hC (5 : Int32) dX3_isLoad_1 (by decide) rfl ?_
  refine g_irem 3 hC (by decide) dX3_isLoad_2 rfl ?_
  refine g_iload_n 4 hC dX3_isLoad_3 rfl 2 rfl rfl ?_
  refine g_iconst 5 hC (5 : Int32) dX3_isLoad_4 (by decide) rfl ?_
  refine g_irem 6 hC (by decide) dX3_isLoad_5 rfl ?_
  refine g_icmp_gt 9 33 hC dX3_isLoad_6 (by decide) rfl (fun c => ?_) (fun c => ?_)
  · have hF := hF.1 c
    refine g_iconst 34 hC (0 : Int32) dX3_isLoad_33 (by decide) rfl ?_
    exact g_zreturn hC ⟨_, rfl, hF⟩ (Or.inl rfl) dX3_isLoad_34 (Nat.zero_le _) (Nat.zero_le _)
  · have hF := hF.2 c
    refine g_iload_n 10 hC dX3_isLoad_9 rfl 3 rfl rfl ?_
    refine g_iconst 11 hC (5 : Int32) dX3_isLoad_10 (by decide) rfl ?_
    refine g_idiv 12 hC (by decide) dX3_isLoad_11 rfl ?_
    refine g_iconst 13 hC (5 : Int32) dX3_isLoad_12 (by decide) rfl ?_
    refine g_irem 14 hC (by decide) dX3_isLoad_13 rfl ?_
    refine g_iload_n 15 hC dX3_isLoad_14 rfl 2 rfl rfl ?_
    refine g_iconst 16 hC (5 : Int32) dX3_isLoad_15 (by decide) rfl ?_
    refine g_idiv 17 hC (by decide) dX3_isLoad_16 rfl ?_
    refine g_iconst 18 hC (5 : Int32) dX3_isLoad_17 (by decide) rfl ?_
    refine g_irem 19 hC (by decide) dX3_isLoad_18 rfl ?_
    refine g_icmp_gt 22 33 hC dX3_isLoad_19 (by decide) rfl (fun c => ?_) (fun c => ?_)
    · have hF := hF.1 c
      refine g_iconst 34 hC (0 : Int32) dX3_isLoad_33 (by decide) rfl ?_
      exact g_zreturn hC ⟨_, rfl, hF⟩ (Or.inl rfl) dX3_isLoad_34 (Nat.zero_le _) (Nat.zero_le _)
    · have hF := hF.2 c
      refine g_iload_n 23 hC dX3_isLoad_22 rfl 3 rfl rfl ?_
      refine g_bipush 25 hC (25 : Int32) dX3_isLoad_23 (by decide) rfl ?_
      refine g_idiv 26 hC (by decide) dX3_isLoad_25 rfl ?_
      refine g_iload_n 27 hC dX3_isLoad_26 rfl 2 rfl rfl ?_
      refine g_bipush 29 hC (25 : Int32) dX3_isLoad_27 (by decide) rfl ?_
      refine g_idiv 30 hC (by decide) dX3_isLoad_29 rfl ?_
      refine g_icmp_le 33 35 hC dX3_isLoad_30 (by decide) rfl (fun c => ?_) (fun c => ?_)
      · have hF := hF.1 c
        refine g_aload_n 36 hC dX3_isLoad_35 rfl 0 rfl rfl ?_
        refine g_iload_n 37 hC dX3_isLoad_36 rfl 1 rfl rfl ?_
        refine g_iload_n 38 hC dX3_isLoad_37 rfl 3 rfl rfl ?_
        refine g_iconst 39 hC (0 : Int32) dX3_isLoad_38 (by decide) rfl ?_
        refine g_cV (rest := []) wl_X3_236 hd_X3_sum (ci := 3) rfl 42 hC hF.1 (met_X3_sum hF.2) rfl ⟨Nat.le_of_ble_eq_true rfl, Nat.le_of_ble_eq_true rfl⟩ ⟨Nat.zero_le _, Nat.zero_le _⟩ rfl (Nat.le_of_ble_eq_true rfl) dX3_isLoad_39 rfl (g_ty_i 0 0 (Nat.le_refl _) (Nat.le_refl _) (fun x_2 M_1 hF => ?_))
        refine g_aload_n 43 hC dX3_isLoad_42 rfl 0 rfl rfl ?_
        refine gf_X3_45_3N 46 hC hF dX3_isLoad_43 rfl (fun a_3 hF => ?_)
        refine g_iload_n 47 hC dX3_isLoad_46 rfl 1 rfl rfl ?_
        refine g_aaldN 48 hC hF (by decide) rfl (fun _ _ _ => rfl) dX3_isLoad_47 rfl (fun a_4 hF => ?_)
        refine g_iconst 49 hC (2 : Int32) dX3_isLoad_48 (by decide) rfl ?_
        refine g_iald 50 hC hF dX3_isLoad_49 rfl (fun x_5 hF => ?_)
        refine g_icmp_gt 53 57 hC dX3_isLoad_50 (by decide) rfl (fun c => ?_) (fun c => ?_)
        · have hF := hF.1 c
          refine g_iconst 58 hC (0 : Int32) dX3_isLoad_57 (by decide) rfl ?_
          exact g_zreturn hC ⟨_, rfl, hF⟩ (Or.inl rfl) dX3_isLoad_58 (Nat.zero_le _) (Nat.zero_le _)
        · have hF := hF.2 c
          refine g_iconst 54 hC (1 : Int32) dX3_isLoad_53 (by decide) rfl ?_
          refine g_goto 58 hC dX3_isLoad_54 (by decide) ?_
          exact g_zreturn hC ⟨_, rfl, hF⟩ (Or.inr rfl) dX3_isLoad_58 (Nat.zero_le _) (Nat.zero_le _)
      · have hF := hF.2 c
        refine g_iconst 34 hC (0 : Int32) dX3_isLoad_33 (by decide) rfl ?_
        exact g_zreturn hC ⟨_, rfl, hF⟩ (Or.inl rfl) dX3_isLoad_34 (Nat.zero_le _) (Nat.zero_le _)
theorem gf_X3_82_3N {G : gG} {cc : ByteArray} {nL : Nat} {ret : Option FieldType} {Qf : Option Value → gM → Prop} {rm : Room} {cells slots : Nat} {M : gM} {lv : List (Nat × Value)} {pc : Nat} {st : List Value} {a : Nat} (n : Nat) (hC : gCx G cc nL RX3 ret Qf rm) {κ : Nat → Prop} (hF : gN M 3 a 37 κ) (hdg : decode cc pc = .ok (.getfield 82, 3)) (hn : pc + 3 = n) (kk : ∀ x, κ x → gAt G cells slots M lv n (.ref x :: st)) : gAt G cells slots M lv pc (.ref a :: st) :=
  g_getN (C := RX3) (T := TX3) (N := 46) in_X3 rfl (by decide) q1424 (fun _ _ _ => rfl) n hC hF hdg hn kk
theorem gf_X3_55_3N {G : gG} {cc : ByteArray} {nL : Nat} {ret : Option FieldType} {Qf : Option Value → gM → Prop} {rm : Room} {cells slots : Nat} {M : gM} {lv : List (Nat × Value)} {pc : Nat} {st : List Value} {a : Nat} (n : Nat) (hC : gCx G cc nL RX3 ret Qf rm) {κ : Nat → Prop} (hF : gN M 3 a 28 κ) (hdg : decode cc pc = .ok (.getfield 55, 3)) (hn : pc + 3 = n) (kk : ∀ x, κ x → gAt G cells slots M lv n (.ref x :: st)) : gAt G cells slots M lv pc (.ref a :: st) :=
  g_getN (C := RX3) (T := TX3) (N := 46) in_X3 rfl (by decide) q1415 (fun _ _ _ => rfl) n hC hF hdg hn kk
theorem gf_X3_58_3N {G : gG} {cc : ByteArray} {nL : Nat} {ret : Option FieldType} {Qf : Option Value → gM → Prop} {rm : Room} {cells slots : Nat} {M : gM} {lv : List (Nat × Value)} {pc : Nat} {st : List Value} {a : Nat} (n : Nat) (hC : gCx G cc nL RX3 ret Qf rm) {κ : Nat → Prop} (hF : gN M 3 a 29 κ) (hdg : decode cc pc = .ok (.getfield 58, 3)) (hn : pc + 3 = n) (kk : ∀ x, κ x → gAt G cells slots M lv n (.ref x :: st)) : gAt G cells slots M lv pc (.ref a :: st) :=
  g_getN (C := RX3) (T := TX3) (N := 46) in_X3 rfl (by decide) q1416 (fun _ _ _ => rfl) n hC hF hdg hn kk
theorem hd_X3_isLoad : yX3_isLoad.cls = RX3 ∧ yX3_isLoad.cls ≠ "java/lang/invoke/MethodHandle" ∧ yX3_isLoad.cls ≠ "java/lang/invoke/VarHandle" ∧ (parseMethodDescriptor yX3_isLoad.desc).map (fun d => d.parameters.length) = some 3 := by decide +kernel
theorem wl_X3_257 : GoodIn lw_all (wsV RX3 257 RX3 yX3_isLoad (ws_ yX3_isLoad cX3_isLoad 4 (some .boolean))) := lw_V q1745 q1747 qs47 q72 q1748
theorem hd_X3_boxOf : yX3_boxOf.cls = RX3 ∧ yX3_boxOf.cls ≠ "java/lang/invoke/MethodHandle" ∧ yX3_boxOf.cls ≠ "java/lang/invoke/VarHandle" ∧ (parseMethodDescriptor yX3_boxOf.desc).map (fun d => d.parameters.length) = some 2 := by decide +kernel
theorem wl_X3_261 : GoodIn lw_all (wsV RX3 261 RX3 yX3_boxOf (ws_ yX3_boxOf cX3_boxOf 3 (some .long))) := lw_V q1749 q1751 qs48 q72 q1752
theorem gf_X3_88_3I {G : gG} {cc : ByteArray} {nL : Nat} {ret : Option FieldType} {Qf : Option Value → gM → Prop} {rm : Room} {cells slots : Nat} {M : gM} {lv : List (Nat × Value)} {pc : Nat} {st : List Value} {a : Nat} (n : Nat) (hC : gCx G cc nL RX3 ret Qf rm) {κ : Int32 → Prop} (hF : gI M 3 a 39 κ) (hdg : decode cc pc = .ok (.getfield 88, 3)) (hn : pc + 3 = n) (kk : ∀ x, κ x → gAt G cells slots M lv n (.int x :: st)) : gAt G cells slots M lv pc (.ref a :: st) :=
  g_getI (C := RX3) (T := TX3) (N := 46) in_X3 rfl (by decide) q1426 (fun _ _ _ => rfl) n hC hF hdg hn kk
theorem hd_X3_behind : yX3_behind.cls = RX3 ∧ yX3_behind.cls ≠ "java/lang/invoke/MethodHandle" ∧ yX3_behind.cls ≠ "java/lang/invoke/VarHandle" ∧ (parseMethodDescriptor yX3_behind.desc).map (fun d => d.parameters.length) = some 4 := by decide +kernel
theorem wl_X3_253 : GoodIn lw_all (wsV RX3 253 RX3 yX3_behind (ws_ yX3_behind cX3_behind 11 (some .long))) := lw_V q1741 q1743 qs46 q72 q1744
theorem hd_X3_findWays : yX3_findWays.cls = RX3 ∧ yX3_findWays.cls ≠ "java/lang/invoke/MethodHandle" ∧ yX3_findWays.cls ≠ "java/lang/invoke/VarHandle" ∧ (parseMethodDescriptor yX3_findWays.desc).map (fun d => d.parameters.length) = some 1 := by decide +kernel
theorem wl_X3_249 : GoodIn lw_all (wsV RX3 249 RX3 yX3_findWays (ws_ yX3_findWays cX3_findWays 8 none)) := lw_V q1737 q1739 qs45 q72 q1740
abbrev rm_X3_findBest : Room := { frames := 4, cells := 0, slots := 0, locals := 100 }
def F_X3_findBest_b206 (Q : gM → Prop)   (K49 : Int32 → gM → Prop) (K101 : Int32 → gM → Prop) (K124 : Int64 → Int32 → Int32 → gM → Prop) (a0 : Nat) (x1 : Int32) (x2 : Int32) (x3 : Int32) (j4 : Int64) (x6 : Int32) (x7 : Int32)   (M : gM) : Prop :=
  K124 j4 x6 (x7 + (1 : Int32)) M
theorem w_X3_findBest_b206 {G : gG} {Q : gM → Prop} (hC : gCx G cX3_findBest 10 RX3 none (gQv Q) rm_X3_findBest) (K49 : Int32 → gM → Prop) (K101 : Int32 → gM → Prop) (K124 : Int64 → Int32 → Int32 → gM → Prop) (a0 : Nat) (x1 : Int32) (x2 : Int32) (x3 : Int32) (j4 : Int64) (x6 : Int32) (x7 : Int32)  (hK49 : ∀ x2' M', K49 x2' M' → gAt G 0 0 M' [(0, .ref a0), (1, .int x1), (2, .int x2')] 49 []) (hK101 : ∀ x3' M', K101 x3' M' → gAt G 0 0 M' [(0, .ref a0), (1, .int x1), (2, .int x2), (3, .int x3')] 101 []) (hK124 : ∀ j4' x6' x7' M', K124 j4' x6' x7' M' → gAt G 0 0 M' [(0, .ref a0), (1, .int x1), (2, .int x2), (3, .int x3), (4, .long j4'), (6, .int x6'), (7, .int x7')] 124 [])   (M : gM) (hF : F_X3_findBest_b206 Q K49 K101 K124 a0 x1 x2 x3 j4 x6 x7 M) : gAt G 0 0 M [(0, .ref a0), (1, .int x1), (2, .int x2), (3, .int x3), (4, .long j4), (6, .int x6), (7, .int x7)] 206 [] := by
  unfold F_X3_findBest_b206 at hF
  refine g_iinc 209 hC (x7 + (1 : Int32)) (lv' := [(7, .int _), (0, .ref _), (1, .int _), (2, .int _), (3, .int _), (4, .long _), (6, .int _)]) dX3_findBest_206 rfl 6 rfl rfl (by decide) rfl ?_
  refine g_goto 124 hC dX3_findBest_209 (by decide) ?_
  refine g_sub [1, 2, 3, 4, 5, 6, 0] rfl ?_
  exact hK124 _ _ _ _ hF
def F_X3_findBest_b198 (Q : gM → Prop)   (K49 : Int32 → gM → Prop) (K101 : Int32 → gM → Prop) (K124 : Int64 → Int32 → Int32 → gM → Prop) (a0 : Nat) (x1 : Int32) (x2 : Int32) (x3 : Int32) (x7 : Int32) (j8 : Int64)   (M : gM) : Prop :=
  F_X3_findBest_b206 Q K49 K101 K124 a0 x1 x2 x3 j8 x7 x7 M
theorem w_X3_findBest_b198 {G : gG} {Q : gM → Prop} (hC : gCx G cX3_findBest 10 RX3 none (gQv Q) rm_X3_findBest) (K49 : Int32 → gM → Prop) (K101 : Int32 → gM → Prop) (K124 : Int64 → Int32 → Int32 → gM → Prop) (a0 : Nat) (x1 : Int32) (x2 : Int32) (x3 : Int32) (x7 : Int32) (j8 : Int64)  (hK49 : ∀ x2' M', K49 x2' M' → gAt G 0 0 M' [(0, .ref a0), (1, .int x1), (2, .int x2')] 49 []) (hK101 : ∀ x3' M', K101 x3' M' → gAt G 0 0 M' [(0, .ref a0), (1, .int x1), (2, .int x2), (3, .int x3')] 101 []) (hK124 : ∀ j4' x6' x7' M', K124 j4' x6' x7' M' → gAt G 0 0 M' [(0, .ref a0), (1, .int x1), (2, .int x2), (3, .int x3), (4, .long j4'), (6, .int x6'), (7, .int x7')] 124 [])   (M : gM) (hF : F_X3_findBest_b198 Q K49 K101 K124 a0 x1 x2 x3 x7 j8 M) : gAt G 0 0 M [(0, .ref a0), (1, .int x1), (2, .int x2), (3, .int x3), (7, .int x7), (8, .long j8)] 198 [] := by
  unfold F_X3_findBest_b198 at hF
  refine g_lload 200 hC dX3_findBest_198 rfl 5 rfl ?_
  refine g_lstore 202 hC (lv' := [(4, .long _), (0, .ref _), (1, .int _), (2, .int _), (3, .int _), (7, .int _), (8, .long _)]) dX3_findBest_200 rfl (by decide) rfl ?_
  refine g_iload 204 hC dX3_findBest_202 rfl 5 rfl ?_
  refine g_istore 206 hC (lv' := [(6, .int _), (4, .long _), (0, .ref _), (1, .int _), (2, .int _), (3, .int _), (7, .int _), (8, .long _)]) dX3_findBest_204 rfl (by decide) rfl ?_
  refine g_sub [2, 3, 4, 5, 1, 0, 6] rfl ?_
  exact w_X3_findBest_b206 hC _ _ _ _ _ _ _ _ _ _ hK49 hK101 hK124 _ hF
def F_X3_findBest_b124 (Q : gM → Prop)   (K49 : Int32 → gM → Prop) (K101 : Int32 → gM → Prop) (a0 : Nat) (x1 : Int32) (x2 : Int32) (x3 : Int32) : Nat → Int64 → Int32 → Int32 → gM → Prop
  | 0, _, _, _, _ => False
  | n + 1, j4, x6, x7, M =>
    ((x3 < x7 →
      gN M 3 a0 28 fun a_1 =>
      aN M (.array .long) a_1 x2 fun a_2 =>
      gN M 3 a0 12 fun a_3 =>
      aN M (.array .int) a_3 x1 fun a_4 =>
      aI M .int a_4 (3 : Int32) fun x_5 =>
      gN M 3 a0 37 fun a_6 =>
      aJ M a_6 x3 fun j_7 =>
      gN M 3 a0 12 fun a_8 =>
      aN M (.array .int) a_8 x1 fun a_9 =>
      aI M .int a_9 (3 : Int32) fun x_10 =>
      uJ M a_2 x3 ((x_5.toInt64 * j_7) + (((4 : Int32) - x_10).toInt64 * j4)) fun M_11 =>
      gN M_11 3 a0 29 fun a_12 =>
      aN M_11 (.array .int) a_12 x2 fun a_13 =>
      uI M_11 a_13 x3 x6 fun M_14 =>
      K101 (x3 + (1 : Int32)) M_14) ∧
      (¬ x3 < x7 →
      gN M 3 a0 35 fun a_15 =>
      aI M .int a_15 x7 fun x_16 =>
      gN M 3 a0 12 fun a_17 =>
      aN M (.array .int) a_17 x1 fun a_18 =>
      aI M .int a_18 (2 : Int32) fun x_19 =>
      ((x_19 < x_16 →
        F_X3_findBest_b206 Q K49 K101 (F_X3_findBest_b124 Q K49 K101 a0 x1 x2 x3 n) a0 x1 x2 x3 j4 x6 x7 M) ∧
        (¬ x_19 < x_16 →
        rc M 3 a0 ∧ F_X3_isLoad M a0 x1 x3 x7 fun x_21 M_20 =>
        ((x_21 = 0 →
          F_X3_findBest_b206 Q K49 K101 (F_X3_findBest_b124 Q K49 K101 a0 x1 x2 x3 n) a0 x1 x2 x3 j4 x6 x7 M_20) ∧
          (¬ x_21 = 0 →
          rc M_20 3 a0 ∧ F_X3_boxOf M_20 a0 x1 x2 fun j_23 M_22 =>
          gN M_22 3 a0 37 fun a_24 =>
          aJ M_22 a_24 (x3 - x7) fun j_25 =>
          (((j_23 + j_25) < j4 →
            F_X3_findBest_b198 Q K49 K101 (F_X3_findBest_b124 Q K49 K101 a0 x1 x2 x3 n) a0 x1 x2 x3 x7 (j_23 + j_25) M_22) ∧
            (¬ (j_23 + j_25) < j4 →
            gI M_22 3 a0 39 fun x_26 =>
            ((¬ x2 = x_26 →
              F_X3_findBest_b206 Q K49 K101 (F_X3_findBest_b124 Q K49 K101 a0 x1 x2 x3 n) a0 x1 x2 x3 j4 x6 x7 M_22) ∧
              (x2 = x_26 →
              ((¬ x6 = 0 →
                F_X3_findBest_b206 Q K49 K101 (F_X3_findBest_b124 Q K49 K101 a0 x1 x2 x3 n) a0 x1 x2 x3 j4 x6 x7 M_22) ∧
                (x6 = 0 →
                F_X3_findBest_b198 Q K49 K101 (F_X3_findBest_b124 Q K49 K101 a0 x1 x2 x3 n) a0 x1 x2 x3 x7 (j_23 + j_25) M_22))))))))))))
theorem w_X3_findBest_b124 {G : gG} {Q : gM → Prop} (hC : gCx G cX3_findBest 10 RX3 none (gQv Q) rm_X3_findBest) (K49 : Int32 → gM → Prop) (K101 : Int32 → gM → Prop) (a0 : Nat) (x1 : Int32) (x2 : Int32) (x3 : Int32) (hK49 : ∀ x2' M', K49 x2' M' → gAt G 0 0 M' [(0, .ref a0), (1, .int x1), (2, .int x2')] 49 []) (hK101 : ∀ x3' M', K101 x3' M' → gAt G 0 0 M' [(0, .ref a0), (1, .int x1), (2, .int x2), (3, .int x3')] 101 []) : ∀ (n : Nat) (j4 : Int64) (x6 : Int32) (x7 : Int32)   (M : gM), F_X3_findBest_b124 Q K49 K101 a0 x1 x2 x3 n j4 x6 x7 M → gAt G 0 0 M [(0, .ref a0), (1, .int x1), (2, .int x2), (3, .int x3), (4, .long j4), (6, .int x6), (7, .int x7)] 124 [] := by
  intro n
  induction n with
  | zero =>
    intro j4 x6 x7 M hF
    exact hF.elim
  | succ n ih =>
    intro j4 x6 x7 M hF
    have hK124 := ih
    unfold F_X3_findBest_b124 at hF
    refine g_iload 126 hC dX3_findBest_124 rfl 6 rfl ?_
    refine g_iload_n 127 hC dX3_findBest_126 rfl 3 rfl rfl ?_
    refine g_icmp_gt 130 212 hC dX3_findBest_127 (by decide) rfl (fun c => ?_) (fun c => ?_)
    · have hF := hF.1 c
      refine g_aload_n 213 hC dX3_findBest_212 rfl 0 rfl rfl ?_
      refine gf_X3_55_3N 216 hC hF dX3_findBest_213 rfl (fun a_1 hF => ?_)
      refine g_iload_n 217 hC dX3_findBest_216 rfl 2 rfl rfl ?_
      refine g_aaldN 218 hC hF (by decide) rfl (fun _ _ _ => rfl) dX3_findBest_217 rfl (fun a_2 hF => ?_)
      refine g_iload_n 219 hC dX3_findBest_218 rfl 3 rfl rfl ?_
      refine g_aload_n 220 hC dX3_findBest_219 rfl 0 rfl rfl ?_
      refine gf_X3_45_3N 223 hC hF dX3_findBest_220 rfl (fun a_3 hF => ?_)
      refine g_iload_n 224 hC dX3_findBest_223 rfl 1 rfl rfl ?_
      refine g_aaldN 225 hC hF (by decide) rfl (fun _ _ _ => rfl) dX3_findBest_224 rfl (fun a_4 hF => ?_)
      refine g_iconst 226 hC (3 : Int32) dX3_findBest_225 (by decide) rfl ?_
      refine g_iald 227 hC hF dX3_findBest_226 rfl (fun x_5 hF => ?_)
      refine g_i2l 228 hC dX3_findBest_227 rfl ?_
      refine g_aload_n 229 hC dX3_findBest_228 rfl 0 rfl rfl ?_
      refine gf_X3_82_3N 232 hC hF dX3_findBest_229 rfl (fun a_6 hF => ?_)
      refine g_iload_n 233 hC dX3_findBest_232 rfl 3 rfl rfl ?_
      refine g_lald 234 hC hF dX3_findBest_233 rfl (fun j_7 hF => ?_)
      refine g_lmul 235 hC dX3_findBest_234 rfl ?_
      refine g_iconst 236 hC (4 : Int32) dX3_findBest_235 (by decide) rfl ?_
      refine g_aload_n 237 hC dX3_findBest_236 rfl 0 rfl rfl ?_
      refine gf_X3_45_3N 240 hC hF dX3_findBest_237 rfl (fun a_8 hF => ?_)
      refine g_iload_n 241 hC dX3_findBest_240 rfl 1 rfl rfl ?_
      refine g_aaldN 242 hC hF (by decide) rfl (fun _ _ _ => rfl) dX3_findBest_241 rfl (fun a_9 hF => ?_)
      refine g_iconst 243 hC (3 : Int32) dX3_findBest_242 (by decide) rfl ?_
      refine g_iald 244 hC hF dX3_findBest_243 rfl (fun x_10 hF => ?_)
      refine g_isub 245 hC dX3_findBest_244 rfl ?_
      refine g_i2l 246 hC dX3_findBest_245 rfl ?_
      refine g_lload 248 hC dX3_findBest_246 rfl 4 rfl ?_
      refine g_lmul 249 hC dX3_findBest_248 rfl ?_
      refine g_ladd 250 hC dX3_findBest_249 rfl ?_
      refine g_last 251 hC hF dX3_findBest_250 rfl (fun M_11 hF => ?_)
      refine g_aload_n 252 hC dX3_findBest_251 rfl 0 rfl rfl ?_
      refine gf_X3_58_3N 255 hC hF dX3_findBest_252 rfl (fun a_12 hF => ?_)
      refine g_iload_n 256 hC dX3_findBest_255 rfl 2 rfl rfl ?_
      refine g_aaldN 257 hC hF (by decide) rfl (fun _ _ _ => rfl) dX3_findBest_256 rfl (fun a_13 hF => ?_)
      refine g_iload_n 258 hC dX3_findBest_257 rfl 3 rfl rfl ?_
      refine g_iload 260 hC dX3_findBest_258 rfl 5 rfl ?_
      refine g_iast 261 hC hF dX3_findBest_260 rfl (fun M_14 hF => ?_)
      refine g_iinc 264 hC (x3 + (1 : Int32)) (lv' := [(3, .int _), (0, .ref _), (1, .int _), (2, .int _), (4, .long _), (6, .int _), (7, .int _)]) dX3_findBest_261 rfl 3 rfl rfl (by decide) rfl ?_
      refine g_goto 101 hC dX3_findBest_264 (by decide) ?_
      refine g_sub [1, 2, 3, 0] rfl ?_
      exact hK101 _ _ hF
    · have hF := hF.2 c
      refine g_aload_n 131 hC dX3_findBest_130 rfl 0 rfl rfl ?_
      refine gf_X3_76_3N 134 hC hF dX3_findBest_131 rfl (fun a_15 hF => ?_)
      refine g_iload 136 hC dX3_findBest_134 rfl 6 rfl ?_
      refine g_iald 137 hC hF dX3_findBest_136 rfl (fun x_16 hF => ?_)
      refine g_aload_n 138 hC dX3_findBest_137 rfl 0 rfl rfl ?_
      refine gf_X3_45_3N 141 hC hF dX3_findBest_138 rfl (fun a_17 hF => ?_)
      refine g_iload_n 142 hC dX3_findBest_141 rfl 1 rfl rfl ?_
      refine g_aaldN 143 hC hF (by decide) rfl (fun _ _ _ => rfl) dX3_findBest_142 rfl (fun a_18 hF => ?_)
      refine g_iconst 144 hC (2 : Int32) dX3_findBest_143 (by decide) rfl ?_
      refine g_iald 145 hC hF dX3_findBest_144 rfl (fun x_19 hF => ?_)
      refine g_icmp_gt 148 206 hC dX3_findBest_145 (by decide) rfl (fun c => ?_) (fun c => ?_)
      · have hF := hF.1 c
        exact w_X3_findBest_b206 hC _ _ _ _ _ _ _ _ _ _ hK49 hK101 hK124 _ hF
      · have hF := hF.2 c
        refine g_aload_n 149 hC dX3_findBest_148 rfl 0 rfl rfl ?_
        refine g_iload_n 150 hC dX3_findBest_149 rfl 1 rfl rfl ?_
        refine g_iload_n 151 hC dX3_findBest_150 rfl 3 rfl rfl ?_
        refine g_iload 153 hC dX3_findBest_151 rfl 6 rfl ?_
        refine g_cV (rest := []) wl_X3_257 hd_X3_isLoad (ci := 3) rfl 156 hC hF.1 (met_X3_isLoad hF.2) rfl ⟨Nat.le_of_ble_eq_true rfl, Nat.le_of_ble_eq_true rfl⟩ ⟨Nat.zero_le _, Nat.zero_le _⟩ rfl (Nat.le_of_ble_eq_true rfl) dX3_findBest_153 rfl (g_ty_i 0 0 (Nat.le_refl _) (Nat.le_refl _) (fun x_21 M_20 hF => ?_))
        refine g_if_eq 159 206 hC dX3_findBest_156 (by decide) rfl (fun c => ?_) (fun c => ?_)
        · have hF := hF.1 c
          exact w_X3_findBest_b206 hC _ _ _ _ _ _ _ _ _ _ hK49 hK101 hK124 _ hF
        · have hF := hF.2 c
          refine g_aload_n 160 hC dX3_findBest_159 rfl 0 rfl rfl ?_
          refine g_iload_n 161 hC dX3_findBest_160 rfl 1 rfl rfl ?_
          refine g_iload_n 162 hC dX3_findBest_161 rfl 2 rfl rfl ?_
          refine g_cV (rest := []) wl_X3_261 hd_X3_boxOf (ci := 3) rfl 165 hC hF.1 (met_X3_boxOf hF.2) rfl ⟨Nat.le_of_ble_eq_true rfl, Nat.le_of_ble_eq_true rfl⟩ ⟨Nat.zero_le _, Nat.zero_le _⟩ rfl (Nat.le_of_ble_eq_true rfl) dX3_findBest_162 rfl (g_ty_j 0 0 (Nat.le_refl _) (Nat.le_refl _) (fun j_23 M_22 hF => ?_))
          refine g_aload_n 166 hC dX3_findBest_165 rfl 0 rfl rfl ?_
          refine gf_X3_82_3N 169 hC hF dX3_findBest_166 rfl (fun a_24 hF => ?_)
          refine g_iload_n 170 hC dX3_findBest_169 rfl 3 rfl rfl ?_
          refine g_iload 172 hC dX3_findBest_170 rfl 6 rfl ?_
          refine g_isub 173 hC dX3_findBest_172 rfl ?_
          refine g_lald 174 hC hF dX3_findBest_173 rfl (fun j_25 hF => ?_)
          refine g_ladd 175 hC dX3_findBest_174 rfl ?_
          refine g_lstore 177 hC (lv' := [(8, .long _), (0, .ref _), (1, .int _), (2, .int _), (3, .int _), (4, .long _), (6, .int _), (7, .int _)]) dX3_findBest_175 rfl (by decide) rfl ?_
          refine g_lload 179 hC dX3_findBest_177 rfl 0 rfl ?_
          refine g_lload 181 hC dX3_findBest_179 rfl 5 rfl ?_
          refine g_lcmp_lt 185 198 hC dX3_findBest_181 rfl dX3_findBest_182 (by decide) rfl (fun c => ?_) (fun c => ?_)
          · have hF := hF.1 c
            refine g_sub [1, 2, 3, 4, 7, 0] rfl ?_
            exact w_X3_findBest_b198 hC _ _ _ _ _ _ _ _ _ hK49 hK101 hK124 _ hF
          · have hF := hF.2 c
            refine g_iload_n 186 hC dX3_findBest_185 rfl 3 rfl rfl ?_
            refine g_aload_n 187 hC dX3_findBest_186 rfl 1 rfl rfl ?_
            refine gf_X3_88_3I 190 hC hF dX3_findBest_187 rfl (fun x_26 hF => ?_)
            refine g_icmp_ne 193 206 hC dX3_findBest_190 (by decide) rfl (fun c => ?_) (fun c => ?_)
            · have hF := hF.1 c
              refine g_sub [1, 2, 3, 4, 5, 6, 7] rfl ?_
              exact w_X3_findBest_b206 hC _ _ _ _ _ _ _ _ _ _ hK49 hK101 hK124 _ hF
            · have hF := hF.2 c
              refine g_iload 195 hC dX3_findBest_193 rfl 6 rfl ?_
              refine g_if_ne 198 206 hC dX3_findBest_195 (by decide) rfl (fun c => ?_) (fun c => ?_)
              · have hF := hF.1 c
                refine g_sub [1, 2, 3, 4, 5, 6, 7] rfl ?_
                exact w_X3_findBest_b206 hC _ _ _ _ _ _ _ _ _ _ hK49 hK101 hK124 _ hF
              · have hF := hF.2 c
                refine g_sub [1, 2, 3, 4, 7, 0] rfl ?_
                exact w_X3_findBest_b198 hC _ _ _ _ _ _ _ _ _ hK49 hK101 hK124 _ hF
def F_X3_findBest_b101 (Q : gM → Prop)   (K49 : Int32 → gM → Prop) (a0 : Nat) (x1 : Int32) (x2 : Int32) : Nat → Int32 → gM → Prop
  | 0, _, _ => False
  | n + 1, x3, M =>
    rc M 3 a0 ∧ F_X3_states M a0 x1 fun x_2 M_1 =>
    ((x_2 ≤ x3 →
      K49 (x2 + (1 : Int32)) M_1) ∧
      (¬ x_2 ≤ x3 →
      gN M_1 3 a0 37 fun a_3 =>
      aJ M_1 a_3 x3 fun j_4 =>
      ∃ n_5, F_X3_findBest_b124 Q K49 (F_X3_findBest_b101 Q K49 a0 x1 x2 n) a0 x1 x2 x3 n_5 j_4 (0 : Int32) (1 : Int32) M_1))
theorem w_X3_findBest_b101 {G : gG} {Q : gM → Prop} (hC : gCx G cX3_findBest 10 RX3 none (gQv Q) rm_X3_findBest) (K49 : Int32 → gM → Prop) (a0 : Nat) (x1 : Int32) (x2 : Int32) (hK49 : ∀ x2' M', K49 x2' M' → gAt G 0 0 M' [(0, .ref a0), (1, .int x1), (2, .int x2')] 49 []) : ∀ (n : Nat) (x3 : Int32)   (M : gM), F_X3_findBest_b101 Q K49 a0 x1 x2 n x3 M → gAt G 0 0 M [(0, .ref a0), (1, .int x1), (2, .int x2), (3, .int x3)] 101 [] := by
  intro n
  induction n with
  | zero =>
    intro x3 M hF
    exact hF.elim
  | succ n ih =>
    intro x3 M hF
    have hK101 := ih
    unfold F_X3_findBest_b101 at hF
    refine g_iload_n 102 hC dX3_findBest_101 rfl 3 rfl rfl ?_
    refine g_aload_n 103 hC dX3_findBest_102 rfl 0 rfl rfl ?_
    refine g_iload_n 104 hC dX3_findBest_103 rfl 1 rfl rfl ?_
    refine g_cV (rest := [_]) wl_X3_110 hd_X3_states (ci := 3) rfl 107 hC hF.1 (met_X3_states hF.2) rfl ⟨Nat.le_of_ble_eq_true rfl, Nat.le_of_ble_eq_true rfl⟩ ⟨Nat.zero_le _, Nat.zero_le _⟩ rfl (Nat.le_of_ble_eq_true rfl) dX3_findBest_104 rfl (g_ty_i 0 0 (Nat.le_refl _) (Nat.le_refl _) (fun x_2 M_1 hF => ?_))
    refine g_icmp_ge 110 267 hC dX3_findBest_107 (by decide) rfl (fun c => ?_) (fun c => ?_)
    · have hF := hF.1 c
      refine g_iinc 270 hC (x2 + (1 : Int32)) (lv' := [(2, .int _), (0, .ref _), (1, .int _), (3, .int _)]) dX3_findBest_267 rfl 2 rfl rfl (by decide) rfl ?_
      refine g_goto 49 hC dX3_findBest_270 (by decide) ?_
      refine g_sub [1, 2, 0] rfl ?_
      exact hK49 _ _ hF
    · have hF := hF.2 c
      refine g_aload_n 111 hC dX3_findBest_110 rfl 0 rfl rfl ?_
      refine gf_X3_82_3N 114 hC hF dX3_findBest_111 rfl (fun a_3 hF => ?_)
      refine g_iload_n 115 hC dX3_findBest_114 rfl 3 rfl rfl ?_
      refine g_lald 116 hC hF dX3_findBest_115 rfl (fun j_4 hF => ?_)
      refine g_lstore 118 hC (lv' := [(4, .long _), (0, .ref _), (1, .int _), (2, .int _), (3, .int _)]) dX3_findBest_116 rfl (by decide) rfl ?_
      refine g_iconst 119 hC (0 : Int32) dX3_findBest_118 (by decide) rfl ?_
      refine g_istore 121 hC (lv' := [(6, .int _), (4, .long _), (0, .ref _), (1, .int _), (2, .int _), (3, .int _)]) dX3_findBest_119 rfl (by decide) rfl ?_
      refine g_iconst 122 hC (1 : Int32) dX3_findBest_121 (by decide) rfl ?_
      refine g_istore 124 hC (lv' := [(7, .int _), (6, .int _), (4, .long _), (0, .ref _), (1, .int _), (2, .int _), (3, .int _)]) dX3_findBest_122 rfl (by decide) rfl ?_
      refine g_sub [3, 4, 5, 6, 2, 1, 0] rfl ?_
      obtain ⟨n_5, hF⟩ := hF
      exact w_X3_findBest_b124 hC _ _ _ _ _ _ hK49 hK101 n_5 _ _ _ _ hF
def F_X3_findBest_b63 (Q : gM → Prop)   (K49 : Int32 → gM → Prop) (a0 : Nat) (x1 : Int32) (x2 : Int32) : Nat → Int32 → gM → Prop
  | 0, _, _ => False
  | n + 1, x3, M =>
    rc M 3 a0 ∧ F_X3_states M a0 x1 fun x_2 M_1 =>
    ((x_2 ≤ x3 →
      ∃ n_3, F_X3_findBest_b101 Q K49 a0 x1 x2 n_3 (0 : Int32) M_1) ∧
      (¬ x_2 ≤ x3 →
      gN M_1 3 a0 37 fun a_4 =>
      gN M_1 3 a0 28 fun a_5 =>
      aN M_1 (.array .long) a_5 (x2 - (1 : Int32)) fun a_6 =>
      rc M_1 3 a0 ∧ F_X3_behind M_1 a0 x1 x2 x3 a_6 fun j_8 M_7 =>
      uJ M_7 a_4 x3 j_8 fun M_9 =>
      (F_X3_findBest_b63 Q K49 a0 x1 x2 n) (x3 + (1 : Int32)) M_9))
theorem w_X3_findBest_b63 {G : gG} {Q : gM → Prop} (hC : gCx G cX3_findBest 10 RX3 none (gQv Q) rm_X3_findBest) (K49 : Int32 → gM → Prop) (a0 : Nat) (x1 : Int32) (x2 : Int32) (hK49 : ∀ x2' M', K49 x2' M' → gAt G 0 0 M' [(0, .ref a0), (1, .int x1), (2, .int x2')] 49 []) : ∀ (n : Nat) (x3 : Int32)   (M : gM), F_X3_findBest_b63 Q K49 a0 x1 x2 n x3 M → gAt G 0 0 M [(0, .ref a0), (1, .int x1), (2, .int x2), (3, .int x3)] 63 [] := by
  intro n
  induction n with
  | zero =>
    intro x3 M hF
    exact hF.elim
  | succ n ih =>
    intro x3 M hF
    have hK63 := ih
    unfold F_X3_findBest_b63 at hF
    refine g_iload_n 64 hC dX3_findBest_63 rfl 3 rfl rfl ?_
    refine g_aload_n 65 hC dX3_findBest_64 rfl 0 rfl rfl ?_
    refine g_iload_n 66 hC dX3_findBest_65 rfl 1 rfl rfl ?_
    refine g_cV (rest := [_]) wl_X3_110 hd_X3_states (ci := 3) rfl 69 hC hF.1 (met_X3_states hF.2) rfl ⟨Nat.le_of_ble_eq_true rfl, Nat.le_of_ble_eq_true rfl⟩ ⟨Nat.zero_le _, Nat.zero_le _⟩ rfl (Nat.le_of_ble_eq_true rfl) dX3_findBest_66 rfl (g_ty_i 0 0 (Nat.le_refl _) (Nat.le_refl _) (fun x_2 M_1 hF => ?_))
    refine g_icmp_ge 72 99 hC dX3_findBest_69 (by decide) rfl (fun c => ?_) (fun c => ?_)
    · have hF := hF.1 c
      refine g_iconst 100 hC (0 : Int32) dX3_findBest_99 (by decide) rfl ?_
      refine g_istore_n 101 hC (lv' := [(3, .int _), (0, .ref _), (1, .int _), (2, .int _)]) dX3_findBest_100 rfl rfl (by decide) rfl ?_
      refine g_sub [1, 2, 3, 0] rfl ?_
      obtain ⟨n_3, hF⟩ := hF
      exact w_X3_findBest_b101 hC _ _ _ _ hK49 n_3 _ _ hF
    · have hF := hF.2 c
      refine g_aload_n 73 hC dX3_findBest_72 rfl 0 rfl rfl ?_
      refine gf_X3_82_3N 76 hC hF dX3_findBest_73 rfl (fun a_4 hF => ?_)
      refine g_iload_n 77 hC dX3_findBest_76 rfl 3 rfl rfl ?_
      refine g_aload_n 78 hC dX3_findBest_77 rfl 0 rfl rfl ?_
      refine g_iload_n 79 hC dX3_findBest_78 rfl 1 rfl rfl ?_
      refine g_iload_n 80 hC dX3_findBest_79 rfl 2 rfl rfl ?_
      refine g_iload_n 81 hC dX3_findBest_80 rfl 3 rfl rfl ?_
      refine g_aload_n 82 hC dX3_findBest_81 rfl 0 rfl rfl ?_
      refine gf_X3_55_3N 85 hC hF dX3_findBest_82 rfl (fun a_5 hF => ?_)
      refine g_iload_n 86 hC dX3_findBest_85 rfl 2 rfl rfl ?_
      refine g_iconst 87 hC (1 : Int32) dX3_findBest_86 (by decide) rfl ?_
      refine g_isub 88 hC dX3_findBest_87 rfl ?_
      refine g_aaldN 89 hC hF (by decide) rfl (fun _ _ _ => rfl) dX3_findBest_88 rfl (fun a_6 hF => ?_)
      refine g_cV (rest := [_, _]) wl_X3_253 hd_X3_behind (ci := 3) rfl 92 hC hF.1 (met_X3_behind hF.2) rfl ⟨Nat.le_of_ble_eq_true rfl, Nat.le_of_ble_eq_true rfl⟩ ⟨Nat.zero_le _, Nat.zero_le _⟩ rfl (Nat.le_of_ble_eq_true rfl) dX3_findBest_89 rfl (g_ty_j 0 0 (Nat.le_refl _) (Nat.le_refl _) (fun j_8 M_7 hF => ?_))
      refine g_last 93 hC hF dX3_findBest_92 rfl (fun M_9 hF => ?_)
      refine g_iinc 96 hC (x3 + (1 : Int32)) (lv' := [(3, .int _), (0, .ref _), (1, .int _), (2, .int _)]) dX3_findBest_93 rfl 3 rfl rfl (by decide) rfl ?_
      refine g_goto 63 hC dX3_findBest_96 (by decide) ?_
      refine g_sub [1, 2, 3, 0] rfl ?_
      exact hK63 _ _ hF
def F_X3_findBest_b49 (Q : gM → Prop)    (a0 : Nat) (x1 : Int32) : Nat → Int32 → gM → Prop
  | 0, _, _ => False
  | n + 1, x2, M =>
    gN M 3 a0 12 fun a_1 =>
    aN M (.array .int) a_1 x1 fun a_2 =>
    aI M .int a_2 (0 : Int32) fun x_3 =>
    ((x_3 < x2 →
      Q M) ∧
      (¬ x_3 < x2 →
      ∃ n_4, F_X3_findBest_b63 Q (F_X3_findBest_b49 Q a0 x1 n) a0 x1 x2 n_4 (0 : Int32) M))
theorem w_X3_findBest_b49 {G : gG} {Q : gM → Prop} (hC : gCx G cX3_findBest 10 RX3 none (gQv Q) rm_X3_findBest)  (a0 : Nat) (x1 : Int32)  : ∀ (n : Nat) (x2 : Int32)   (M : gM), F_X3_findBest_b49 Q a0 x1 n x2 M → gAt G 0 0 M [(0, .ref a0), (1, .int x1), (2, .int x2)] 49 [] := by
  intro n
  induction n with
  | zero =>
    intro x2 M hF
    exact hF.elim
  | succ n ih =>
    intro x2 M hF
    have hK49 := ih
    unfold F_X3_findBest_b49 at hF
    refine g_iload_n 50 hC dX3_findBest_49 rfl 2 rfl rfl ?_
    refine g_aload_n 51 hC dX3_findBest_50 rfl 0 rfl rfl ?_
    refine gf_X3_45_3N 54 hC hF dX3_findBest_51 rfl (fun a_1 hF => ?_)
    refine g_iload_n 55 hC dX3_findBest_54 rfl 1 rfl rfl ?_
    refine g_aaldN 56 hC hF (by decide) rfl (fun _ _ _ => rfl) dX3_findBest_55 rfl (fun a_2 hF => ?_)
    refine g_iconst 57 hC (0 : Int32) dX3_findBest_56 (by decide) rfl ?_
    refine g_iald 58 hC hF dX3_findBest_57 rfl (fun x_3 hF => ?_)
    refine g_icmp_gt 61 273 hC dX3_findBest_58 (by decide) rfl (fun c => ?_) (fun c => ?_)
    · have hF := hF.1 c
      exact g_return hC ⟨rfl, hF⟩ dX3_findBest_273 (Nat.zero_le _) (Nat.zero_le _)
    · have hF := hF.2 c
      refine g_iconst 62 hC (0 : Int32) dX3_findBest_61 (by decide) rfl ?_
      refine g_istore_n 63 hC (lv' := [(3, .int _), (0, .ref _), (1, .int _), (2, .int _)]) dX3_findBest_62 rfl rfl (by decide) rfl ?_
      refine g_sub [1, 2, 3, 0] rfl ?_
      obtain ⟨n_4, hF⟩ := hF
      exact w_X3_findBest_b63 hC _ _ _ _ hK49 n_4 _ _ hF
def F_X3_findBest_b7 (Q : gM → Prop)    (a0 : Nat) (x1 : Int32) : Nat → Int32 → gM → Prop
  | 0, _, _ => False
  | n + 1, x2, M =>
    rc M 3 a0 ∧ F_X3_states M a0 x1 fun x_2 M_1 =>
    ((x_2 ≤ x2 →
      ∃ n_3, F_X3_findBest_b49 Q a0 x1 n_3 (1 : Int32) M_1) ∧
      (¬ x_2 ≤ x2 →
      gN M_1 3 a0 28 fun a_4 =>
      aN M_1 (.array .long) a_4 (0 : Int32) fun a_5 =>
      rc M_1 3 a0 ∧ F_X3_sum M_1 a0 x1 x2 (4 : Int32) fun x_7 M_6 =>
      uJ M_6 a_5 x2 x_7.toInt64 fun M_8 =>
      gN M_8 3 a0 29 fun a_9 =>
      aN M_8 (.array .int) a_9 (0 : Int32) fun a_10 =>
      uI M_8 a_10 x2 (0 : Int32) fun M_11 =>
      (F_X3_findBest_b7 Q a0 x1 n) (x2 + (1 : Int32)) M_11))
theorem w_X3_findBest_b7 {G : gG} {Q : gM → Prop} (hC : gCx G cX3_findBest 10 RX3 none (gQv Q) rm_X3_findBest)  (a0 : Nat) (x1 : Int32)  : ∀ (n : Nat) (x2 : Int32)   (M : gM), F_X3_findBest_b7 Q a0 x1 n x2 M → gAt G 0 0 M [(0, .ref a0), (1, .int x1), (2, .int x2)] 7 [] := by
  intro n
  induction n with
  | zero =>
    intro x2 M hF
    exact hF.elim
  | succ n ih =>
    intro x2 M hF
    have hK7 := ih
    unfold F_X3_findBest_b7 at hF
    refine g_iload_n 8 hC dX3_findBest_7 rfl 2 rfl rfl ?_
    refine g_aload_n 9 hC dX3_findBest_8 rfl 0 rfl rfl ?_
    refine g_iload_n 10 hC dX3_findBest_9 rfl 1 rfl rfl ?_
    refine g_cV (rest := [_]) wl_X3_110 hd_X3_states (ci := 3) rfl 13 hC hF.1 (met_X3_states hF.2) rfl ⟨Nat.le_of_ble_eq_true rfl, Nat.le_of_ble_eq_true rfl⟩ ⟨Nat.zero_le _, Nat.zero_le _⟩ rfl (Nat.le_of_ble_eq_true rfl) dX3_findBest_10 rfl (g_ty_i 0 0 (Nat.le_refl _) (Nat.le_refl _) (fun x_2 M_1 hF => ?_))
    refine g_icmp_ge 16 47 hC dX3_findBest_13 (by decide) rfl (fun c => ?_) (fun c => ?_)
    · have hF := hF.1 c
      refine g_iconst 48 hC (1 : Int32) dX3_findBest_47 (by decide) rfl ?_
      refine g_istore_n 49 hC (lv' := [(2, .int _), (0, .ref _), (1, .int _)]) dX3_findBest_48 rfl rfl (by decide) rfl ?_
      refine g_sub [1, 2, 0] rfl ?_
      obtain ⟨n_3, hF⟩ := hF
      exact w_X3_findBest_b49 hC _ _ n_3 _ _ hF
    · have hF := hF.2 c
      refine g_aload_n 17 hC dX3_findBest_16 rfl 0 rfl rfl ?_
      refine gf_X3_55_3N 20 hC hF dX3_findBest_17 rfl (fun a_4 hF => ?_)
      refine g_iconst 21 hC (0 : Int32) dX3_findBest_20 (by decide) rfl ?_
      refine g_aaldN 22 hC hF (by decide) rfl (fun _ _ _ => rfl) dX3_findBest_21 rfl (fun a_5 hF => ?_)
      refine g_iload_n 23 hC dX3_findBest_22 rfl 2 rfl rfl ?_
      refine g_aload_n 24 hC dX3_findBest_23 rfl 0 rfl rfl ?_
      refine g_iload_n 25 hC dX3_findBest_24 rfl 1 rfl rfl ?_
      refine g_iload_n 26 hC dX3_findBest_25 rfl 2 rfl rfl ?_
      refine g_iconst 27 hC (4 : Int32) dX3_findBest_26 (by decide) rfl ?_
      refine g_cV (rest := [_, _]) wl_X3_236 hd_X3_sum (ci := 3) rfl 30 hC hF.1 (met_X3_sum hF.2) rfl ⟨Nat.le_of_ble_eq_true rfl, Nat.le_of_ble_eq_true rfl⟩ ⟨Nat.zero_le _, Nat.zero_le _⟩ rfl (Nat.le_of_ble_eq_true rfl) dX3_findBest_27 rfl (g_ty_i 0 0 (Nat.le_refl _) (Nat.le_refl _) (fun x_7 M_6 hF => ?_))
      refine g_i2l 31 hC dX3_findBest_30 rfl ?_
      refine g_last 32 hC hF dX3_findBest_31 rfl (fun M_8 hF => ?_)
      refine g_aload_n 33 hC dX3_findBest_32 rfl 0 rfl rfl ?_
      refine gf_X3_58_3N 36 hC hF dX3_findBest_33 rfl (fun a_9 hF => ?_)
      refine g_iconst 37 hC (0 : Int32) dX3_findBest_36 (by decide) rfl ?_
      refine g_aaldN 38 hC hF (by decide) rfl (fun _ _ _ => rfl) dX3_findBest_37 rfl (fun a_10 hF => ?_)
      refine g_iload_n 39 hC dX3_findBest_38 rfl 2 rfl rfl ?_
      refine g_iconst 40 hC (0 : Int32) dX3_findBest_39 (by decide) rfl ?_
      refine g_iast 41 hC hF dX3_findBest_40 rfl (fun M_11 hF => ?_)
      refine g_iinc 44 hC (x2 + (1 : Int32)) (lv' := [(2, .int _), (0, .ref _), (1, .int _)]) dX3_findBest_41 rfl 2 rfl rfl (by decide) rfl ?_
      refine g_goto 7 hC dX3_findBest_44 (by decide) ?_
      refine g_sub [1, 2, 0] rfl ?_
      exact hK7 _ _ hF
def F_X3_findBest  (M : gM) (a0 : Nat) (x1 : Int32) (Q : gM → Prop)  : Prop :=
  rc M 3 a0 ∧ F_X3_findWays M a0 x1 fun M_1 =>
  ∃ n_3, F_X3_findBest_b7 Q a0 x1 n_3 (0 : Int32) M_1
theorem met_X3_findBest {M : gM} {a0 : Nat} {x1 : Int32} {Q : gM → Prop} (hF : F_X3_findBest M a0 x1 Q) : gMt yX3_findBest (ws_ yX3_findBest cX3_findBest 10 none) rm_X3_findBest M [.ref a0, .int x1] (gQv Q) := by
  refine gMet (bytes := cX3_findBest) (maxL := 10) (ret := none) rfl rfl (by decide) (Nat.le_of_ble_eq_true rfl) (lv := [(0, .ref a0), (1, .int x1)]) rfl (fun G hC hin => ?_)
  unfold F_X3_findBest at hF
  refine g_aload_n 1 hC dX3_findBest_0 rfl 0 rfl rfl ?_
  refine g_iload_n 2 hC dX3_findBest_1 rfl 1 rfl rfl ?_
  refine g_cV (rest := []) wl_X3_249 hd_X3_findWays (ci := 3) rfl 5 hC hF.1 (met_X3_findWays hF.2) rfl ⟨Nat.le_of_ble_eq_true rfl, Nat.le_of_ble_eq_true rfl⟩ ⟨Nat.zero_le _, Nat.zero_le _⟩ rfl (Nat.le_of_ble_eq_true rfl) dX3_findBest_2 rfl (g_ty_v 0 0 (Nat.le_refl _) (Nat.le_refl _) (fun M_1 hF => ?_))
  refine g_iconst 6 hC (0 : Int32) dX3_findBest_5 (by decide) rfl ?_
  refine g_istore_n 7 hC (lv' := [(2, .int _), (0, .ref _), (1, .int _)]) dX3_findBest_6 rfl rfl (by decide) rfl ?_
  refine g_sub [1, 2, 0] rfl ?_
  obtain ⟨n_3, hF⟩ := hF
  exact w_X3_findBest_b7 hC _ _ n_3 _ _ hF
theorem hd_X3_findBest : yX3_findBest.cls = RX3 ∧ yX3_findBest.cls ≠ "java/lang/invoke/MethodHandle" ∧ yX3_findBest.cls ≠ "java/lang/invoke/VarHandle" ∧ (parseMethodDescriptor yX3_findBest.desc).map (fun d => d.parameters.length) = some 1 := by decide +kernel
theorem wl_X3_264 : GoodIn lw_all (wsV RX3 264 RX3 yX3_findBest (ws_ yX3_findBest cX3_findBest 10 none)) := lw_V q1733 q1735 qs44 q72 q1736
abbrev rm_X3_cost : Room := { frames := 5, cells := 0, slots := 0, locals := 129 }
def F_X3_cost_b18 (Q : Int64 → gM → Prop)    (a0 : Nat)   (M : gM) : Prop :=
  rc M 3 a0 ∧ F_X3_refuse M a0 (-2 : Int32) fun x_2 M_1 =>
  Q x_2.toInt64 M_1
theorem w_X3_cost_b18 {G : gG} {Q : Int64 → gM → Prop} (hC : gCx G cX3_cost 4 RX3 (some .long) (gQj Q) rm_X3_cost)  (a0 : Nat)     (M : gM) (hF : F_X3_cost_b18 Q a0 M) : gAt G 0 0 M [(0, .ref a0)] 18 [] := by
  unfold F_X3_cost_b18 at hF
  refine g_aload_n 19 hC dX3_cost_18 rfl 0 rfl rfl ?_
  refine g_bipush 21 hC (-2 : Int32) dX3_cost_19 (by decide) rfl ?_
  refine g_cV (rest := []) wl_X3_119 hd_X3_refuse (ci := 3) rfl 24 hC hF.1 (met_X3_refuse hF.2) rfl ⟨Nat.le_of_ble_eq_true rfl, Nat.le_of_ble_eq_true rfl⟩ ⟨Nat.zero_le _, Nat.zero_le _⟩ rfl (Nat.le_of_ble_eq_true rfl) dX3_cost_21 rfl (g_ty_i 0 0 (Nat.le_refl _) (Nat.le_refl _) (fun x_2 M_1 hF => ?_))
  refine g_i2l 25 hC dX3_cost_24 rfl ?_
  exact g_lreturn hC ⟨_, rfl, hF⟩ dX3_cost_25 (Nat.zero_le _) (Nat.zero_le _)
def F_X3_cost  (M : gM) (a0 : Nat) (x1 : Int32) (x2 : Int32) (x3 : Int32) (Q : Int64 → gM → Prop)  : Prop :=
  rc M 3 a0 ∧ F_X3_isLeft M a0 x1 x2 fun x_2 M_1 =>
  ((x_2 = 0 →
    F_X3_cost_b18 Q a0 M_1) ∧
    (¬ x_2 = 0 →
    rc M_1 3 a0 ∧ F_X3_isState M_1 a0 x1 x3 fun x_4 M_3 =>
    ((¬ x_4 = 0 →
      rc M_3 3 a0 ∧ F_X3_findBest M_3 a0 x1 fun M_5 =>
      gN M_5 3 a0 28 fun a_7 =>
      aN M_5 (.array .long) a_7 x2 fun a_8 =>
      aJ M_5 a_8 x3 fun j_9 =>
      Q j_9 M_5) ∧
      (x_4 = 0 →
      F_X3_cost_b18 Q a0 M_3))))
theorem met_X3_cost {M : gM} {a0 : Nat} {x1 : Int32} {x2 : Int32} {x3 : Int32} {Q : Int64 → gM → Prop} (hF : F_X3_cost M a0 x1 x2 x3 Q) : gMt yX3_cost (ws_ yX3_cost cX3_cost 4 (some .long)) rm_X3_cost M [.ref a0, .int x1, .int x2, .int x3] (gQj Q) := by
  refine gMet (bytes := cX3_cost) (maxL := 4) (ret := (some .long)) rfl rfl (by decide) (Nat.le_of_ble_eq_true rfl) (lv := [(0, .ref a0), (1, .int x1), (2, .int x2), (3, .int x3)]) rfl (fun G hC hin => ?_)
  unfold F_X3_cost at hF
  refine g_aload_n 1 hC dX3_cost_0 rfl 0 rfl rfl ?_
  refine g_iload_n 2 hC dX3_cost_1 rfl 1 rfl rfl ?_
  refine g_iload_n 3 hC dX3_cost_2 rfl 2 rfl rfl ?_
  refine g_cV (rest := []) wl_X3_239 hd_X3_isLeft (ci := 3) rfl 6 hC hF.1 (met_X3_isLeft hF.2) rfl ⟨Nat.le_of_ble_eq_true rfl, Nat.le_of_ble_eq_true rfl⟩ ⟨Nat.zero_le _, Nat.zero_le _⟩ rfl (Nat.le_of_ble_eq_true rfl) dX3_cost_3 rfl (g_ty_i 0 0 (Nat.le_refl _) (Nat.le_refl _) (fun x_2 M_1 hF => ?_))
  refine g_if_eq 9 18 hC dX3_cost_6 (by decide) rfl (fun c => ?_) (fun c => ?_)
  · have hF := hF.1 c
    refine g_sub [0] rfl ?_
    exact w_X3_cost_b18 hC _ _ hF
  · have hF := hF.2 c
    refine g_aload_n 10 hC dX3_cost_9 rfl 0 rfl rfl ?_
    refine g_iload_n 11 hC dX3_cost_10 rfl 1 rfl rfl ?_
    refine g_iload_n 12 hC dX3_cost_11 rfl 3 rfl rfl ?_
    refine g_cV (rest := []) wl_X3_233 hd_X3_isState (ci := 3) rfl 15 hC hF.1 (met_X3_isState hF.2) rfl ⟨Nat.le_of_ble_eq_true rfl, Nat.le_of_ble_eq_true rfl⟩ ⟨Nat.zero_le _, Nat.zero_le _⟩ rfl (Nat.le_of_ble_eq_true rfl) dX3_cost_12 rfl (g_ty_i 0 0 (Nat.le_refl _) (Nat.le_refl _) (fun x_4 M_3 hF => ?_))
    refine g_if_ne 18 26 hC dX3_cost_15 (by decide) rfl (fun c => ?_) (fun c => ?_)
    · have hF := hF.1 c
      refine g_aload_n 27 hC dX3_cost_26 rfl 0 rfl rfl ?_
      refine g_iload_n 28 hC dX3_cost_27 rfl 1 rfl rfl ?_
      refine g_cV (rest := []) wl_X3_264 hd_X3_findBest (ci := 3) rfl 31 hC hF.1 (met_X3_findBest hF.2) rfl ⟨Nat.le_of_ble_eq_true rfl, Nat.le_of_ble_eq_true rfl⟩ ⟨Nat.zero_le _, Nat.zero_le _⟩ rfl (Nat.le_of_ble_eq_true rfl) dX3_cost_28 rfl (g_ty_v 0 0 (Nat.le_refl _) (Nat.le_refl _) (fun M_5 hF => ?_))
      refine g_aload_n 32 hC dX3_cost_31 rfl 0 rfl rfl ?_
      refine gf_X3_55_3N 35 hC hF dX3_cost_32 rfl (fun a_7 hF => ?_)
      refine g_iload_n 36 hC dX3_cost_35 rfl 2 rfl rfl ?_
      refine g_aaldN 37 hC hF (by decide) rfl (fun _ _ _ => rfl) dX3_cost_36 rfl (fun a_8 hF => ?_)
      refine g_iload_n 38 hC dX3_cost_37 rfl 3 rfl rfl ?_
      refine g_lald 39 hC hF dX3_cost_38 rfl (fun j_9 hF => ?_)
      exact g_lreturn hC ⟨_, rfl, hF⟩ dX3_cost_39 (Nat.zero_le _) (Nat.zero_le _)
    · have hF := hF.2 c
      refine g_sub [0] rfl ?_
      exact w_X3_cost_b18 hC _ _ hF
abbrev rm_X3_best : Room := { frames := 5, cells := 0, slots := 0, locals := 129 }
def F_X3_best_b22 (Q : Int32 → gM → Prop)    (a0 : Nat)   (M : gM) : Prop :=
  rc M 3 a0 ∧ F_X3_refuse M a0 (-2 : Int32) fun x_2 M_1 =>
  Q x_2 M_1
theorem w_X3_best_b22 {G : gG} {Q : Int32 → gM → Prop} (hC : gCx G cX3_best 4 RX3 (some .int) (gQi Q) rm_X3_best)  (a0 : Nat)     (M : gM) (hF : F_X3_best_b22 Q a0 M) : gAt G 0 0 M [(0, .ref a0)] 22 [] := by
  unfold F_X3_best_b22 at hF
  refine g_aload_n 23 hC dX3_best_22 rfl 0 rfl rfl ?_
  refine g_bipush 25 hC (-2 : Int32) dX3_best_23 (by decide) rfl ?_
  refine g_cV (rest := []) wl_X3_119 hd_X3_refuse (ci := 3) rfl 28 hC hF.1 (met_X3_refuse hF.2) rfl ⟨Nat.le_of_ble_eq_true rfl, Nat.le_of_ble_eq_true rfl⟩ ⟨Nat.zero_le _, Nat.zero_le _⟩ rfl (Nat.le_of_ble_eq_true rfl) dX3_best_25 rfl (g_ty_i 0 0 (Nat.le_refl _) (Nat.le_refl _) (fun x_2 M_1 hF => ?_))
  exact g_ireturn hC ⟨_, rfl, hF⟩ dX3_best_28 (Nat.zero_le _) (Nat.zero_le _)
def F_X3_best  (M : gM) (a0 : Nat) (x1 : Int32) (x2 : Int32) (x3 : Int32) (Q : Int32 → gM → Prop)  : Prop :=
  rc M 3 a0 ∧ F_X3_isLeft M a0 x1 x2 fun x_2 M_1 =>
  ((x_2 = 0 →
    F_X3_best_b22 Q a0 M_1) ∧
    (¬ x_2 = 0 →
    ((x2 = 0 →
      F_X3_best_b22 Q a0 M_1) ∧
      (¬ x2 = 0 →
      rc M_1 3 a0 ∧ F_X3_isState M_1 a0 x1 x3 fun x_4 M_3 =>
      ((¬ x_4 = 0 →
        rc M_3 3 a0 ∧ F_X3_findBest M_3 a0 x1 fun M_5 =>
        gN M_5 3 a0 29 fun a_7 =>
        aN M_5 (.array .int) a_7 x2 fun a_8 =>
        aI M_5 .int a_8 x3 fun x_9 =>
        Q x_9 M_5) ∧
        (x_4 = 0 →
        F_X3_best_b22 Q a0 M_3))))))
theorem met_X3_best {M : gM} {a0 : Nat} {x1 : Int32} {x2 : Int32} {x3 : Int32} {Q : Int32 → gM → Prop} (hF : F_X3_best M a0 x1 x2 x3 Q) : gMt yX3_best (ws_ yX3_best cX3_best 4 (some .int)) rm_X3_best M [.ref a0, .int x1, .int x2, .int x3] (gQi Q) := by
  refine gMet (bytes := cX3_best) (maxL := 4) (ret := (some .int)) rfl rfl (by decide) (Nat.le_of_ble_eq_true rfl) (lv := [(0, .ref a0), (1, .int x1), (2, .int x2), (3, .int x3)]) rfl (fun G hC hin => ?_)
  unfold F_X3_best at hF
  refine g_aload_n 1 hC dX3_best_0 rfl 0 rfl rfl ?_
  refine g_iload_n 2 hC dX3_best_1 rfl 1 rfl rfl ?_
  refine g_iload_n 3 hC dX3_best_2 rfl 2 rfl rfl ?_
  refine g_cV (rest := []) wl_X3_239 hd_X3_isLeft (ci := 3) rfl 6 hC hF.1 (met_X3_isLeft hF.2) rfl ⟨Nat.le_of_ble_eq_true rfl, Nat.le_of_ble_eq_true rfl⟩ ⟨Nat.zero_le _, Nat.zero_le _⟩ rfl (Nat.le_of_ble_eq_true rfl) dX3_best_3 rfl (g_ty_i 0 0 (Nat.le_refl _) (Nat.le_refl _) (fun x_2 M_1 hF => ?_))
  refine g_if_eq 9 22 hC dX3_best_6 (by decide) rfl (fun c => ?_) (fun c => ?_)
  · have hF := hF.1 c
    refine g_sub [0] rfl ?_
    exact w_X3_best_b22 hC _ _ hF
  · have hF := hF.2 c
    refine g_iload_n 10 hC dX3_best_9 rfl 2 rfl rfl ?_
    refine g_if_eq 13 22 hC dX3_best_10 (by decide) rfl (fun c => ?_) (fun c => ?_)
    · have hF := hF.1 c
      refine g_sub [0] rfl ?_
      exact w_X3_best_b22 hC _ _ hF
    · have hF := hF.2 c
      refine g_aload_n 14 hC dX3_best_13 rfl 0 rfl rfl ?_
      refine g_iload_n 15 hC dX3_best_14 rfl 1 rfl rfl ?_
      refine g_iload_n 16 hC dX3_best_15 rfl 3 rfl rfl ?_
      refine g_cV (rest := []) wl_X3_233 hd_X3_isState (ci := 3) rfl 19 hC hF.1 (met_X3_isState hF.2) rfl ⟨Nat.le_of_ble_eq_true rfl, Nat.le_of_ble_eq_true rfl⟩ ⟨Nat.zero_le _, Nat.zero_le _⟩ rfl (Nat.le_of_ble_eq_true rfl) dX3_best_16 rfl (g_ty_i 0 0 (Nat.le_refl _) (Nat.le_refl _) (fun x_4 M_3 hF => ?_))
      refine g_if_ne 22 29 hC dX3_best_19 (by decide) rfl (fun c => ?_) (fun c => ?_)
      · have hF := hF.1 c
        refine g_aload_n 30 hC dX3_best_29 rfl 0 rfl rfl ?_
        refine g_iload_n 31 hC dX3_best_30 rfl 1 rfl rfl ?_
        refine g_cV (rest := []) wl_X3_264 hd_X3_findBest (ci := 3) rfl 34 hC hF.1 (met_X3_findBest hF.2) rfl ⟨Nat.le_of_ble_eq_true rfl, Nat.le_of_ble_eq_true rfl⟩ ⟨Nat.zero_le _, Nat.zero_le _⟩ rfl (Nat.le_of_ble_eq_true rfl) dX3_best_31 rfl (g_ty_v 0 0 (Nat.le_refl _) (Nat.le_refl _) (fun M_5 hF => ?_))
        refine g_aload_n 35 hC dX3_best_34 rfl 0 rfl rfl ?_
        refine gf_X3_58_3N 38 hC hF dX3_best_35 rfl (fun a_7 hF => ?_)
        refine g_iload_n 39 hC dX3_best_38 rfl 2 rfl rfl ?_
        refine g_aaldN 40 hC hF (by decide) rfl (fun _ _ _ => rfl) dX3_best_39 rfl (fun a_8 hF => ?_)
        refine g_iload_n 41 hC dX3_best_40 rfl 3 rfl rfl ?_
        refine g_iald 42 hC hF dX3_best_41 rfl (fun x_9 hF => ?_)
        exact g_ireturn hC ⟨_, rfl, hF⟩ dX3_best_42 (Nat.zero_le _) (Nat.zero_le _)
      · have hF := hF.2 c
        refine g_sub [0] rfl ?_
        exact w_X3_best_b22 hC _ _ hF
abbrev rm_X3_fillsBy : Room := { frames := 0, cells := 0, slots := 0, locals := 0 }
def F_X3_fillsBy  (M : gM) (a0 : Nat) (x1 : Int32) (x2 : Int32) (x3 : Int32) (x4 : Int32) (Q : Int32 → gM → Prop)  : Prop :=
  gN M 3 a0 5 fun a_1 =>
  aI M .int a_1 x3 fun x_2 =>
  (((x_2.toInt < 1 ∨ 3 < x_2.toInt) →
    gN M 3 a0 7 fun a_3 =>
    aN M (.array .int) a_3 x3 fun a_4 =>
    aI M .int a_4 x2 fun x_5 =>
    ((¬ x_5 = (1 : Int32) →
      Q (0 : Int32) M) ∧
      (x_5 = (1 : Int32) →
      Q (1 : Int32) M))) ∧
    (x_2 = (1 : Int32) →
    gN M 3 a0 6 fun a_6 =>
    aI M .int a_6 x3 fun x_7 =>
    ((x4 < x_7 →
      Q (0 : Int32) M) ∧
      (¬ x4 < x_7 →
      Q (1 : Int32) M))) ∧
    (x_2 = (2 : Int32) →
    gN M 3 a0 6 fun a_8 =>
    aI M .int a_8 x3 fun x_9 =>
    dz x_9 <|
    ((¬ (x1 - x1 / x_9 * x_9) = 0 →
      Q (0 : Int32) M) ∧
      ((x1 - x1 / x_9 * x_9) = 0 →
      Q (1 : Int32) M))) ∧
    (x_2 = (3 : Int32) →
    gN M 3 a0 6 fun a_10 =>
    aI M .int a_10 x3 fun x_11 =>
    (((x_11 / (10 : Int32)) ≤ x4 →
      Q (1 : Int32) M) ∧
      (¬ (x_11 / (10 : Int32)) ≤ x4 →
      gN M 3 a0 6 fun a_12 =>
      aI M .int a_12 x3 fun x_13 =>
      dz (x_13 - x_13 / (10 : Int32) * (10 : Int32)) <|
      ((¬ (x1 - x1 / (x_13 - x_13 / (10 : Int32) * (10 : Int32)) * (x_13 - x_13 / (10 : Int32) * (10 : Int32))) = 0 →
        Q (0 : Int32) M) ∧
        ((x1 - x1 / (x_13 - x_13 / (10 : Int32) * (10 : Int32)) * (x_13 - x_13 / (10 : Int32) * (10 : Int32))) = 0 →
        Q (1 : Int32) M))))))
theorem met_X3_fillsBy {M : gM} {a0 : Nat} {x1 : Int32} {x2 : Int32} {x3 : Int32} {x4 : Int32} {Q : Int32 → gM → Prop} (hF : F_X3_fillsBy M a0 x1 x2 x3 x4 Q) : gMt yX3_fillsBy (ws_ yX3_fillsBy cX3_fillsBy 5 (some .boolean)) rm_X3_fillsBy M [.ref a0, .int x1, .int x2, .int x3, .int x4] (gQi Q) := by
  refine gMet (bytes := cX3_fillsBy) (maxL := 5) (ret := (some .boolean)) rfl rfl (by decide) (Nat.le_of_ble_eq_true rfl) (lv := [(0, .ref a0), (1, .int x1), (2, .int x2), (3, .int x3), (4, .int x4)]) rfl (fun G hC hin => ?_)
  unfold F_X3_fillsBy at hF
  refine g_aload_n 1 hC dX3_fillsBy_0 rfl 0 rfl rfl ?_
  refine gf_X3_28_3N 4 hC hF dX3_fillsBy_1 rfl (fun a_1 hF => ?_)
  refine g_iload_n 5 hC dX3_fillsBy_4 rfl 3 rfl rfl ?_
  refine g_iald 6 hC hF dX3_fillsBy_5 rfl (fun x_2 hF => ?_)
  rcases (by omega : ((x_2.toInt < 1 ∨ 3 < x_2.toInt) ∨ x_2.toInt = 1 ∨ x_2.toInt = 2 ∨ x_2.toInt = 3)) with c | c | c | c
  · refine g_tsOut 100 hC dX3_fillsBy_6 c (by decide) ?_
    have hF := hF.1 c
    refine g_aload_n 101 hC dX3_fillsBy_100 rfl 0 rfl rfl ?_
    refine gf_X3_36_3N 104 hC hF dX3_fillsBy_101 rfl (fun a_3 hF => ?_)
    refine g_iload_n 105 hC dX3_fillsBy_104 rfl 3 rfl rfl ?_
    refine g_aaldN 106 hC hF (by decide) rfl (fun _ _ _ => rfl) dX3_fillsBy_105 rfl (fun a_4 hF => ?_)
    refine g_iload_n 107 hC dX3_fillsBy_106 rfl 2 rfl rfl ?_
    refine g_iald 108 hC hF dX3_fillsBy_107 rfl (fun x_5 hF => ?_)
    refine g_iconst 109 hC (1 : Int32) dX3_fillsBy_108 (by decide) rfl ?_
    refine g_icmp_ne 112 116 hC dX3_fillsBy_109 (by decide) rfl (fun c => ?_) (fun c => ?_)
    · have hF := hF.1 c
      refine g_iconst 117 hC (0 : Int32) dX3_fillsBy_116 (by decide) rfl ?_
      exact g_zreturn hC ⟨_, rfl, hF⟩ (Or.inl rfl) dX3_fillsBy_117 (Nat.zero_le _) (Nat.zero_le _)
    · have hF := hF.2 c
      refine g_iconst 113 hC (1 : Int32) dX3_fillsBy_112 (by decide) rfl ?_
      refine g_goto 117 hC dX3_fillsBy_113 (by decide) ?_
      exact g_zreturn hC ⟨_, rfl, hF⟩ (Or.inr rfl) dX3_fillsBy_117 (Nat.zero_le _) (Nat.zero_le _)
  · have c : x_2 = (1 : Int32) := Int32.toInt_inj.mp (c.trans (by decide))
    refine g_tsIn 32 hC (1 : Int32) c dX3_fillsBy_6 (by decide) (by decide) rfl (by decide) ?_
    have hF := hF.2.1 c
    refine g_iload 34 hC dX3_fillsBy_32 rfl 4 rfl ?_
    refine g_aload_n 35 hC dX3_fillsBy_34 rfl 0 rfl rfl ?_
    refine gf_X3_31_3N 38 hC hF dX3_fillsBy_35 rfl (fun a_6 hF => ?_)
    refine g_iload_n 39 hC dX3_fillsBy_38 rfl 3 rfl rfl ?_
    refine g_iald 40 hC hF dX3_fillsBy_39 rfl (fun x_7 hF => ?_)
    refine g_icmp_lt 43 47 hC dX3_fillsBy_40 (by decide) rfl (fun c => ?_) (fun c => ?_)
    · have hF := hF.1 c
      refine g_iconst 48 hC (0 : Int32) dX3_fillsBy_47 (by decide) rfl ?_
      exact g_zreturn hC ⟨_, rfl, hF⟩ (Or.inl rfl) dX3_fillsBy_48 (Nat.zero_le _) (Nat.zero_le _)
    · have hF := hF.2 c
      refine g_iconst 44 hC (1 : Int32) dX3_fillsBy_43 (by decide) rfl ?_
      refine g_goto 48 hC dX3_fillsBy_44 (by decide) ?_
      exact g_zreturn hC ⟨_, rfl, hF⟩ (Or.inr rfl) dX3_fillsBy_48 (Nat.zero_le _) (Nat.zero_le _)
  · have c : x_2 = (2 : Int32) := Int32.toInt_inj.mp (c.trans (by decide))
    refine g_tsIn 49 hC (2 : Int32) c dX3_fillsBy_6 (by decide) (by decide) rfl (by decide) ?_
    have hF := hF.2.2.1 c
    refine g_iload_n 50 hC dX3_fillsBy_49 rfl 1 rfl rfl ?_
    refine g_aload_n 51 hC dX3_fillsBy_50 rfl 0 rfl rfl ?_
    refine gf_X3_31_3N 54 hC hF dX3_fillsBy_51 rfl (fun a_8 hF => ?_)
    refine g_iload_n 55 hC dX3_fillsBy_54 rfl 3 rfl rfl ?_
    refine g_iald 56 hC hF dX3_fillsBy_55 rfl (fun x_9 hF => ?_)
    refine g_irem 57 hC hF.1 dX3_fillsBy_56 rfl ?_
    have hF := hF.2
    refine g_if_ne 60 64 hC dX3_fillsBy_57 (by decide) rfl (fun c => ?_) (fun c => ?_)
    · have hF := hF.1 c
      refine g_iconst 65 hC (0 : Int32) dX3_fillsBy_64 (by decide) rfl ?_
      exact g_zreturn hC ⟨_, rfl, hF⟩ (Or.inl rfl) dX3_fillsBy_65 (Nat.zero_le _) (Nat.zero_le _)
    · have hF := hF.2 c
      refine g_iconst 61 hC (1 : Int32) dX3_fillsBy_60 (by decide) rfl ?_
      refine g_goto 65 hC dX3_fillsBy_61 (by decide) ?_
      exact g_zreturn hC ⟨_, rfl, hF⟩ (Or.inr rfl) dX3_fillsBy_65 (Nat.zero_le _) (Nat.zero_le _)
  · have c : x_2 = (3 : Int32) := Int32.toInt_inj.mp (c.trans (by decide))
    refine g_tsIn 66 hC (3 : Int32) c dX3_fillsBy_6 (by decide) (by decide) rfl (by decide) ?_
    have hF := hF.2.2.2 c
    refine g_iload 68 hC dX3_fillsBy_66 rfl 4 rfl ?_
    refine g_aload_n 69 hC dX3_fillsBy_68 rfl 0 rfl rfl ?_
    refine gf_X3_31_3N 72 hC hF dX3_fillsBy_69 rfl (fun a_10 hF => ?_)
    refine g_iload_n 73 hC dX3_fillsBy_72 rfl 3 rfl rfl ?_
    refine g_iald 74 hC hF dX3_fillsBy_73 rfl (fun x_11 hF => ?_)
    refine g_bipush 76 hC (10 : Int32) dX3_fillsBy_74 (by decide) rfl ?_
    refine g_idiv 77 hC (by decide) dX3_fillsBy_76 rfl ?_
    refine g_icmp_ge 80 94 hC dX3_fillsBy_77 (by decide) rfl (fun c => ?_) (fun c => ?_)
    · have hF := hF.1 c
      refine g_iconst 95 hC (1 : Int32) dX3_fillsBy_94 (by decide) rfl ?_
      refine g_goto 99 hC dX3_fillsBy_95 (by decide) ?_
      exact g_zreturn hC ⟨_, rfl, hF⟩ (Or.inr rfl) dX3_fillsBy_99 (Nat.zero_le _) (Nat.zero_le _)
    · have hF := hF.2 c
      refine g_iload_n 81 hC dX3_fillsBy_80 rfl 1 rfl rfl ?_
      refine g_aload_n 82 hC dX3_fillsBy_81 rfl 0 rfl rfl ?_
      refine gf_X3_31_3N 85 hC hF dX3_fillsBy_82 rfl (fun a_12 hF => ?_)
      refine g_iload_n 86 hC dX3_fillsBy_85 rfl 3 rfl rfl ?_
      refine g_iald 87 hC hF dX3_fillsBy_86 rfl (fun x_13 hF => ?_)
      refine g_bipush 89 hC (10 : Int32) dX3_fillsBy_87 (by decide) rfl ?_
      refine g_irem 90 hC (by decide) dX3_fillsBy_89 rfl ?_
      refine g_irem 91 hC hF.1 dX3_fillsBy_90 rfl ?_
      have hF := hF.2
      refine g_if_ne 94 98 hC dX3_fillsBy_91 (by decide) rfl (fun c => ?_) (fun c => ?_)
      · have hF := hF.1 c
        refine g_iconst 99 hC (0 : Int32) dX3_fillsBy_98 (by decide) rfl ?_
        exact g_zreturn hC ⟨_, rfl, hF⟩ (Or.inl rfl) dX3_fillsBy_99 (Nat.zero_le _) (Nat.zero_le _)
      · have hF := hF.2 c
        refine g_iconst 95 hC (1 : Int32) dX3_fillsBy_94 (by decide) rfl ?_
        refine g_goto 99 hC dX3_fillsBy_95 (by decide) ?_
        exact g_zreturn hC ⟨_, rfl, hF⟩ (Or.inr rfl) dX3_fillsBy_99 (Nat.zero_le _) (Nat.zero_le _)
theorem hd_X3_fillsBy : yX3_fillsBy.cls = RX3 ∧ yX3_fillsBy.cls ≠ "java/lang/invoke/MethodHandle" ∧ yX3_fillsBy.cls ≠ "java/lang/invoke/VarHandle" ∧ (parseMethodDescriptor yX3_fillsBy.desc).map (fun d => d.parameters.length) = some 4 := by decide +kernel
theorem wl_X3_267 : GoodIn lw_all (wsV RX3 267 RX3 yX3_fillsBy (ws_ yX3_fillsBy cX3_fillsBy 5 (some .boolean))) := lw_V q1769 q1771 qs51 q72 q1772
abbrev rm_X3_loadBy : Room := { frames := 3, cells := 0, slots := 0, locals := 73 }
def F_X3_loadBy  (M : gM) (a0 : Nat) (x1 : Int32) (x2 : Int32) (x3 : Int32) (x4 : Int32) (Q : Int32 → gM → Prop)  : Prop :=
  gN M 3 a0 5 fun a_1 =>
  aI M .int a_1 x4 fun x_2 =>
  ((¬ x_2 = (4 : Int32) →
    rc M 3 a0 ∧ F_X3_sum M a0 x1 x3 (0 : Int32) fun x_4 M_3 =>
    rc M_3 3 a0 ∧ F_X3_fillsBy M_3 a0 x2 x3 x4 x_4 fun x_6 M_5 =>
    ((x_6 = 0 →
      Q (0 : Int32) M_5) ∧
      (¬ x_6 = 0 →
      rc M_5 3 a0 ∧ F_X3_fillOf M_5 a0 x1 x3 fun x_8 M_7 =>
      Q x_8 M_7))) ∧
    (x_2 = (4 : Int32) →
    gN M 3 a0 29 fun a_9 =>
    aN M (.array .int) a_9 x2 fun a_10 =>
    aI M .int a_10 x3 fun x_11 =>
    Q x_11 M))
theorem met_X3_loadBy {M : gM} {a0 : Nat} {x1 : Int32} {x2 : Int32} {x3 : Int32} {x4 : Int32} {Q : Int32 → gM → Prop} (hF : F_X3_loadBy M a0 x1 x2 x3 x4 Q) : gMt yX3_loadBy (ws_ yX3_loadBy cX3_loadBy 5 (some .int)) rm_X3_loadBy M [.ref a0, .int x1, .int x2, .int x3, .int x4] (gQi Q) := by
  refine gMet (bytes := cX3_loadBy) (maxL := 5) (ret := (some .int)) rfl rfl (by decide) (Nat.le_of_ble_eq_true rfl) (lv := [(0, .ref a0), (1, .int x1), (2, .int x2), (3, .int x3), (4, .int x4)]) rfl (fun G hC hin => ?_)
  unfold F_X3_loadBy at hF
  refine g_aload_n 1 hC dX3_loadBy_0 rfl 0 rfl rfl ?_
  refine gf_X3_28_3N 4 hC hF dX3_loadBy_1 rfl (fun a_1 hF => ?_)
  refine g_iload 6 hC dX3_loadBy_4 rfl 4 rfl ?_
  refine g_iald 7 hC hF dX3_loadBy_6 rfl (fun x_2 hF => ?_)
  refine g_iconst 8 hC (4 : Int32) dX3_loadBy_7 (by decide) rfl ?_
  refine g_icmp_ne 11 20 hC dX3_loadBy_8 (by decide) rfl (fun c => ?_) (fun c => ?_)
  · have hF := hF.1 c
    refine g_aload_n 21 hC dX3_loadBy_20 rfl 0 rfl rfl ?_
    refine g_iload_n 22 hC dX3_loadBy_21 rfl 2 rfl rfl ?_
    refine g_iload_n 23 hC dX3_loadBy_22 rfl 3 rfl rfl ?_
    refine g_iload 25 hC dX3_loadBy_23 rfl 4 rfl ?_
    refine g_aload_n 26 hC dX3_loadBy_25 rfl 0 rfl rfl ?_
    refine g_iload_n 27 hC dX3_loadBy_26 rfl 1 rfl rfl ?_
    refine g_iload_n 28 hC dX3_loadBy_27 rfl 3 rfl rfl ?_
    refine g_iconst 29 hC (0 : Int32) dX3_loadBy_28 (by decide) rfl ?_
    refine g_cV (rest := [_, _, _, _]) wl_X3_236 hd_X3_sum (ci := 3) rfl 32 hC hF.1 (met_X3_sum hF.2) rfl ⟨Nat.le_of_ble_eq_true rfl, Nat.le_of_ble_eq_true rfl⟩ ⟨Nat.zero_le _, Nat.zero_le _⟩ rfl (Nat.le_of_ble_eq_true rfl) dX3_loadBy_29 rfl (g_ty_i 0 0 (Nat.le_refl _) (Nat.le_refl _) (fun x_4 M_3 hF => ?_))
    refine g_cV (rest := []) wl_X3_267 hd_X3_fillsBy (ci := 3) rfl 35 hC hF.1 (met_X3_fillsBy hF.2) rfl ⟨Nat.le_of_ble_eq_true rfl, Nat.le_of_ble_eq_true rfl⟩ ⟨Nat.zero_le _, Nat.zero_le _⟩ rfl (Nat.le_of_ble_eq_true rfl) dX3_loadBy_32 rfl (g_ty_i 0 0 (Nat.le_refl _) (Nat.le_refl _) (fun x_6 M_5 hF => ?_))
    refine g_if_eq 38 47 hC dX3_loadBy_35 (by decide) rfl (fun c => ?_) (fun c => ?_)
    · have hF := hF.1 c
      refine g_iconst 48 hC (0 : Int32) dX3_loadBy_47 (by decide) rfl ?_
      exact g_ireturn hC ⟨_, rfl, hF⟩ dX3_loadBy_48 (Nat.zero_le _) (Nat.zero_le _)
    · have hF := hF.2 c
      refine g_aload_n 39 hC dX3_loadBy_38 rfl 0 rfl rfl ?_
      refine g_iload_n 40 hC dX3_loadBy_39 rfl 1 rfl rfl ?_
      refine g_iload_n 41 hC dX3_loadBy_40 rfl 3 rfl rfl ?_
      refine g_cV (rest := []) wl_X3_246 hd_X3_fillOf (ci := 3) rfl 44 hC hF.1 (met_X3_fillOf hF.2) rfl ⟨Nat.le_of_ble_eq_true rfl, Nat.le_of_ble_eq_true rfl⟩ ⟨Nat.zero_le _, Nat.zero_le _⟩ rfl (Nat.le_of_ble_eq_true rfl) dX3_loadBy_41 rfl (g_ty_i 0 0 (Nat.le_refl _) (Nat.le_refl _) (fun x_8 M_7 hF => ?_))
      refine g_goto 48 hC dX3_loadBy_44 (by decide) ?_
      exact g_ireturn hC ⟨_, rfl, hF⟩ dX3_loadBy_48 (Nat.zero_le _) (Nat.zero_le _)
  · have hF := hF.2 c
    refine g_aload_n 12 hC dX3_loadBy_11 rfl 0 rfl rfl ?_
    refine gf_X3_58_3N 15 hC hF dX3_loadBy_12 rfl (fun a_9 hF => ?_)
    refine g_iload_n 16 hC dX3_loadBy_15 rfl 2 rfl rfl ?_
    refine g_aaldN 17 hC hF (by decide) rfl (fun _ _ _ => rfl) dX3_loadBy_16 rfl (fun a_10 hF => ?_)
    refine g_iload_n 18 hC dX3_loadBy_17 rfl 3 rfl rfl ?_
    refine g_iald 19 hC hF dX3_loadBy_18 rfl (fun x_11 hF => ?_)
    exact g_ireturn hC ⟨_, rfl, hF⟩ dX3_loadBy_19 (Nat.zero_le _) (Nat.zero_le _)
abbrev rm_X3_noRule : Room := { frames := 1, cells := 0, slots := 0, locals := 21 }
def F_X3_noRule  (M : gM) (a0 : Nat) (x1 : Int32) (Q : Int32 → gM → Prop)  : Prop :=
  gN M 3 a0 0 fun a_1 =>
  aI M .int a_1 x1 fun x_2 =>
  ((¬ x_2 = (1 : Int32) →
    gN M 3 a0 0 fun a_3 =>
    aI M .int a_3 x1 fun x_4 =>
    ((¬ x_4 = 0 →
      Q (0 : Int32) M) ∧
      (x_4 = 0 →
      rc M 3 a0 ∧ F_X3_refuse M a0 (-4 : Int32) fun x_6 M_5 =>
      Q x_6 M_5))) ∧
    (x_2 = (1 : Int32) →
    rc M 3 a0 ∧ F_X3_refuse M a0 (-3 : Int32) fun x_8 M_7 =>
    Q x_8 M_7))
theorem met_X3_noRule {M : gM} {a0 : Nat} {x1 : Int32} {Q : Int32 → gM → Prop} (hF : F_X3_noRule M a0 x1 Q) : gMt yX3_noRule (ws_ yX3_noRule cX3_noRule 2 (some .int)) rm_X3_noRule M [.ref a0, .int x1] (gQi Q) := by
  refine gMet (bytes := cX3_noRule) (maxL := 2) (ret := (some .int)) rfl rfl (by decide) (Nat.le_of_ble_eq_true rfl) (lv := [(0, .ref a0), (1, .int x1)]) rfl (fun G hC hin => ?_)
  unfold F_X3_noRule at hF
  refine g_aload_n 1 hC dX3_noRule_0 rfl 0 rfl rfl ?_
  refine gf_X3_7_3N 4 hC hF dX3_noRule_1 rfl (fun a_1 hF => ?_)
  refine g_iload_n 5 hC dX3_noRule_4 rfl 1 rfl rfl ?_
  refine g_iald 6 hC hF dX3_noRule_5 rfl (fun x_2 hF => ?_)
  refine g_iconst 7 hC (1 : Int32) dX3_noRule_6 (by decide) rfl ?_
  refine g_icmp_ne 10 17 hC dX3_noRule_7 (by decide) rfl (fun c => ?_) (fun c => ?_)
  · have hF := hF.1 c
    refine g_aload_n 18 hC dX3_noRule_17 rfl 0 rfl rfl ?_
    refine gf_X3_7_3N 21 hC hF dX3_noRule_18 rfl (fun a_3 hF => ?_)
    refine g_iload_n 22 hC dX3_noRule_21 rfl 1 rfl rfl ?_
    refine g_iald 23 hC hF dX3_noRule_22 rfl (fun x_4 hF => ?_)
    refine g_if_ne 26 35 hC dX3_noRule_23 (by decide) rfl (fun c => ?_) (fun c => ?_)
    · have hF := hF.1 c
      refine g_iconst 36 hC (0 : Int32) dX3_noRule_35 (by decide) rfl ?_
      exact g_ireturn hC ⟨_, rfl, hF⟩ dX3_noRule_36 (Nat.zero_le _) (Nat.zero_le _)
    · have hF := hF.2 c
      refine g_aload_n 27 hC dX3_noRule_26 rfl 0 rfl rfl ?_
      refine g_bipush 29 hC (-4 : Int32) dX3_noRule_27 (by decide) rfl ?_
      refine g_cV (rest := []) wl_X3_119 hd_X3_refuse (ci := 3) rfl 32 hC hF.1 (met_X3_refuse hF.2) rfl ⟨Nat.le_of_ble_eq_true rfl, Nat.le_of_ble_eq_true rfl⟩ ⟨Nat.zero_le _, Nat.zero_le _⟩ rfl (Nat.le_of_ble_eq_true rfl) dX3_noRule_29 rfl (g_ty_i 0 0 (Nat.le_refl _) (Nat.le_refl _) (fun x_6 M_5 hF => ?_))
      refine g_goto 36 hC dX3_noRule_32 (by decide) ?_
      exact g_ireturn hC ⟨_, rfl, hF⟩ dX3_noRule_36 (Nat.zero_le _) (Nat.zero_le _)
  · have hF := hF.2 c
    refine g_aload_n 11 hC dX3_noRule_10 rfl 0 rfl rfl ?_
    refine g_bipush 13 hC (-3 : Int32) dX3_noRule_11 (by decide) rfl ?_
    refine g_cV (rest := []) wl_X3_119 hd_X3_refuse (ci := 3) rfl 16 hC hF.1 (met_X3_refuse hF.2) rfl ⟨Nat.le_of_ble_eq_true rfl, Nat.le_of_ble_eq_true rfl⟩ ⟨Nat.zero_le _, Nat.zero_le _⟩ rfl (Nat.le_of_ble_eq_true rfl) dX3_noRule_13 rfl (g_ty_i 0 0 (Nat.le_refl _) (Nat.le_refl _) (fun x_8 M_7 hF => ?_))
    exact g_ireturn hC ⟨_, rfl, hF⟩ dX3_noRule_16 (Nat.zero_le _) (Nat.zero_le _)
theorem hd_X3_noRule : yX3_noRule.cls = RX3 ∧ yX3_noRule.cls ≠ "java/lang/invoke/MethodHandle" ∧ yX3_noRule.cls ≠ "java/lang/invoke/VarHandle" ∧ (parseMethodDescriptor yX3_noRule.desc).map (fun d => d.parameters.length) = some 1 := by decide +kernel
theorem wl_X3_271 : GoodIn lw_all (wsV RX3 271 RX3 yX3_noRule (ws_ yX3_noRule cX3_noRule 2 (some .int))) := lw_V q1761 q1763 qs49 q72 q1764
theorem hd_X3_loadBy : yX3_loadBy.cls = RX3 ∧ yX3_loadBy.cls ≠ "java/lang/invoke/MethodHandle" ∧ yX3_loadBy.cls ≠ "java/lang/invoke/VarHandle" ∧ (parseMethodDescriptor yX3_loadBy.desc).map (fun d => d.parameters.length) = some 4 := by decide +kernel
theorem wl_X3_274 : GoodIn lw_all (wsV RX3 274 RX3 yX3_loadBy (ws_ yX3_loadBy cX3_loadBy 5 (some .int))) := lw_V q1765 q1767 qs50 q72 q1768
abbrev rm_X3_load : Room := { frames := 5, cells := 0, slots := 0, locals := 129 }
def F_X3_load_b35 (Q : Int32 → gM → Prop)    (a0 : Nat)   (M : gM) : Prop :=
  rc M 3 a0 ∧ F_X3_refuse M a0 (-2 : Int32) fun x_2 M_1 =>
  Q x_2 M_1
theorem w_X3_load_b35 {G : gG} {Q : Int32 → gM → Prop} (hC : gCx G cX3_load 6 RX3 (some .int) (gQi Q) rm_X3_load)  (a0 : Nat)     (M : gM) (hF : F_X3_load_b35 Q a0 M) : gAt G 0 0 M [(0, .ref a0)] 35 [] := by
  unfold F_X3_load_b35 at hF
  refine g_aload_n 36 hC dX3_load_35 rfl 0 rfl rfl ?_
  refine g_bipush 38 hC (-2 : Int32) dX3_load_36 (by decide) rfl ?_
  refine g_cV (rest := []) wl_X3_119 hd_X3_refuse (ci := 3) rfl 41 hC hF.1 (met_X3_refuse hF.2) rfl ⟨Nat.le_of_ble_eq_true rfl, Nat.le_of_ble_eq_true rfl⟩ ⟨Nat.zero_le _, Nat.zero_le _⟩ rfl (Nat.le_of_ble_eq_true rfl) dX3_load_38 rfl (g_ty_i 0 0 (Nat.le_refl _) (Nat.le_refl _) (fun x_2 M_1 hF => ?_))
  exact g_ireturn hC ⟨_, rfl, hF⟩ dX3_load_41 (Nat.zero_le _) (Nat.zero_le _)
def F_X3_load  (M : gM) (a0 : Nat) (x1 : Int32) (x2 : Int32) (x3 : Int32) (x4 : Int32) (Q : Int32 → gM → Prop)  : Prop :=
  rc M 3 a0 ∧ F_X3_isLeft M a0 x1 x2 fun x_2 M_1 =>
  ((x_2 = 0 →
    F_X3_load_b35 Q a0 M_1) ∧
    (¬ x_2 = 0 →
    ((x2 = 0 →
      F_X3_load_b35 Q a0 M_1) ∧
      (¬ x2 = 0 →
      rc M_1 3 a0 ∧ F_X3_isState M_1 a0 x1 x3 fun x_4 M_3 =>
      ((x_4 = 0 →
        F_X3_load_b35 Q a0 M_3) ∧
        (¬ x_4 = 0 →
        F_X3_in M_3 x4.toInt64 (0 : Int64) (7 : Int64) fun x_6 M_5 =>
        ((¬ x_6 = 0 →
          rc M_5 3 a0 ∧ F_X3_noRule M_5 a0 x4 fun x_8 M_7 =>
          ((x_8 = 0 →
            rc M_7 3 a0 ∧ F_X3_findBest M_7 a0 x1 fun M_9 =>
            rc M_9 3 a0 ∧ F_X3_loadBy M_9 a0 x1 x2 x3 x4 fun x_12 M_11 =>
            Q x_12 M_11) ∧
            (¬ x_8 = 0 →
            Q x_8 M_7))) ∧
          (x_6 = 0 →
          F_X3_load_b35 Q a0 M_5))))))))
theorem met_X3_load {M : gM} {a0 : Nat} {x1 : Int32} {x2 : Int32} {x3 : Int32} {x4 : Int32} {Q : Int32 → gM → Prop} (hF : F_X3_load M a0 x1 x2 x3 x4 Q) : gMt yX3_load (ws_ yX3_load cX3_load 6 (some .int)) rm_X3_load M [.ref a0, .int x1, .int x2, .int x3, .int x4] (gQi Q) := by
  refine gMet (bytes := cX3_load) (maxL := 6) (ret := (some .int)) rfl rfl (by decide) (Nat.le_of_ble_eq_true rfl) (lv := [(0, .ref a0), (1, .int x1), (2, .int x2), (3, .int x3), (4, .int x4)]) rfl (fun G hC hin => ?_)
  unfold F_X3_load at hF
  refine g_aload_n 1 hC dX3_load_0 rfl 0 rfl rfl ?_
  refine g_iload_n 2 hC dX3_load_1 rfl 1 rfl rfl ?_
  refine g_iload_n 3 hC dX3_load_2 rfl 2 rfl rfl ?_
  refine g_cV (rest := []) wl_X3_239 hd_X3_isLeft (ci := 3) rfl 6 hC hF.1 (met_X3_isLeft hF.2) rfl ⟨Nat.le_of_ble_eq_true rfl, Nat.le_of_ble_eq_true rfl⟩ ⟨Nat.zero_le _, Nat.zero_le _⟩ rfl (Nat.le_of_ble_eq_true rfl) dX3_load_3 rfl (g_ty_i 0 0 (Nat.le_refl _) (Nat.le_refl _) (fun x_2 M_1 hF => ?_))
  refine g_if_eq 9 35 hC dX3_load_6 (by decide) rfl (fun c => ?_) (fun c => ?_)
  · have hF := hF.1 c
    refine g_sub [0] rfl ?_
    exact w_X3_load_b35 hC _ _ hF
  · have hF := hF.2 c
    refine g_iload_n 10 hC dX3_load_9 rfl 2 rfl rfl ?_
    refine g_if_eq 13 35 hC dX3_load_10 (by decide) rfl (fun c => ?_) (fun c => ?_)
    · have hF := hF.1 c
      refine g_sub [0] rfl ?_
      exact w_X3_load_b35 hC _ _ hF
    · have hF := hF.2 c
      refine g_aload_n 14 hC dX3_load_13 rfl 0 rfl rfl ?_
      refine g_iload_n 15 hC dX3_load_14 rfl 1 rfl rfl ?_
      refine g_iload_n 16 hC dX3_load_15 rfl 3 rfl rfl ?_
      refine g_cV (rest := []) wl_X3_233 hd_X3_isState (ci := 3) rfl 19 hC hF.1 (met_X3_isState hF.2) rfl ⟨Nat.le_of_ble_eq_true rfl, Nat.le_of_ble_eq_true rfl⟩ ⟨Nat.zero_le _, Nat.zero_le _⟩ rfl (Nat.le_of_ble_eq_true rfl) dX3_load_16 rfl (g_ty_i 0 0 (Nat.le_refl _) (Nat.le_refl _) (fun x_4 M_3 hF => ?_))
      refine g_if_eq 22 35 hC dX3_load_19 (by decide) rfl (fun c => ?_) (fun c => ?_)
      · have hF := hF.1 c
        refine g_sub [0] rfl ?_
        exact w_X3_load_b35 hC _ _ hF
      · have hF := hF.2 c
        refine g_iload 24 hC dX3_load_22 rfl 4 rfl ?_
        refine g_i2l 25 hC dX3_load_24 rfl ?_
        refine g_lconst 26 hC (0 : Int64) dX3_load_25 (by decide) rfl ?_
        refine g_ldc2 29 hC q1530 dX3_load_26 rfl ?_
        refine g_cS (rest := []) wl_X3_94 hd_X3_in 32 hC (met_X3_in hF) rfl ⟨Nat.le_of_ble_eq_true rfl, Nat.le_of_ble_eq_true rfl⟩ ⟨Nat.zero_le _, Nat.zero_le _⟩ rfl (Nat.le_of_ble_eq_true rfl) dX3_load_29 rfl (g_ty_i 0 0 (Nat.le_refl _) (Nat.le_refl _) (fun x_6 M_5 hF => ?_))
        refine g_if_ne 35 42 hC dX3_load_32 (by decide) rfl (fun c => ?_) (fun c => ?_)
        · have hF := hF.1 c
          refine g_aload_n 43 hC dX3_load_42 rfl 0 rfl rfl ?_
          refine g_iload 45 hC dX3_load_43 rfl 4 rfl ?_
          refine g_cV (rest := []) wl_X3_271 hd_X3_noRule (ci := 3) rfl 48 hC hF.1 (met_X3_noRule hF.2) rfl ⟨Nat.le_of_ble_eq_true rfl, Nat.le_of_ble_eq_true rfl⟩ ⟨Nat.zero_le _, Nat.zero_le _⟩ rfl (Nat.le_of_ble_eq_true rfl) dX3_load_45 rfl (g_ty_i 0 0 (Nat.le_refl _) (Nat.le_refl _) (fun x_8 M_7 hF => ?_))
          refine g_istore 50 hC (lv' := [(5, .int _), (0, .ref _), (1, .int _), (2, .int _), (3, .int _), (4, .int _)]) dX3_load_48 rfl (by decide) rfl ?_
          refine g_iload 52 hC dX3_load_50 rfl 0 rfl ?_
          refine g_if_eq 55 58 hC dX3_load_52 (by decide) rfl (fun c => ?_) (fun c => ?_)
          · have hF := hF.1 c
            refine g_aload_n 59 hC dX3_load_58 rfl 1 rfl rfl ?_
            refine g_iload_n 60 hC dX3_load_59 rfl 2 rfl rfl ?_
            refine g_cV (rest := []) wl_X3_264 hd_X3_findBest (ci := 3) rfl 63 hC hF.1 (met_X3_findBest hF.2) rfl ⟨Nat.le_of_ble_eq_true rfl, Nat.le_of_ble_eq_true rfl⟩ ⟨Nat.zero_le _, Nat.zero_le _⟩ rfl (Nat.le_of_ble_eq_true rfl) dX3_load_60 rfl (g_ty_v 0 0 (Nat.le_refl _) (Nat.le_refl _) (fun M_9 hF => ?_))
            refine g_aload_n 64 hC dX3_load_63 rfl 1 rfl rfl ?_
            refine g_iload_n 65 hC dX3_load_64 rfl 2 rfl rfl ?_
            refine g_iload_n 66 hC dX3_load_65 rfl 3 rfl rfl ?_
            refine g_iload_n 67 hC dX3_load_66 rfl 4 rfl rfl ?_
            refine g_iload 69 hC dX3_load_67 rfl 5 rfl ?_
            refine g_cV (rest := []) wl_X3_274 hd_X3_loadBy (ci := 3) rfl 72 hC hF.1 (met_X3_loadBy hF.2) rfl ⟨Nat.le_of_ble_eq_true rfl, Nat.le_of_ble_eq_true rfl⟩ ⟨Nat.zero_le _, Nat.zero_le _⟩ rfl (Nat.le_of_ble_eq_true rfl) dX3_load_69 rfl (g_ty_i 0 0 (Nat.le_refl _) (Nat.le_refl _) (fun x_12 M_11 hF => ?_))
            exact g_ireturn hC ⟨_, rfl, hF⟩ dX3_load_72 (Nat.zero_le _) (Nat.zero_le _)
          · have hF := hF.2 c
            refine g_iload 57 hC dX3_load_55 rfl 0 rfl ?_
            exact g_ireturn hC ⟨_, rfl, hF⟩ dX3_load_57 (Nat.zero_le _) (Nat.zero_le _)
        · have hF := hF.2 c
          refine g_sub [0] rfl ?_
          exact w_X3_load_b35 hC _ _ hF
theorem gf_X3_61_3N {G : gG} {cc : ByteArray} {nL : Nat} {ret : Option FieldType} {Qf : Option Value → gM → Prop} {rm : Room} {cells slots : Nat} {M : gM} {lv : List (Nat × Value)} {pc : Nat} {st : List Value} {a : Nat} (n : Nat) (hC : gCx G cc nL RX3 ret Qf rm) {κ : Nat → Prop} (hF : gN M 3 a 30 κ) (hdg : decode cc pc = .ok (.getfield 61, 3)) (hn : pc + 3 = n) (kk : ∀ x, κ x → gAt G cells slots M lv n (.ref x :: st)) : gAt G cells slots M lv pc (.ref a :: st) :=
  g_getN (C := RX3) (T := TX3) (N := 46) in_X3 rfl (by decide) q1417 (fun _ _ _ => rfl) n hC hF hdg hn kk
abbrev rm_X3_goesByRule : Room := { frames := 3, cells := 0, slots := 0, locals := 76 }
def F_X3_goesByRule_b191 (Q : gM → Prop)   (K35 : Int32 → gM → Prop) (K100 : Int32 → gM → Prop) (a0 : Nat) (x1 : Int32) (x2 : Int32) (x3 : Int32) (j4 : Int64) (x6 : Int32) (t0 : Int64)  (M : gM) : Prop :=
  gN M 3 a0 30 fun a_1 =>
  aN M (.array .long) a_1 x3 fun a_2 =>
  gN M 3 a0 12 fun a_3 =>
  aN M (.array .int) a_3 x1 fun a_4 =>
  aI M .int a_4 (3 : Int32) fun x_5 =>
  gN M 3 a0 37 fun a_6 =>
  aJ M a_6 x6 fun j_7 =>
  gN M 3 a0 12 fun a_8 =>
  aN M (.array .int) a_8 x1 fun a_9 =>
  aI M .int a_9 (3 : Int32) fun x_10 =>
  uJ M a_2 x6 ((x_5.toInt64 * j_7) + (((4 : Int32) - x_10).toInt64 * t0)) fun M_11 =>
  K100 (x6 + (1 : Int32)) M_11
theorem w_X3_goesByRule_b191 {G : gG} {Q : gM → Prop} (hC : gCx G cX3_goesByRule 10 RX3 none (gQv Q) rm_X3_goesByRule) (K35 : Int32 → gM → Prop) (K100 : Int32 → gM → Prop) (a0 : Nat) (x1 : Int32) (x2 : Int32) (x3 : Int32) (j4 : Int64) (x6 : Int32) (t0 : Int64) (hK35 : ∀ x3' M', K35 x3' M' → gAt G 0 0 M' [(0, .ref a0), (1, .int x1), (2, .int x2), (3, .int x3')] 35 []) (hK100 : ∀ x6' M', K100 x6' M' → gAt G 0 0 M' [(0, .ref a0), (1, .int x1), (2, .int x2), (3, .int x3), (4, .long j4), (6, .int x6')] 100 [])   (M : gM) (hF : F_X3_goesByRule_b191 Q K35 K100 a0 x1 x2 x3 j4 x6 t0 M) : gAt G 0 0 M [(0, .ref a0), (1, .int x1), (2, .int x2), (3, .int x3), (4, .long j4), (6, .int x6)] 191 [.long t0] := by
  unfold F_X3_goesByRule_b191 at hF
  refine g_lstore 193 hC (lv' := [(8, .long _), (0, .ref _), (1, .int _), (2, .int _), (3, .int _), (4, .long _), (6, .int _)]) dX3_goesByRule_191 rfl (by decide) rfl ?_
  refine g_aload_n 194 hC dX3_goesByRule_193 rfl 1 rfl rfl ?_
  refine gf_X3_61_3N 197 hC hF dX3_goesByRule_194 rfl (fun a_1 hF => ?_)
  refine g_iload_n 198 hC dX3_goesByRule_197 rfl 4 rfl rfl ?_
  refine g_aaldN 199 hC hF (by decide) rfl (fun _ _ _ => rfl) dX3_goesByRule_198 rfl (fun a_2 hF => ?_)
  refine g_iload 201 hC dX3_goesByRule_199 rfl 6 rfl ?_
  refine g_aload_n 202 hC dX3_goesByRule_201 rfl 1 rfl rfl ?_
  refine gf_X3_45_3N 205 hC hF dX3_goesByRule_202 rfl (fun a_3 hF => ?_)
  refine g_iload_n 206 hC dX3_goesByRule_205 rfl 2 rfl rfl ?_
  refine g_aaldN 207 hC hF (by decide) rfl (fun _ _ _ => rfl) dX3_goesByRule_206 rfl (fun a_4 hF => ?_)
  refine g_iconst 208 hC (3 : Int32) dX3_goesByRule_207 (by decide) rfl ?_
  refine g_iald 209 hC hF dX3_goesByRule_208 rfl (fun x_5 hF => ?_)
  refine g_i2l 210 hC dX3_goesByRule_209 rfl ?_
  refine g_aload_n 211 hC dX3_goesByRule_210 rfl 1 rfl rfl ?_
  refine gf_X3_82_3N 214 hC hF dX3_goesByRule_211 rfl (fun a_6 hF => ?_)
  refine g_iload 216 hC dX3_goesByRule_214 rfl 6 rfl ?_
  refine g_lald 217 hC hF dX3_goesByRule_216 rfl (fun j_7 hF => ?_)
  refine g_lmul 218 hC dX3_goesByRule_217 rfl ?_
  refine g_iconst 219 hC (4 : Int32) dX3_goesByRule_218 (by decide) rfl ?_
  refine g_aload_n 220 hC dX3_goesByRule_219 rfl 1 rfl rfl ?_
  refine gf_X3_45_3N 223 hC hF dX3_goesByRule_220 rfl (fun a_8 hF => ?_)
  refine g_iload_n 224 hC dX3_goesByRule_223 rfl 2 rfl rfl ?_
  refine g_aaldN 225 hC hF (by decide) rfl (fun _ _ _ => rfl) dX3_goesByRule_224 rfl (fun a_9 hF => ?_)
  refine g_iconst 226 hC (3 : Int32) dX3_goesByRule_225 (by decide) rfl ?_
  refine g_iald 227 hC hF dX3_goesByRule_226 rfl (fun x_10 hF => ?_)
  refine g_isub 228 hC dX3_goesByRule_227 rfl ?_
  refine g_i2l 229 hC dX3_goesByRule_228 rfl ?_
  refine g_lload 231 hC dX3_goesByRule_229 rfl 0 rfl ?_
  refine g_lmul 232 hC dX3_goesByRule_231 rfl ?_
  refine g_ladd 233 hC dX3_goesByRule_232 rfl ?_
  refine g_last 234 hC hF dX3_goesByRule_233 rfl (fun M_11 hF => ?_)
  refine g_iinc 237 hC (x6 + (1 : Int32)) (lv' := [(6, .int _), (8, .long _), (0, .ref _), (1, .int _), (2, .int _), (3, .int _), (4, .long _)]) dX3_goesByRule_234 rfl 6 rfl rfl (by decide) rfl ?_
  refine g_goto 100 hC dX3_goesByRule_237 (by decide) ?_
  refine g_sub [2, 3, 4, 5, 6, 0] rfl ?_
  exact hK100 _ _ hF
def F_X3_goesByRule_b161 (Q : gM → Prop)   (K35 : Int32 → gM → Prop) (K100 : Int32 → gM → Prop) (a0 : Nat) (x1 : Int32) (x2 : Int32) (x3 : Int32) (j4 : Int64) (x6 : Int32) (t0 : Int32)  (M : gM) : Prop :=
  ((¬ t0 = 0 →
    gN M 3 a0 37 fun a_1 =>
    aJ M a_1 (x6 - t0) fun j_2 =>
    F_X3_goesByRule_b191 Q K35 K100 a0 x1 x2 x3 j4 x6 (j4 + j_2) M) ∧
    (t0 = 0 →
    gN M 3 a0 37 fun a_3 =>
    aJ M a_3 x6 fun j_4 =>
    F_X3_goesByRule_b191 Q K35 K100 a0 x1 x2 x3 j4 x6 j_4 M))
theorem w_X3_goesByRule_b161 {G : gG} {Q : gM → Prop} (hC : gCx G cX3_goesByRule 10 RX3 none (gQv Q) rm_X3_goesByRule) (K35 : Int32 → gM → Prop) (K100 : Int32 → gM → Prop) (a0 : Nat) (x1 : Int32) (x2 : Int32) (x3 : Int32) (j4 : Int64) (x6 : Int32) (t0 : Int32) (hK35 : ∀ x3' M', K35 x3' M' → gAt G 0 0 M' [(0, .ref a0), (1, .int x1), (2, .int x2), (3, .int x3')] 35 []) (hK100 : ∀ x6' M', K100 x6' M' → gAt G 0 0 M' [(0, .ref a0), (1, .int x1), (2, .int x2), (3, .int x3), (4, .long j4), (6, .int x6')] 100 [])   (M : gM) (hF : F_X3_goesByRule_b161 Q K35 K100 a0 x1 x2 x3 j4 x6 t0 M) : gAt G 0 0 M [(0, .ref a0), (1, .int x1), (2, .int x2), (3, .int x3), (4, .long j4), (6, .int x6)] 161 [.int t0] := by
  unfold F_X3_goesByRule_b161 at hF
  refine g_istore 163 hC (lv' := [(7, .int _), (0, .ref _), (1, .int _), (2, .int _), (3, .int _), (4, .long _), (6, .int _)]) dX3_goesByRule_161 rfl (by decide) rfl ?_
  refine g_iload 165 hC dX3_goesByRule_163 rfl 0 rfl ?_
  refine g_if_ne 168 178 hC dX3_goesByRule_165 (by decide) rfl (fun c => ?_) (fun c => ?_)
  · have hF := hF.1 c
    refine g_lload 180 hC dX3_goesByRule_178 rfl 5 rfl ?_
    refine g_aload_n 181 hC dX3_goesByRule_180 rfl 1 rfl rfl ?_
    refine gf_X3_82_3N 184 hC hF dX3_goesByRule_181 rfl (fun a_1 hF => ?_)
    refine g_iload 186 hC dX3_goesByRule_184 rfl 6 rfl ?_
    refine g_iload 188 hC dX3_goesByRule_186 rfl 0 rfl ?_
    refine g_isub 189 hC dX3_goesByRule_188 rfl ?_
    refine g_lald 190 hC hF dX3_goesByRule_189 rfl (fun j_2 hF => ?_)
    refine g_ladd 191 hC dX3_goesByRule_190 rfl ?_
    refine g_sub [1, 2, 3, 4, 5, 6] rfl ?_
    exact w_X3_goesByRule_b191 hC _ _ _ _ _ _ _ _ _ hK35 hK100 _ hF
  · have hF := hF.2 c
    refine g_aload_n 169 hC dX3_goesByRule_168 rfl 1 rfl rfl ?_
    refine gf_X3_82_3N 172 hC hF dX3_goesByRule_169 rfl (fun a_3 hF => ?_)
    refine g_iload 174 hC dX3_goesByRule_172 rfl 6 rfl ?_
    refine g_lald 175 hC hF dX3_goesByRule_174 rfl (fun j_4 hF => ?_)
    refine g_goto 191 hC dX3_goesByRule_175 (by decide) ?_
    refine g_sub [1, 2, 3, 4, 5, 6] rfl ?_
    exact w_X3_goesByRule_b191 hC _ _ _ _ _ _ _ _ _ hK35 hK100 _ hF
def F_X3_goesByRule_b100 (Q : gM → Prop)   (K35 : Int32 → gM → Prop) (a0 : Nat) (x1 : Int32) (x2 : Int32) (x3 : Int32) (j4 : Int64) : Nat → Int32 → gM → Prop
  | 0, _, _ => False
  | n + 1, x6, M =>
    rc M 3 a0 ∧ F_X3_states M a0 x1 fun x_2 M_1 =>
    ((x_2 ≤ x6 →
      K35 (x3 + (1 : Int32)) M_1) ∧
      (¬ x_2 ≤ x6 →
      gN M_1 3 a0 5 fun a_3 =>
      aI M_1 .int a_3 x2 fun x_4 =>
      ((¬ x_4 = (4 : Int32) →
        gN M_1 3 a0 35 fun a_5 =>
        aI M_1 .int a_5 x6 fun x_6 =>
        rc M_1 3 a0 ∧ F_X3_fillsBy M_1 a0 x3 x6 x2 x_6 fun x_8 M_7 =>
        ((x_8 = 0 →
          F_X3_goesByRule_b161 Q K35 (F_X3_goesByRule_b100 Q K35 a0 x1 x2 x3 j4 n) a0 x1 x2 x3 j4 x6 (0 : Int32) M_7) ∧
          (¬ x_8 = 0 →
          gN M_7 3 a0 34 fun a_9 =>
          aI M_7 .int a_9 x6 fun x_10 =>
          F_X3_goesByRule_b161 Q K35 (F_X3_goesByRule_b100 Q K35 a0 x1 x2 x3 j4 n) a0 x1 x2 x3 j4 x6 x_10 M_7))) ∧
        (x_4 = (4 : Int32) →
        gN M_1 3 a0 29 fun a_11 =>
        aN M_1 (.array .int) a_11 x3 fun a_12 =>
        aI M_1 .int a_12 x6 fun x_13 =>
        F_X3_goesByRule_b161 Q K35 (F_X3_goesByRule_b100 Q K35 a0 x1 x2 x3 j4 n) a0 x1 x2 x3 j4 x6 x_13 M_1))))
theorem w_X3_goesByRule_b100 {G : gG} {Q : gM → Prop} (hC : gCx G cX3_goesByRule 10 RX3 none (gQv Q) rm_X3_goesByRule) (K35 : Int32 → gM → Prop) (a0 : Nat) (x1 : Int32) (x2 : Int32) (x3 : Int32) (j4 : Int64) (hK35 : ∀ x3' M', K35 x3' M' → gAt G 0 0 M' [(0, .ref a0), (1, .int x1), (2, .int x2), (3, .int x3')] 35 []) : ∀ (n : Nat) (x6 : Int32)   (M : gM), F_X3_goesByRule_b100 Q K35 a0 x1 x2 x3 j4 n x6 M → gAt G 0 0 M [(0, .ref a0), (1, .int x1), (2, .int x2), (3, .int x3), (4, .long j4), (6, .int x6)] 100 [] := by
  intro n
  induction n with
  | zero =>
    intro x6 M hF
    exact hF.elim
  | succ n ih =>
    intro x6 M hF
    have hK100 := ih
    unfold F_X3_goesByRule_b100 at hF
    refine g_iload 102 hC dX3_goesByRule_100 rfl 5 rfl ?_
    refine g_aload_n 103 hC dX3_goesByRule_102 rfl 0 rfl rfl ?_
    refine g_iload_n 104 hC dX3_goesByRule_103 rfl 1 rfl rfl ?_
    refine g_cV (rest := [_]) wl_X3_110 hd_X3_states (ci := 3) rfl 107 hC hF.1 (met_X3_states hF.2) rfl ⟨Nat.le_of_ble_eq_true rfl, Nat.le_of_ble_eq_true rfl⟩ ⟨Nat.zero_le _, Nat.zero_le _⟩ rfl (Nat.le_of_ble_eq_true rfl) dX3_goesByRule_104 rfl (g_ty_i 0 0 (Nat.le_refl _) (Nat.le_refl _) (fun x_2 M_1 hF => ?_))
    refine g_icmp_ge 110 240 hC dX3_goesByRule_107 (by decide) rfl (fun c => ?_) (fun c => ?_)
    · have hF := hF.1 c
      refine g_iinc 243 hC (x3 + (1 : Int32)) (lv' := [(3, .int _), (0, .ref _), (1, .int _), (2, .int _), (4, .long _), (6, .int _)]) dX3_goesByRule_240 rfl 3 rfl rfl (by decide) rfl ?_
      refine g_goto 35 hC dX3_goesByRule_243 (by decide) ?_
      refine g_sub [1, 2, 3, 0] rfl ?_
      exact hK35 _ _ hF
    · have hF := hF.2 c
      refine g_aload_n 111 hC dX3_goesByRule_110 rfl 0 rfl rfl ?_
      refine gf_X3_28_3N 114 hC hF dX3_goesByRule_111 rfl (fun a_3 hF => ?_)
      refine g_iload_n 115 hC dX3_goesByRule_114 rfl 2 rfl rfl ?_
      refine g_iald 116 hC hF dX3_goesByRule_115 rfl (fun x_4 hF => ?_)
      refine g_iconst 117 hC (4 : Int32) dX3_goesByRule_116 (by decide) rfl ?_
      refine g_icmp_ne 120 132 hC dX3_goesByRule_117 (by decide) rfl (fun c => ?_) (fun c => ?_)
      · have hF := hF.1 c
        refine g_aload_n 133 hC dX3_goesByRule_132 rfl 0 rfl rfl ?_
        refine g_iload_n 134 hC dX3_goesByRule_133 rfl 3 rfl rfl ?_
        refine g_iload 136 hC dX3_goesByRule_134 rfl 5 rfl ?_
        refine g_iload_n 137 hC dX3_goesByRule_136 rfl 2 rfl rfl ?_
        refine g_aload_n 138 hC dX3_goesByRule_137 rfl 0 rfl rfl ?_
        refine gf_X3_76_3N 141 hC hF dX3_goesByRule_138 rfl (fun a_5 hF => ?_)
        refine g_iload 143 hC dX3_goesByRule_141 rfl 5 rfl ?_
        refine g_iald 144 hC hF dX3_goesByRule_143 rfl (fun x_6 hF => ?_)
        refine g_cV (rest := []) wl_X3_267 hd_X3_fillsBy (ci := 3) rfl 147 hC hF.1 (met_X3_fillsBy hF.2) rfl ⟨Nat.le_of_ble_eq_true rfl, Nat.le_of_ble_eq_true rfl⟩ ⟨Nat.zero_le _, Nat.zero_le _⟩ rfl (Nat.le_of_ble_eq_true rfl) dX3_goesByRule_144 rfl (g_ty_i 0 0 (Nat.le_refl _) (Nat.le_refl _) (fun x_8 M_7 hF => ?_))
        refine g_if_eq 150 160 hC dX3_goesByRule_147 (by decide) rfl (fun c => ?_) (fun c => ?_)
        · have hF := hF.1 c
          refine g_iconst 161 hC (0 : Int32) dX3_goesByRule_160 (by decide) rfl ?_
          exact w_X3_goesByRule_b161 hC _ _ _ _ _ _ _ _ _ hK35 hK100 _ hF
        · have hF := hF.2 c
          refine g_aload_n 151 hC dX3_goesByRule_150 rfl 0 rfl rfl ?_
          refine gf_X3_73_3N 154 hC hF dX3_goesByRule_151 rfl (fun a_9 hF => ?_)
          refine g_iload 156 hC dX3_goesByRule_154 rfl 5 rfl ?_
          refine g_iald 157 hC hF dX3_goesByRule_156 rfl (fun x_10 hF => ?_)
          refine g_goto 161 hC dX3_goesByRule_157 (by decide) ?_
          exact w_X3_goesByRule_b161 hC _ _ _ _ _ _ _ _ _ hK35 hK100 _ hF
      · have hF := hF.2 c
        refine g_aload_n 121 hC dX3_goesByRule_120 rfl 0 rfl rfl ?_
        refine gf_X3_58_3N 124 hC hF dX3_goesByRule_121 rfl (fun a_11 hF => ?_)
        refine g_iload_n 125 hC dX3_goesByRule_124 rfl 3 rfl rfl ?_
        refine g_aaldN 126 hC hF (by decide) rfl (fun _ _ _ => rfl) dX3_goesByRule_125 rfl (fun a_12 hF => ?_)
        refine g_iload 128 hC dX3_goesByRule_126 rfl 5 rfl ?_
        refine g_iald 129 hC hF dX3_goesByRule_128 rfl (fun x_13 hF => ?_)
        refine g_goto 161 hC dX3_goesByRule_129 (by decide) ?_
        exact w_X3_goesByRule_b161 hC _ _ _ _ _ _ _ _ _ hK35 hK100 _ hF
def F_X3_goesByRule_b50 (Q : gM → Prop)   (K35 : Int32 → gM → Prop) (a0 : Nat) (x1 : Int32) (x2 : Int32) (x3 : Int32) : Nat → Int32 → gM → Prop
  | 0, _, _ => False
  | n + 1, x4, M =>
    rc M 3 a0 ∧ F_X3_states M a0 x1 fun x_2 M_1 =>
    ((x_2 ≤ x4 →
      rc M_1 3 a0 ∧ F_X3_boxOf M_1 a0 x1 x3 fun j_4 M_3 =>
      ∃ n_5, F_X3_goesByRule_b100 Q K35 a0 x1 x2 x3 j_4 n_5 (0 : Int32) M_3) ∧
      (¬ x_2 ≤ x4 →
      gN M_1 3 a0 37 fun a_6 =>
      gN M_1 3 a0 30 fun a_7 =>
      aN M_1 (.array .long) a_7 (x3 - (1 : Int32)) fun a_8 =>
      rc M_1 3 a0 ∧ F_X3_behind M_1 a0 x1 x3 x4 a_8 fun j_10 M_9 =>
      uJ M_9 a_6 x4 j_10 fun M_11 =>
      (F_X3_goesByRule_b50 Q K35 a0 x1 x2 x3 n) (x4 + (1 : Int32)) M_11))
theorem w_X3_goesByRule_b50 {G : gG} {Q : gM → Prop} (hC : gCx G cX3_goesByRule 10 RX3 none (gQv Q) rm_X3_goesByRule) (K35 : Int32 → gM → Prop) (a0 : Nat) (x1 : Int32) (x2 : Int32) (x3 : Int32) (hK35 : ∀ x3' M', K35 x3' M' → gAt G 0 0 M' [(0, .ref a0), (1, .int x1), (2, .int x2), (3, .int x3')] 35 []) : ∀ (n : Nat) (x4 : Int32)   (M : gM), F_X3_goesByRule_b50 Q K35 a0 x1 x2 x3 n x4 M → gAt G 0 0 M [(0, .ref a0), (1, .int x1), (2, .int x2), (3, .int x3), (4, .int x4)] 50 [] := by
  intro n
  induction n with
  | zero =>
    intro x4 M hF
    exact hF.elim
  | succ n ih =>
    intro x4 M hF
    have hK50 := ih
    unfold F_X3_goesByRule_b50 at hF
    refine g_iload 52 hC dX3_goesByRule_50 rfl 4 rfl ?_
    refine g_aload_n 53 hC dX3_goesByRule_52 rfl 0 rfl rfl ?_
    refine g_iload_n 54 hC dX3_goesByRule_53 rfl 1 rfl rfl ?_
    refine g_cV (rest := [_]) wl_X3_110 hd_X3_states (ci := 3) rfl 57 hC hF.1 (met_X3_states hF.2) rfl ⟨Nat.le_of_ble_eq_true rfl, Nat.le_of_ble_eq_true rfl⟩ ⟨Nat.zero_le _, Nat.zero_le _⟩ rfl (Nat.le_of_ble_eq_true rfl) dX3_goesByRule_54 rfl (g_ty_i 0 0 (Nat.le_refl _) (Nat.le_refl _) (fun x_2 M_1 hF => ?_))
    refine g_icmp_ge 60 89 hC dX3_goesByRule_57 (by decide) rfl (fun c => ?_) (fun c => ?_)
    · have hF := hF.1 c
      refine g_aload_n 90 hC dX3_goesByRule_89 rfl 0 rfl rfl ?_
      refine g_iload_n 91 hC dX3_goesByRule_90 rfl 1 rfl rfl ?_
      refine g_iload_n 92 hC dX3_goesByRule_91 rfl 3 rfl rfl ?_
      refine g_cV (rest := []) wl_X3_261 hd_X3_boxOf (ci := 3) rfl 95 hC hF.1 (met_X3_boxOf hF.2) rfl ⟨Nat.le_of_ble_eq_true rfl, Nat.le_of_ble_eq_true rfl⟩ ⟨Nat.zero_le _, Nat.zero_le _⟩ rfl (Nat.le_of_ble_eq_true rfl) dX3_goesByRule_92 rfl (g_ty_j 0 0 (Nat.le_refl _) (Nat.le_refl _) (fun j_4 M_3 hF => ?_))
      refine g_lstore 97 hC (lv' := [(4, .long _), (0, .ref _), (1, .int _), (2, .int _), (3, .int _)]) dX3_goesByRule_95 rfl (by decide) rfl ?_
      refine g_iconst 98 hC (0 : Int32) dX3_goesByRule_97 (by decide) rfl ?_
      refine g_istore 100 hC (lv' := [(6, .int _), (4, .long _), (0, .ref _), (1, .int _), (2, .int _), (3, .int _)]) dX3_goesByRule_98 rfl (by decide) rfl ?_
      refine g_sub [2, 3, 4, 5, 1, 0] rfl ?_
      obtain ⟨n_5, hF⟩ := hF
      exact w_X3_goesByRule_b100 hC _ _ _ _ _ _ hK35 n_5 _ _ hF
    · have hF := hF.2 c
      refine g_aload_n 61 hC dX3_goesByRule_60 rfl 0 rfl rfl ?_
      refine gf_X3_82_3N 64 hC hF dX3_goesByRule_61 rfl (fun a_6 hF => ?_)
      refine g_iload 66 hC dX3_goesByRule_64 rfl 4 rfl ?_
      refine g_aload_n 67 hC dX3_goesByRule_66 rfl 0 rfl rfl ?_
      refine g_iload_n 68 hC dX3_goesByRule_67 rfl 1 rfl rfl ?_
      refine g_iload_n 69 hC dX3_goesByRule_68 rfl 3 rfl rfl ?_
      refine g_iload 71 hC dX3_goesByRule_69 rfl 4 rfl ?_
      refine g_aload_n 72 hC dX3_goesByRule_71 rfl 0 rfl rfl ?_
      refine gf_X3_61_3N 75 hC hF dX3_goesByRule_72 rfl (fun a_7 hF => ?_)
      refine g_iload_n 76 hC dX3_goesByRule_75 rfl 3 rfl rfl ?_
      refine g_iconst 77 hC (1 : Int32) dX3_goesByRule_76 (by decide) rfl ?_
      refine g_isub 78 hC dX3_goesByRule_77 rfl ?_
      refine g_aaldN 79 hC hF (by decide) rfl (fun _ _ _ => rfl) dX3_goesByRule_78 rfl (fun a_8 hF => ?_)
      refine g_cV (rest := [_, _]) wl_X3_253 hd_X3_behind (ci := 3) rfl 82 hC hF.1 (met_X3_behind hF.2) rfl ⟨Nat.le_of_ble_eq_true rfl, Nat.le_of_ble_eq_true rfl⟩ ⟨Nat.zero_le _, Nat.zero_le _⟩ rfl (Nat.le_of_ble_eq_true rfl) dX3_goesByRule_79 rfl (g_ty_j 0 0 (Nat.le_refl _) (Nat.le_refl _) (fun j_10 M_9 hF => ?_))
      refine g_last 83 hC hF dX3_goesByRule_82 rfl (fun M_11 hF => ?_)
      refine g_iinc 86 hC (x4 + (1 : Int32)) (lv' := [(4, .int _), (0, .ref _), (1, .int _), (2, .int _), (3, .int _)]) dX3_goesByRule_83 rfl 4 rfl rfl (by decide) rfl ?_
      refine g_goto 50 hC dX3_goesByRule_86 (by decide) ?_
      refine g_sub [1, 2, 3, 4, 0] rfl ?_
      exact hK50 _ _ hF
def F_X3_goesByRule_b35 (Q : gM → Prop)    (a0 : Nat) (x1 : Int32) (x2 : Int32) : Nat → Int32 → gM → Prop
  | 0, _, _ => False
  | n + 1, x3, M =>
    gN M 3 a0 12 fun a_1 =>
    aN M (.array .int) a_1 x1 fun a_2 =>
    aI M .int a_2 (0 : Int32) fun x_3 =>
    ((x_3 < x3 →
      Q M) ∧
      (¬ x_3 < x3 →
      ∃ n_4, F_X3_goesByRule_b50 Q (F_X3_goesByRule_b35 Q a0 x1 x2 n) a0 x1 x2 x3 n_4 (0 : Int32) M))
theorem w_X3_goesByRule_b35 {G : gG} {Q : gM → Prop} (hC : gCx G cX3_goesByRule 10 RX3 none (gQv Q) rm_X3_goesByRule)  (a0 : Nat) (x1 : Int32) (x2 : Int32)  : ∀ (n : Nat) (x3 : Int32)   (M : gM), F_X3_goesByRule_b35 Q a0 x1 x2 n x3 M → gAt G 0 0 M [(0, .ref a0), (1, .int x1), (2, .int x2), (3, .int x3)] 35 [] := by
  intro n
  induction n with
  | zero =>
    intro x3 M hF
    exact hF.elim
  | succ n ih =>
    intro x3 M hF
    have hK35 := ih
    unfold F_X3_goesByRule_b35 at hF
    refine g_iload_n 36 hC dX3_goesByRule_35 rfl 3 rfl rfl ?_
    refine g_aload_n 37 hC dX3_goesByRule_36 rfl 0 rfl rfl ?_
    refine gf_X3_45_3N 40 hC hF dX3_goesByRule_37 rfl (fun a_1 hF => ?_)
    refine g_iload_n 41 hC dX3_goesByRule_40 rfl 1 rfl rfl ?_
    refine g_aaldN 42 hC hF (by decide) rfl (fun _ _ _ => rfl) dX3_goesByRule_41 rfl (fun a_2 hF => ?_)
    refine g_iconst 43 hC (0 : Int32) dX3_goesByRule_42 (by decide) rfl ?_
    refine g_iald 44 hC hF dX3_goesByRule_43 rfl (fun x_3 hF => ?_)
    refine g_icmp_gt 47 246 hC dX3_goesByRule_44 (by decide) rfl (fun c => ?_) (fun c => ?_)
    · have hF := hF.1 c
      exact g_return hC ⟨rfl, hF⟩ dX3_goesByRule_246 (Nat.zero_le _) (Nat.zero_le _)
    · have hF := hF.2 c
      refine g_iconst 48 hC (0 : Int32) dX3_goesByRule_47 (by decide) rfl ?_
      refine g_istore 50 hC (lv' := [(4, .int _), (0, .ref _), (1, .int _), (2, .int _), (3, .int _)]) dX3_goesByRule_48 rfl (by decide) rfl ?_
      refine g_sub [1, 2, 3, 4, 0] rfl ?_
      obtain ⟨n_4, hF⟩ := hF
      exact w_X3_goesByRule_b50 hC _ _ _ _ _ hK35 n_4 _ _ hF
def F_X3_goesByRule_b2 (Q : gM → Prop)    (a0 : Nat) (x1 : Int32) (x2 : Int32) : Nat → Int32 → gM → Prop
  | 0, _, _ => False
  | n + 1, x3, M =>
    rc M 3 a0 ∧ F_X3_states M a0 x1 fun x_2 M_1 =>
    ((x_2 ≤ x3 →
      ∃ n_3, F_X3_goesByRule_b35 Q a0 x1 x2 n_3 (1 : Int32) M_1) ∧
      (¬ x_2 ≤ x3 →
      gN M_1 3 a0 30 fun a_4 =>
      aN M_1 (.array .long) a_4 (0 : Int32) fun a_5 =>
      rc M_1 3 a0 ∧ F_X3_sum M_1 a0 x1 x3 (4 : Int32) fun x_7 M_6 =>
      uJ M_6 a_5 x3 x_7.toInt64 fun M_8 =>
      (F_X3_goesByRule_b2 Q a0 x1 x2 n) (x3 + (1 : Int32)) M_8))
theorem w_X3_goesByRule_b2 {G : gG} {Q : gM → Prop} (hC : gCx G cX3_goesByRule 10 RX3 none (gQv Q) rm_X3_goesByRule)  (a0 : Nat) (x1 : Int32) (x2 : Int32)  : ∀ (n : Nat) (x3 : Int32)   (M : gM), F_X3_goesByRule_b2 Q a0 x1 x2 n x3 M → gAt G 0 0 M [(0, .ref a0), (1, .int x1), (2, .int x2), (3, .int x3)] 2 [] := by
  intro n
  induction n with
  | zero =>
    intro x3 M hF
    exact hF.elim
  | succ n ih =>
    intro x3 M hF
    have hK2 := ih
    unfold F_X3_goesByRule_b2 at hF
    refine g_iload_n 3 hC dX3_goesByRule_2 rfl 3 rfl rfl ?_
    refine g_aload_n 4 hC dX3_goesByRule_3 rfl 0 rfl rfl ?_
    refine g_iload_n 5 hC dX3_goesByRule_4 rfl 1 rfl rfl ?_
    refine g_cV (rest := [_]) wl_X3_110 hd_X3_states (ci := 3) rfl 8 hC hF.1 (met_X3_states hF.2) rfl ⟨Nat.le_of_ble_eq_true rfl, Nat.le_of_ble_eq_true rfl⟩ ⟨Nat.zero_le _, Nat.zero_le _⟩ rfl (Nat.le_of_ble_eq_true rfl) dX3_goesByRule_5 rfl (g_ty_i 0 0 (Nat.le_refl _) (Nat.le_refl _) (fun x_2 M_1 hF => ?_))
    refine g_icmp_ge 11 33 hC dX3_goesByRule_8 (by decide) rfl (fun c => ?_) (fun c => ?_)
    · have hF := hF.1 c
      refine g_iconst 34 hC (1 : Int32) dX3_goesByRule_33 (by decide) rfl ?_
      refine g_istore_n 35 hC (lv' := [(3, .int _), (0, .ref _), (1, .int _), (2, .int _)]) dX3_goesByRule_34 rfl rfl (by decide) rfl ?_
      refine g_sub [1, 2, 3, 0] rfl ?_
      obtain ⟨n_3, hF⟩ := hF
      exact w_X3_goesByRule_b35 hC _ _ _ n_3 _ _ hF
    · have hF := hF.2 c
      refine g_aload_n 12 hC dX3_goesByRule_11 rfl 0 rfl rfl ?_
      refine gf_X3_61_3N 15 hC hF dX3_goesByRule_12 rfl (fun a_4 hF => ?_)
      refine g_iconst 16 hC (0 : Int32) dX3_goesByRule_15 (by decide) rfl ?_
      refine g_aaldN 17 hC hF (by decide) rfl (fun _ _ _ => rfl) dX3_goesByRule_16 rfl (fun a_5 hF => ?_)
      refine g_iload_n 18 hC dX3_goesByRule_17 rfl 3 rfl rfl ?_
      refine g_aload_n 19 hC dX3_goesByRule_18 rfl 0 rfl rfl ?_
      refine g_iload_n 20 hC dX3_goesByRule_19 rfl 1 rfl rfl ?_
      refine g_iload_n 21 hC dX3_goesByRule_20 rfl 3 rfl rfl ?_
      refine g_iconst 22 hC (4 : Int32) dX3_goesByRule_21 (by decide) rfl ?_
      refine g_cV (rest := [_, _]) wl_X3_236 hd_X3_sum (ci := 3) rfl 25 hC hF.1 (met_X3_sum hF.2) rfl ⟨Nat.le_of_ble_eq_true rfl, Nat.le_of_ble_eq_true rfl⟩ ⟨Nat.zero_le _, Nat.zero_le _⟩ rfl (Nat.le_of_ble_eq_true rfl) dX3_goesByRule_22 rfl (g_ty_i 0 0 (Nat.le_refl _) (Nat.le_refl _) (fun x_7 M_6 hF => ?_))
      refine g_i2l 26 hC dX3_goesByRule_25 rfl ?_
      refine g_last 27 hC hF dX3_goesByRule_26 rfl (fun M_8 hF => ?_)
      refine g_iinc 30 hC (x3 + (1 : Int32)) (lv' := [(3, .int _), (0, .ref _), (1, .int _), (2, .int _)]) dX3_goesByRule_27 rfl 3 rfl rfl (by decide) rfl ?_
      refine g_goto 2 hC dX3_goesByRule_30 (by decide) ?_
      refine g_sub [1, 2, 3, 0] rfl ?_
      exact hK2 _ _ hF
def F_X3_goesByRule  (M : gM) (a0 : Nat) (x1 : Int32) (x2 : Int32) (Q : gM → Prop)  : Prop :=
  ∃ n_1, F_X3_goesByRule_b2 Q a0 x1 x2 n_1 (0 : Int32) M
theorem met_X3_goesByRule {M : gM} {a0 : Nat} {x1 : Int32} {x2 : Int32} {Q : gM → Prop} (hF : F_X3_goesByRule M a0 x1 x2 Q) : gMt yX3_goesByRule (ws_ yX3_goesByRule cX3_goesByRule 10 none) rm_X3_goesByRule M [.ref a0, .int x1, .int x2] (gQv Q) := by
  refine gMet (bytes := cX3_goesByRule) (maxL := 10) (ret := none) rfl rfl (by decide) (Nat.le_of_ble_eq_true rfl) (lv := [(0, .ref a0), (1, .int x1), (2, .int x2)]) rfl (fun G hC hin => ?_)
  unfold F_X3_goesByRule at hF
  refine g_iconst 1 hC (0 : Int32) dX3_goesByRule_0 (by decide) rfl ?_
  refine g_istore_n 2 hC (lv' := [(3, .int _), (0, .ref _), (1, .int _), (2, .int _)]) dX3_goesByRule_1 rfl rfl (by decide) rfl ?_
  refine g_sub [1, 2, 3, 0] rfl ?_
  obtain ⟨n_1, hF⟩ := hF
  exact w_X3_goesByRule_b2 hC _ _ _ n_1 _ _ hF
theorem hd_X3_goesByRule : yX3_goesByRule.cls = RX3 ∧ yX3_goesByRule.cls ≠ "java/lang/invoke/MethodHandle" ∧ yX3_goesByRule.cls ≠ "java/lang/invoke/VarHandle" ∧ (parseMethodDescriptor yX3_goesByRule.desc).map (fun d => d.parameters.length) = some 2 := by decide +kernel
theorem wl_X3_278 : GoodIn lw_all (wsV RX3 278 RX3 yX3_goesByRule (ws_ yX3_goesByRule cX3_goesByRule 10 none)) := lw_V q1785 q1787 qs54 q72 q1788
abbrev rm_X3_findByRule : Room := { frames := 5, cells := 0, slots := 0, locals := 129 }
def F_X3_findByRule  (M : gM) (a0 : Nat) (x1 : Int32) (x2 : Int32) (Q : gM → Prop)  : Prop :=
  rc M 3 a0 ∧ F_X3_findBest M a0 x1 fun M_1 =>
  rc M_1 3 a0 ∧ F_X3_goesByRule M_1 a0 x1 x2 fun M_3 =>
  Q M_3
theorem met_X3_findByRule {M : gM} {a0 : Nat} {x1 : Int32} {x2 : Int32} {Q : gM → Prop} (hF : F_X3_findByRule M a0 x1 x2 Q) : gMt yX3_findByRule (ws_ yX3_findByRule cX3_findByRule 3 none) rm_X3_findByRule M [.ref a0, .int x1, .int x2] (gQv Q) := by
  refine gMet (bytes := cX3_findByRule) (maxL := 3) (ret := none) rfl rfl (by decide) (Nat.le_of_ble_eq_true rfl) (lv := [(0, .ref a0), (1, .int x1), (2, .int x2)]) rfl (fun G hC hin => ?_)
  unfold F_X3_findByRule at hF
  refine g_aload_n 1 hC dX3_findByRule_0 rfl 0 rfl rfl ?_
  refine g_iload_n 2 hC dX3_findByRule_1 rfl 1 rfl rfl ?_
  refine g_cV (rest := []) wl_X3_264 hd_X3_findBest (ci := 3) rfl 5 hC hF.1 (met_X3_findBest hF.2) rfl ⟨Nat.le_of_ble_eq_true rfl, Nat.le_of_ble_eq_true rfl⟩ ⟨Nat.zero_le _, Nat.zero_le _⟩ rfl (Nat.le_of_ble_eq_true rfl) dX3_findByRule_2 rfl (g_ty_v 0 0 (Nat.le_refl _) (Nat.le_refl _) (fun M_1 hF => ?_))
  refine g_aload_n 6 hC dX3_findByRule_5 rfl 0 rfl rfl ?_
  refine g_iload_n 7 hC dX3_findByRule_6 rfl 1 rfl rfl ?_
  refine g_iload_n 8 hC dX3_findByRule_7 rfl 2 rfl rfl ?_
  refine g_cV (rest := []) wl_X3_278 hd_X3_goesByRule (ci := 3) rfl 11 hC hF.1 (met_X3_goesByRule hF.2) rfl ⟨Nat.le_of_ble_eq_true rfl, Nat.le_of_ble_eq_true rfl⟩ ⟨Nat.zero_le _, Nat.zero_le _⟩ rfl (Nat.le_of_ble_eq_true rfl) dX3_findByRule_8 rfl (g_ty_v 0 0 (Nat.le_refl _) (Nat.le_refl _) (fun M_3 hF => ?_))
  exact g_return hC ⟨rfl, hF⟩ dX3_findByRule_11 (Nat.zero_le _) (Nat.zero_le _)
theorem hd_X3_findByRule : yX3_findByRule.cls = RX3 ∧ yX3_findByRule.cls ≠ "java/lang/invoke/MethodHandle" ∧ yX3_findByRule.cls ≠ "java/lang/invoke/VarHandle" ∧ (parseMethodDescriptor yX3_findByRule.desc).map (fun d => d.parameters.length) = some 2 := by decide +kernel
theorem wl_X3_282 : GoodIn lw_all (wsV RX3 282 RX3 yX3_findByRule (ws_ yX3_findByRule cX3_findByRule 3 none)) := lw_V q1781 q1783 qs53 q72 q1784
abbrev rm_X3_byShelf : Room := { frames := 6, cells := 0, slots := 0, locals := 151 }
def F_X3_byShelf_b31 (Q : Int64 → gM → Prop)    (a0 : Nat)   (M : gM) : Prop :=
  rc M 3 a0 ∧ F_X3_refuse M a0 (-2 : Int32) fun x_2 M_1 =>
  Q x_2.toInt64 M_1
theorem w_X3_byShelf_b31 {G : gG} {Q : Int64 → gM → Prop} (hC : gCx G cX3_byShelf 7 RX3 (some .long) (gQj Q) rm_X3_byShelf)  (a0 : Nat)     (M : gM) (hF : F_X3_byShelf_b31 Q a0 M) : gAt G 0 0 M [(0, .ref a0)] 31 [] := by
  unfold F_X3_byShelf_b31 at hF
  refine g_aload_n 32 hC dX3_byShelf_31 rfl 0 rfl rfl ?_
  refine g_bipush 34 hC (-2 : Int32) dX3_byShelf_32 (by decide) rfl ?_
  refine g_cV (rest := []) wl_X3_119 hd_X3_refuse (ci := 3) rfl 37 hC hF.1 (met_X3_refuse hF.2) rfl ⟨Nat.le_of_ble_eq_true rfl, Nat.le_of_ble_eq_true rfl⟩ ⟨Nat.zero_le _, Nat.zero_le _⟩ rfl (Nat.le_of_ble_eq_true rfl) dX3_byShelf_34 rfl (g_ty_i 0 0 (Nat.le_refl _) (Nat.le_refl _) (fun x_2 M_1 hF => ?_))
  refine g_i2l 38 hC dX3_byShelf_37 rfl ?_
  exact g_lreturn hC ⟨_, rfl, hF⟩ dX3_byShelf_38 (Nat.zero_le _) (Nat.zero_le _)
def F_X3_byShelf  (M : gM) (a0 : Nat) (x1 : Int32) (x2 : Int32) (x3 : Int32) (x4 : Int32) (x5 : Int32) (Q : Int64 → gM → Prop)  : Prop :=
  rc M 3 a0 ∧ F_X3_isLeft M a0 x1 x2 fun x_2 M_1 =>
  ((x_2 = 0 →
    F_X3_byShelf_b31 Q a0 M_1) ∧
    (¬ x_2 = 0 →
    rc M_1 3 a0 ∧ F_X3_isState M_1 a0 x1 x3 fun x_4 M_3 =>
    ((x_4 = 0 →
      F_X3_byShelf_b31 Q a0 M_3) ∧
      (¬ x_4 = 0 →
      F_X3_in M_3 x4.toInt64 (0 : Int64) (7 : Int64) fun x_6 M_5 =>
      ((¬ x_6 = 0 →
        rc M_5 3 a0 ∧ F_X3_noRule M_5 a0 x4 fun x_8 M_7 =>
        ((x_8 = 0 →
          rc M_7 3 a0 ∧ F_X3_findByRule M_7 a0 x1 x4 fun M_9 =>
          gN M_9 3 a0 30 fun a_11 =>
          aN M_9 (.array .long) a_11 x2 fun a_12 =>
          aJ M_9 a_12 x3 fun j_13 =>
          ((x5 = 0 →
            Q (j_13 - (0 : Int64)) M_9) ∧
            (¬ x5 = 0 →
            gN M_9 3 a0 28 fun a_14 =>
            aN M_9 (.array .long) a_14 x2 fun a_15 =>
            aJ M_9 a_15 x3 fun j_16 =>
            Q (j_13 - j_16) M_9))) ∧
          (¬ x_8 = 0 →
          Q x_8.toInt64 M_7))) ∧
        (x_6 = 0 →
        F_X3_byShelf_b31 Q a0 M_5))))))
theorem met_X3_byShelf {M : gM} {a0 : Nat} {x1 : Int32} {x2 : Int32} {x3 : Int32} {x4 : Int32} {x5 : Int32} {Q : Int64 → gM → Prop} (hF : F_X3_byShelf M a0 x1 x2 x3 x4 x5 Q) : gMt yX3_byShelf (ws_ yX3_byShelf cX3_byShelf 7 (some .long)) rm_X3_byShelf M [.ref a0, .int x1, .int x2, .int x3, .int x4, .int x5] (gQj Q) := by
  refine gMet (bytes := cX3_byShelf) (maxL := 7) (ret := (some .long)) rfl rfl (by decide) (Nat.le_of_ble_eq_true rfl) (lv := [(0, .ref a0), (1, .int x1), (2, .int x2), (3, .int x3), (4, .int x4), (5, .int x5)]) rfl (fun G hC hin => ?_)
  unfold F_X3_byShelf at hF
  refine g_aload_n 1 hC dX3_byShelf_0 rfl 0 rfl rfl ?_
  refine g_iload_n 2 hC dX3_byShelf_1 rfl 1 rfl rfl ?_
  refine g_iload_n 3 hC dX3_byShelf_2 rfl 2 rfl rfl ?_
  refine g_cV (rest := []) wl_X3_239 hd_X3_isLeft (ci := 3) rfl 6 hC hF.1 (met_X3_isLeft hF.2) rfl ⟨Nat.le_of_ble_eq_true rfl, Nat.le_of_ble_eq_true rfl⟩ ⟨Nat.zero_le _, Nat.zero_le _⟩ rfl (Nat.le_of_ble_eq_true rfl) dX3_byShelf_3 rfl (g_ty_i 0 0 (Nat.le_refl _) (Nat.le_refl _) (fun x_2 M_1 hF => ?_))
  refine g_if_eq 9 31 hC dX3_byShelf_6 (by decide) rfl (fun c => ?_) (fun c => ?_)
  · have hF := hF.1 c
    refine g_sub [0] rfl ?_
    exact w_X3_byShelf_b31 hC _ _ hF
  · have hF := hF.2 c
    refine g_aload_n 10 hC dX3_byShelf_9 rfl 0 rfl rfl ?_
    refine g_iload_n 11 hC dX3_byShelf_10 rfl 1 rfl rfl ?_
    refine g_iload_n 12 hC dX3_byShelf_11 rfl 3 rfl rfl ?_
    refine g_cV (rest := []) wl_X3_233 hd_X3_isState (ci := 3) rfl 15 hC hF.1 (met_X3_isState hF.2) rfl ⟨Nat.le_of_ble_eq_true rfl, Nat.le_of_ble_eq_true rfl⟩ ⟨Nat.zero_le _, Nat.zero_le _⟩ rfl (Nat.le_of_ble_eq_true rfl) dX3_byShelf_12 rfl (g_ty_i 0 0 (Nat.le_refl _) (Nat.le_refl _) (fun x_4 M_3 hF => ?_))
    refine g_if_eq 18 31 hC dX3_byShelf_15 (by decide) rfl (fun c => ?_) (fun c => ?_)
    · have hF := hF.1 c
      refine g_sub [0] rfl ?_
      exact w_X3_byShelf_b31 hC _ _ hF
    · have hF := hF.2 c
      refine g_iload 20 hC dX3_byShelf_18 rfl 4 rfl ?_
      refine g_i2l 21 hC dX3_byShelf_20 rfl ?_
      refine g_lconst 22 hC (0 : Int64) dX3_byShelf_21 (by decide) rfl ?_
      refine g_ldc2 25 hC q1530 dX3_byShelf_22 rfl ?_
      refine g_cS (rest := []) wl_X3_94 hd_X3_in 28 hC (met_X3_in hF) rfl ⟨Nat.le_of_ble_eq_true rfl, Nat.le_of_ble_eq_true rfl⟩ ⟨Nat.zero_le _, Nat.zero_le _⟩ rfl (Nat.le_of_ble_eq_true rfl) dX3_byShelf_25 rfl (g_ty_i 0 0 (Nat.le_refl _) (Nat.le_refl _) (fun x_6 M_5 hF => ?_))
      refine g_if_ne 31 39 hC dX3_byShelf_28 (by decide) rfl (fun c => ?_) (fun c => ?_)
      · have hF := hF.1 c
        refine g_aload_n 40 hC dX3_byShelf_39 rfl 0 rfl rfl ?_
        refine g_iload 42 hC dX3_byShelf_40 rfl 4 rfl ?_
        refine g_cV (rest := []) wl_X3_271 hd_X3_noRule (ci := 3) rfl 45 hC hF.1 (met_X3_noRule hF.2) rfl ⟨Nat.le_of_ble_eq_true rfl, Nat.le_of_ble_eq_true rfl⟩ ⟨Nat.zero_le _, Nat.zero_le _⟩ rfl (Nat.le_of_ble_eq_true rfl) dX3_byShelf_42 rfl (g_ty_i 0 0 (Nat.le_refl _) (Nat.le_refl _) (fun x_8 M_7 hF => ?_))
        refine g_istore 47 hC (lv' := [(6, .int _), (0, .ref _), (1, .int _), (2, .int _), (3, .int _), (4, .int _), (5, .int _)]) dX3_byShelf_45 rfl (by decide) rfl ?_
        refine g_iload 49 hC dX3_byShelf_47 rfl 0 rfl ?_
        refine g_if_eq 52 56 hC dX3_byShelf_49 (by decide) rfl (fun c => ?_) (fun c => ?_)
        · have hF := hF.1 c
          refine g_aload_n 57 hC dX3_byShelf_56 rfl 1 rfl rfl ?_
          refine g_iload_n 58 hC dX3_byShelf_57 rfl 2 rfl rfl ?_
          refine g_iload 60 hC dX3_byShelf_58 rfl 5 rfl ?_
          refine g_cV (rest := []) wl_X3_282 hd_X3_findByRule (ci := 3) rfl 63 hC hF.1 (met_X3_findByRule hF.2) rfl ⟨Nat.le_of_ble_eq_true rfl, Nat.le_of_ble_eq_true rfl⟩ ⟨Nat.zero_le _, Nat.zero_le _⟩ rfl (Nat.le_of_ble_eq_true rfl) dX3_byShelf_60 rfl (g_ty_v 0 0 (Nat.le_refl _) (Nat.le_refl _) (fun M_9 hF => ?_))
          refine g_aload_n 64 hC dX3_byShelf_63 rfl 1 rfl rfl ?_
          refine gf_X3_61_3N 67 hC hF dX3_byShelf_64 rfl (fun a_11 hF => ?_)
          refine g_iload_n 68 hC dX3_byShelf_67 rfl 3 rfl rfl ?_
          refine g_aaldN 69 hC hF (by decide) rfl (fun _ _ _ => rfl) dX3_byShelf_68 rfl (fun a_12 hF => ?_)
          refine g_iload_n 70 hC dX3_byShelf_69 rfl 4 rfl rfl ?_
          refine g_lald 71 hC hF dX3_byShelf_70 rfl (fun j_13 hF => ?_)
          refine g_iload 73 hC dX3_byShelf_71 rfl 6 rfl ?_
          refine g_if_eq 76 87 hC dX3_byShelf_73 (by decide) rfl (fun c => ?_) (fun c => ?_)
          · have hF := hF.1 c
            refine g_lconst 88 hC (0 : Int64) dX3_byShelf_87 (by decide) rfl ?_
            refine g_lsub 89 hC dX3_byShelf_88 rfl ?_
            exact g_lreturn hC ⟨_, rfl, hF⟩ dX3_byShelf_89 (Nat.zero_le _) (Nat.zero_le _)
          · have hF := hF.2 c
            refine g_aload_n 77 hC dX3_byShelf_76 rfl 1 rfl rfl ?_
            refine gf_X3_55_3N 80 hC hF dX3_byShelf_77 rfl (fun a_14 hF => ?_)
            refine g_iload_n 81 hC dX3_byShelf_80 rfl 3 rfl rfl ?_
            refine g_aaldN 82 hC hF (by decide) rfl (fun _ _ _ => rfl) dX3_byShelf_81 rfl (fun a_15 hF => ?_)
            refine g_iload_n 83 hC dX3_byShelf_82 rfl 4 rfl rfl ?_
            refine g_lald 84 hC hF dX3_byShelf_83 rfl (fun j_16 hF => ?_)
            refine g_goto 88 hC dX3_byShelf_84 (by decide) ?_
            refine g_lsub 89 hC dX3_byShelf_88 rfl ?_
            exact g_lreturn hC ⟨_, rfl, hF⟩ dX3_byShelf_89 (Nat.zero_le _) (Nat.zero_le _)
        · have hF := hF.2 c
          refine g_iload 54 hC dX3_byShelf_52 rfl 0 rfl ?_
          refine g_i2l 55 hC dX3_byShelf_54 rfl ?_
          exact g_lreturn hC ⟨_, rfl, hF⟩ dX3_byShelf_55 (Nat.zero_le _) (Nat.zero_le _)
      · have hF := hF.2 c
        refine g_sub [0] rfl ?_
        exact w_X3_byShelf_b31 hC _ _ hF
theorem hd_X3_byShelf : yX3_byShelf.cls = RX3 ∧ yX3_byShelf.cls ≠ "java/lang/invoke/MethodHandle" ∧ yX3_byShelf.cls ≠ "java/lang/invoke/VarHandle" ∧ (parseMethodDescriptor yX3_byShelf.desc).map (fun d => d.parameters.length) = some 5 := by decide +kernel
theorem wl_X3_285 : GoodIn lw_all (wsV RX3 285 RX3 yX3_byShelf (ws_ yX3_byShelf cX3_byShelf 7 (some .long))) := lw_V q1777 q1779 qs52 q72 q1780
abbrev rm_X3_mean : Room := { frames := 7, cells := 0, slots := 0, locals := 177 }
def F_X3_mean  (M : gM) (a0 : Nat) (x1 : Int32) (x2 : Int32) (x3 : Int32) (x4 : Int32) (Q : Int64 → gM → Prop)  : Prop :=
  rc M 3 a0 ∧ F_X3_byShelf M a0 x1 x2 x3 x4 (0 : Int32) fun j_2 M_1 =>
  Q j_2 M_1
theorem met_X3_mean {M : gM} {a0 : Nat} {x1 : Int32} {x2 : Int32} {x3 : Int32} {x4 : Int32} {Q : Int64 → gM → Prop} (hF : F_X3_mean M a0 x1 x2 x3 x4 Q) : gMt yX3_mean (ws_ yX3_mean cX3_mean 5 (some .long)) rm_X3_mean M [.ref a0, .int x1, .int x2, .int x3, .int x4] (gQj Q) := by
  refine gMet (bytes := cX3_mean) (maxL := 5) (ret := (some .long)) rfl rfl (by decide) (Nat.le_of_ble_eq_true rfl) (lv := [(0, .ref a0), (1, .int x1), (2, .int x2), (3, .int x3), (4, .int x4)]) rfl (fun G hC hin => ?_)
  unfold F_X3_mean at hF
  refine g_aload_n 1 hC dX3_mean_0 rfl 0 rfl rfl ?_
  refine g_iload_n 2 hC dX3_mean_1 rfl 1 rfl rfl ?_
  refine g_iload_n 3 hC dX3_mean_2 rfl 2 rfl rfl ?_
  refine g_iload_n 4 hC dX3_mean_3 rfl 3 rfl rfl ?_
  refine g_iload 6 hC dX3_mean_4 rfl 4 rfl ?_
  refine g_iconst 7 hC (0 : Int32) dX3_mean_6 (by decide) rfl ?_
  refine g_cV (rest := []) wl_X3_285 hd_X3_byShelf (ci := 3) rfl 10 hC hF.1 (met_X3_byShelf hF.2) rfl ⟨Nat.le_of_ble_eq_true rfl, Nat.le_of_ble_eq_true rfl⟩ ⟨Nat.zero_le _, Nat.zero_le _⟩ rfl (Nat.le_of_ble_eq_true rfl) dX3_mean_7 rfl (g_ty_j 0 0 (Nat.le_refl _) (Nat.le_refl _) (fun j_2 M_1 hF => ?_))
  exact g_lreturn hC ⟨_, rfl, hF⟩ dX3_mean_10 (Nat.zero_le _) (Nat.zero_le _)
abbrev rm_X3_lose : Room := { frames := 7, cells := 0, slots := 0, locals := 177 }
def F_X3_lose  (M : gM) (a0 : Nat) (x1 : Int32) (x2 : Int32) (x3 : Int32) (x4 : Int32) (Q : Int64 → gM → Prop)  : Prop :=
  rc M 3 a0 ∧ F_X3_byShelf M a0 x1 x2 x3 x4 (1 : Int32) fun j_2 M_1 =>
  Q j_2 M_1
theorem met_X3_lose {M : gM} {a0 : Nat} {x1 : Int32} {x2 : Int32} {x3 : Int32} {x4 : Int32} {Q : Int64 → gM → Prop} (hF : F_X3_lose M a0 x1 x2 x3 x4 Q) : gMt yX3_lose (ws_ yX3_lose cX3_lose 5 (some .long)) rm_X3_lose M [.ref a0, .int x1, .int x2, .int x3, .int x4] (gQj Q) := by
  refine gMet (bytes := cX3_lose) (maxL := 5) (ret := (some .long)) rfl rfl (by decide) (Nat.le_of_ble_eq_true rfl) (lv := [(0, .ref a0), (1, .int x1), (2, .int x2), (3, .int x3), (4, .int x4)]) rfl (fun G hC hin => ?_)
  unfold F_X3_lose at hF
  refine g_aload_n 1 hC dX3_lose_0 rfl 0 rfl rfl ?_
  refine g_iload_n 2 hC dX3_lose_1 rfl 1 rfl rfl ?_
  refine g_iload_n 3 hC dX3_lose_2 rfl 2 rfl rfl ?_
  refine g_iload_n 4 hC dX3_lose_3 rfl 3 rfl rfl ?_
  refine g_iload 6 hC dX3_lose_4 rfl 4 rfl ?_
  refine g_iconst 7 hC (1 : Int32) dX3_lose_6 (by decide) rfl ?_
  refine g_cV (rest := []) wl_X3_285 hd_X3_byShelf (ci := 3) rfl 10 hC hF.1 (met_X3_byShelf hF.2) rfl ⟨Nat.le_of_ble_eq_true rfl, Nat.le_of_ble_eq_true rfl⟩ ⟨Nat.zero_le _, Nat.zero_le _⟩ rfl (Nat.le_of_ble_eq_true rfl) dX3_lose_7 rfl (g_ty_j 0 0 (Nat.le_refl _) (Nat.le_refl _) (fun j_2 M_1 hF => ?_))
  exact g_lreturn hC ⟨_, rfl, hF⟩ dX3_lose_10 (Nat.zero_le _) (Nat.zero_le _)
abbrev rm_X3_boy : Room := { frames := 6, cells := 0, slots := 0, locals := 151 }
def F_X3_boy_b82 (Q : Int32 → gM → Prop)   (K22 : Int32 → Int64 → Int32 → gM → Prop) (a0 : Nat) (x1 : Int32) (x2 : Int32) (j3 : Int64) (x5 : Int32)   (M : gM) : Prop :=
  K22 x2 j3 (x5 + (1 : Int32)) M
theorem w_X3_boy_b82 {G : gG} {Q : Int32 → gM → Prop} (hC : gCx G cX3_boy 8 RX3 (some .int) (gQi Q) rm_X3_boy) (K22 : Int32 → Int64 → Int32 → gM → Prop) (a0 : Nat) (x1 : Int32) (x2 : Int32) (j3 : Int64) (x5 : Int32)  (hK22 : ∀ x2' j3' x5' M', K22 x2' j3' x5' M' → gAt G 0 0 M' [(0, .ref a0), (1, .int x1), (2, .int x2'), (3, .long j3'), (5, .int x5')] 22 [])   (M : gM) (hF : F_X3_boy_b82 Q K22 a0 x1 x2 j3 x5 M) : gAt G 0 0 M [(0, .ref a0), (1, .int x1), (2, .int x2), (3, .long j3), (5, .int x5)] 82 [] := by
  unfold F_X3_boy_b82 at hF
  refine g_iinc 85 hC (x5 + (1 : Int32)) (lv' := [(5, .int _), (0, .ref _), (1, .int _), (2, .int _), (3, .long _)]) dX3_boy_82 rfl 4 rfl rfl (by decide) rfl ?_
  refine g_goto 22 hC dX3_boy_85 (by decide) ?_
  refine g_sub [1, 2, 3, 4, 0] rfl ?_
  exact hK22 _ _ _ _ hF
def F_X3_boy_b76 (Q : Int32 → gM → Prop)   (K22 : Int32 → Int64 → Int32 → gM → Prop) (a0 : Nat) (x1 : Int32) (x5 : Int32) (j6 : Int64)   (M : gM) : Prop :=
  F_X3_boy_b82 Q K22 a0 x1 x5 j6 x5 M
theorem w_X3_boy_b76 {G : gG} {Q : Int32 → gM → Prop} (hC : gCx G cX3_boy 8 RX3 (some .int) (gQi Q) rm_X3_boy) (K22 : Int32 → Int64 → Int32 → gM → Prop) (a0 : Nat) (x1 : Int32) (x5 : Int32) (j6 : Int64)  (hK22 : ∀ x2' j3' x5' M', K22 x2' j3' x5' M' → gAt G 0 0 M' [(0, .ref a0), (1, .int x1), (2, .int x2'), (3, .long j3'), (5, .int x5')] 22 [])   (M : gM) (hF : F_X3_boy_b76 Q K22 a0 x1 x5 j6 M) : gAt G 0 0 M [(0, .ref a0), (1, .int x1), (5, .int x5), (6, .long j6)] 76 [] := by
  unfold F_X3_boy_b76 at hF
  refine g_iload 78 hC dX3_boy_76 rfl 2 rfl ?_
  refine g_istore_n 79 hC (lv' := [(2, .int _), (0, .ref _), (1, .int _), (5, .int _), (6, .long _)]) dX3_boy_78 rfl rfl (by decide) rfl ?_
  refine g_lload 81 hC dX3_boy_79 rfl 4 rfl ?_
  refine g_lstore_n 82 hC (lv' := [(3, .long _), (2, .int _), (0, .ref _), (1, .int _), (5, .int _), (6, .long _)]) dX3_boy_81 rfl rfl (by decide) rfl ?_
  refine g_sub [2, 3, 1, 0, 4] rfl ?_
  exact w_X3_boy_b82 hC _ _ _ _ _ _ hK22 _ hF
def F_X3_boy_b22 (Q : Int32 → gM → Prop)    (a0 : Nat) (x1 : Int32) : Nat → Int32 → Int64 → Int32 → gM → Prop
  | 0, _, _, _, _ => False
  | n + 1, x2, j3, x5, M =>
    (((8 : Int32) ≤ x5 →
      ((¬ x2 = (-1 : Int32) →
        Q x2 M) ∧
        (x2 = (-1 : Int32) →
        rc M 3 a0 ∧ F_X3_refuse M a0 (-5 : Int32) fun x_2 M_1 =>
        Q x_2 M_1))) ∧
      (¬ (8 : Int32) ≤ x5 →
      gN M 3 a0 0 fun a_3 =>
      aI M .int a_3 x5 fun x_4 =>
      ((¬ x_4 = (2 : Int32) →
        F_X3_boy_b82 Q (F_X3_boy_b22 Q a0 x1 n) a0 x1 x2 j3 x5 M) ∧
        (x_4 = (2 : Int32) →
        rc M 3 a0 ∧ F_X3_findByRule M a0 x1 x5 fun M_5 =>
        gN M_5 3 a0 30 fun a_7 =>
        gN M_5 3 a0 12 fun a_8 =>
        aN M_5 (.array .int) a_8 x1 fun a_9 =>
        aI M_5 .int a_9 (0 : Int32) fun x_10 =>
        aN M_5 (.array .long) a_7 x_10 fun a_11 =>
        aJ M_5 a_11 (0 : Int32) fun j_12 =>
        ((x2 = (-1 : Int32) →
          F_X3_boy_b76 Q (F_X3_boy_b22 Q a0 x1 n) a0 x1 x5 j_12 M_5) ∧
          (¬ x2 = (-1 : Int32) →
          ((j3 ≤ j_12 →
            F_X3_boy_b82 Q (F_X3_boy_b22 Q a0 x1 n) a0 x1 x2 j3 x5 M_5) ∧
            (¬ j3 ≤ j_12 →
            F_X3_boy_b76 Q (F_X3_boy_b22 Q a0 x1 n) a0 x1 x5 j_12 M_5))))))))
theorem w_X3_boy_b22 {G : gG} {Q : Int32 → gM → Prop} (hC : gCx G cX3_boy 8 RX3 (some .int) (gQi Q) rm_X3_boy)  (a0 : Nat) (x1 : Int32)  : ∀ (n : Nat) (x2 : Int32) (j3 : Int64) (x5 : Int32)   (M : gM), F_X3_boy_b22 Q a0 x1 n x2 j3 x5 M → gAt G 0 0 M [(0, .ref a0), (1, .int x1), (2, .int x2), (3, .long j3), (5, .int x5)] 22 [] := by
  intro n
  induction n with
  | zero =>
    intro x2 j3 x5 M hF
    exact hF.elim
  | succ n ih =>
    intro x2 j3 x5 M hF
    have hK22 := ih
    unfold F_X3_boy_b22 at hF
    refine g_iload 24 hC dX3_boy_22 rfl 4 rfl ?_
    refine g_bipush 26 hC (8 : Int32) dX3_boy_24 (by decide) rfl ?_
    refine g_icmp_ge 29 88 hC dX3_boy_26 (by decide) rfl (fun c => ?_) (fun c => ?_)
    · have hF := hF.1 c
      refine g_iload_n 89 hC dX3_boy_88 rfl 2 rfl rfl ?_
      refine g_iconst 90 hC (-1 : Int32) dX3_boy_89 (by decide) rfl ?_
      refine g_icmp_ne 93 102 hC dX3_boy_90 (by decide) rfl (fun c => ?_) (fun c => ?_)
      · have hF := hF.1 c
        refine g_iload_n 103 hC dX3_boy_102 rfl 2 rfl rfl ?_
        exact g_ireturn hC ⟨_, rfl, hF⟩ dX3_boy_103 (Nat.zero_le _) (Nat.zero_le _)
      · have hF := hF.2 c
        refine g_aload_n 94 hC dX3_boy_93 rfl 0 rfl rfl ?_
        refine g_bipush 96 hC (-5 : Int32) dX3_boy_94 (by decide) rfl ?_
        refine g_cV (rest := []) wl_X3_119 hd_X3_refuse (ci := 3) rfl 99 hC hF.1 (met_X3_refuse hF.2) rfl ⟨Nat.le_of_ble_eq_true rfl, Nat.le_of_ble_eq_true rfl⟩ ⟨Nat.zero_le _, Nat.zero_le _⟩ rfl (Nat.le_of_ble_eq_true rfl) dX3_boy_96 rfl (g_ty_i 0 0 (Nat.le_refl _) (Nat.le_refl _) (fun x_2 M_1 hF => ?_))
        refine g_goto 103 hC dX3_boy_99 (by decide) ?_
        exact g_ireturn hC ⟨_, rfl, hF⟩ dX3_boy_103 (Nat.zero_le _) (Nat.zero_le _)
    · have hF := hF.2 c
      refine g_aload_n 30 hC dX3_boy_29 rfl 0 rfl rfl ?_
      refine gf_X3_7_3N 33 hC hF dX3_boy_30 rfl (fun a_3 hF => ?_)
      refine g_iload 35 hC dX3_boy_33 rfl 4 rfl ?_
      refine g_iald 36 hC hF dX3_boy_35 rfl (fun x_4 hF => ?_)
      refine g_iconst 37 hC (2 : Int32) dX3_boy_36 (by decide) rfl ?_
      refine g_icmp_ne 40 82 hC dX3_boy_37 (by decide) rfl (fun c => ?_) (fun c => ?_)
      · have hF := hF.1 c
        exact w_X3_boy_b82 hC _ _ _ _ _ _ hK22 _ hF
      · have hF := hF.2 c
        refine g_aload_n 41 hC dX3_boy_40 rfl 0 rfl rfl ?_
        refine g_iload_n 42 hC dX3_boy_41 rfl 1 rfl rfl ?_
        refine g_iload 44 hC dX3_boy_42 rfl 4 rfl ?_
        refine g_cV (rest := []) wl_X3_282 hd_X3_findByRule (ci := 3) rfl 47 hC hF.1 (met_X3_findByRule hF.2) rfl ⟨Nat.le_of_ble_eq_true rfl, Nat.le_of_ble_eq_true rfl⟩ ⟨Nat.zero_le _, Nat.zero_le _⟩ rfl (Nat.le_of_ble_eq_true rfl) dX3_boy_44 rfl (g_ty_v 0 0 (Nat.le_refl _) (Nat.le_refl _) (fun M_5 hF => ?_))
        refine g_aload_n 48 hC dX3_boy_47 rfl 0 rfl rfl ?_
        refine gf_X3_61_3N 51 hC hF dX3_boy_48 rfl (fun a_7 hF => ?_)
        refine g_aload_n 52 hC dX3_boy_51 rfl 0 rfl rfl ?_
        refine gf_X3_45_3N 55 hC hF dX3_boy_52 rfl (fun a_8 hF => ?_)
        refine g_iload_n 56 hC dX3_boy_55 rfl 1 rfl rfl ?_
        refine g_aaldN 57 hC hF (by decide) rfl (fun _ _ _ => rfl) dX3_boy_56 rfl (fun a_9 hF => ?_)
        refine g_iconst 58 hC (0 : Int32) dX3_boy_57 (by decide) rfl ?_
        refine g_iald 59 hC hF dX3_boy_58 rfl (fun x_10 hF => ?_)
        refine g_aaldN 60 hC hF (by decide) rfl (fun _ _ _ => rfl) dX3_boy_59 rfl (fun a_11 hF => ?_)
        refine g_iconst 61 hC (0 : Int32) dX3_boy_60 (by decide) rfl ?_
        refine g_lald 62 hC hF dX3_boy_61 rfl (fun j_12 hF => ?_)
        refine g_lstore 64 hC (lv' := [(6, .long _), (0, .ref _), (1, .int _), (2, .int _), (3, .long _), (5, .int _)]) dX3_boy_62 rfl (by decide) rfl ?_
        refine g_iload_n 65 hC dX3_boy_64 rfl 3 rfl rfl ?_
        refine g_iconst 66 hC (-1 : Int32) dX3_boy_65 (by decide) rfl ?_
        refine g_icmp_eq 69 76 hC dX3_boy_66 (by decide) rfl (fun c => ?_) (fun c => ?_)
        · have hF := hF.1 c
          refine g_sub [1, 2, 5, 0] rfl ?_
          exact w_X3_boy_b76 hC _ _ _ _ _ hK22 _ hF
        · have hF := hF.2 c
          refine g_lload 71 hC dX3_boy_69 rfl 0 rfl ?_
          refine g_lload_n 72 hC dX3_boy_71 rfl 4 rfl rfl ?_
          refine g_lcmp_ge 76 82 hC dX3_boy_72 rfl dX3_boy_73 (by decide) rfl (fun c => ?_) (fun c => ?_)
          · have hF := hF.1 c
            refine g_sub [1, 2, 3, 4, 5] rfl ?_
            exact w_X3_boy_b82 hC _ _ _ _ _ _ hK22 _ hF
          · have hF := hF.2 c
            refine g_sub [1, 2, 5, 0] rfl ?_
            exact w_X3_boy_b76 hC _ _ _ _ _ hK22 _ hF
def F_X3_boy  (M : gM) (a0 : Nat) (x1 : Int32) (Q : Int32 → gM → Prop)  : Prop :=
  rc M 3 a0 ∧ F_X3_isHouse M a0 x1 fun x_2 M_1 =>
  ((¬ x_2 = 0 →
    ∃ n_3, F_X3_boy_b22 Q a0 x1 n_3 (-1 : Int32) (0 : Int64) (0 : Int32) M_1) ∧
    (x_2 = 0 →
    rc M_1 3 a0 ∧ F_X3_refuse M_1 a0 (-2 : Int32) fun x_5 M_4 =>
    Q x_5 M_4))
theorem met_X3_boy {M : gM} {a0 : Nat} {x1 : Int32} {Q : Int32 → gM → Prop} (hF : F_X3_boy M a0 x1 Q) : gMt yX3_boy (ws_ yX3_boy cX3_boy 8 (some .int)) rm_X3_boy M [.ref a0, .int x1] (gQi Q) := by
  refine gMet (bytes := cX3_boy) (maxL := 8) (ret := (some .int)) rfl rfl (by decide) (Nat.le_of_ble_eq_true rfl) (lv := [(0, .ref a0), (1, .int x1)]) rfl (fun G hC hin => ?_)
  unfold F_X3_boy at hF
  refine g_aload_n 1 hC dX3_boy_0 rfl 0 rfl rfl ?_
  refine g_iload_n 2 hC dX3_boy_1 rfl 1 rfl rfl ?_
  refine g_cV (rest := []) wl_X3_106 hd_X3_isHouse (ci := 3) rfl 5 hC hF.1 (met_X3_isHouse hF.2) rfl ⟨Nat.le_of_ble_eq_true rfl, Nat.le_of_ble_eq_true rfl⟩ ⟨Nat.zero_le _, Nat.zero_le _⟩ rfl (Nat.le_of_ble_eq_true rfl) dX3_boy_2 rfl (g_ty_i 0 0 (Nat.le_refl _) (Nat.le_refl _) (fun x_2 M_1 hF => ?_))
  refine g_if_ne 8 15 hC dX3_boy_5 (by decide) rfl (fun c => ?_) (fun c => ?_)
  · have hF := hF.1 c
    refine g_iconst 16 hC (-1 : Int32) dX3_boy_15 (by decide) rfl ?_
    refine g_istore_n 17 hC (lv' := [(2, .int _), (0, .ref _), (1, .int _)]) dX3_boy_16 rfl rfl (by decide) rfl ?_
    refine g_lconst 18 hC (0 : Int64) dX3_boy_17 (by decide) rfl ?_
    refine g_lstore_n 19 hC (lv' := [(3, .long _), (2, .int _), (0, .ref _), (1, .int _)]) dX3_boy_18 rfl rfl (by decide) rfl ?_
    refine g_iconst 20 hC (0 : Int32) dX3_boy_19 (by decide) rfl ?_
    refine g_istore 22 hC (lv' := [(5, .int _), (3, .long _), (2, .int _), (0, .ref _), (1, .int _)]) dX3_boy_20 rfl (by decide) rfl ?_
    refine g_sub [3, 4, 2, 1, 0] rfl ?_
    obtain ⟨n_3, hF⟩ := hF
    exact w_X3_boy_b22 hC _ _ n_3 _ _ _ _ hF
  · have hF := hF.2 c
    refine g_aload_n 9 hC dX3_boy_8 rfl 0 rfl rfl ?_
    refine g_bipush 11 hC (-2 : Int32) dX3_boy_9 (by decide) rfl ?_
    refine g_cV (rest := []) wl_X3_119 hd_X3_refuse (ci := 3) rfl 14 hC hF.1 (met_X3_refuse hF.2) rfl ⟨Nat.le_of_ble_eq_true rfl, Nat.le_of_ble_eq_true rfl⟩ ⟨Nat.zero_le _, Nat.zero_le _⟩ rfl (Nat.le_of_ble_eq_true rfl) dX3_boy_11 rfl (g_ty_i 0 0 (Nat.le_refl _) (Nat.le_refl _) (fun x_5 M_4 hF => ?_))
    exact g_ireturn hC ⟨_, rfl, hF⟩ dX3_boy_14 (Nat.zero_le _) (Nat.zero_le _)
abbrev rm_X3_waits : Room := { frames := 5, cells := 0, slots := 0, locals := 129 }
def F_X3_waits_b22 (Q : Int64 → gM → Prop)    (a0 : Nat)   (M : gM) : Prop :=
  rc M 3 a0 ∧ F_X3_refuse M a0 (-2 : Int32) fun x_2 M_1 =>
  Q x_2.toInt64 M_1
theorem w_X3_waits_b22 {G : gG} {Q : Int64 → gM → Prop} (hC : gCx G cX3_waits 4 RX3 (some .long) (gQj Q) rm_X3_waits)  (a0 : Nat)     (M : gM) (hF : F_X3_waits_b22 Q a0 M) : gAt G 0 0 M [(0, .ref a0)] 22 [] := by
  unfold F_X3_waits_b22 at hF
  refine g_aload_n 23 hC dX3_waits_22 rfl 0 rfl rfl ?_
  refine g_bipush 25 hC (-2 : Int32) dX3_waits_23 (by decide) rfl ?_
  refine g_cV (rest := []) wl_X3_119 hd_X3_refuse (ci := 3) rfl 28 hC hF.1 (met_X3_refuse hF.2) rfl ⟨Nat.le_of_ble_eq_true rfl, Nat.le_of_ble_eq_true rfl⟩ ⟨Nat.zero_le _, Nat.zero_le _⟩ rfl (Nat.le_of_ble_eq_true rfl) dX3_waits_25 rfl (g_ty_i 0 0 (Nat.le_refl _) (Nat.le_refl _) (fun x_2 M_1 hF => ?_))
  refine g_i2l 29 hC dX3_waits_28 rfl ?_
  exact g_lreturn hC ⟨_, rfl, hF⟩ dX3_waits_29 (Nat.zero_le _) (Nat.zero_le _)
def F_X3_waits  (M : gM) (a0 : Nat) (x1 : Int32) (x2 : Int32) (x3 : Int32) (Q : Int64 → gM → Prop)  : Prop :=
  rc M 3 a0 ∧ F_X3_isLeft M a0 x1 x2 fun x_2 M_1 =>
  ((x_2 = 0 →
    F_X3_waits_b22 Q a0 M_1) ∧
    (¬ x_2 = 0 →
    ((x2 = 0 →
      F_X3_waits_b22 Q a0 M_1) ∧
      (¬ x2 = 0 →
      rc M_1 3 a0 ∧ F_X3_isState M_1 a0 x1 x3 fun x_4 M_3 =>
      ((¬ x_4 = 0 →
        rc M_3 3 a0 ∧ F_X3_findBest M_3 a0 x1 fun M_5 =>
        gN M_5 3 a0 28 fun a_7 =>
        aN M_5 (.array .long) a_7 (x2 - (1 : Int32)) fun a_8 =>
        rc M_5 3 a0 ∧ F_X3_behind M_5 a0 x1 x2 x3 a_8 fun j_10 M_9 =>
        gN M_9 3 a0 28 fun a_11 =>
        aN M_9 (.array .long) a_11 x2 fun a_12 =>
        aJ M_9 a_12 x3 fun j_13 =>
        Q (((4 : Int64) * j_10) - j_13) M_9) ∧
        (x_4 = 0 →
        F_X3_waits_b22 Q a0 M_3))))))
theorem met_X3_waits {M : gM} {a0 : Nat} {x1 : Int32} {x2 : Int32} {x3 : Int32} {Q : Int64 → gM → Prop} (hF : F_X3_waits M a0 x1 x2 x3 Q) : gMt yX3_waits (ws_ yX3_waits cX3_waits 4 (some .long)) rm_X3_waits M [.ref a0, .int x1, .int x2, .int x3] (gQj Q) := by
  refine gMet (bytes := cX3_waits) (maxL := 4) (ret := (some .long)) rfl rfl (by decide) (Nat.le_of_ble_eq_true rfl) (lv := [(0, .ref a0), (1, .int x1), (2, .int x2), (3, .int x3)]) rfl (fun G hC hin => ?_)
  unfold F_X3_waits at hF
  refine g_aload_n 1 hC dX3_waits_0 rfl 0 rfl rfl ?_
  refine g_iload_n 2 hC dX3_waits_1 rfl 1 rfl rfl ?_
  refine g_iload_n 3 hC dX3_waits_2 rfl 2 rfl rfl ?_
  refine g_cV (rest := []) wl_X3_239 hd_X3_isLeft (ci := 3) rfl 6 hC hF.1 (met_X3_isLeft hF.2) rfl ⟨Nat.le_of_ble_eq_true rfl, Nat.le_of_ble_eq_true rfl⟩ ⟨Nat.zero_le _, Nat.zero_le _⟩ rfl (Nat.le_of_ble_eq_true rfl) dX3_waits_3 rfl (g_ty_i 0 0 (Nat.le_refl _) (Nat.le_refl _) (fun x_2 M_1 hF => ?_))
  refine g_if_eq 9 22 hC dX3_waits_6 (by decide) rfl (fun c => ?_) (fun c => ?_)
  · have hF := hF.1 c
    refine g_sub [0] rfl ?_
    exact w_X3_waits_b22 hC _ _ hF
  · have hF := hF.2 c
    refine g_iload_n 10 hC dX3_waits_9 rfl 2 rfl rfl ?_
    refine g_if_eq 13 22 hC dX3_waits_10 (by decide) rfl (fun c => ?_) (fun c => ?_)
    · have hF := hF.1 c
      refine g_sub [0] rfl ?_
      exact w_X3_waits_b22 hC _ _ hF
    · have hF := hF.2 c
      refine g_aload_n 14 hC dX3_waits_13 rfl 0 rfl rfl ?_
      refine g_iload_n 15 hC dX3_waits_14 rfl 1 rfl rfl ?_
      refine g_iload_n 16 hC dX3_waits_15 rfl 3 rfl rfl ?_
      refine g_cV (rest := []) wl_X3_233 hd_X3_isState (ci := 3) rfl 19 hC hF.1 (met_X3_isState hF.2) rfl ⟨Nat.le_of_ble_eq_true rfl, Nat.le_of_ble_eq_true rfl⟩ ⟨Nat.zero_le _, Nat.zero_le _⟩ rfl (Nat.le_of_ble_eq_true rfl) dX3_waits_16 rfl (g_ty_i 0 0 (Nat.le_refl _) (Nat.le_refl _) (fun x_4 M_3 hF => ?_))
      refine g_if_ne 22 30 hC dX3_waits_19 (by decide) rfl (fun c => ?_) (fun c => ?_)
      · have hF := hF.1 c
        refine g_aload_n 31 hC dX3_waits_30 rfl 0 rfl rfl ?_
        refine g_iload_n 32 hC dX3_waits_31 rfl 1 rfl rfl ?_
        refine g_cV (rest := []) wl_X3_264 hd_X3_findBest (ci := 3) rfl 35 hC hF.1 (met_X3_findBest hF.2) rfl ⟨Nat.le_of_ble_eq_true rfl, Nat.le_of_ble_eq_true rfl⟩ ⟨Nat.zero_le _, Nat.zero_le _⟩ rfl (Nat.le_of_ble_eq_true rfl) dX3_waits_32 rfl (g_ty_v 0 0 (Nat.le_refl _) (Nat.le_refl _) (fun M_5 hF => ?_))
        refine g_ldc2 38 hC q1534 dX3_waits_35 rfl ?_
        refine g_aload_n 39 hC dX3_waits_38 rfl 0 rfl rfl ?_
        refine g_iload_n 40 hC dX3_waits_39 rfl 1 rfl rfl ?_
        refine g_iload_n 41 hC dX3_waits_40 rfl 2 rfl rfl ?_
        refine g_iload_n 42 hC dX3_waits_41 rfl 3 rfl rfl ?_
        refine g_aload_n 43 hC dX3_waits_42 rfl 0 rfl rfl ?_
        refine gf_X3_55_3N 46 hC hF dX3_waits_43 rfl (fun a_7 hF => ?_)
        refine g_iload_n 47 hC dX3_waits_46 rfl 2 rfl rfl ?_
        refine g_iconst 48 hC (1 : Int32) dX3_waits_47 (by decide) rfl ?_
        refine g_isub 49 hC dX3_waits_48 rfl ?_
        refine g_aaldN 50 hC hF (by decide) rfl (fun _ _ _ => rfl) dX3_waits_49 rfl (fun a_8 hF => ?_)
        refine g_cV (rest := [_]) wl_X3_253 hd_X3_behind (ci := 3) rfl 53 hC hF.1 (met_X3_behind hF.2) rfl ⟨Nat.le_of_ble_eq_true rfl, Nat.le_of_ble_eq_true rfl⟩ ⟨Nat.zero_le _, Nat.zero_le _⟩ rfl (Nat.le_of_ble_eq_true rfl) dX3_waits_50 rfl (g_ty_j 0 0 (Nat.le_refl _) (Nat.le_refl _) (fun j_10 M_9 hF => ?_))
        refine g_lmul 54 hC dX3_waits_53 rfl ?_
        refine g_aload_n 55 hC dX3_waits_54 rfl 0 rfl rfl ?_
        refine gf_X3_55_3N 58 hC hF dX3_waits_55 rfl (fun a_11 hF => ?_)
        refine g_iload_n 59 hC dX3_waits_58 rfl 2 rfl rfl ?_
        refine g_aaldN 60 hC hF (by decide) rfl (fun _ _ _ => rfl) dX3_waits_59 rfl (fun a_12 hF => ?_)
        refine g_iload_n 61 hC dX3_waits_60 rfl 3 rfl rfl ?_
        refine g_lald 62 hC hF dX3_waits_61 rfl (fun j_13 hF => ?_)
        refine g_lsub 63 hC dX3_waits_62 rfl ?_
        exact g_lreturn hC ⟨_, rfl, hF⟩ dX3_waits_63 (Nat.zero_le _) (Nat.zero_le _)
      · have hF := hF.2 c
        refine g_sub [0] rfl ?_
        exact w_X3_waits_b22 hC _ _ hF
abbrev rm_X3_withLoad : Room := { frames := 3, cells := 0, slots := 0, locals := 76 }
def F_X3_withLoad_b40 (Q : Int64 → gM → Prop)    (a0 : Nat) (x1 : Int32) (j6 : Int64) (t0 : Int64)  (M : gM) : Prop :=
  gN M 3 a0 12 fun a_1 =>
  aN M (.array .int) a_1 x1 fun a_2 =>
  aI M .int a_2 (3 : Int32) fun x_3 =>
  gN M 3 a0 12 fun a_4 =>
  aN M (.array .int) a_4 x1 fun a_5 =>
  aI M .int a_5 (3 : Int32) fun x_6 =>
  Q ((x_3.toInt64 * j6) + (((4 : Int32) - x_6).toInt64 * t0)) M
theorem w_X3_withLoad_b40 {G : gG} {Q : Int64 → gM → Prop} (hC : gCx G cX3_withLoad 10 RX3 (some .long) (gQj Q) rm_X3_withLoad)  (a0 : Nat) (x1 : Int32) (j6 : Int64) (t0 : Int64)    (M : gM) (hF : F_X3_withLoad_b40 Q a0 x1 j6 t0 M) : gAt G 0 0 M [(0, .ref a0), (1, .int x1), (6, .long j6)] 40 [.long t0] := by
  unfold F_X3_withLoad_b40 at hF
  refine g_lstore 42 hC (lv' := [(8, .long _), (0, .ref _), (1, .int _), (6, .long _)]) dX3_withLoad_40 rfl (by decide) rfl ?_
  refine g_aload_n 43 hC dX3_withLoad_42 rfl 1 rfl rfl ?_
  refine gf_X3_45_3N 46 hC hF dX3_withLoad_43 rfl (fun a_1 hF => ?_)
  refine g_iload_n 47 hC dX3_withLoad_46 rfl 2 rfl rfl ?_
  refine g_aaldN 48 hC hF (by decide) rfl (fun _ _ _ => rfl) dX3_withLoad_47 rfl (fun a_2 hF => ?_)
  refine g_iconst 49 hC (3 : Int32) dX3_withLoad_48 (by decide) rfl ?_
  refine g_iald 50 hC hF dX3_withLoad_49 rfl (fun x_3 hF => ?_)
  refine g_i2l 51 hC dX3_withLoad_50 rfl ?_
  refine g_lload 53 hC dX3_withLoad_51 rfl 3 rfl ?_
  refine g_lmul 54 hC dX3_withLoad_53 rfl ?_
  refine g_iconst 55 hC (4 : Int32) dX3_withLoad_54 (by decide) rfl ?_
  refine g_aload_n 56 hC dX3_withLoad_55 rfl 1 rfl rfl ?_
  refine gf_X3_45_3N 59 hC hF dX3_withLoad_56 rfl (fun a_4 hF => ?_)
  refine g_iload_n 60 hC dX3_withLoad_59 rfl 2 rfl rfl ?_
  refine g_aaldN 61 hC hF (by decide) rfl (fun _ _ _ => rfl) dX3_withLoad_60 rfl (fun a_5 hF => ?_)
  refine g_iconst 62 hC (3 : Int32) dX3_withLoad_61 (by decide) rfl ?_
  refine g_iald 63 hC hF dX3_withLoad_62 rfl (fun x_6 hF => ?_)
  refine g_isub 64 hC dX3_withLoad_63 rfl ?_
  refine g_i2l 65 hC dX3_withLoad_64 rfl ?_
  refine g_lload 67 hC dX3_withLoad_65 rfl 0 rfl ?_
  refine g_lmul 68 hC dX3_withLoad_67 rfl ?_
  refine g_ladd 69 hC dX3_withLoad_68 rfl ?_
  exact g_lreturn hC ⟨_, rfl, hF⟩ dX3_withLoad_69 (Nat.zero_le _) (Nat.zero_le _)
def F_X3_withLoad  (M : gM) (a0 : Nat) (x1 : Int32) (x2 : Int32) (x3 : Int32) (x4 : Int32) (a5 : Nat) (Q : Int64 → gM → Prop)  : Prop :=
  rc M 3 a0 ∧ F_X3_behind M a0 x1 x2 x3 a5 fun j_2 M_1 =>
  ((¬ x4 = 0 →
    rc M_1 3 a0 ∧ F_X3_boxOf M_1 a0 x1 x2 fun j_4 M_3 =>
    rc M_3 3 a0 ∧ F_X3_behind M_3 a0 x1 x2 (x3 - x4) a5 fun j_6 M_5 =>
    F_X3_withLoad_b40 Q a0 x1 j_2 (j_4 + j_6) M_5) ∧
    (x4 = 0 →
    F_X3_withLoad_b40 Q a0 x1 j_2 j_2 M_1))
theorem met_X3_withLoad {M : gM} {a0 : Nat} {x1 : Int32} {x2 : Int32} {x3 : Int32} {x4 : Int32} {a5 : Nat} {Q : Int64 → gM → Prop} (hF : F_X3_withLoad M a0 x1 x2 x3 x4 a5 Q) : gMt yX3_withLoad (ws_ yX3_withLoad cX3_withLoad 10 (some .long)) rm_X3_withLoad M [.ref a0, .int x1, .int x2, .int x3, .int x4, .ref a5] (gQj Q) := by
  refine gMet (bytes := cX3_withLoad) (maxL := 10) (ret := (some .long)) rfl rfl (by decide) (Nat.le_of_ble_eq_true rfl) (lv := [(0, .ref a0), (1, .int x1), (2, .int x2), (3, .int x3), (4, .int x4), (5, .ref a5)]) rfl (fun G hC hin => ?_)
  unfold F_X3_withLoad at hF
  refine g_aload_n 1 hC dX3_withLoad_0 rfl 0 rfl rfl ?_
  refine g_iload_n 2 hC dX3_withLoad_1 rfl 1 rfl rfl ?_
  refine g_iload_n 3 hC dX3_withLoad_2 rfl 2 rfl rfl ?_
  refine g_iload_n 4 hC dX3_withLoad_3 rfl 3 rfl rfl ?_
  refine g_aload 6 hC dX3_withLoad_4 rfl 5 rfl ?_
  refine g_cV (rest := []) wl_X3_253 hd_X3_behind (ci := 3) rfl 9 hC hF.1 (met_X3_behind hF.2) rfl ⟨Nat.le_of_ble_eq_true rfl, Nat.le_of_ble_eq_true rfl⟩ ⟨Nat.zero_le _, Nat.zero_le _⟩ rfl (Nat.le_of_ble_eq_true rfl) dX3_withLoad_6 rfl (g_ty_j 0 0 (Nat.le_refl _) (Nat.le_refl _) (fun j_2 M_1 hF => ?_))
  refine g_lstore 11 hC (lv' := [(6, .long _), (0, .ref _), (1, .int _), (2, .int _), (3, .int _), (4, .int _), (5, .ref _)]) dX3_withLoad_9 rfl (by decide) rfl ?_
  refine g_iload 13 hC dX3_withLoad_11 rfl 5 rfl ?_
  refine g_if_ne 16 21 hC dX3_withLoad_13 (by decide) rfl (fun c => ?_) (fun c => ?_)
  · have hF := hF.1 c
    refine g_aload_n 22 hC dX3_withLoad_21 rfl 1 rfl rfl ?_
    refine g_iload_n 23 hC dX3_withLoad_22 rfl 2 rfl rfl ?_
    refine g_iload_n 24 hC dX3_withLoad_23 rfl 3 rfl rfl ?_
    refine g_cV (rest := []) wl_X3_261 hd_X3_boxOf (ci := 3) rfl 27 hC hF.1 (met_X3_boxOf hF.2) rfl ⟨Nat.le_of_ble_eq_true rfl, Nat.le_of_ble_eq_true rfl⟩ ⟨Nat.zero_le _, Nat.zero_le _⟩ rfl (Nat.le_of_ble_eq_true rfl) dX3_withLoad_24 rfl (g_ty_j 0 0 (Nat.le_refl _) (Nat.le_refl _) (fun j_4 M_3 hF => ?_))
    refine g_aload_n 28 hC dX3_withLoad_27 rfl 1 rfl rfl ?_
    refine g_iload_n 29 hC dX3_withLoad_28 rfl 2 rfl rfl ?_
    refine g_iload_n 30 hC dX3_withLoad_29 rfl 3 rfl rfl ?_
    refine g_iload_n 31 hC dX3_withLoad_30 rfl 4 rfl rfl ?_
    refine g_iload 33 hC dX3_withLoad_31 rfl 5 rfl ?_
    refine g_isub 34 hC dX3_withLoad_33 rfl ?_
    refine g_aload 36 hC dX3_withLoad_34 rfl 6 rfl ?_
    refine g_cV (rest := [_]) wl_X3_253 hd_X3_behind (ci := 3) rfl 39 hC hF.1 (met_X3_behind hF.2) rfl ⟨Nat.le_of_ble_eq_true rfl, Nat.le_of_ble_eq_true rfl⟩ ⟨Nat.zero_le _, Nat.zero_le _⟩ rfl (Nat.le_of_ble_eq_true rfl) dX3_withLoad_36 rfl (g_ty_j 0 0 (Nat.le_refl _) (Nat.le_refl _) (fun j_6 M_5 hF => ?_))
    refine g_ladd 40 hC dX3_withLoad_39 rfl ?_
    refine g_sub [1, 2, 0] rfl ?_
    exact w_X3_withLoad_b40 hC _ _ _ _ _ hF
  · have hF := hF.2 c
    refine g_lload 18 hC dX3_withLoad_16 rfl 0 rfl ?_
    refine g_goto 40 hC dX3_withLoad_18 (by decide) ?_
    refine g_sub [1, 2, 0] rfl ?_
    exact w_X3_withLoad_b40 hC _ _ _ _ _ hF
theorem hd_X3_withLoad : yX3_withLoad.cls = RX3 ∧ yX3_withLoad.cls ≠ "java/lang/invoke/MethodHandle" ∧ yX3_withLoad.cls ≠ "java/lang/invoke/VarHandle" ∧ (parseMethodDescriptor yX3_withLoad.desc).map (fun d => d.parameters.length) = some 5 := by decide +kernel
theorem wl_X3_289 : GoodIn lw_all (wsV RX3 289 RX3 yX3_withLoad (ws_ yX3_withLoad cX3_withLoad 10 (some .long))) := lw_V q1805 q1807 qs55 q72 q1808
abbrev rm_X3_once : Room := { frames := 5, cells := 0, slots := 0, locals := 129 }
def F_X3_once_b22 (Q : Int64 → gM → Prop)    (a0 : Nat)   (M : gM) : Prop :=
  rc M 3 a0 ∧ F_X3_refuse M a0 (-2 : Int32) fun x_2 M_1 =>
  Q x_2.toInt64 M_1
theorem w_X3_once_b22 {G : gG} {Q : Int64 → gM → Prop} (hC : gCx G cX3_once 4 RX3 (some .long) (gQj Q) rm_X3_once)  (a0 : Nat)     (M : gM) (hF : F_X3_once_b22 Q a0 M) : gAt G 0 0 M [(0, .ref a0)] 22 [] := by
  unfold F_X3_once_b22 at hF
  refine g_aload_n 23 hC dX3_once_22 rfl 0 rfl rfl ?_
  refine g_bipush 25 hC (-2 : Int32) dX3_once_23 (by decide) rfl ?_
  refine g_cV (rest := []) wl_X3_119 hd_X3_refuse (ci := 3) rfl 28 hC hF.1 (met_X3_refuse hF.2) rfl ⟨Nat.le_of_ble_eq_true rfl, Nat.le_of_ble_eq_true rfl⟩ ⟨Nat.zero_le _, Nat.zero_le _⟩ rfl (Nat.le_of_ble_eq_true rfl) dX3_once_25 rfl (g_ty_i 0 0 (Nat.le_refl _) (Nat.le_refl _) (fun x_2 M_1 hF => ?_))
  refine g_i2l 29 hC dX3_once_28 rfl ?_
  exact g_lreturn hC ⟨_, rfl, hF⟩ dX3_once_29 (Nat.zero_le _) (Nat.zero_le _)
def F_X3_once  (M : gM) (a0 : Nat) (x1 : Int32) (x2 : Int32) (x3 : Int32) (Q : Int64 → gM → Prop)  : Prop :=
  rc M 3 a0 ∧ F_X3_isLeft M a0 x1 x2 fun x_2 M_1 =>
  ((x_2 = 0 →
    F_X3_once_b22 Q a0 M_1) ∧
    (¬ x_2 = 0 →
    ((x2 = 0 →
      F_X3_once_b22 Q a0 M_1) ∧
      (¬ x2 = 0 →
      rc M_1 3 a0 ∧ F_X3_isState M_1 a0 x1 x3 fun x_4 M_3 =>
      ((¬ x_4 = 0 →
        rc M_3 3 a0 ∧ F_X3_findBest M_3 a0 x1 fun M_5 =>
        rc M_5 3 a0 ∧ F_X3_fillOf M_5 a0 x1 x3 fun x_8 M_7 =>
        gN M_7 3 a0 28 fun a_9 =>
        aN M_7 (.array .long) a_9 (x2 - (1 : Int32)) fun a_10 =>
        rc M_7 3 a0 ∧ F_X3_withLoad M_7 a0 x1 x2 x3 x_8 a_10 fun j_12 M_11 =>
        gN M_11 3 a0 28 fun a_13 =>
        aN M_11 (.array .long) a_13 x2 fun a_14 =>
        aJ M_11 a_14 x3 fun j_15 =>
        Q (j_12 - j_15) M_11) ∧
        (x_4 = 0 →
        F_X3_once_b22 Q a0 M_3))))))
theorem met_X3_once {M : gM} {a0 : Nat} {x1 : Int32} {x2 : Int32} {x3 : Int32} {Q : Int64 → gM → Prop} (hF : F_X3_once M a0 x1 x2 x3 Q) : gMt yX3_once (ws_ yX3_once cX3_once 4 (some .long)) rm_X3_once M [.ref a0, .int x1, .int x2, .int x3] (gQj Q) := by
  refine gMet (bytes := cX3_once) (maxL := 4) (ret := (some .long)) rfl rfl (by decide) (Nat.le_of_ble_eq_true rfl) (lv := [(0, .ref a0), (1, .int x1), (2, .int x2), (3, .int x3)]) rfl (fun G hC hin => ?_)
  unfold F_X3_once at hF
  refine g_aload_n 1 hC dX3_once_0 rfl 0 rfl rfl ?_
  refine g_iload_n 2 hC dX3_once_1 rfl 1 rfl rfl ?_
  refine g_iload_n 3 hC dX3_once_2 rfl 2 rfl rfl ?_
  refine g_cV (rest := []) wl_X3_239 hd_X3_isLeft (ci := 3) rfl 6 hC hF.1 (met_X3_isLeft hF.2) rfl ⟨Nat.le_of_ble_eq_true rfl, Nat.le_of_ble_eq_true rfl⟩ ⟨Nat.zero_le _, Nat.zero_le _⟩ rfl (Nat.le_of_ble_eq_true rfl) dX3_once_3 rfl (g_ty_i 0 0 (Nat.le_refl _) (Nat.le_refl _) (fun x_2 M_1 hF => ?_))
  refine g_if_eq 9 22 hC dX3_once_6 (by decide) rfl (fun c => ?_) (fun c => ?_)
  · have hF := hF.1 c
    refine g_sub [0] rfl ?_
    exact w_X3_once_b22 hC _ _ hF
  · have hF := hF.2 c
    refine g_iload_n 10 hC dX3_once_9 rfl 2 rfl rfl ?_
    refine g_if_eq 13 22 hC dX3_once_10 (by decide) rfl (fun c => ?_) (fun c => ?_)
    · have hF := hF.1 c
      refine g_sub [0] rfl ?_
      exact w_X3_once_b22 hC _ _ hF
    · have hF := hF.2 c
      refine g_aload_n 14 hC dX3_once_13 rfl 0 rfl rfl ?_
      refine g_iload_n 15 hC dX3_once_14 rfl 1 rfl rfl ?_
      refine g_iload_n 16 hC dX3_once_15 rfl 3 rfl rfl ?_
      refine g_cV (rest := []) wl_X3_233 hd_X3_isState (ci := 3) rfl 19 hC hF.1 (met_X3_isState hF.2) rfl ⟨Nat.le_of_ble_eq_true rfl, Nat.le_of_ble_eq_true rfl⟩ ⟨Nat.zero_le _, Nat.zero_le _⟩ rfl (Nat.le_of_ble_eq_true rfl) dX3_once_16 rfl (g_ty_i 0 0 (Nat.le_refl _) (Nat.le_refl _) (fun x_4 M_3 hF => ?_))
      refine g_if_ne 22 30 hC dX3_once_19 (by decide) rfl (fun c => ?_) (fun c => ?_)
      · have hF := hF.1 c
        refine g_aload_n 31 hC dX3_once_30 rfl 0 rfl rfl ?_
        refine g_iload_n 32 hC dX3_once_31 rfl 1 rfl rfl ?_
        refine g_cV (rest := []) wl_X3_264 hd_X3_findBest (ci := 3) rfl 35 hC hF.1 (met_X3_findBest hF.2) rfl ⟨Nat.le_of_ble_eq_true rfl, Nat.le_of_ble_eq_true rfl⟩ ⟨Nat.zero_le _, Nat.zero_le _⟩ rfl (Nat.le_of_ble_eq_true rfl) dX3_once_32 rfl (g_ty_v 0 0 (Nat.le_refl _) (Nat.le_refl _) (fun M_5 hF => ?_))
        refine g_aload_n 36 hC dX3_once_35 rfl 0 rfl rfl ?_
        refine g_iload_n 37 hC dX3_once_36 rfl 1 rfl rfl ?_
        refine g_iload_n 38 hC dX3_once_37 rfl 2 rfl rfl ?_
        refine g_iload_n 39 hC dX3_once_38 rfl 3 rfl rfl ?_
        refine g_aload_n 40 hC dX3_once_39 rfl 0 rfl rfl ?_
        refine g_iload_n 41 hC dX3_once_40 rfl 1 rfl rfl ?_
        refine g_iload_n 42 hC dX3_once_41 rfl 3 rfl rfl ?_
        refine g_cV (rest := [_, _, _, _]) wl_X3_246 hd_X3_fillOf (ci := 3) rfl 45 hC hF.1 (met_X3_fillOf hF.2) rfl ⟨Nat.le_of_ble_eq_true rfl, Nat.le_of_ble_eq_true rfl⟩ ⟨Nat.zero_le _, Nat.zero_le _⟩ rfl (Nat.le_of_ble_eq_true rfl) dX3_once_42 rfl (g_ty_i 0 0 (Nat.le_refl _) (Nat.le_refl _) (fun x_8 M_7 hF => ?_))
        refine g_aload_n 46 hC dX3_once_45 rfl 0 rfl rfl ?_
        refine gf_X3_55_3N 49 hC hF dX3_once_46 rfl (fun a_9 hF => ?_)
        refine g_iload_n 50 hC dX3_once_49 rfl 2 rfl rfl ?_
        refine g_iconst 51 hC (1 : Int32) dX3_once_50 (by decide) rfl ?_
        refine g_isub 52 hC dX3_once_51 rfl ?_
        refine g_aaldN 53 hC hF (by decide) rfl (fun _ _ _ => rfl) dX3_once_52 rfl (fun a_10 hF => ?_)
        refine g_cV (rest := []) wl_X3_289 hd_X3_withLoad (ci := 3) rfl 56 hC hF.1 (met_X3_withLoad hF.2) rfl ⟨Nat.le_of_ble_eq_true rfl, Nat.le_of_ble_eq_true rfl⟩ ⟨Nat.zero_le _, Nat.zero_le _⟩ rfl (Nat.le_of_ble_eq_true rfl) dX3_once_53 rfl (g_ty_j 0 0 (Nat.le_refl _) (Nat.le_refl _) (fun j_12 M_11 hF => ?_))
        refine g_aload_n 57 hC dX3_once_56 rfl 0 rfl rfl ?_
        refine gf_X3_55_3N 60 hC hF dX3_once_57 rfl (fun a_13 hF => ?_)
        refine g_iload_n 61 hC dX3_once_60 rfl 2 rfl rfl ?_
        refine g_aaldN 62 hC hF (by decide) rfl (fun _ _ _ => rfl) dX3_once_61 rfl (fun a_14 hF => ?_)
        refine g_iload_n 63 hC dX3_once_62 rfl 3 rfl rfl ?_
        refine g_lald 64 hC hF dX3_once_63 rfl (fun j_15 hF => ?_)
        refine g_lsub 65 hC dX3_once_64 rfl ?_
        exact g_lreturn hC ⟨_, rfl, hF⟩ dX3_once_65 (Nat.zero_le _) (Nat.zero_le _)
      · have hF := hF.2 c
        refine g_sub [0] rfl ?_
        exact w_X3_once_b22 hC _ _ hF
abbrev rm_X3_goesOn : Room := { frames := 2, cells := 0, slots := 0, locals := 44 }
def F_X3_goesOn_b116 (Q : gM → Prop)   (K10 : Int32 → gM → Prop) (K34 : Int64 → Int32 → Int32 → gM → Prop) (a0 : Nat) (x1 : Int32) (x2 : Int32) (j3 : Int64) (a5 : Nat) (x6 : Int32) (x7 : Int32) (j8 : Int64) (x11 : Int32) (t0 : Int32) (t1 : Int32)  (M : gM) : Prop :=
  K34 j8 (t0 + t1) (x11 + (1 : Int32)) M
theorem w_X3_goesOn_b116 {G : gG} {Q : gM → Prop} (hC : gCx G cX3_goesOn 14 RX3 none (gQv Q) rm_X3_goesOn) (K10 : Int32 → gM → Prop) (K34 : Int64 → Int32 → Int32 → gM → Prop) (a0 : Nat) (x1 : Int32) (x2 : Int32) (j3 : Int64) (a5 : Nat) (x6 : Int32) (x7 : Int32) (j8 : Int64) (x11 : Int32) (t0 : Int32) (t1 : Int32) (hK10 : ∀ x7' M', K10 x7' M' → gAt G 0 0 M' [(0, .ref a0), (1, .int x1), (2, .int x2), (3, .long j3), (5, .ref a5), (6, .int x6), (7, .int x7')] 10 []) (hK34 : ∀ j8' x10' x11' M', K34 j8' x10' x11' M' → gAt G 0 0 M' [(0, .ref a0), (1, .int x1), (2, .int x2), (3, .long j3), (5, .ref a5), (6, .int x6), (7, .int x7), (8, .long j8'), (10, .int x10'), (11, .int x11')] 34 [])   (M : gM) (hF : F_X3_goesOn_b116 Q K10 K34 a0 x1 x2 j3 a5 x6 x7 j8 x11 t0 t1 M) : gAt G 0 0 M [(0, .ref a0), (1, .int x1), (2, .int x2), (3, .long j3), (5, .ref a5), (6, .int x6), (7, .int x7), (8, .long j8), (11, .int x11)] 116 [.int t1, .int t0] := by
  unfold F_X3_goesOn_b116 at hF
  refine g_iadd 117 hC dX3_goesOn_116 rfl ?_
  refine g_istore 119 hC (lv' := [(10, .int _), (0, .ref _), (1, .int _), (2, .int _), (3, .long _), (5, .ref _), (6, .int _), (7, .int _), (8, .long _), (11, .int _)]) dX3_goesOn_117 rfl (by decide) rfl ?_
  refine g_iinc 122 hC (x11 + (1 : Int32)) (lv' := [(11, .int _), (10, .int _), (0, .ref _), (1, .int _), (2, .int _), (3, .long _), (5, .ref _), (6, .int _), (7, .int _), (8, .long _)]) dX3_goesOn_119 rfl 9 rfl rfl (by decide) rfl ?_
  refine g_goto 34 hC dX3_goesOn_122 (by decide) ?_
  refine g_sub [2, 3, 4, 5, 6, 7, 8, 9, 1, 0] rfl ?_
  exact hK34 _ _ _ _ hF
def F_X3_goesOn_b115 (Q : gM → Prop)   (K10 : Int32 → gM → Prop) (K34 : Int64 → Int32 → Int32 → gM → Prop) (a0 : Nat) (x1 : Int32) (x2 : Int32) (j3 : Int64) (a5 : Nat) (x6 : Int32) (x7 : Int32) (j8 : Int64) (x11 : Int32) (t0 : Int32)  (M : gM) : Prop :=
  F_X3_goesOn_b116 Q K10 K34 a0 x1 x2 j3 a5 x6 x7 j8 x11 t0 (0 : Int32) M
theorem w_X3_goesOn_b115 {G : gG} {Q : gM → Prop} (hC : gCx G cX3_goesOn 14 RX3 none (gQv Q) rm_X3_goesOn) (K10 : Int32 → gM → Prop) (K34 : Int64 → Int32 → Int32 → gM → Prop) (a0 : Nat) (x1 : Int32) (x2 : Int32) (j3 : Int64) (a5 : Nat) (x6 : Int32) (x7 : Int32) (j8 : Int64) (x11 : Int32) (t0 : Int32) (hK10 : ∀ x7' M', K10 x7' M' → gAt G 0 0 M' [(0, .ref a0), (1, .int x1), (2, .int x2), (3, .long j3), (5, .ref a5), (6, .int x6), (7, .int x7')] 10 []) (hK34 : ∀ j8' x10' x11' M', K34 j8' x10' x11' M' → gAt G 0 0 M' [(0, .ref a0), (1, .int x1), (2, .int x2), (3, .long j3), (5, .ref a5), (6, .int x6), (7, .int x7), (8, .long j8'), (10, .int x10'), (11, .int x11')] 34 [])   (M : gM) (hF : F_X3_goesOn_b115 Q K10 K34 a0 x1 x2 j3 a5 x6 x7 j8 x11 t0 M) : gAt G 0 0 M [(0, .ref a0), (1, .int x1), (2, .int x2), (3, .long j3), (5, .ref a5), (6, .int x6), (7, .int x7), (8, .long j8), (11, .int x11)] 115 [.int t0] := by
  unfold F_X3_goesOn_b115 at hF
  refine g_iconst 116 hC (0 : Int32) dX3_goesOn_115 (by decide) rfl ?_
  exact w_X3_goesOn_b116 hC _ _ _ _ _ _ _ _ _ _ _ _ _ hK10 hK34 _ hF
def F_X3_goesOn_b86 (Q : gM → Prop)   (K10 : Int32 → gM → Prop) (K34 : Int64 → Int32 → Int32 → gM → Prop) (a0 : Nat) (x1 : Int32) (x2 : Int32) (j3 : Int64) (a5 : Nat) (x6 : Int32) (x7 : Int32) (x10 : Int32) (x11 : Int32) (x12 : Int32) (t0 : Int64) (t1 : Int64)  (M : gM) : Prop :=
  ((x12 = 0 →
    F_X3_goesOn_b115 Q K10 K34 a0 x1 x2 j3 a5 x6 x7 (t0 * t1) x11 x10 M) ∧
    (¬ x12 = 0 →
    F_X3_ofState M x2 x11 fun x_2 M_1 =>
    (((4 : Int32) ≤ x_2 →
      F_X3_goesOn_b115 Q K10 K34 a0 x1 x2 j3 a5 x6 x7 (t0 * t1) x11 x10 M_1) ∧
      (¬ (4 : Int32) ≤ x_2 →
      F_X3_power M_1 (5 : Int32) x11 fun x_4 M_3 =>
      F_X3_goesOn_b116 Q K10 K34 a0 x1 x2 j3 a5 x6 x7 (t0 * t1) x11 x10 x_4 M_3))))
theorem w_X3_goesOn_b86 {G : gG} {Q : gM → Prop} (hC : gCx G cX3_goesOn 14 RX3 none (gQv Q) rm_X3_goesOn) (K10 : Int32 → gM → Prop) (K34 : Int64 → Int32 → Int32 → gM → Prop) (a0 : Nat) (x1 : Int32) (x2 : Int32) (j3 : Int64) (a5 : Nat) (x6 : Int32) (x7 : Int32) (x10 : Int32) (x11 : Int32) (x12 : Int32) (t0 : Int64) (t1 : Int64) (hK10 : ∀ x7' M', K10 x7' M' → gAt G 0 0 M' [(0, .ref a0), (1, .int x1), (2, .int x2), (3, .long j3), (5, .ref a5), (6, .int x6), (7, .int x7')] 10 []) (hK34 : ∀ j8' x10' x11' M', K34 j8' x10' x11' M' → gAt G 0 0 M' [(0, .ref a0), (1, .int x1), (2, .int x2), (3, .long j3), (5, .ref a5), (6, .int x6), (7, .int x7), (8, .long j8'), (10, .int x10'), (11, .int x11')] 34 [])   (M : gM) (hF : F_X3_goesOn_b86 Q K10 K34 a0 x1 x2 j3 a5 x6 x7 x10 x11 x12 t0 t1 M) : gAt G 0 0 M [(0, .ref a0), (1, .int x1), (2, .int x2), (3, .long j3), (5, .ref a5), (6, .int x6), (7, .int x7), (10, .int x10), (11, .int x11), (12, .int x12)] 86 [.long t1, .long t0] := by
  unfold F_X3_goesOn_b86 at hF
  refine g_lmul 87 hC dX3_goesOn_86 rfl ?_
  refine g_lstore 89 hC (lv' := [(8, .long _), (0, .ref _), (1, .int _), (2, .int _), (3, .long _), (5, .ref _), (6, .int _), (7, .int _), (10, .int _), (11, .int _), (12, .int _)]) dX3_goesOn_87 rfl (by decide) rfl ?_
  refine g_iload 91 hC dX3_goesOn_89 rfl 8 rfl ?_
  refine g_iload 93 hC dX3_goesOn_91 rfl 10 rfl ?_
  refine g_if_eq 96 115 hC dX3_goesOn_93 (by decide) rfl (fun c => ?_) (fun c => ?_)
  · have hF := hF.1 c
    refine g_sub [1, 2, 3, 4, 5, 6, 7, 0, 9] rfl ?_
    exact w_X3_goesOn_b115 hC _ _ _ _ _ _ _ _ _ _ _ _ hK10 hK34 _ hF
  · have hF := hF.2 c
    refine g_iload_n 97 hC dX3_goesOn_96 rfl 3 rfl rfl ?_
    refine g_iload 99 hC dX3_goesOn_97 rfl 9 rfl ?_
    refine g_cS (rest := [_]) wl_X3_226 hd_X3_ofState 102 hC (met_X3_ofState hF) rfl ⟨Nat.le_of_ble_eq_true rfl, Nat.le_of_ble_eq_true rfl⟩ ⟨Nat.zero_le _, Nat.zero_le _⟩ rfl (Nat.le_of_ble_eq_true rfl) dX3_goesOn_99 rfl (g_ty_i 0 0 (Nat.le_refl _) (Nat.le_refl _) (fun x_2 M_1 hF => ?_))
    refine g_iconst 103 hC (4 : Int32) dX3_goesOn_102 (by decide) rfl ?_
    refine g_icmp_ge 106 115 hC dX3_goesOn_103 (by decide) rfl (fun c => ?_) (fun c => ?_)
    · have hF := hF.1 c
      refine g_sub [1, 2, 3, 4, 5, 6, 7, 0, 9] rfl ?_
      exact w_X3_goesOn_b115 hC _ _ _ _ _ _ _ _ _ _ _ _ hK10 hK34 _ hF
    · have hF := hF.2 c
      refine g_iconst 107 hC (5 : Int32) dX3_goesOn_106 (by decide) rfl ?_
      refine g_iload 109 hC dX3_goesOn_107 rfl 9 rfl ?_
      refine g_cS (rest := [_]) wl_X3_102 hd_X3_power 112 hC (met_X3_power hF) rfl ⟨Nat.le_of_ble_eq_true rfl, Nat.le_of_ble_eq_true rfl⟩ ⟨Nat.zero_le _, Nat.zero_le _⟩ rfl (Nat.le_of_ble_eq_true rfl) dX3_goesOn_109 rfl (g_ty_i 0 0 (Nat.le_refl _) (Nat.le_refl _) (fun x_4 M_3 hF => ?_))
      refine g_goto 116 hC dX3_goesOn_112 (by decide) ?_
      refine g_sub [1, 2, 3, 4, 5, 6, 7, 0, 9] rfl ?_
      exact w_X3_goesOn_b116 hC _ _ _ _ _ _ _ _ _ _ _ _ _ hK10 hK34 _ hF
def F_X3_goesOn_b56 (Q : gM → Prop)   (K10 : Int32 → gM → Prop) (K34 : Int64 → Int32 → Int32 → gM → Prop) (a0 : Nat) (x1 : Int32) (x2 : Int32) (j3 : Int64) (a5 : Nat) (x6 : Int32) (x7 : Int32) (j8 : Int64) (x10 : Int32) (x11 : Int32) (t0 : Int32)  (M : gM) : Prop :=
  rc M 3 a0 ∧ F_X3_numberOf M a0 x1 x11 (1 : Int32) fun x_2 M_1 =>
  ((t0 = 0 →
    F_X3_goesOn_b86 Q K10 K34 a0 x1 x2 j3 a5 x6 x7 x10 x11 t0 j8 (((4 : Int32) - x_2).toInt64) M_1) ∧
    (¬ t0 = 0 →
    F_X3_goesOn_b86 Q K10 K34 a0 x1 x2 j3 a5 x6 x7 x10 x11 t0 j8 x_2.toInt64 M_1))
theorem w_X3_goesOn_b56 {G : gG} {Q : gM → Prop} (hC : gCx G cX3_goesOn 14 RX3 none (gQv Q) rm_X3_goesOn) (K10 : Int32 → gM → Prop) (K34 : Int64 → Int32 → Int32 → gM → Prop) (a0 : Nat) (x1 : Int32) (x2 : Int32) (j3 : Int64) (a5 : Nat) (x6 : Int32) (x7 : Int32) (j8 : Int64) (x10 : Int32) (x11 : Int32) (t0 : Int32) (hK10 : ∀ x7' M', K10 x7' M' → gAt G 0 0 M' [(0, .ref a0), (1, .int x1), (2, .int x2), (3, .long j3), (5, .ref a5), (6, .int x6), (7, .int x7')] 10 []) (hK34 : ∀ j8' x10' x11' M', K34 j8' x10' x11' M' → gAt G 0 0 M' [(0, .ref a0), (1, .int x1), (2, .int x2), (3, .long j3), (5, .ref a5), (6, .int x6), (7, .int x7), (8, .long j8'), (10, .int x10'), (11, .int x11')] 34 [])   (M : gM) (hF : F_X3_goesOn_b56 Q K10 K34 a0 x1 x2 j3 a5 x6 x7 j8 x10 x11 t0 M) : gAt G 0 0 M [(0, .ref a0), (1, .int x1), (2, .int x2), (3, .long j3), (5, .ref a5), (6, .int x6), (7, .int x7), (8, .long j8), (10, .int x10), (11, .int x11)] 56 [.int t0] := by
  unfold F_X3_goesOn_b56 at hF
  refine g_istore 58 hC (lv' := [(12, .int _), (0, .ref _), (1, .int _), (2, .int _), (3, .long _), (5, .ref _), (6, .int _), (7, .int _), (8, .long _), (10, .int _), (11, .int _)]) dX3_goesOn_56 rfl (by decide) rfl ?_
  refine g_aload_n 59 hC dX3_goesOn_58 rfl 1 rfl rfl ?_
  refine g_iload_n 60 hC dX3_goesOn_59 rfl 2 rfl rfl ?_
  refine g_iload 62 hC dX3_goesOn_60 rfl 10 rfl ?_
  refine g_iconst 63 hC (1 : Int32) dX3_goesOn_62 (by decide) rfl ?_
  refine g_cV (rest := []) wl_X3_229 hd_X3_numberOf (ci := 3) rfl 66 hC hF.1 (met_X3_numberOf hF.2) rfl ⟨Nat.le_of_ble_eq_true rfl, Nat.le_of_ble_eq_true rfl⟩ ⟨Nat.zero_le _, Nat.zero_le _⟩ rfl (Nat.le_of_ble_eq_true rfl) dX3_goesOn_63 rfl (g_ty_i 0 0 (Nat.le_refl _) (Nat.le_refl _) (fun x_2 M_1 hF => ?_))
  refine g_istore 68 hC (lv' := [(13, .int _), (12, .int _), (0, .ref _), (1, .int _), (2, .int _), (3, .long _), (5, .ref _), (6, .int _), (7, .int _), (8, .long _), (10, .int _), (11, .int _)]) dX3_goesOn_66 rfl (by decide) rfl ?_
  refine g_lload 70 hC dX3_goesOn_68 rfl 9 rfl ?_
  refine g_iload 72 hC dX3_goesOn_70 rfl 1 rfl ?_
  refine g_if_eq 75 81 hC dX3_goesOn_72 (by decide) rfl (fun c => ?_) (fun c => ?_)
  · have hF := hF.1 c
    refine g_iconst 82 hC (4 : Int32) dX3_goesOn_81 (by decide) rfl ?_
    refine g_iload 84 hC dX3_goesOn_82 rfl 0 rfl ?_
    refine g_isub 85 hC dX3_goesOn_84 rfl ?_
    refine g_i2l 86 hC dX3_goesOn_85 rfl ?_
    refine g_sub [2, 3, 4, 5, 6, 7, 8, 10, 11, 1] rfl ?_
    exact w_X3_goesOn_b86 hC _ _ _ _ _ _ _ _ _ _ _ _ _ _ hK10 hK34 _ hF
  · have hF := hF.2 c
    refine g_iload 77 hC dX3_goesOn_75 rfl 0 rfl ?_
    refine g_i2l 78 hC dX3_goesOn_77 rfl ?_
    refine g_goto 86 hC dX3_goesOn_78 (by decide) ?_
    refine g_sub [2, 3, 4, 5, 6, 7, 8, 10, 11, 1] rfl ?_
    exact w_X3_goesOn_b86 hC _ _ _ _ _ _ _ _ _ _ _ _ _ _ hK10 hK34 _ hF
def F_X3_goesOn_b34 (Q : gM → Prop)   (K10 : Int32 → gM → Prop) (a0 : Nat) (x1 : Int32) (x2 : Int32) (j3 : Int64) (a5 : Nat) (x6 : Int32) (x7 : Int32) : Nat → Int64 → Int32 → Int32 → gM → Prop
  | 0, _, _, _, _ => False
  | n + 1, j8, x10, x11, M =>
    ((x6 ≤ x11 →
      aJ M a5 x10 fun j_1 =>
      uJ M a5 x10 (j_1 + j8) fun M_2 =>
      K10 (x7 + (1 : Int32)) M_2) ∧
      (¬ x6 ≤ x11 →
      ((((x7 >>> (x11 &&& 31)) &&& (1 : Int32)) = 0 →
        F_X3_goesOn_b56 Q K10 (F_X3_goesOn_b34 Q K10 a0 x1 x2 j3 a5 x6 x7 n) a0 x1 x2 j3 a5 x6 x7 j8 x10 x11 (0 : Int32) M) ∧
        (¬ ((x7 >>> (x11 &&& 31)) &&& (1 : Int32)) = 0 →
        F_X3_goesOn_b56 Q K10 (F_X3_goesOn_b34 Q K10 a0 x1 x2 j3 a5 x6 x7 n) a0 x1 x2 j3 a5 x6 x7 j8 x10 x11 (1 : Int32) M))))
theorem w_X3_goesOn_b34 {G : gG} {Q : gM → Prop} (hC : gCx G cX3_goesOn 14 RX3 none (gQv Q) rm_X3_goesOn) (K10 : Int32 → gM → Prop) (a0 : Nat) (x1 : Int32) (x2 : Int32) (j3 : Int64) (a5 : Nat) (x6 : Int32) (x7 : Int32) (hK10 : ∀ x7' M', K10 x7' M' → gAt G 0 0 M' [(0, .ref a0), (1, .int x1), (2, .int x2), (3, .long j3), (5, .ref a5), (6, .int x6), (7, .int x7')] 10 []) : ∀ (n : Nat) (j8 : Int64) (x10 : Int32) (x11 : Int32)   (M : gM), F_X3_goesOn_b34 Q K10 a0 x1 x2 j3 a5 x6 x7 n j8 x10 x11 M → gAt G 0 0 M [(0, .ref a0), (1, .int x1), (2, .int x2), (3, .long j3), (5, .ref a5), (6, .int x6), (7, .int x7), (8, .long j8), (10, .int x10), (11, .int x11)] 34 [] := by
  intro n
  induction n with
  | zero =>
    intro j8 x10 x11 M hF
    exact hF.elim
  | succ n ih =>
    intro j8 x10 x11 M hF
    have hK34 := ih
    unfold F_X3_goesOn_b34 at hF
    refine g_iload 36 hC dX3_goesOn_34 rfl 9 rfl ?_
    refine g_iload 38 hC dX3_goesOn_36 rfl 5 rfl ?_
    refine g_icmp_ge 41 125 hC dX3_goesOn_38 (by decide) rfl (fun c => ?_) (fun c => ?_)
    · have hF := hF.1 c
      refine g_aload 127 hC dX3_goesOn_125 rfl 4 rfl ?_
      refine g_iload 129 hC dX3_goesOn_127 rfl 8 rfl ?_
      refine g_dup2_11 130 hC dX3_goesOn_129 rfl rfl rfl ?_
      refine g_lald 131 hC hF dX3_goesOn_130 rfl (fun j_1 hF => ?_)
      refine g_lload 133 hC dX3_goesOn_131 rfl 7 rfl ?_
      refine g_ladd 134 hC dX3_goesOn_133 rfl ?_
      refine g_last 135 hC hF dX3_goesOn_134 rfl (fun M_2 hF => ?_)
      refine g_iinc 138 hC (x7 + (1 : Int32)) (lv' := [(7, .int _), (0, .ref _), (1, .int _), (2, .int _), (3, .long _), (5, .ref _), (6, .int _), (8, .long _), (10, .int _), (11, .int _)]) dX3_goesOn_135 rfl 6 rfl rfl (by decide) rfl ?_
      refine g_goto 10 hC dX3_goesOn_138 (by decide) ?_
      refine g_sub [1, 2, 3, 4, 5, 6, 0] rfl ?_
      exact hK10 _ _ hF
    · have hF := hF.2 c
      refine g_iload 43 hC dX3_goesOn_41 rfl 6 rfl ?_
      refine g_iload 45 hC dX3_goesOn_43 rfl 9 rfl ?_
      refine g_ishr 46 hC dX3_goesOn_45 rfl ?_
      refine g_iconst 47 hC (1 : Int32) dX3_goesOn_46 (by decide) rfl ?_
      refine g_iand 48 hC dX3_goesOn_47 rfl ?_
      refine g_if_eq 51 55 hC dX3_goesOn_48 (by decide) rfl (fun c => ?_) (fun c => ?_)
      · have hF := hF.1 c
        refine g_iconst 56 hC (0 : Int32) dX3_goesOn_55 (by decide) rfl ?_
        exact w_X3_goesOn_b56 hC _ _ _ _ _ _ _ _ _ _ _ _ _ hK10 hK34 _ hF
      · have hF := hF.2 c
        refine g_iconst 52 hC (1 : Int32) dX3_goesOn_51 (by decide) rfl ?_
        refine g_goto 56 hC dX3_goesOn_52 (by decide) ?_
        exact w_X3_goesOn_b56 hC _ _ _ _ _ _ _ _ _ _ _ _ _ hK10 hK34 _ hF
def F_X3_goesOn_b10 (Q : gM → Prop)    (a0 : Nat) (x1 : Int32) (x2 : Int32) (j3 : Int64) (a5 : Nat) (x6 : Int32) : Nat → Int32 → gM → Prop
  | 0, _, _ => False
  | n + 1, x7, M =>
    ((((1 : Int32) <<< (x6 &&& 31)) ≤ x7 →
      Q M) ∧
      (¬ ((1 : Int32) <<< (x6 &&& 31)) ≤ x7 →
      ((j3 ≤ (0 : Int64) →
        Q M) ∧
        (¬ j3 ≤ (0 : Int64) →
        ∃ n_1, F_X3_goesOn_b34 Q (F_X3_goesOn_b10 Q a0 x1 x2 j3 a5 x6 n) a0 x1 x2 j3 a5 x6 x7 n_1 j3 x2 (0 : Int32) M))))
theorem w_X3_goesOn_b10 {G : gG} {Q : gM → Prop} (hC : gCx G cX3_goesOn 14 RX3 none (gQv Q) rm_X3_goesOn)  (a0 : Nat) (x1 : Int32) (x2 : Int32) (j3 : Int64) (a5 : Nat) (x6 : Int32)  : ∀ (n : Nat) (x7 : Int32)   (M : gM), F_X3_goesOn_b10 Q a0 x1 x2 j3 a5 x6 n x7 M → gAt G 0 0 M [(0, .ref a0), (1, .int x1), (2, .int x2), (3, .long j3), (5, .ref a5), (6, .int x6), (7, .int x7)] 10 [] := by
  intro n
  induction n with
  | zero =>
    intro x7 M hF
    exact hF.elim
  | succ n ih =>
    intro x7 M hF
    have hK10 := ih
    unfold F_X3_goesOn_b10 at hF
    refine g_iload 12 hC dX3_goesOn_10 rfl 6 rfl ?_
    refine g_iconst 13 hC (1 : Int32) dX3_goesOn_12 (by decide) rfl ?_
    refine g_iload 15 hC dX3_goesOn_13 rfl 5 rfl ?_
    refine g_ishl 16 hC dX3_goesOn_15 rfl ?_
    refine g_icmp_ge 19 141 hC dX3_goesOn_16 (by decide) rfl (fun c => ?_) (fun c => ?_)
    · have hF := hF.1 c
      exact g_return hC ⟨rfl, hF⟩ dX3_goesOn_141 (Nat.zero_le _) (Nat.zero_le _)
    · have hF := hF.2 c
      refine g_lload_n 20 hC dX3_goesOn_19 rfl 3 rfl rfl ?_
      refine g_lconst 21 hC (0 : Int64) dX3_goesOn_20 (by decide) rfl ?_
      refine g_lcmp_le 25 141 hC dX3_goesOn_21 rfl dX3_goesOn_22 (by decide) rfl (fun c => ?_) (fun c => ?_)
      · have hF := hF.1 c
        exact g_return hC ⟨rfl, hF⟩ dX3_goesOn_141 (Nat.zero_le _) (Nat.zero_le _)
      · have hF := hF.2 c
        refine g_lload_n 26 hC dX3_goesOn_25 rfl 3 rfl rfl ?_
        refine g_lstore 28 hC (lv' := [(8, .long _), (0, .ref _), (1, .int _), (2, .int _), (3, .long _), (5, .ref _), (6, .int _), (7, .int _)]) dX3_goesOn_26 rfl (by decide) rfl ?_
        refine g_iload_n 29 hC dX3_goesOn_28 rfl 3 rfl rfl ?_
        refine g_istore 31 hC (lv' := [(10, .int _), (8, .long _), (0, .ref _), (1, .int _), (2, .int _), (3, .long _), (5, .ref _), (6, .int _), (7, .int _)]) dX3_goesOn_29 rfl (by decide) rfl ?_
        refine g_iconst 32 hC (0 : Int32) dX3_goesOn_31 (by decide) rfl ?_
        refine g_istore 34 hC (lv' := [(11, .int _), (10, .int _), (8, .long _), (0, .ref _), (1, .int _), (2, .int _), (3, .long _), (5, .ref _), (6, .int _), (7, .int _)]) dX3_goesOn_32 rfl (by decide) rfl ?_
        refine g_sub [3, 4, 5, 6, 7, 8, 9, 2, 1, 0] rfl ?_
        obtain ⟨n_1, hF⟩ := hF
        exact w_X3_goesOn_b34 hC _ _ _ _ _ _ _ _ hK10 n_1 _ _ _ _ hF
def F_X3_goesOn  (M : gM) (a0 : Nat) (x1 : Int32) (x2 : Int32) (j3 : Int64) (a5 : Nat) (Q : gM → Prop)  : Prop :=
  rc M 3 a0 ∧ F_X3_sorts M a0 x1 fun x_2 M_1 =>
  ∃ n_3, F_X3_goesOn_b10 Q a0 x1 x2 j3 a5 x_2 n_3 (0 : Int32) M_1
theorem met_X3_goesOn {M : gM} {a0 : Nat} {x1 : Int32} {x2 : Int32} {j3 : Int64} {a5 : Nat} {Q : gM → Prop} (hF : F_X3_goesOn M a0 x1 x2 j3 a5 Q) : gMt yX3_goesOn (ws_ yX3_goesOn cX3_goesOn 14 none) rm_X3_goesOn M [.ref a0, .int x1, .int x2, .long j3, .ref a5] (gQv Q) := by
  refine gMet (bytes := cX3_goesOn) (maxL := 14) (ret := none) rfl rfl (by decide) (Nat.le_of_ble_eq_true rfl) (lv := [(0, .ref a0), (1, .int x1), (2, .int x2), (3, .long j3), (5, .ref a5)]) rfl (fun G hC hin => ?_)
  unfold F_X3_goesOn at hF
  refine g_aload_n 1 hC dX3_goesOn_0 rfl 0 rfl rfl ?_
  refine g_iload_n 2 hC dX3_goesOn_1 rfl 1 rfl rfl ?_
  refine g_cV (rest := []) wl_X3_98 hd_X3_sorts (ci := 3) rfl 5 hC hF.1 (met_X3_sorts hF.2) rfl ⟨Nat.le_of_ble_eq_true rfl, Nat.le_of_ble_eq_true rfl⟩ ⟨Nat.zero_le _, Nat.zero_le _⟩ rfl (Nat.le_of_ble_eq_true rfl) dX3_goesOn_2 rfl (g_ty_i 0 0 (Nat.le_refl _) (Nat.le_refl _) (fun x_2 M_1 hF => ?_))
  refine g_istore 7 hC (lv' := [(6, .int _), (0, .ref _), (1, .int _), (2, .int _), (3, .long _), (5, .ref _)]) dX3_goesOn_5 rfl (by decide) rfl ?_
  refine g_iconst 8 hC (0 : Int32) dX3_goesOn_7 (by decide) rfl ?_
  refine g_istore 10 hC (lv' := [(7, .int _), (6, .int _), (0, .ref _), (1, .int _), (2, .int _), (3, .long _), (5, .ref _)]) dX3_goesOn_8 rfl (by decide) rfl ?_
  refine g_sub [2, 3, 4, 5, 6, 1, 0] rfl ?_
  obtain ⟨n_3, hF⟩ := hF
  exact w_X3_goesOn_b10 hC _ _ _ _ _ _ n_3 _ _ hF
theorem gf_X3_85_3N {G : gG} {cc : ByteArray} {nL : Nat} {ret : Option FieldType} {Qf : Option Value → gM → Prop} {rm : Room} {cells slots : Nat} {M : gM} {lv : List (Nat × Value)} {pc : Nat} {st : List Value} {a : Nat} (n : Nat) (hC : gCx G cc nL RX3 ret Qf rm) {κ : Nat → Prop} (hF : gN M 3 a 38 κ) (hdg : decode cc pc = .ok (.getfield 85, 3)) (hn : pc + 3 = n) (kk : ∀ x, κ x → gAt G cells slots M lv n (.ref x :: st)) : gAt G cells slots M lv pc (.ref a :: st) :=
  g_getN (C := RX3) (T := TX3) (N := 46) in_X3 rfl (by decide) q1425 (fun _ _ _ => rfl) n hC hF hdg hn kk
theorem hd_X3_goesOn : yX3_goesOn.cls = RX3 ∧ yX3_goesOn.cls ≠ "java/lang/invoke/MethodHandle" ∧ yX3_goesOn.cls ≠ "java/lang/invoke/VarHandle" ∧ (parseMethodDescriptor yX3_goesOn.desc).map (fun d => d.parameters.length) = some 4 := by decide +kernel
theorem wl_X3_293 : GoodIn lw_all (wsV RX3 293 RX3 yX3_goesOn (ws_ yX3_goesOn cX3_goesOn 14 none)) := lw_V q1817 q1819 qs57 q72 q1820
abbrev rm_X3_findChances : Room := { frames := 5, cells := 0, slots := 0, locals := 129 }
def F_X3_findChances_b174 (Q : gM → Prop)   (K68 : Int32 → gM → Prop) (K76 : Int32 → gM → Prop) (a0 : Nat) (x1 : Int32) (x2 : Int32) (x4 : Int32) (x5 : Int32)   (M : gM) : Prop :=
  K76 (x5 + (1 : Int32)) M
theorem w_X3_findChances_b174 {G : gG} {Q : gM → Prop} (hC : gCx G cX3_findChances 8 RX3 none (gQv Q) rm_X3_findChances) (K68 : Int32 → gM → Prop) (K76 : Int32 → gM → Prop) (a0 : Nat) (x1 : Int32) (x2 : Int32) (x4 : Int32) (x5 : Int32)  (hK68 : ∀ x4' M', K68 x4' M' → gAt G 0 0 M' [(0, .ref a0), (1, .int x1), (2, .int x2), (4, .int x4')] 68 []) (hK76 : ∀ x5' M', K76 x5' M' → gAt G 0 0 M' [(0, .ref a0), (1, .int x1), (2, .int x2), (4, .int x4), (5, .int x5')] 76 [])   (M : gM) (hF : F_X3_findChances_b174 Q K68 K76 a0 x1 x2 x4 x5 M) : gAt G 0 0 M [(0, .ref a0), (1, .int x1), (2, .int x2), (4, .int x4), (5, .int x5)] 174 [] := by
  unfold F_X3_findChances_b174 at hF
  refine g_iinc 177 hC (x5 + (1 : Int32)) (lv' := [(5, .int _), (0, .ref _), (1, .int _), (2, .int _), (4, .int _)]) dX3_findChances_174 rfl 4 rfl rfl (by decide) rfl ?_
  refine g_goto 76 hC dX3_findChances_177 (by decide) ?_
  refine g_sub [1, 2, 3, 4, 0] rfl ?_
  exact hK76 _ _ hF
def F_X3_findChances_b76 (Q : gM → Prop)   (K68 : Int32 → gM → Prop) (a0 : Nat) (x1 : Int32) (x2 : Int32) (x4 : Int32) : Nat → Int32 → gM → Prop
  | 0, _, _ => False
  | n + 1, x5, M =>
    rc M 3 a0 ∧ F_X3_states M a0 x1 fun x_2 M_1 =>
    ((x_2 ≤ x5 →
      K68 (x4 + (-1 : Int32)) M_1) ∧
      (¬ x_2 ≤ x5 →
      gN M_1 3 a0 38 fun a_3 =>
      aN M_1 (.array .long) a_3 x4 fun a_4 =>
      aJ M_1 a_4 x5 fun j_5 =>
      ((j_5 ≤ (0 : Int64) →
        F_X3_findChances_b174 Q K68 (F_X3_findChances_b76 Q K68 a0 x1 x2 x4 n) a0 x1 x2 x4 x5 M_1) ∧
        (¬ j_5 ≤ (0 : Int64) →
        gN M_1 3 a0 12 fun a_6 =>
        aN M_1 (.array .int) a_6 x1 fun a_7 =>
        aI M_1 .int a_7 (3 : Int32) fun x_8 =>
        gN M_1 3 a0 38 fun a_9 =>
        aN M_1 (.array .long) a_9 (x4 - (1 : Int32)) fun a_10 =>
        rc M_1 3 a0 ∧ F_X3_goesOn M_1 a0 x1 x5 (j_5 * x_8.toInt64) a_10 fun M_11 =>
        rc M_11 3 a0 ∧ F_X3_loadBy M_11 a0 x1 x4 x5 x2 fun x_14 M_13 =>
        gN M_13 3 a0 12 fun a_15 =>
        aN M_13 (.array .int) a_15 x1 fun a_16 =>
        aI M_13 .int a_16 (3 : Int32) fun x_17 =>
        gN M_13 3 a0 38 fun a_18 =>
        aN M_13 (.array .long) a_18 (x4 - (1 : Int32)) fun a_19 =>
        rc M_13 3 a0 ∧ F_X3_goesOn M_13 a0 x1 (x5 - x_14) (j_5 * ((4 : Int32) - x_17).toInt64) a_19 fun M_20 =>
        F_X3_findChances_b174 Q K68 (F_X3_findChances_b76 Q K68 a0 x1 x2 x4 n) a0 x1 x2 x4 x5 M_20))))
theorem w_X3_findChances_b76 {G : gG} {Q : gM → Prop} (hC : gCx G cX3_findChances 8 RX3 none (gQv Q) rm_X3_findChances) (K68 : Int32 → gM → Prop) (a0 : Nat) (x1 : Int32) (x2 : Int32) (x4 : Int32) (hK68 : ∀ x4' M', K68 x4' M' → gAt G 0 0 M' [(0, .ref a0), (1, .int x1), (2, .int x2), (4, .int x4')] 68 []) : ∀ (n : Nat) (x5 : Int32)   (M : gM), F_X3_findChances_b76 Q K68 a0 x1 x2 x4 n x5 M → gAt G 0 0 M [(0, .ref a0), (1, .int x1), (2, .int x2), (4, .int x4), (5, .int x5)] 76 [] := by
  intro n
  induction n with
  | zero =>
    intro x5 M hF
    exact hF.elim
  | succ n ih =>
    intro x5 M hF
    have hK76 := ih
    unfold F_X3_findChances_b76 at hF
    refine g_iload 78 hC dX3_findChances_76 rfl 4 rfl ?_
    refine g_aload_n 79 hC dX3_findChances_78 rfl 0 rfl rfl ?_
    refine g_iload_n 80 hC dX3_findChances_79 rfl 1 rfl rfl ?_
    refine g_cV (rest := [_]) wl_X3_110 hd_X3_states (ci := 3) rfl 83 hC hF.1 (met_X3_states hF.2) rfl ⟨Nat.le_of_ble_eq_true rfl, Nat.le_of_ble_eq_true rfl⟩ ⟨Nat.zero_le _, Nat.zero_le _⟩ rfl (Nat.le_of_ble_eq_true rfl) dX3_findChances_80 rfl (g_ty_i 0 0 (Nat.le_refl _) (Nat.le_refl _) (fun x_2 M_1 hF => ?_))
    refine g_icmp_ge 86 180 hC dX3_findChances_83 (by decide) rfl (fun c => ?_) (fun c => ?_)
    · have hF := hF.1 c
      refine g_iinc 183 hC (x4 + (-1 : Int32)) (lv' := [(4, .int _), (0, .ref _), (1, .int _), (2, .int _), (5, .int _)]) dX3_findChances_180 rfl 3 rfl rfl (by decide) rfl ?_
      refine g_goto 68 hC dX3_findChances_183 (by decide) ?_
      refine g_sub [1, 2, 3, 0] rfl ?_
      exact hK68 _ _ hF
    · have hF := hF.2 c
      refine g_aload_n 87 hC dX3_findChances_86 rfl 0 rfl rfl ?_
      refine gf_X3_85_3N 90 hC hF dX3_findChances_87 rfl (fun a_3 hF => ?_)
      refine g_iload 92 hC dX3_findChances_90 rfl 3 rfl ?_
      refine g_aaldN 93 hC hF (by decide) rfl (fun _ _ _ => rfl) dX3_findChances_92 rfl (fun a_4 hF => ?_)
      refine g_iload 95 hC dX3_findChances_93 rfl 4 rfl ?_
      refine g_lald 96 hC hF dX3_findChances_95 rfl (fun j_5 hF => ?_)
      refine g_lstore 98 hC (lv' := [(6, .long _), (0, .ref _), (1, .int _), (2, .int _), (4, .int _), (5, .int _)]) dX3_findChances_96 rfl (by decide) rfl ?_
      refine g_lload 100 hC dX3_findChances_98 rfl 0 rfl ?_
      refine g_lconst 101 hC (0 : Int64) dX3_findChances_100 (by decide) rfl ?_
      refine g_lcmp_le 105 174 hC dX3_findChances_101 rfl dX3_findChances_102 (by decide) rfl (fun c => ?_) (fun c => ?_)
      · have hF := hF.1 c
        refine g_sub [1, 2, 3, 4, 5] rfl ?_
        exact w_X3_findChances_b174 hC _ _ _ _ _ _ _ hK68 hK76 _ hF
      · have hF := hF.2 c
        refine g_aload_n 106 hC dX3_findChances_105 rfl 1 rfl rfl ?_
        refine g_iload_n 107 hC dX3_findChances_106 rfl 2 rfl rfl ?_
        refine g_iload 109 hC dX3_findChances_107 rfl 5 rfl ?_
        refine g_lload 111 hC dX3_findChances_109 rfl 0 rfl ?_
        refine g_aload_n 112 hC dX3_findChances_111 rfl 1 rfl rfl ?_
        refine gf_X3_45_3N 115 hC hF dX3_findChances_112 rfl (fun a_6 hF => ?_)
        refine g_iload_n 116 hC dX3_findChances_115 rfl 2 rfl rfl ?_
        refine g_aaldN 117 hC hF (by decide) rfl (fun _ _ _ => rfl) dX3_findChances_116 rfl (fun a_7 hF => ?_)
        refine g_iconst 118 hC (3 : Int32) dX3_findChances_117 (by decide) rfl ?_
        refine g_iald 119 hC hF dX3_findChances_118 rfl (fun x_8 hF => ?_)
        refine g_i2l 120 hC dX3_findChances_119 rfl ?_
        refine g_lmul 121 hC dX3_findChances_120 rfl ?_
        refine g_aload_n 122 hC dX3_findChances_121 rfl 1 rfl rfl ?_
        refine gf_X3_85_3N 125 hC hF dX3_findChances_122 rfl (fun a_9 hF => ?_)
        refine g_iload 127 hC dX3_findChances_125 rfl 4 rfl ?_
        refine g_iconst 128 hC (1 : Int32) dX3_findChances_127 (by decide) rfl ?_
        refine g_isub 129 hC dX3_findChances_128 rfl ?_
        refine g_aaldN 130 hC hF (by decide) rfl (fun _ _ _ => rfl) dX3_findChances_129 rfl (fun a_10 hF => ?_)
        refine g_cV (rest := []) wl_X3_293 hd_X3_goesOn (ci := 3) rfl 133 hC hF.1 (met_X3_goesOn hF.2) rfl ⟨Nat.le_of_ble_eq_true rfl, Nat.le_of_ble_eq_true rfl⟩ ⟨Nat.zero_le _, Nat.zero_le _⟩ rfl (Nat.le_of_ble_eq_true rfl) dX3_findChances_130 rfl (g_ty_v 0 0 (Nat.le_refl _) (Nat.le_refl _) (fun M_11 hF => ?_))
        refine g_aload_n 134 hC dX3_findChances_133 rfl 1 rfl rfl ?_
        refine g_iload_n 135 hC dX3_findChances_134 rfl 2 rfl rfl ?_
        refine g_iload 137 hC dX3_findChances_135 rfl 5 rfl ?_
        refine g_aload_n 138 hC dX3_findChances_137 rfl 1 rfl rfl ?_
        refine g_iload_n 139 hC dX3_findChances_138 rfl 2 rfl rfl ?_
        refine g_iload 141 hC dX3_findChances_139 rfl 4 rfl ?_
        refine g_iload 143 hC dX3_findChances_141 rfl 5 rfl ?_
        refine g_iload_n 144 hC dX3_findChances_143 rfl 3 rfl rfl ?_
        refine g_cV (rest := [_, _, _]) wl_X3_274 hd_X3_loadBy (ci := 3) rfl 147 hC hF.1 (met_X3_loadBy hF.2) rfl ⟨Nat.le_of_ble_eq_true rfl, Nat.le_of_ble_eq_true rfl⟩ ⟨Nat.zero_le _, Nat.zero_le _⟩ rfl (Nat.le_of_ble_eq_true rfl) dX3_findChances_144 rfl (g_ty_i 0 0 (Nat.le_refl _) (Nat.le_refl _) (fun x_14 M_13 hF => ?_))
        refine g_isub 148 hC dX3_findChances_147 rfl ?_
        refine g_lload 150 hC dX3_findChances_148 rfl 0 rfl ?_
        refine g_iconst 151 hC (4 : Int32) dX3_findChances_150 (by decide) rfl ?_
        refine g_aload_n 152 hC dX3_findChances_151 rfl 1 rfl rfl ?_
        refine gf_X3_45_3N 155 hC hF dX3_findChances_152 rfl (fun a_15 hF => ?_)
        refine g_iload_n 156 hC dX3_findChances_155 rfl 2 rfl rfl ?_
        refine g_aaldN 157 hC hF (by decide) rfl (fun _ _ _ => rfl) dX3_findChances_156 rfl (fun a_16 hF => ?_)
        refine g_iconst 158 hC (3 : Int32) dX3_findChances_157 (by decide) rfl ?_
        refine g_iald 159 hC hF dX3_findChances_158 rfl (fun x_17 hF => ?_)
        refine g_isub 160 hC dX3_findChances_159 rfl ?_
        refine g_i2l 161 hC dX3_findChances_160 rfl ?_
        refine g_lmul 162 hC dX3_findChances_161 rfl ?_
        refine g_aload_n 163 hC dX3_findChances_162 rfl 1 rfl rfl ?_
        refine gf_X3_85_3N 166 hC hF dX3_findChances_163 rfl (fun a_18 hF => ?_)
        refine g_iload 168 hC dX3_findChances_166 rfl 4 rfl ?_
        refine g_iconst 169 hC (1 : Int32) dX3_findChances_168 (by decide) rfl ?_
        refine g_isub 170 hC dX3_findChances_169 rfl ?_
        refine g_aaldN 171 hC hF (by decide) rfl (fun _ _ _ => rfl) dX3_findChances_170 rfl (fun a_19 hF => ?_)
        refine g_cV (rest := []) wl_X3_293 hd_X3_goesOn (ci := 3) rfl 174 hC hF.1 (met_X3_goesOn hF.2) rfl ⟨Nat.le_of_ble_eq_true rfl, Nat.le_of_ble_eq_true rfl⟩ ⟨Nat.zero_le _, Nat.zero_le _⟩ rfl (Nat.le_of_ble_eq_true rfl) dX3_findChances_171 rfl (g_ty_v 0 0 (Nat.le_refl _) (Nat.le_refl _) (fun M_20 hF => ?_))
        refine g_sub [1, 2, 3, 4, 5] rfl ?_
        exact w_X3_findChances_b174 hC _ _ _ _ _ _ _ hK68 hK76 _ hF
def F_X3_findChances_b68 (Q : gM → Prop)    (a0 : Nat) (x1 : Int32) (x2 : Int32) : Nat → Int32 → gM → Prop
  | 0, _, _ => False
  | n + 1, x4, M =>
    ((x4 ≤ 0 →
      Q M) ∧
      (¬ x4 ≤ 0 →
      ∃ n_1, F_X3_findChances_b76 Q (F_X3_findChances_b68 Q a0 x1 x2 n) a0 x1 x2 x4 n_1 (0 : Int32) M))
theorem w_X3_findChances_b68 {G : gG} {Q : gM → Prop} (hC : gCx G cX3_findChances 8 RX3 none (gQv Q) rm_X3_findChances)  (a0 : Nat) (x1 : Int32) (x2 : Int32)  : ∀ (n : Nat) (x4 : Int32)   (M : gM), F_X3_findChances_b68 Q a0 x1 x2 n x4 M → gAt G 0 0 M [(0, .ref a0), (1, .int x1), (2, .int x2), (4, .int x4)] 68 [] := by
  intro n
  induction n with
  | zero =>
    intro x4 M hF
    exact hF.elim
  | succ n ih =>
    intro x4 M hF
    have hK68 := ih
    unfold F_X3_findChances_b68 at hF
    refine g_iload 70 hC dX3_findChances_68 rfl 3 rfl ?_
    refine g_if_le 73 186 hC dX3_findChances_70 (by decide) rfl (fun c => ?_) (fun c => ?_)
    · have hF := hF.1 c
      exact g_return hC ⟨rfl, hF⟩ dX3_findChances_186 (Nat.zero_le _) (Nat.zero_le _)
    · have hF := hF.2 c
      refine g_iconst 74 hC (0 : Int32) dX3_findChances_73 (by decide) rfl ?_
      refine g_istore 76 hC (lv' := [(5, .int _), (0, .ref _), (1, .int _), (2, .int _), (4, .int _)]) dX3_findChances_74 rfl (by decide) rfl ?_
      refine g_sub [1, 2, 3, 4, 0] rfl ?_
      obtain ⟨n_1, hF⟩ := hF
      exact w_X3_findChances_b76 hC _ _ _ _ _ hK68 n_1 _ _ hF
def F_X3_findChances_b26 (Q : gM → Prop)   (K17 : Int32 → gM → Prop) (a0 : Nat) (x1 : Int32) (x2 : Int32) (x3 : Int32) (x4 : Int32) : Nat → Int32 → gM → Prop
  | 0, _, _ => False
  | n + 1, x5, M =>
    (((125 : Int32) ≤ x5 →
      K17 (x4 + (1 : Int32)) M) ∧
      (¬ (125 : Int32) ≤ x5 →
      gN M 3 a0 38 fun a_1 =>
      aN M (.array .long) a_1 x4 fun a_2 =>
      uJ M a_2 x5 (0 : Int64) fun M_3 =>
      (F_X3_findChances_b26 Q K17 a0 x1 x2 x3 x4 n) (x5 + (1 : Int32)) M_3))
theorem w_X3_findChances_b26 {G : gG} {Q : gM → Prop} (hC : gCx G cX3_findChances 8 RX3 none (gQv Q) rm_X3_findChances) (K17 : Int32 → gM → Prop) (a0 : Nat) (x1 : Int32) (x2 : Int32) (x3 : Int32) (x4 : Int32) (hK17 : ∀ x4' M', K17 x4' M' → gAt G 0 0 M' [(0, .ref a0), (1, .int x1), (2, .int x2), (3, .int x3), (4, .int x4')] 17 []) : ∀ (n : Nat) (x5 : Int32)   (M : gM), F_X3_findChances_b26 Q K17 a0 x1 x2 x3 x4 n x5 M → gAt G 0 0 M [(0, .ref a0), (1, .int x1), (2, .int x2), (3, .int x3), (4, .int x4), (5, .int x5)] 26 [] := by
  intro n
  induction n with
  | zero =>
    intro x5 M hF
    exact hF.elim
  | succ n ih =>
    intro x5 M hF
    have hK26 := ih
    unfold F_X3_findChances_b26 at hF
    refine g_iload 28 hC dX3_findChances_26 rfl 5 rfl ?_
    refine g_bipush 30 hC (125 : Int32) dX3_findChances_28 (by decide) rfl ?_
    refine g_icmp_ge 33 50 hC dX3_findChances_30 (by decide) rfl (fun c => ?_) (fun c => ?_)
    · have hF := hF.1 c
      refine g_iinc 53 hC (x4 + (1 : Int32)) (lv' := [(4, .int _), (0, .ref _), (1, .int _), (2, .int _), (3, .int _), (5, .int _)]) dX3_findChances_50 rfl 4 rfl rfl (by decide) rfl ?_
      refine g_goto 17 hC dX3_findChances_53 (by decide) ?_
      refine g_sub [1, 2, 3, 4, 0] rfl ?_
      exact hK17 _ _ hF
    · have hF := hF.2 c
      refine g_aload_n 34 hC dX3_findChances_33 rfl 0 rfl rfl ?_
      refine gf_X3_85_3N 37 hC hF dX3_findChances_34 rfl (fun a_1 hF => ?_)
      refine g_iload 39 hC dX3_findChances_37 rfl 4 rfl ?_
      refine g_aaldN 40 hC hF (by decide) rfl (fun _ _ _ => rfl) dX3_findChances_39 rfl (fun a_2 hF => ?_)
      refine g_iload 42 hC dX3_findChances_40 rfl 5 rfl ?_
      refine g_lconst 43 hC (0 : Int64) dX3_findChances_42 (by decide) rfl ?_
      refine g_last 44 hC hF dX3_findChances_43 rfl (fun M_3 hF => ?_)
      refine g_iinc 47 hC (x5 + (1 : Int32)) (lv' := [(5, .int _), (0, .ref _), (1, .int _), (2, .int _), (3, .int _), (4, .int _)]) dX3_findChances_44 rfl 5 rfl rfl (by decide) rfl ?_
      refine g_goto 26 hC dX3_findChances_47 (by decide) ?_
      refine g_sub [1, 2, 3, 4, 5, 0] rfl ?_
      exact hK26 _ _ hF
def F_X3_findChances_b17 (Q : gM → Prop)    (a0 : Nat) (x1 : Int32) (x2 : Int32) (x3 : Int32) : Nat → Int32 → gM → Prop
  | 0, _, _ => False
  | n + 1, x4, M =>
    ((x3 < x4 →
      gN M 3 a0 38 fun a_1 =>
      aN M (.array .long) a_1 x3 fun a_2 =>
      uJ M a_2 (0 : Int32) (1 : Int64) fun M_3 =>
      ∃ n_4, F_X3_findChances_b68 Q a0 x1 x2 n_4 x3 M_3) ∧
      (¬ x3 < x4 →
      ∃ n_5, F_X3_findChances_b26 Q (F_X3_findChances_b17 Q a0 x1 x2 x3 n) a0 x1 x2 x3 x4 n_5 (0 : Int32) M))
theorem w_X3_findChances_b17 {G : gG} {Q : gM → Prop} (hC : gCx G cX3_findChances 8 RX3 none (gQv Q) rm_X3_findChances)  (a0 : Nat) (x1 : Int32) (x2 : Int32) (x3 : Int32)  : ∀ (n : Nat) (x4 : Int32)   (M : gM), F_X3_findChances_b17 Q a0 x1 x2 x3 n x4 M → gAt G 0 0 M [(0, .ref a0), (1, .int x1), (2, .int x2), (3, .int x3), (4, .int x4)] 17 [] := by
  intro n
  induction n with
  | zero =>
    intro x4 M hF
    exact hF.elim
  | succ n ih =>
    intro x4 M hF
    have hK17 := ih
    unfold F_X3_findChances_b17 at hF
    refine g_iload 19 hC dX3_findChances_17 rfl 4 rfl ?_
    refine g_iload_n 20 hC dX3_findChances_19 rfl 3 rfl rfl ?_
    refine g_icmp_gt 23 56 hC dX3_findChances_20 (by decide) rfl (fun c => ?_) (fun c => ?_)
    · have hF := hF.1 c
      refine g_aload_n 57 hC dX3_findChances_56 rfl 0 rfl rfl ?_
      refine gf_X3_85_3N 60 hC hF dX3_findChances_57 rfl (fun a_1 hF => ?_)
      refine g_iload_n 61 hC dX3_findChances_60 rfl 3 rfl rfl ?_
      refine g_aaldN 62 hC hF (by decide) rfl (fun _ _ _ => rfl) dX3_findChances_61 rfl (fun a_2 hF => ?_)
      refine g_iconst 63 hC (0 : Int32) dX3_findChances_62 (by decide) rfl ?_
      refine g_lconst 64 hC (1 : Int64) dX3_findChances_63 (by decide) rfl ?_
      refine g_last 65 hC hF dX3_findChances_64 rfl (fun M_3 hF => ?_)
      refine g_iload_n 66 hC dX3_findChances_65 rfl 3 rfl rfl ?_
      refine g_istore 68 hC (lv' := [(4, .int _), (0, .ref _), (1, .int _), (2, .int _), (3, .int _)]) dX3_findChances_66 rfl (by decide) rfl ?_
      refine g_sub [1, 2, 3, 0] rfl ?_
      obtain ⟨n_4, hF⟩ := hF
      exact w_X3_findChances_b68 hC _ _ _ n_4 _ _ hF
    · have hF := hF.2 c
      refine g_iconst 24 hC (0 : Int32) dX3_findChances_23 (by decide) rfl ?_
      refine g_istore 26 hC (lv' := [(5, .int _), (0, .ref _), (1, .int _), (2, .int _), (3, .int _), (4, .int _)]) dX3_findChances_24 rfl (by decide) rfl ?_
      refine g_sub [1, 2, 3, 4, 5, 0] rfl ?_
      obtain ⟨n_5, hF⟩ := hF
      exact w_X3_findChances_b26 hC _ _ _ _ _ _ hK17 n_5 _ _ hF
def F_X3_findChances  (M : gM) (a0 : Nat) (x1 : Int32) (x2 : Int32) (Q : gM → Prop)  : Prop :=
  rc M 3 a0 ∧ F_X3_findBest M a0 x1 fun M_1 =>
  gN M_1 3 a0 12 fun a_3 =>
  aN M_1 (.array .int) a_3 x1 fun a_4 =>
  aI M_1 .int a_4 (0 : Int32) fun x_5 =>
  ∃ n_6, F_X3_findChances_b17 Q a0 x1 x2 x_5 n_6 (0 : Int32) M_1
theorem met_X3_findChances {M : gM} {a0 : Nat} {x1 : Int32} {x2 : Int32} {Q : gM → Prop} (hF : F_X3_findChances M a0 x1 x2 Q) : gMt yX3_findChances (ws_ yX3_findChances cX3_findChances 8 none) rm_X3_findChances M [.ref a0, .int x1, .int x2] (gQv Q) := by
  refine gMet (bytes := cX3_findChances) (maxL := 8) (ret := none) rfl rfl (by decide) (Nat.le_of_ble_eq_true rfl) (lv := [(0, .ref a0), (1, .int x1), (2, .int x2)]) rfl (fun G hC hin => ?_)
  unfold F_X3_findChances at hF
  refine g_aload_n 1 hC dX3_findChances_0 rfl 0 rfl rfl ?_
  refine g_iload_n 2 hC dX3_findChances_1 rfl 1 rfl rfl ?_
  refine g_cV (rest := []) wl_X3_264 hd_X3_findBest (ci := 3) rfl 5 hC hF.1 (met_X3_findBest hF.2) rfl ⟨Nat.le_of_ble_eq_true rfl, Nat.le_of_ble_eq_true rfl⟩ ⟨Nat.zero_le _, Nat.zero_le _⟩ rfl (Nat.le_of_ble_eq_true rfl) dX3_findChances_2 rfl (g_ty_v 0 0 (Nat.le_refl _) (Nat.le_refl _) (fun M_1 hF => ?_))
  refine g_aload_n 6 hC dX3_findChances_5 rfl 0 rfl rfl ?_
  refine gf_X3_45_3N 9 hC hF dX3_findChances_6 rfl (fun a_3 hF => ?_)
  refine g_iload_n 10 hC dX3_findChances_9 rfl 1 rfl rfl ?_
  refine g_aaldN 11 hC hF (by decide) rfl (fun _ _ _ => rfl) dX3_findChances_10 rfl (fun a_4 hF => ?_)
  refine g_iconst 12 hC (0 : Int32) dX3_findChances_11 (by decide) rfl ?_
  refine g_iald 13 hC hF dX3_findChances_12 rfl (fun x_5 hF => ?_)
  refine g_istore_n 14 hC (lv' := [(3, .int _), (0, .ref _), (1, .int _), (2, .int _)]) dX3_findChances_13 rfl rfl (by decide) rfl ?_
  refine g_iconst 15 hC (0 : Int32) dX3_findChances_14 (by decide) rfl ?_
  refine g_istore 17 hC (lv' := [(4, .int _), (3, .int _), (0, .ref _), (1, .int _), (2, .int _)]) dX3_findChances_15 rfl (by decide) rfl ?_
  refine g_sub [2, 3, 4, 1, 0] rfl ?_
  obtain ⟨n_6, hF⟩ := hF
  exact w_X3_findChances_b17 hC _ _ _ _ n_6 _ _ hF
theorem hd_X3_findChances : yX3_findChances.cls = RX3 ∧ yX3_findChances.cls ≠ "java/lang/invoke/MethodHandle" ∧ yX3_findChances.cls ≠ "java/lang/invoke/VarHandle" ∧ (parseMethodDescriptor yX3_findChances.desc).map (fun d => d.parameters.length) = some 2 := by decide +kernel
theorem wl_X3_297 : GoodIn lw_all (wsV RX3 297 RX3 yX3_findChances (ws_ yX3_findChances cX3_findChances 8 none)) := lw_V q1813 q1815 qs56 q72 q1816
abbrev rm_X3_chance : Room := { frames := 6, cells := 0, slots := 0, locals := 156 }
def F_X3_chance_b31 (Q : Int64 → gM → Prop)    (a0 : Nat)   (M : gM) : Prop :=
  rc M 3 a0 ∧ F_X3_refuse M a0 (-2 : Int32) fun x_2 M_1 =>
  Q x_2.toInt64 M_1
theorem w_X3_chance_b31 {G : gG} {Q : Int64 → gM → Prop} (hC : gCx G cX3_chance 6 RX3 (some .long) (gQj Q) rm_X3_chance)  (a0 : Nat)     (M : gM) (hF : F_X3_chance_b31 Q a0 M) : gAt G 0 0 M [(0, .ref a0)] 31 [] := by
  unfold F_X3_chance_b31 at hF
  refine g_aload_n 32 hC dX3_chance_31 rfl 0 rfl rfl ?_
  refine g_bipush 34 hC (-2 : Int32) dX3_chance_32 (by decide) rfl ?_
  refine g_cV (rest := []) wl_X3_119 hd_X3_refuse (ci := 3) rfl 37 hC hF.1 (met_X3_refuse hF.2) rfl ⟨Nat.le_of_ble_eq_true rfl, Nat.le_of_ble_eq_true rfl⟩ ⟨Nat.zero_le _, Nat.zero_le _⟩ rfl (Nat.le_of_ble_eq_true rfl) dX3_chance_34 rfl (g_ty_i 0 0 (Nat.le_refl _) (Nat.le_refl _) (fun x_2 M_1 hF => ?_))
  refine g_i2l 38 hC dX3_chance_37 rfl ?_
  exact g_lreturn hC ⟨_, rfl, hF⟩ dX3_chance_38 (Nat.zero_le _) (Nat.zero_le _)
def F_X3_chance  (M : gM) (a0 : Nat) (x1 : Int32) (x2 : Int32) (x3 : Int32) (x4 : Int32) (Q : Int64 → gM → Prop)  : Prop :=
  rc M 3 a0 ∧ F_X3_isLeft M a0 x1 x2 fun x_2 M_1 =>
  ((x_2 = 0 →
    F_X3_chance_b31 Q a0 M_1) ∧
    (¬ x_2 = 0 →
    rc M_1 3 a0 ∧ F_X3_isState M_1 a0 x1 x3 fun x_4 M_3 =>
    ((x_4 = 0 →
      F_X3_chance_b31 Q a0 M_3) ∧
      (¬ x_4 = 0 →
      F_X3_in M_3 x4.toInt64 (0 : Int64) (7 : Int64) fun x_6 M_5 =>
      ((¬ x_6 = 0 →
        rc M_5 3 a0 ∧ F_X3_noRule M_5 a0 x4 fun x_8 M_7 =>
        ((x_8 = 0 →
          rc M_7 3 a0 ∧ F_X3_findChances M_7 a0 x1 x4 fun M_9 =>
          gN M_9 3 a0 38 fun a_11 =>
          aN M_9 (.array .long) a_11 x2 fun a_12 =>
          aJ M_9 a_12 x3 fun j_13 =>
          Q j_13 M_9) ∧
          (¬ x_8 = 0 →
          Q x_8.toInt64 M_7))) ∧
        (x_6 = 0 →
        F_X3_chance_b31 Q a0 M_5))))))
theorem met_X3_chance {M : gM} {a0 : Nat} {x1 : Int32} {x2 : Int32} {x3 : Int32} {x4 : Int32} {Q : Int64 → gM → Prop} (hF : F_X3_chance M a0 x1 x2 x3 x4 Q) : gMt yX3_chance (ws_ yX3_chance cX3_chance 6 (some .long)) rm_X3_chance M [.ref a0, .int x1, .int x2, .int x3, .int x4] (gQj Q) := by
  refine gMet (bytes := cX3_chance) (maxL := 6) (ret := (some .long)) rfl rfl (by decide) (Nat.le_of_ble_eq_true rfl) (lv := [(0, .ref a0), (1, .int x1), (2, .int x2), (3, .int x3), (4, .int x4)]) rfl (fun G hC hin => ?_)
  unfold F_X3_chance at hF
  refine g_aload_n 1 hC dX3_chance_0 rfl 0 rfl rfl ?_
  refine g_iload_n 2 hC dX3_chance_1 rfl 1 rfl rfl ?_
  refine g_iload_n 3 hC dX3_chance_2 rfl 2 rfl rfl ?_
  refine g_cV (rest := []) wl_X3_239 hd_X3_isLeft (ci := 3) rfl 6 hC hF.1 (met_X3_isLeft hF.2) rfl ⟨Nat.le_of_ble_eq_true rfl, Nat.le_of_ble_eq_true rfl⟩ ⟨Nat.zero_le _, Nat.zero_le _⟩ rfl (Nat.le_of_ble_eq_true rfl) dX3_chance_3 rfl (g_ty_i 0 0 (Nat.le_refl _) (Nat.le_refl _) (fun x_2 M_1 hF => ?_))
  refine g_if_eq 9 31 hC dX3_chance_6 (by decide) rfl (fun c => ?_) (fun c => ?_)
  · have hF := hF.1 c
    refine g_sub [0] rfl ?_
    exact w_X3_chance_b31 hC _ _ hF
  · have hF := hF.2 c
    refine g_aload_n 10 hC dX3_chance_9 rfl 0 rfl rfl ?_
    refine g_iload_n 11 hC dX3_chance_10 rfl 1 rfl rfl ?_
    refine g_iload_n 12 hC dX3_chance_11 rfl 3 rfl rfl ?_
    refine g_cV (rest := []) wl_X3_233 hd_X3_isState (ci := 3) rfl 15 hC hF.1 (met_X3_isState hF.2) rfl ⟨Nat.le_of_ble_eq_true rfl, Nat.le_of_ble_eq_true rfl⟩ ⟨Nat.zero_le _, Nat.zero_le _⟩ rfl (Nat.le_of_ble_eq_true rfl) dX3_chance_12 rfl (g_ty_i 0 0 (Nat.le_refl _) (Nat.le_refl _) (fun x_4 M_3 hF => ?_))
    refine g_if_eq 18 31 hC dX3_chance_15 (by decide) rfl (fun c => ?_) (fun c => ?_)
    · have hF := hF.1 c
      refine g_sub [0] rfl ?_
      exact w_X3_chance_b31 hC _ _ hF
    · have hF := hF.2 c
      refine g_iload 20 hC dX3_chance_18 rfl 4 rfl ?_
      refine g_i2l 21 hC dX3_chance_20 rfl ?_
      refine g_lconst 22 hC (0 : Int64) dX3_chance_21 (by decide) rfl ?_
      refine g_ldc2 25 hC q1530 dX3_chance_22 rfl ?_
      refine g_cS (rest := []) wl_X3_94 hd_X3_in 28 hC (met_X3_in hF) rfl ⟨Nat.le_of_ble_eq_true rfl, Nat.le_of_ble_eq_true rfl⟩ ⟨Nat.zero_le _, Nat.zero_le _⟩ rfl (Nat.le_of_ble_eq_true rfl) dX3_chance_25 rfl (g_ty_i 0 0 (Nat.le_refl _) (Nat.le_refl _) (fun x_6 M_5 hF => ?_))
      refine g_if_ne 31 39 hC dX3_chance_28 (by decide) rfl (fun c => ?_) (fun c => ?_)
      · have hF := hF.1 c
        refine g_aload_n 40 hC dX3_chance_39 rfl 0 rfl rfl ?_
        refine g_iload 42 hC dX3_chance_40 rfl 4 rfl ?_
        refine g_cV (rest := []) wl_X3_271 hd_X3_noRule (ci := 3) rfl 45 hC hF.1 (met_X3_noRule hF.2) rfl ⟨Nat.le_of_ble_eq_true rfl, Nat.le_of_ble_eq_true rfl⟩ ⟨Nat.zero_le _, Nat.zero_le _⟩ rfl (Nat.le_of_ble_eq_true rfl) dX3_chance_42 rfl (g_ty_i 0 0 (Nat.le_refl _) (Nat.le_refl _) (fun x_8 M_7 hF => ?_))
        refine g_istore 47 hC (lv' := [(5, .int _), (0, .ref _), (1, .int _), (2, .int _), (3, .int _), (4, .int _)]) dX3_chance_45 rfl (by decide) rfl ?_
        refine g_iload 49 hC dX3_chance_47 rfl 0 rfl ?_
        refine g_if_eq 52 56 hC dX3_chance_49 (by decide) rfl (fun c => ?_) (fun c => ?_)
        · have hF := hF.1 c
          refine g_aload_n 57 hC dX3_chance_56 rfl 1 rfl rfl ?_
          refine g_iload_n 58 hC dX3_chance_57 rfl 2 rfl rfl ?_
          refine g_iload 60 hC dX3_chance_58 rfl 5 rfl ?_
          refine g_cV (rest := []) wl_X3_297 hd_X3_findChances (ci := 3) rfl 63 hC hF.1 (met_X3_findChances hF.2) rfl ⟨Nat.le_of_ble_eq_true rfl, Nat.le_of_ble_eq_true rfl⟩ ⟨Nat.zero_le _, Nat.zero_le _⟩ rfl (Nat.le_of_ble_eq_true rfl) dX3_chance_60 rfl (g_ty_v 0 0 (Nat.le_refl _) (Nat.le_refl _) (fun M_9 hF => ?_))
          refine g_aload_n 64 hC dX3_chance_63 rfl 1 rfl rfl ?_
          refine gf_X3_85_3N 67 hC hF dX3_chance_64 rfl (fun a_11 hF => ?_)
          refine g_iload_n 68 hC dX3_chance_67 rfl 3 rfl rfl ?_
          refine g_aaldN 69 hC hF (by decide) rfl (fun _ _ _ => rfl) dX3_chance_68 rfl (fun a_12 hF => ?_)
          refine g_iload_n 70 hC dX3_chance_69 rfl 4 rfl rfl ?_
          refine g_lald 71 hC hF dX3_chance_70 rfl (fun j_13 hF => ?_)
          exact g_lreturn hC ⟨_, rfl, hF⟩ dX3_chance_71 (Nat.zero_le _) (Nat.zero_le _)
        · have hF := hF.2 c
          refine g_iload 54 hC dX3_chance_52 rfl 0 rfl ?_
          refine g_i2l 55 hC dX3_chance_54 rfl ?_
          exact g_lreturn hC ⟨_, rfl, hF⟩ dX3_chance_55 (Nat.zero_le _) (Nat.zero_le _)
      · have hF := hF.2 c
        refine g_sub [0] rfl ?_
        exact w_X3_chance_b31 hC _ _ hF
abbrev rm_X3_reach : Room := { frames := 6, cells := 0, slots := 0, locals := 156 }
def F_X3_reach_b21 (Q : Int32 → gM → Prop)    (a0 : Nat)   (M : gM) : Prop :=
  rc M 3 a0 ∧ F_X3_refuse M a0 (-2 : Int32) fun x_2 M_1 =>
  Q x_2 M_1
theorem w_X3_reach_b21 {G : gG} {Q : Int32 → gM → Prop} (hC : gCx G cX3_reach 7 RX3 (some .int) (gQi Q) rm_X3_reach)  (a0 : Nat)     (M : gM) (hF : F_X3_reach_b21 Q a0 M) : gAt G 0 0 M [(0, .ref a0)] 21 [] := by
  unfold F_X3_reach_b21 at hF
  refine g_aload_n 22 hC dX3_reach_21 rfl 0 rfl rfl ?_
  refine g_bipush 24 hC (-2 : Int32) dX3_reach_22 (by decide) rfl ?_
  refine g_cV (rest := []) wl_X3_119 hd_X3_refuse (ci := 3) rfl 27 hC hF.1 (met_X3_refuse hF.2) rfl ⟨Nat.le_of_ble_eq_true rfl, Nat.le_of_ble_eq_true rfl⟩ ⟨Nat.zero_le _, Nat.zero_le _⟩ rfl (Nat.le_of_ble_eq_true rfl) dX3_reach_24 rfl (g_ty_i 0 0 (Nat.le_refl _) (Nat.le_refl _) (fun x_2 M_1 hF => ?_))
  exact g_ireturn hC ⟨_, rfl, hF⟩ dX3_reach_27 (Nat.zero_le _) (Nat.zero_le _)
def F_X3_reach_b86 (Q : Int32 → gM → Prop)   (K55 : Int32 → Int32 → gM → Prop) (a0 : Nat) (x1 : Int32) (x2 : Int32) (x6 : Int32) (t0 : Int32) (t1 : Int32)  (M : gM) : Prop :=
  K55 (t0 + t1) (x6 + (1 : Int32)) M
theorem w_X3_reach_b86 {G : gG} {Q : Int32 → gM → Prop} (hC : gCx G cX3_reach 7 RX3 (some .int) (gQi Q) rm_X3_reach) (K55 : Int32 → Int32 → gM → Prop) (a0 : Nat) (x1 : Int32) (x2 : Int32) (x6 : Int32) (t0 : Int32) (t1 : Int32) (hK55 : ∀ x5' x6' M', K55 x5' x6' M' → gAt G 0 0 M' [(0, .ref a0), (1, .int x1), (2, .int x2), (5, .int x5'), (6, .int x6')] 55 [])   (M : gM) (hF : F_X3_reach_b86 Q K55 a0 x1 x2 x6 t0 t1 M) : gAt G 0 0 M [(0, .ref a0), (1, .int x1), (2, .int x2), (6, .int x6)] 86 [.int t1, .int t0] := by
  unfold F_X3_reach_b86 at hF
  refine g_iadd 87 hC dX3_reach_86 rfl ?_
  refine g_istore 89 hC (lv' := [(5, .int _), (0, .ref _), (1, .int _), (2, .int _), (6, .int _)]) dX3_reach_87 rfl (by decide) rfl ?_
  refine g_iinc 92 hC (x6 + (1 : Int32)) (lv' := [(6, .int _), (5, .int _), (0, .ref _), (1, .int _), (2, .int _)]) dX3_reach_89 rfl 4 rfl rfl (by decide) rfl ?_
  refine g_goto 55 hC dX3_reach_92 (by decide) ?_
  refine g_sub [2, 3, 4, 1, 0] rfl ?_
  exact hK55 _ _ _ hF
def F_X3_reach_b55 (Q : Int32 → gM → Prop)    (a0 : Nat) (x1 : Int32) (x2 : Int32) : Nat → Int32 → Int32 → gM → Prop
  | 0, _, _, _ => False
  | n + 1, x5, x6, M =>
    rc M 3 a0 ∧ F_X3_states M a0 x1 fun x_2 M_1 =>
    ((x_2 ≤ x6 →
      Q x5 M_1) ∧
      (¬ x_2 ≤ x6 →
      gN M_1 3 a0 38 fun a_3 =>
      aN M_1 (.array .long) a_3 x2 fun a_4 =>
      aJ M_1 a_4 x6 fun j_5 =>
      ((j_5 ≤ (0 : Int64) →
        F_X3_reach_b86 Q (F_X3_reach_b55 Q a0 x1 x2 n) a0 x1 x2 x6 x5 (0 : Int32) M_1) ∧
        (¬ j_5 ≤ (0 : Int64) →
        F_X3_reach_b86 Q (F_X3_reach_b55 Q a0 x1 x2 n) a0 x1 x2 x6 x5 (1 : Int32) M_1))))
theorem w_X3_reach_b55 {G : gG} {Q : Int32 → gM → Prop} (hC : gCx G cX3_reach 7 RX3 (some .int) (gQi Q) rm_X3_reach)  (a0 : Nat) (x1 : Int32) (x2 : Int32)  : ∀ (n : Nat) (x5 : Int32) (x6 : Int32)   (M : gM), F_X3_reach_b55 Q a0 x1 x2 n x5 x6 M → gAt G 0 0 M [(0, .ref a0), (1, .int x1), (2, .int x2), (5, .int x5), (6, .int x6)] 55 [] := by
  intro n
  induction n with
  | zero =>
    intro x5 x6 M hF
    exact hF.elim
  | succ n ih =>
    intro x5 x6 M hF
    have hK55 := ih
    unfold F_X3_reach_b55 at hF
    refine g_iload 57 hC dX3_reach_55 rfl 4 rfl ?_
    refine g_aload_n 58 hC dX3_reach_57 rfl 0 rfl rfl ?_
    refine g_iload_n 59 hC dX3_reach_58 rfl 1 rfl rfl ?_
    refine g_cV (rest := [_]) wl_X3_110 hd_X3_states (ci := 3) rfl 62 hC hF.1 (met_X3_states hF.2) rfl ⟨Nat.le_of_ble_eq_true rfl, Nat.le_of_ble_eq_true rfl⟩ ⟨Nat.zero_le _, Nat.zero_le _⟩ rfl (Nat.le_of_ble_eq_true rfl) dX3_reach_59 rfl (g_ty_i 0 0 (Nat.le_refl _) (Nat.le_refl _) (fun x_2 M_1 hF => ?_))
    refine g_icmp_ge 65 95 hC dX3_reach_62 (by decide) rfl (fun c => ?_) (fun c => ?_)
    · have hF := hF.1 c
      refine g_iload 97 hC dX3_reach_95 rfl 3 rfl ?_
      exact g_ireturn hC ⟨_, rfl, hF⟩ dX3_reach_97 (Nat.zero_le _) (Nat.zero_le _)
    · have hF := hF.2 c
      refine g_iload 67 hC dX3_reach_65 rfl 3 rfl ?_
      refine g_aload_n 68 hC dX3_reach_67 rfl 0 rfl rfl ?_
      refine gf_X3_85_3N 71 hC hF dX3_reach_68 rfl (fun a_3 hF => ?_)
      refine g_iload_n 72 hC dX3_reach_71 rfl 2 rfl rfl ?_
      refine g_aaldN 73 hC hF (by decide) rfl (fun _ _ _ => rfl) dX3_reach_72 rfl (fun a_4 hF => ?_)
      refine g_iload 75 hC dX3_reach_73 rfl 4 rfl ?_
      refine g_lald 76 hC hF dX3_reach_75 rfl (fun j_5 hF => ?_)
      refine g_lconst 77 hC (0 : Int64) dX3_reach_76 (by decide) rfl ?_
      refine g_lcmp_le 81 85 hC dX3_reach_77 rfl dX3_reach_78 (by decide) rfl (fun c => ?_) (fun c => ?_)
      · have hF := hF.1 c
        refine g_iconst 86 hC (0 : Int32) dX3_reach_85 (by decide) rfl ?_
        refine g_sub [0, 1, 2, 4] rfl ?_
        exact w_X3_reach_b86 hC _ _ _ _ _ _ _ hK55 _ hF
      · have hF := hF.2 c
        refine g_iconst 82 hC (1 : Int32) dX3_reach_81 (by decide) rfl ?_
        refine g_goto 86 hC dX3_reach_82 (by decide) ?_
        refine g_sub [0, 1, 2, 4] rfl ?_
        exact w_X3_reach_b86 hC _ _ _ _ _ _ _ hK55 _ hF
def F_X3_reach  (M : gM) (a0 : Nat) (x1 : Int32) (x2 : Int32) (x3 : Int32) (Q : Int32 → gM → Prop)  : Prop :=
  rc M 3 a0 ∧ F_X3_isLeft M a0 x1 x2 fun x_2 M_1 =>
  ((x_2 = 0 →
    F_X3_reach_b21 Q a0 M_1) ∧
    (¬ x_2 = 0 →
    F_X3_in M_1 x3.toInt64 (0 : Int64) (7 : Int64) fun x_4 M_3 =>
    ((¬ x_4 = 0 →
      rc M_3 3 a0 ∧ F_X3_noRule M_3 a0 x3 fun x_6 M_5 =>
      ((x_6 = 0 →
        rc M_5 3 a0 ∧ F_X3_findChances M_5 a0 x1 x3 fun M_7 =>
        ∃ n_9, F_X3_reach_b55 Q a0 x1 x2 n_9 (0 : Int32) (0 : Int32) M_7) ∧
        (¬ x_6 = 0 →
        Q x_6 M_5))) ∧
      (x_4 = 0 →
      F_X3_reach_b21 Q a0 M_3))))
theorem met_X3_reach {M : gM} {a0 : Nat} {x1 : Int32} {x2 : Int32} {x3 : Int32} {Q : Int32 → gM → Prop} (hF : F_X3_reach M a0 x1 x2 x3 Q) : gMt yX3_reach (ws_ yX3_reach cX3_reach 7 (some .int)) rm_X3_reach M [.ref a0, .int x1, .int x2, .int x3] (gQi Q) := by
  refine gMet (bytes := cX3_reach) (maxL := 7) (ret := (some .int)) rfl rfl (by decide) (Nat.le_of_ble_eq_true rfl) (lv := [(0, .ref a0), (1, .int x1), (2, .int x2), (3, .int x3)]) rfl (fun G hC hin => ?_)
  unfold F_X3_reach at hF
  refine g_aload_n 1 hC dX3_reach_0 rfl 0 rfl rfl ?_
  refine g_iload_n 2 hC dX3_reach_1 rfl 1 rfl rfl ?_
  refine g_iload_n 3 hC dX3_reach_2 rfl 2 rfl rfl ?_
  refine g_cV (rest := []) wl_X3_239 hd_X3_isLeft (ci := 3) rfl 6 hC hF.1 (met_X3_isLeft hF.2) rfl ⟨Nat.le_of_ble_eq_true rfl, Nat.le_of_ble_eq_true rfl⟩ ⟨Nat.zero_le _, Nat.zero_le _⟩ rfl (Nat.le_of_ble_eq_true rfl) dX3_reach_3 rfl (g_ty_i 0 0 (Nat.le_refl _) (Nat.le_refl _) (fun x_2 M_1 hF => ?_))
  refine g_if_eq 9 21 hC dX3_reach_6 (by decide) rfl (fun c => ?_) (fun c => ?_)
  · have hF := hF.1 c
    refine g_sub [0] rfl ?_
    exact w_X3_reach_b21 hC _ _ hF
  · have hF := hF.2 c
    refine g_iload_n 10 hC dX3_reach_9 rfl 3 rfl rfl ?_
    refine g_i2l 11 hC dX3_reach_10 rfl ?_
    refine g_lconst 12 hC (0 : Int64) dX3_reach_11 (by decide) rfl ?_
    refine g_ldc2 15 hC q1530 dX3_reach_12 rfl ?_
    refine g_cS (rest := []) wl_X3_94 hd_X3_in 18 hC (met_X3_in hF) rfl ⟨Nat.le_of_ble_eq_true rfl, Nat.le_of_ble_eq_true rfl⟩ ⟨Nat.zero_le _, Nat.zero_le _⟩ rfl (Nat.le_of_ble_eq_true rfl) dX3_reach_15 rfl (g_ty_i 0 0 (Nat.le_refl _) (Nat.le_refl _) (fun x_4 M_3 hF => ?_))
    refine g_if_ne 21 28 hC dX3_reach_18 (by decide) rfl (fun c => ?_) (fun c => ?_)
    · have hF := hF.1 c
      refine g_aload_n 29 hC dX3_reach_28 rfl 0 rfl rfl ?_
      refine g_iload_n 30 hC dX3_reach_29 rfl 3 rfl rfl ?_
      refine g_cV (rest := []) wl_X3_271 hd_X3_noRule (ci := 3) rfl 33 hC hF.1 (met_X3_noRule hF.2) rfl ⟨Nat.le_of_ble_eq_true rfl, Nat.le_of_ble_eq_true rfl⟩ ⟨Nat.zero_le _, Nat.zero_le _⟩ rfl (Nat.le_of_ble_eq_true rfl) dX3_reach_30 rfl (g_ty_i 0 0 (Nat.le_refl _) (Nat.le_refl _) (fun x_6 M_5 hF => ?_))
      refine g_istore 35 hC (lv' := [(4, .int _), (0, .ref _), (1, .int _), (2, .int _), (3, .int _)]) dX3_reach_33 rfl (by decide) rfl ?_
      refine g_iload 37 hC dX3_reach_35 rfl 0 rfl ?_
      refine g_if_eq 40 43 hC dX3_reach_37 (by decide) rfl (fun c => ?_) (fun c => ?_)
      · have hF := hF.1 c
        refine g_aload_n 44 hC dX3_reach_43 rfl 1 rfl rfl ?_
        refine g_iload_n 45 hC dX3_reach_44 rfl 2 rfl rfl ?_
        refine g_iload_n 46 hC dX3_reach_45 rfl 4 rfl rfl ?_
        refine g_cV (rest := []) wl_X3_297 hd_X3_findChances (ci := 3) rfl 49 hC hF.1 (met_X3_findChances hF.2) rfl ⟨Nat.le_of_ble_eq_true rfl, Nat.le_of_ble_eq_true rfl⟩ ⟨Nat.zero_le _, Nat.zero_le _⟩ rfl (Nat.le_of_ble_eq_true rfl) dX3_reach_46 rfl (g_ty_v 0 0 (Nat.le_refl _) (Nat.le_refl _) (fun M_7 hF => ?_))
        refine g_iconst 50 hC (0 : Int32) dX3_reach_49 (by decide) rfl ?_
        refine g_istore 52 hC (lv' := [(5, .int _), (4, .int _), (0, .ref _), (1, .int _), (2, .int _), (3, .int _)]) dX3_reach_50 rfl (by decide) rfl ?_
        refine g_iconst 53 hC (0 : Int32) dX3_reach_52 (by decide) rfl ?_
        refine g_istore 55 hC (lv' := [(6, .int _), (5, .int _), (4, .int _), (0, .ref _), (1, .int _), (2, .int _), (3, .int _)]) dX3_reach_53 rfl (by decide) rfl ?_
        refine g_sub [3, 4, 5, 1, 0] rfl ?_
        obtain ⟨n_9, hF⟩ := hF
        exact w_X3_reach_b55 hC _ _ _ n_9 _ _ _ hF
      · have hF := hF.2 c
        refine g_iload 42 hC dX3_reach_40 rfl 0 rfl ?_
        exact g_ireturn hC ⟨_, rfl, hF⟩ dX3_reach_42 (Nat.zero_le _) (Nat.zero_le _)
    · have hF := hF.2 c
      refine g_sub [0] rfl ?_
      exact w_X3_reach_b21 hC _ _ hF
abbrev rm_X3_meanOf : Room := { frames := 6, cells := 0, slots := 0, locals := 156 }
def F_X3_meanOf_b144 (Q : Int64 → gM → Prop)   (K29 : Int64 → Int32 → gM → Prop) (K40 : Int64 → Int32 → gM → Prop) (a0 : Nat) (x1 : Int32) (x2 : Int32) (x3 : Int32) (x4 : Int32) (j5 : Int64) (x7 : Int32) (j8 : Int64) (x10 : Int32)   (M : gM) : Prop :=
  K40 j8 (x10 + (1 : Int32)) M
theorem w_X3_meanOf_b144 {G : gG} {Q : Int64 → gM → Prop} (hC : gCx G cX3_meanOf 14 RX3 (some .long) (gQj Q) rm_X3_meanOf) (K29 : Int64 → Int32 → gM → Prop) (K40 : Int64 → Int32 → gM → Prop) (a0 : Nat) (x1 : Int32) (x2 : Int32) (x3 : Int32) (x4 : Int32) (j5 : Int64) (x7 : Int32) (j8 : Int64) (x10 : Int32)  (hK29 : ∀ j5' x7' M', K29 j5' x7' M' → gAt G 0 0 M' [(0, .ref a0), (1, .int x1), (2, .int x2), (3, .int x3), (4, .int x4), (5, .long j5'), (7, .int x7')] 29 []) (hK40 : ∀ j8' x10' M', K40 j8' x10' M' → gAt G 0 0 M' [(0, .ref a0), (1, .int x1), (2, .int x2), (3, .int x3), (4, .int x4), (5, .long j5), (7, .int x7), (8, .long j8'), (10, .int x10')] 40 [])   (M : gM) (hF : F_X3_meanOf_b144 Q K29 K40 a0 x1 x2 x3 x4 j5 x7 j8 x10 M) : gAt G 0 0 M [(0, .ref a0), (1, .int x1), (2, .int x2), (3, .int x3), (4, .int x4), (5, .long j5), (7, .int x7), (8, .long j8), (10, .int x10)] 144 [] := by
  unfold F_X3_meanOf_b144 at hF
  refine g_iinc 147 hC (x10 + (1 : Int32)) (lv' := [(10, .int _), (0, .ref _), (1, .int _), (2, .int _), (3, .int _), (4, .int _), (5, .long _), (7, .int _), (8, .long _)]) dX3_meanOf_144 rfl 8 rfl rfl (by decide) rfl ?_
  refine g_goto 40 hC dX3_meanOf_147 (by decide) ?_
  refine g_sub [1, 2, 3, 4, 5, 6, 7, 8, 0] rfl ?_
  exact hK40 _ _ _ hF
def F_X3_meanOf_b105 (Q : Int64 → gM → Prop)   (K29 : Int64 → Int32 → gM → Prop) (K40 : Int64 → Int32 → gM → Prop) (a0 : Nat) (x1 : Int32) (x2 : Int32) (x3 : Int32) (x4 : Int32) (j5 : Int64) (x7 : Int32) (x10 : Int32) (t0 : Int64) (t1 : Int64)  (M : gM) : Prop :=
  F_X3_meanOf_b144 Q K29 K40 a0 x1 x2 x3 x4 j5 x7 (t0 + t1) x10 M
theorem w_X3_meanOf_b105 {G : gG} {Q : Int64 → gM → Prop} (hC : gCx G cX3_meanOf 14 RX3 (some .long) (gQj Q) rm_X3_meanOf) (K29 : Int64 → Int32 → gM → Prop) (K40 : Int64 → Int32 → gM → Prop) (a0 : Nat) (x1 : Int32) (x2 : Int32) (x3 : Int32) (x4 : Int32) (j5 : Int64) (x7 : Int32) (x10 : Int32) (t0 : Int64) (t1 : Int64) (hK29 : ∀ j5' x7' M', K29 j5' x7' M' → gAt G 0 0 M' [(0, .ref a0), (1, .int x1), (2, .int x2), (3, .int x3), (4, .int x4), (5, .long j5'), (7, .int x7')] 29 []) (hK40 : ∀ j8' x10' M', K40 j8' x10' M' → gAt G 0 0 M' [(0, .ref a0), (1, .int x1), (2, .int x2), (3, .int x3), (4, .int x4), (5, .long j5), (7, .int x7), (8, .long j8'), (10, .int x10')] 40 [])   (M : gM) (hF : F_X3_meanOf_b105 Q K29 K40 a0 x1 x2 x3 x4 j5 x7 x10 t0 t1 M) : gAt G 0 0 M [(0, .ref a0), (1, .int x1), (2, .int x2), (3, .int x3), (4, .int x4), (5, .long j5), (7, .int x7), (10, .int x10)] 105 [.long t1, .long t0] := by
  unfold F_X3_meanOf_b105 at hF
  refine g_ladd 106 hC dX3_meanOf_105 rfl ?_
  refine g_lstore 108 hC (lv' := [(8, .long _), (0, .ref _), (1, .int _), (2, .int _), (3, .int _), (4, .int _), (5, .long _), (7, .int _), (10, .int _)]) dX3_meanOf_106 rfl (by decide) rfl ?_
  refine g_goto 144 hC dX3_meanOf_108 (by decide) ?_
  refine g_sub [1, 2, 3, 4, 5, 6, 7, 0, 8] rfl ?_
  exact w_X3_meanOf_b144 hC _ _ _ _ _ _ _ _ _ _ _ hK29 hK40 _ hF
def F_X3_meanOf_b40 (Q : Int64 → gM → Prop)   (K29 : Int64 → Int32 → gM → Prop) (a0 : Nat) (x1 : Int32) (x2 : Int32) (x3 : Int32) (x4 : Int32) (j5 : Int64) (x7 : Int32) : Nat → Int64 → Int32 → gM → Prop
  | 0, _, _, _ => False
  | n + 1, j8, x10, M =>
    rc M 3 a0 ∧ F_X3_states M a0 x1 fun x_2 M_1 =>
    ((x_2 ≤ x10 →
      rc M_1 3 a0 ∧ F_X3_sorts M_1 a0 x1 fun x_4 M_3 =>
      F_X3_power M_3 (4 : Int32) x_4 fun x_6 M_5 =>
      rc M_5 3 a0 ∧ F_X3_scaleOf M_5 a0 x1 (x7 - (1 : Int32)) fun j_8 M_7 =>
      K29 (j5 + ((j8 * x_6.toInt64) * j_8)) (x7 + (-1 : Int32)) M_7) ∧
      (¬ x_2 ≤ x10 →
      gN M_1 3 a0 38 fun a_9 =>
      aN M_1 (.array .long) a_9 x7 fun a_10 =>
      aJ M_1 a_10 x10 fun j_11 =>
      ((j_11 ≤ (0 : Int64) →
        F_X3_meanOf_b144 Q K29 (F_X3_meanOf_b40 Q K29 a0 x1 x2 x3 x4 j5 x7 n) a0 x1 x2 x3 x4 j5 x7 j8 x10 M_1) ∧
        (¬ j_11 ≤ (0 : Int64) →
        rc M_1 3 a0 ∧ F_X3_loadBy M_1 a0 x1 x7 x10 x3 fun x_13 M_12 =>
        ((¬ x2 = (-1 : Int32) →
          F_X3_ofState M_12 x10 x2 fun x_15 M_14 =>
          F_X3_ofState M_14 (x10 - x_13) x2 fun x_17 M_16 =>
          F_X3_meanOf_b144 Q K29 (F_X3_meanOf_b40 Q K29 a0 x1 x2 x3 x4 j5 x7 n) a0 x1 x2 x3 x4 j5 x7 (j8 + (j_11 * ((x4 * x_15) + (((4 : Int32) - x4) * x_17)).toInt64)) x10 M_16) ∧
          (x2 = (-1 : Int32) →
          ((x_13 = 0 →
            F_X3_meanOf_b105 Q K29 (F_X3_meanOf_b40 Q K29 a0 x1 x2 x3 x4 j5 x7 n) a0 x1 x2 x3 x4 j5 x7 x10 j8 (0 : Int64) M_12) ∧
            (¬ x_13 = 0 →
            F_X3_meanOf_b105 Q K29 (F_X3_meanOf_b40 Q K29 a0 x1 x2 x3 x4 j5 x7 n) a0 x1 x2 x3 x4 j5 x7 x10 j8 (j_11 * ((4 : Int32) - x4).toInt64) M_12))))))))
theorem w_X3_meanOf_b40 {G : gG} {Q : Int64 → gM → Prop} (hC : gCx G cX3_meanOf 14 RX3 (some .long) (gQj Q) rm_X3_meanOf) (K29 : Int64 → Int32 → gM → Prop) (a0 : Nat) (x1 : Int32) (x2 : Int32) (x3 : Int32) (x4 : Int32) (j5 : Int64) (x7 : Int32) (hK29 : ∀ j5' x7' M', K29 j5' x7' M' → gAt G 0 0 M' [(0, .ref a0), (1, .int x1), (2, .int x2), (3, .int x3), (4, .int x4), (5, .long j5'), (7, .int x7')] 29 []) : ∀ (n : Nat) (j8 : Int64) (x10 : Int32)   (M : gM), F_X3_meanOf_b40 Q K29 a0 x1 x2 x3 x4 j5 x7 n j8 x10 M → gAt G 0 0 M [(0, .ref a0), (1, .int x1), (2, .int x2), (3, .int x3), (4, .int x4), (5, .long j5), (7, .int x7), (8, .long j8), (10, .int x10)] 40 [] := by
  intro n
  induction n with
  | zero =>
    intro j8 x10 M hF
    exact hF.elim
  | succ n ih =>
    intro j8 x10 M hF
    have hK40 := ih
    unfold F_X3_meanOf_b40 at hF
    refine g_iload 42 hC dX3_meanOf_40 rfl 8 rfl ?_
    refine g_aload_n 43 hC dX3_meanOf_42 rfl 0 rfl rfl ?_
    refine g_iload_n 44 hC dX3_meanOf_43 rfl 1 rfl rfl ?_
    refine g_cV (rest := [_]) wl_X3_110 hd_X3_states (ci := 3) rfl 47 hC hF.1 (met_X3_states hF.2) rfl ⟨Nat.le_of_ble_eq_true rfl, Nat.le_of_ble_eq_true rfl⟩ ⟨Nat.zero_le _, Nat.zero_le _⟩ rfl (Nat.le_of_ble_eq_true rfl) dX3_meanOf_44 rfl (g_ty_i 0 0 (Nat.le_refl _) (Nat.le_refl _) (fun x_2 M_1 hF => ?_))
    refine g_icmp_ge 50 150 hC dX3_meanOf_47 (by decide) rfl (fun c => ?_) (fun c => ?_)
    · have hF := hF.1 c
      refine g_lload 152 hC dX3_meanOf_150 rfl 5 rfl ?_
      refine g_lload 154 hC dX3_meanOf_152 rfl 7 rfl ?_
      refine g_iconst 155 hC (4 : Int32) dX3_meanOf_154 (by decide) rfl ?_
      refine g_aload_n 156 hC dX3_meanOf_155 rfl 0 rfl rfl ?_
      refine g_iload_n 157 hC dX3_meanOf_156 rfl 1 rfl rfl ?_
      refine g_cV (rest := [_, _, _]) wl_X3_98 hd_X3_sorts (ci := 3) rfl 160 hC hF.1 (met_X3_sorts hF.2) rfl ⟨Nat.le_of_ble_eq_true rfl, Nat.le_of_ble_eq_true rfl⟩ ⟨Nat.zero_le _, Nat.zero_le _⟩ rfl (Nat.le_of_ble_eq_true rfl) dX3_meanOf_157 rfl (g_ty_i 0 0 (Nat.le_refl _) (Nat.le_refl _) (fun x_4 M_3 hF => ?_))
      refine g_cS (rest := [_, _]) wl_X3_102 hd_X3_power 163 hC (met_X3_power hF) rfl ⟨Nat.le_of_ble_eq_true rfl, Nat.le_of_ble_eq_true rfl⟩ ⟨Nat.zero_le _, Nat.zero_le _⟩ rfl (Nat.le_of_ble_eq_true rfl) dX3_meanOf_160 rfl (g_ty_i 0 0 (Nat.le_refl _) (Nat.le_refl _) (fun x_6 M_5 hF => ?_))
      refine g_i2l 164 hC dX3_meanOf_163 rfl ?_
      refine g_lmul 165 hC dX3_meanOf_164 rfl ?_
      refine g_aload_n 166 hC dX3_meanOf_165 rfl 0 rfl rfl ?_
      refine g_iload_n 167 hC dX3_meanOf_166 rfl 1 rfl rfl ?_
      refine g_iload 169 hC dX3_meanOf_167 rfl 6 rfl ?_
      refine g_iconst 170 hC (1 : Int32) dX3_meanOf_169 (by decide) rfl ?_
      refine g_isub 171 hC dX3_meanOf_170 rfl ?_
      refine g_cV (rest := [_, _]) wl_X3_242 hd_X3_scaleOf (ci := 3) rfl 174 hC hF.1 (met_X3_scaleOf hF.2) rfl ⟨Nat.le_of_ble_eq_true rfl, Nat.le_of_ble_eq_true rfl⟩ ⟨Nat.zero_le _, Nat.zero_le _⟩ rfl (Nat.le_of_ble_eq_true rfl) dX3_meanOf_171 rfl (g_ty_j 0 0 (Nat.le_refl _) (Nat.le_refl _) (fun j_8 M_7 hF => ?_))
      refine g_lmul 175 hC dX3_meanOf_174 rfl ?_
      refine g_ladd 176 hC dX3_meanOf_175 rfl ?_
      refine g_lstore 178 hC (lv' := [(5, .long _), (0, .ref _), (1, .int _), (2, .int _), (3, .int _), (4, .int _), (7, .int _), (8, .long _), (10, .int _)]) dX3_meanOf_176 rfl (by decide) rfl ?_
      refine g_iinc 181 hC (x7 + (-1 : Int32)) (lv' := [(7, .int _), (5, .long _), (0, .ref _), (1, .int _), (2, .int _), (3, .int _), (4, .int _), (8, .long _), (10, .int _)]) dX3_meanOf_178 rfl 6 rfl rfl (by decide) rfl ?_
      refine g_goto 29 hC dX3_meanOf_181 (by decide) ?_
      refine g_sub [2, 3, 4, 5, 6, 1, 0] rfl ?_
      exact hK29 _ _ _ hF
    · have hF := hF.2 c
      refine g_aload_n 51 hC dX3_meanOf_50 rfl 0 rfl rfl ?_
      refine gf_X3_85_3N 54 hC hF dX3_meanOf_51 rfl (fun a_9 hF => ?_)
      refine g_iload 56 hC dX3_meanOf_54 rfl 6 rfl ?_
      refine g_aaldN 57 hC hF (by decide) rfl (fun _ _ _ => rfl) dX3_meanOf_56 rfl (fun a_10 hF => ?_)
      refine g_iload 59 hC dX3_meanOf_57 rfl 8 rfl ?_
      refine g_lald 60 hC hF dX3_meanOf_59 rfl (fun j_11 hF => ?_)
      refine g_lstore 62 hC (lv' := [(11, .long _), (0, .ref _), (1, .int _), (2, .int _), (3, .int _), (4, .int _), (5, .long _), (7, .int _), (8, .long _), (10, .int _)]) dX3_meanOf_60 rfl (by decide) rfl ?_
      refine g_lload 64 hC dX3_meanOf_62 rfl 0 rfl ?_
      refine g_lconst 65 hC (0 : Int64) dX3_meanOf_64 (by decide) rfl ?_
      refine g_lcmp_le 69 144 hC dX3_meanOf_65 rfl dX3_meanOf_66 (by decide) rfl (fun c => ?_) (fun c => ?_)
      · have hF := hF.1 c
        refine g_sub [1, 2, 3, 4, 5, 6, 7, 8, 9] rfl ?_
        exact w_X3_meanOf_b144 hC _ _ _ _ _ _ _ _ _ _ _ hK29 hK40 _ hF
      · have hF := hF.2 c
        refine g_aload_n 70 hC dX3_meanOf_69 rfl 1 rfl rfl ?_
        refine g_iload_n 71 hC dX3_meanOf_70 rfl 2 rfl rfl ?_
        refine g_iload 73 hC dX3_meanOf_71 rfl 7 rfl ?_
        refine g_iload 75 hC dX3_meanOf_73 rfl 9 rfl ?_
        refine g_iload_n 76 hC dX3_meanOf_75 rfl 4 rfl rfl ?_
        refine g_cV (rest := []) wl_X3_274 hd_X3_loadBy (ci := 3) rfl 79 hC hF.1 (met_X3_loadBy hF.2) rfl ⟨Nat.le_of_ble_eq_true rfl, Nat.le_of_ble_eq_true rfl⟩ ⟨Nat.zero_le _, Nat.zero_le _⟩ rfl (Nat.le_of_ble_eq_true rfl) dX3_meanOf_76 rfl (g_ty_i 0 0 (Nat.le_refl _) (Nat.le_refl _) (fun x_13 M_12 hF => ?_))
        refine g_istore 81 hC (lv' := [(13, .int _), (11, .long _), (0, .ref _), (1, .int _), (2, .int _), (3, .int _), (4, .int _), (5, .long _), (7, .int _), (8, .long _), (10, .int _)]) dX3_meanOf_79 rfl (by decide) rfl ?_
        refine g_iload_n 82 hC dX3_meanOf_81 rfl 4 rfl rfl ?_
        refine g_iconst 83 hC (-1 : Int32) dX3_meanOf_82 (by decide) rfl ?_
        refine g_icmp_ne 86 111 hC dX3_meanOf_83 (by decide) rfl (fun c => ?_) (fun c => ?_)
        · have hF := hF.1 c
          refine g_lload 113 hC dX3_meanOf_111 rfl 9 rfl ?_
          refine g_lload 115 hC dX3_meanOf_113 rfl 1 rfl ?_
          refine g_iload 117 hC dX3_meanOf_115 rfl 6 rfl ?_
          refine g_iload 119 hC dX3_meanOf_117 rfl 10 rfl ?_
          refine g_iload_n 120 hC dX3_meanOf_119 rfl 4 rfl rfl ?_
          refine g_cS (rest := [_, _, _]) wl_X3_226 hd_X3_ofState 123 hC (met_X3_ofState hF) rfl ⟨Nat.le_of_ble_eq_true rfl, Nat.le_of_ble_eq_true rfl⟩ ⟨Nat.zero_le _, Nat.zero_le _⟩ rfl (Nat.le_of_ble_eq_true rfl) dX3_meanOf_120 rfl (g_ty_i 0 0 (Nat.le_refl _) (Nat.le_refl _) (fun x_15 M_14 hF => ?_))
          refine g_imul 124 hC dX3_meanOf_123 rfl ?_
          refine g_iconst 125 hC (4 : Int32) dX3_meanOf_124 (by decide) rfl ?_
          refine g_iload 127 hC dX3_meanOf_125 rfl 6 rfl ?_
          refine g_isub 128 hC dX3_meanOf_127 rfl ?_
          refine g_iload 130 hC dX3_meanOf_128 rfl 10 rfl ?_
          refine g_iload 132 hC dX3_meanOf_130 rfl 0 rfl ?_
          refine g_isub 133 hC dX3_meanOf_132 rfl ?_
          refine g_iload_n 134 hC dX3_meanOf_133 rfl 4 rfl rfl ?_
          refine g_cS (rest := [_, _, _, _]) wl_X3_226 hd_X3_ofState 137 hC (met_X3_ofState hF) rfl ⟨Nat.le_of_ble_eq_true rfl, Nat.le_of_ble_eq_true rfl⟩ ⟨Nat.zero_le _, Nat.zero_le _⟩ rfl (Nat.le_of_ble_eq_true rfl) dX3_meanOf_134 rfl (g_ty_i 0 0 (Nat.le_refl _) (Nat.le_refl _) (fun x_17 M_16 hF => ?_))
          refine g_imul 138 hC dX3_meanOf_137 rfl ?_
          refine g_iadd 139 hC dX3_meanOf_138 rfl ?_
          refine g_i2l 140 hC dX3_meanOf_139 rfl ?_
          refine g_lmul 141 hC dX3_meanOf_140 rfl ?_
          refine g_ladd 142 hC dX3_meanOf_141 rfl ?_
          refine g_lstore 144 hC (lv' := [(8, .long _), (13, .int _), (11, .long _), (0, .ref _), (1, .int _), (2, .int _), (3, .int _), (4, .int _), (5, .long _), (7, .int _), (10, .int _)]) dX3_meanOf_142 rfl (by decide) rfl ?_
          refine g_sub [3, 4, 5, 6, 7, 8, 9, 0, 10] rfl ?_
          exact w_X3_meanOf_b144 hC _ _ _ _ _ _ _ _ _ _ _ hK29 hK40 _ hF
        · have hF := hF.2 c
          refine g_lload 88 hC dX3_meanOf_86 rfl 9 rfl ?_
          refine g_iload 90 hC dX3_meanOf_88 rfl 0 rfl ?_
          refine g_if_eq 93 104 hC dX3_meanOf_90 (by decide) rfl (fun c => ?_) (fun c => ?_)
          · have hF := hF.1 c
            refine g_lconst 105 hC (0 : Int64) dX3_meanOf_104 (by decide) rfl ?_
            refine g_sub [2, 3, 4, 5, 6, 7, 8, 10] rfl ?_
            exact w_X3_meanOf_b105 hC _ _ _ _ _ _ _ _ _ _ _ _ hK29 hK40 _ hF
          · have hF := hF.2 c
            refine g_lload 95 hC dX3_meanOf_93 rfl 1 rfl ?_
            refine g_iconst 96 hC (4 : Int32) dX3_meanOf_95 (by decide) rfl ?_
            refine g_iload 98 hC dX3_meanOf_96 rfl 6 rfl ?_
            refine g_isub 99 hC dX3_meanOf_98 rfl ?_
            refine g_i2l 100 hC dX3_meanOf_99 rfl ?_
            refine g_lmul 101 hC dX3_meanOf_100 rfl ?_
            refine g_goto 105 hC dX3_meanOf_101 (by decide) ?_
            refine g_sub [2, 3, 4, 5, 6, 7, 8, 10] rfl ?_
            exact w_X3_meanOf_b105 hC _ _ _ _ _ _ _ _ _ _ _ _ hK29 hK40 _ hF
def F_X3_meanOf_b29 (Q : Int64 → gM → Prop)    (a0 : Nat) (x1 : Int32) (x2 : Int32) (x3 : Int32) (x4 : Int32) : Nat → Int64 → Int32 → gM → Prop
  | 0, _, _, _ => False
  | n + 1, j5, x7, M =>
    ((x7 ≤ 0 →
      Q j5 M) ∧
      (¬ x7 ≤ 0 →
      ∃ n_1, F_X3_meanOf_b40 Q (F_X3_meanOf_b29 Q a0 x1 x2 x3 x4 n) a0 x1 x2 x3 x4 j5 x7 n_1 (0 : Int64) (0 : Int32) M))
theorem w_X3_meanOf_b29 {G : gG} {Q : Int64 → gM → Prop} (hC : gCx G cX3_meanOf 14 RX3 (some .long) (gQj Q) rm_X3_meanOf)  (a0 : Nat) (x1 : Int32) (x2 : Int32) (x3 : Int32) (x4 : Int32)  : ∀ (n : Nat) (j5 : Int64) (x7 : Int32)   (M : gM), F_X3_meanOf_b29 Q a0 x1 x2 x3 x4 n j5 x7 M → gAt G 0 0 M [(0, .ref a0), (1, .int x1), (2, .int x2), (3, .int x3), (4, .int x4), (5, .long j5), (7, .int x7)] 29 [] := by
  intro n
  induction n with
  | zero =>
    intro j5 x7 M hF
    exact hF.elim
  | succ n ih =>
    intro j5 x7 M hF
    have hK29 := ih
    unfold F_X3_meanOf_b29 at hF
    refine g_iload 31 hC dX3_meanOf_29 rfl 6 rfl ?_
    refine g_if_le 34 184 hC dX3_meanOf_31 (by decide) rfl (fun c => ?_) (fun c => ?_)
    · have hF := hF.1 c
      refine g_lload 186 hC dX3_meanOf_184 rfl 5 rfl ?_
      exact g_lreturn hC ⟨_, rfl, hF⟩ dX3_meanOf_186 (Nat.zero_le _) (Nat.zero_le _)
    · have hF := hF.2 c
      refine g_lconst 35 hC (0 : Int64) dX3_meanOf_34 (by decide) rfl ?_
      refine g_lstore 37 hC (lv' := [(8, .long _), (0, .ref _), (1, .int _), (2, .int _), (3, .int _), (4, .int _), (5, .long _), (7, .int _)]) dX3_meanOf_35 rfl (by decide) rfl ?_
      refine g_iconst 38 hC (0 : Int32) dX3_meanOf_37 (by decide) rfl ?_
      refine g_istore 40 hC (lv' := [(10, .int _), (8, .long _), (0, .ref _), (1, .int _), (2, .int _), (3, .int _), (4, .int _), (5, .long _), (7, .int _)]) dX3_meanOf_38 rfl (by decide) rfl ?_
      refine g_sub [2, 3, 4, 5, 6, 7, 8, 1, 0] rfl ?_
      obtain ⟨n_1, hF⟩ := hF
      exact w_X3_meanOf_b40 hC _ _ _ _ _ _ _ _ hK29 n_1 _ _ _ hF
def F_X3_meanOf  (M : gM) (a0 : Nat) (x1 : Int32) (x2 : Int32) (x3 : Int32) (Q : Int64 → gM → Prop)  : Prop :=
  rc M 3 a0 ∧ F_X3_findChances M a0 x1 x3 fun M_1 =>
  gN M_1 3 a0 12 fun a_3 =>
  aN M_1 (.array .int) a_3 x1 fun a_4 =>
  aI M_1 .int a_4 (3 : Int32) fun x_5 =>
  gN M_1 3 a0 12 fun a_6 =>
  aN M_1 (.array .int) a_6 x1 fun a_7 =>
  aI M_1 .int a_7 (0 : Int32) fun x_8 =>
  ∃ n_9, F_X3_meanOf_b29 Q a0 x1 x2 x3 x_5 n_9 (0 : Int64) x_8 M_1
theorem met_X3_meanOf {M : gM} {a0 : Nat} {x1 : Int32} {x2 : Int32} {x3 : Int32} {Q : Int64 → gM → Prop} (hF : F_X3_meanOf M a0 x1 x2 x3 Q) : gMt yX3_meanOf (ws_ yX3_meanOf cX3_meanOf 14 (some .long)) rm_X3_meanOf M [.ref a0, .int x1, .int x2, .int x3] (gQj Q) := by
  refine gMet (bytes := cX3_meanOf) (maxL := 14) (ret := (some .long)) rfl rfl (by decide) (Nat.le_of_ble_eq_true rfl) (lv := [(0, .ref a0), (1, .int x1), (2, .int x2), (3, .int x3)]) rfl (fun G hC hin => ?_)
  unfold F_X3_meanOf at hF
  refine g_aload_n 1 hC dX3_meanOf_0 rfl 0 rfl rfl ?_
  refine g_iload_n 2 hC dX3_meanOf_1 rfl 1 rfl rfl ?_
  refine g_iload_n 3 hC dX3_meanOf_2 rfl 3 rfl rfl ?_
  refine g_cV (rest := []) wl_X3_297 hd_X3_findChances (ci := 3) rfl 6 hC hF.1 (met_X3_findChances hF.2) rfl ⟨Nat.le_of_ble_eq_true rfl, Nat.le_of_ble_eq_true rfl⟩ ⟨Nat.zero_le _, Nat.zero_le _⟩ rfl (Nat.le_of_ble_eq_true rfl) dX3_meanOf_3 rfl (g_ty_v 0 0 (Nat.le_refl _) (Nat.le_refl _) (fun M_1 hF => ?_))
  refine g_aload_n 7 hC dX3_meanOf_6 rfl 0 rfl rfl ?_
  refine gf_X3_45_3N 10 hC hF dX3_meanOf_7 rfl (fun a_3 hF => ?_)
  refine g_iload_n 11 hC dX3_meanOf_10 rfl 1 rfl rfl ?_
  refine g_aaldN 12 hC hF (by decide) rfl (fun _ _ _ => rfl) dX3_meanOf_11 rfl (fun a_4 hF => ?_)
  refine g_iconst 13 hC (3 : Int32) dX3_meanOf_12 (by decide) rfl ?_
  refine g_iald 14 hC hF dX3_meanOf_13 rfl (fun x_5 hF => ?_)
  refine g_istore 16 hC (lv' := [(4, .int _), (0, .ref _), (1, .int _), (2, .int _), (3, .int _)]) dX3_meanOf_14 rfl (by decide) rfl ?_
  refine g_lconst 17 hC (0 : Int64) dX3_meanOf_16 (by decide) rfl ?_
  refine g_lstore 19 hC (lv' := [(5, .long _), (4, .int _), (0, .ref _), (1, .int _), (2, .int _), (3, .int _)]) dX3_meanOf_17 rfl (by decide) rfl ?_
  refine g_aload_n 20 hC dX3_meanOf_19 rfl 2 rfl rfl ?_
  refine gf_X3_45_3N 23 hC hF dX3_meanOf_20 rfl (fun a_6 hF => ?_)
  refine g_iload_n 24 hC dX3_meanOf_23 rfl 3 rfl rfl ?_
  refine g_aaldN 25 hC hF (by decide) rfl (fun _ _ _ => rfl) dX3_meanOf_24 rfl (fun a_7 hF => ?_)
  refine g_iconst 26 hC (0 : Int32) dX3_meanOf_25 (by decide) rfl ?_
  refine g_iald 27 hC hF dX3_meanOf_26 rfl (fun x_8 hF => ?_)
  refine g_istore 29 hC (lv' := [(7, .int _), (5, .long _), (4, .int _), (0, .ref _), (1, .int _), (2, .int _), (3, .int _)]) dX3_meanOf_27 rfl (by decide) rfl ?_
  refine g_sub [3, 4, 5, 6, 2, 1, 0] rfl ?_
  obtain ⟨n_9, hF⟩ := hF
  exact w_X3_meanOf_b29 hC _ _ _ _ _ n_9 _ _ _ hF
theorem hd_X3_meanOf : yX3_meanOf.cls = RX3 ∧ yX3_meanOf.cls ≠ "java/lang/invoke/MethodHandle" ∧ yX3_meanOf.cls ≠ "java/lang/invoke/VarHandle" ∧ (parseMethodDescriptor yX3_meanOf.desc).map (fun d => d.parameters.length) = some 3 := by decide +kernel
theorem wl_X3_300 : GoodIn lw_all (wsV RX3 300 RX3 yX3_meanOf (ws_ yX3_meanOf cX3_meanOf 14 (some .long))) := lw_V q1829 q1831 qs58 q72 q1832
abbrev rm_X3_held : Room := { frames := 7, cells := 0, slots := 0, locals := 189 }
def F_X3_held_b37 (Q : Int64 → gM → Prop)    (a0 : Nat)   (M : gM) : Prop :=
  rc M 3 a0 ∧ F_X3_refuse M a0 (-2 : Int32) fun x_2 M_1 =>
  Q x_2.toInt64 M_1
theorem w_X3_held_b37 {G : gG} {Q : Int64 → gM → Prop} (hC : gCx G cX3_held 5 RX3 (some .long) (gQj Q) rm_X3_held)  (a0 : Nat)     (M : gM) (hF : F_X3_held_b37 Q a0 M) : gAt G 0 0 M [(0, .ref a0)] 37 [] := by
  unfold F_X3_held_b37 at hF
  refine g_aload_n 38 hC dX3_held_37 rfl 0 rfl rfl ?_
  refine g_bipush 40 hC (-2 : Int32) dX3_held_38 (by decide) rfl ?_
  refine g_cV (rest := []) wl_X3_119 hd_X3_refuse (ci := 3) rfl 43 hC hF.1 (met_X3_refuse hF.2) rfl ⟨Nat.le_of_ble_eq_true rfl, Nat.le_of_ble_eq_true rfl⟩ ⟨Nat.zero_le _, Nat.zero_le _⟩ rfl (Nat.le_of_ble_eq_true rfl) dX3_held_40 rfl (g_ty_i 0 0 (Nat.le_refl _) (Nat.le_refl _) (fun x_2 M_1 hF => ?_))
  refine g_i2l 44 hC dX3_held_43 rfl ?_
  exact g_lreturn hC ⟨_, rfl, hF⟩ dX3_held_44 (Nat.zero_le _) (Nat.zero_le _)
def F_X3_held  (M : gM) (a0 : Nat) (x1 : Int32) (x2 : Int32) (x3 : Int32) (Q : Int64 → gM → Prop)  : Prop :=
  rc M 3 a0 ∧ F_X3_isHouse M a0 x1 fun x_2 M_1 =>
  ((x_2 = 0 →
    F_X3_held_b37 Q a0 M_1) ∧
    (¬ x_2 = 0 →
    rc M_1 3 a0 ∧ F_X3_sorts M_1 a0 x1 fun x_4 M_3 =>
    F_X3_in M_3 x2.toInt64 (0 : Int64) ((x_4 - (1 : Int32)).toInt64) fun x_6 M_5 =>
    ((x_6 = 0 →
      F_X3_held_b37 Q a0 M_5) ∧
      (¬ x_6 = 0 →
      F_X3_in M_5 x3.toInt64 (0 : Int64) (7 : Int64) fun x_8 M_7 =>
      ((¬ x_8 = 0 →
        rc M_7 3 a0 ∧ F_X3_noRule M_7 a0 x3 fun x_10 M_9 =>
        ((x_10 = 0 →
          rc M_9 3 a0 ∧ F_X3_meanOf M_9 a0 x1 x2 x3 fun j_12 M_11 =>
          Q j_12 M_11) ∧
          (¬ x_10 = 0 →
          Q x_10.toInt64 M_9))) ∧
        (x_8 = 0 →
        F_X3_held_b37 Q a0 M_7))))))
theorem met_X3_held {M : gM} {a0 : Nat} {x1 : Int32} {x2 : Int32} {x3 : Int32} {Q : Int64 → gM → Prop} (hF : F_X3_held M a0 x1 x2 x3 Q) : gMt yX3_held (ws_ yX3_held cX3_held 5 (some .long)) rm_X3_held M [.ref a0, .int x1, .int x2, .int x3] (gQj Q) := by
  refine gMet (bytes := cX3_held) (maxL := 5) (ret := (some .long)) rfl rfl (by decide) (Nat.le_of_ble_eq_true rfl) (lv := [(0, .ref a0), (1, .int x1), (2, .int x2), (3, .int x3)]) rfl (fun G hC hin => ?_)
  unfold F_X3_held at hF
  refine g_aload_n 1 hC dX3_held_0 rfl 0 rfl rfl ?_
  refine g_iload_n 2 hC dX3_held_1 rfl 1 rfl rfl ?_
  refine g_cV (rest := []) wl_X3_106 hd_X3_isHouse (ci := 3) rfl 5 hC hF.1 (met_X3_isHouse hF.2) rfl ⟨Nat.le_of_ble_eq_true rfl, Nat.le_of_ble_eq_true rfl⟩ ⟨Nat.zero_le _, Nat.zero_le _⟩ rfl (Nat.le_of_ble_eq_true rfl) dX3_held_2 rfl (g_ty_i 0 0 (Nat.le_refl _) (Nat.le_refl _) (fun x_2 M_1 hF => ?_))
  refine g_if_eq 8 37 hC dX3_held_5 (by decide) rfl (fun c => ?_) (fun c => ?_)
  · have hF := hF.1 c
    refine g_sub [0] rfl ?_
    exact w_X3_held_b37 hC _ _ hF
  · have hF := hF.2 c
    refine g_iload_n 9 hC dX3_held_8 rfl 2 rfl rfl ?_
    refine g_i2l 10 hC dX3_held_9 rfl ?_
    refine g_lconst 11 hC (0 : Int64) dX3_held_10 (by decide) rfl ?_
    refine g_aload_n 12 hC dX3_held_11 rfl 0 rfl rfl ?_
    refine g_iload_n 13 hC dX3_held_12 rfl 1 rfl rfl ?_
    refine g_cV (rest := [_, _]) wl_X3_98 hd_X3_sorts (ci := 3) rfl 16 hC hF.1 (met_X3_sorts hF.2) rfl ⟨Nat.le_of_ble_eq_true rfl, Nat.le_of_ble_eq_true rfl⟩ ⟨Nat.zero_le _, Nat.zero_le _⟩ rfl (Nat.le_of_ble_eq_true rfl) dX3_held_13 rfl (g_ty_i 0 0 (Nat.le_refl _) (Nat.le_refl _) (fun x_4 M_3 hF => ?_))
    refine g_iconst 17 hC (1 : Int32) dX3_held_16 (by decide) rfl ?_
    refine g_isub 18 hC dX3_held_17 rfl ?_
    refine g_i2l 19 hC dX3_held_18 rfl ?_
    refine g_cS (rest := []) wl_X3_94 hd_X3_in 22 hC (met_X3_in hF) rfl ⟨Nat.le_of_ble_eq_true rfl, Nat.le_of_ble_eq_true rfl⟩ ⟨Nat.zero_le _, Nat.zero_le _⟩ rfl (Nat.le_of_ble_eq_true rfl) dX3_held_19 rfl (g_ty_i 0 0 (Nat.le_refl _) (Nat.le_refl _) (fun x_6 M_5 hF => ?_))
    refine g_if_eq 25 37 hC dX3_held_22 (by decide) rfl (fun c => ?_) (fun c => ?_)
    · have hF := hF.1 c
      refine g_sub [0] rfl ?_
      exact w_X3_held_b37 hC _ _ hF
    · have hF := hF.2 c
      refine g_iload_n 26 hC dX3_held_25 rfl 3 rfl rfl ?_
      refine g_i2l 27 hC dX3_held_26 rfl ?_
      refine g_lconst 28 hC (0 : Int64) dX3_held_27 (by decide) rfl ?_
      refine g_ldc2 31 hC q1530 dX3_held_28 rfl ?_
      refine g_cS (rest := []) wl_X3_94 hd_X3_in 34 hC (met_X3_in hF) rfl ⟨Nat.le_of_ble_eq_true rfl, Nat.le_of_ble_eq_true rfl⟩ ⟨Nat.zero_le _, Nat.zero_le _⟩ rfl (Nat.le_of_ble_eq_true rfl) dX3_held_31 rfl (g_ty_i 0 0 (Nat.le_refl _) (Nat.le_refl _) (fun x_8 M_7 hF => ?_))
      refine g_if_ne 37 45 hC dX3_held_34 (by decide) rfl (fun c => ?_) (fun c => ?_)
      · have hF := hF.1 c
        refine g_aload_n 46 hC dX3_held_45 rfl 0 rfl rfl ?_
        refine g_iload_n 47 hC dX3_held_46 rfl 3 rfl rfl ?_
        refine g_cV (rest := []) wl_X3_271 hd_X3_noRule (ci := 3) rfl 50 hC hF.1 (met_X3_noRule hF.2) rfl ⟨Nat.le_of_ble_eq_true rfl, Nat.le_of_ble_eq_true rfl⟩ ⟨Nat.zero_le _, Nat.zero_le _⟩ rfl (Nat.le_of_ble_eq_true rfl) dX3_held_47 rfl (g_ty_i 0 0 (Nat.le_refl _) (Nat.le_refl _) (fun x_10 M_9 hF => ?_))
        refine g_istore 52 hC (lv' := [(4, .int _), (0, .ref _), (1, .int _), (2, .int _), (3, .int _)]) dX3_held_50 rfl (by decide) rfl ?_
        refine g_iload 54 hC dX3_held_52 rfl 0 rfl ?_
        refine g_if_eq 57 63 hC dX3_held_54 (by decide) rfl (fun c => ?_) (fun c => ?_)
        · have hF := hF.1 c
          refine g_aload_n 64 hC dX3_held_63 rfl 1 rfl rfl ?_
          refine g_iload_n 65 hC dX3_held_64 rfl 2 rfl rfl ?_
          refine g_iload_n 66 hC dX3_held_65 rfl 3 rfl rfl ?_
          refine g_iload_n 67 hC dX3_held_66 rfl 4 rfl rfl ?_
          refine g_cV (rest := []) wl_X3_300 hd_X3_meanOf (ci := 3) rfl 70 hC hF.1 (met_X3_meanOf hF.2) rfl ⟨Nat.le_of_ble_eq_true rfl, Nat.le_of_ble_eq_true rfl⟩ ⟨Nat.zero_le _, Nat.zero_le _⟩ rfl (Nat.le_of_ble_eq_true rfl) dX3_held_67 rfl (g_ty_j 0 0 (Nat.le_refl _) (Nat.le_refl _) (fun j_12 M_11 hF => ?_))
          exact g_lreturn hC ⟨_, rfl, hF⟩ dX3_held_70 (Nat.zero_le _) (Nat.zero_le _)
        · have hF := hF.2 c
          refine g_iload 59 hC dX3_held_57 rfl 0 rfl ?_
          refine g_i2l 60 hC dX3_held_59 rfl ?_
          refine g_goto 70 hC dX3_held_60 (by decide) ?_
          exact g_lreturn hC ⟨_, rfl, hF⟩ dX3_held_70 (Nat.zero_le _) (Nat.zero_le _)
      · have hF := hF.2 c
        refine g_sub [0] rfl ?_
        exact w_X3_held_b37 hC _ _ hF
abbrev rm_X3_boxes : Room := { frames := 7, cells := 0, slots := 0, locals := 189 }
def F_X3_boxes_b20 (Q : Int64 → gM → Prop)    (a0 : Nat)   (M : gM) : Prop :=
  rc M 3 a0 ∧ F_X3_refuse M a0 (-2 : Int32) fun x_2 M_1 =>
  Q x_2.toInt64 M_1
theorem w_X3_boxes_b20 {G : gG} {Q : Int64 → gM → Prop} (hC : gCx G cX3_boxes 4 RX3 (some .long) (gQj Q) rm_X3_boxes)  (a0 : Nat)     (M : gM) (hF : F_X3_boxes_b20 Q a0 M) : gAt G 0 0 M [(0, .ref a0)] 20 [] := by
  unfold F_X3_boxes_b20 at hF
  refine g_aload_n 21 hC dX3_boxes_20 rfl 0 rfl rfl ?_
  refine g_bipush 23 hC (-2 : Int32) dX3_boxes_21 (by decide) rfl ?_
  refine g_cV (rest := []) wl_X3_119 hd_X3_refuse (ci := 3) rfl 26 hC hF.1 (met_X3_refuse hF.2) rfl ⟨Nat.le_of_ble_eq_true rfl, Nat.le_of_ble_eq_true rfl⟩ ⟨Nat.zero_le _, Nat.zero_le _⟩ rfl (Nat.le_of_ble_eq_true rfl) dX3_boxes_23 rfl (g_ty_i 0 0 (Nat.le_refl _) (Nat.le_refl _) (fun x_2 M_1 hF => ?_))
  refine g_i2l 27 hC dX3_boxes_26 rfl ?_
  exact g_lreturn hC ⟨_, rfl, hF⟩ dX3_boxes_27 (Nat.zero_le _) (Nat.zero_le _)
def F_X3_boxes  (M : gM) (a0 : Nat) (x1 : Int32) (x2 : Int32) (Q : Int64 → gM → Prop)  : Prop :=
  rc M 3 a0 ∧ F_X3_isHouse M a0 x1 fun x_2 M_1 =>
  ((x_2 = 0 →
    F_X3_boxes_b20 Q a0 M_1) ∧
    (¬ x_2 = 0 →
    F_X3_in M_1 x2.toInt64 (0 : Int64) (7 : Int64) fun x_4 M_3 =>
    ((¬ x_4 = 0 →
      rc M_3 3 a0 ∧ F_X3_noRule M_3 a0 x2 fun x_6 M_5 =>
      ((x_6 = 0 →
        rc M_5 3 a0 ∧ F_X3_meanOf M_5 a0 x1 (-1 : Int32) x2 fun j_8 M_7 =>
        Q j_8 M_7) ∧
        (¬ x_6 = 0 →
        Q x_6.toInt64 M_5))) ∧
      (x_4 = 0 →
      F_X3_boxes_b20 Q a0 M_3))))
theorem met_X3_boxes {M : gM} {a0 : Nat} {x1 : Int32} {x2 : Int32} {Q : Int64 → gM → Prop} (hF : F_X3_boxes M a0 x1 x2 Q) : gMt yX3_boxes (ws_ yX3_boxes cX3_boxes 4 (some .long)) rm_X3_boxes M [.ref a0, .int x1, .int x2] (gQj Q) := by
  refine gMet (bytes := cX3_boxes) (maxL := 4) (ret := (some .long)) rfl rfl (by decide) (Nat.le_of_ble_eq_true rfl) (lv := [(0, .ref a0), (1, .int x1), (2, .int x2)]) rfl (fun G hC hin => ?_)
  unfold F_X3_boxes at hF
  refine g_aload_n 1 hC dX3_boxes_0 rfl 0 rfl rfl ?_
  refine g_iload_n 2 hC dX3_boxes_1 rfl 1 rfl rfl ?_
  refine g_cV (rest := []) wl_X3_106 hd_X3_isHouse (ci := 3) rfl 5 hC hF.1 (met_X3_isHouse hF.2) rfl ⟨Nat.le_of_ble_eq_true rfl, Nat.le_of_ble_eq_true rfl⟩ ⟨Nat.zero_le _, Nat.zero_le _⟩ rfl (Nat.le_of_ble_eq_true rfl) dX3_boxes_2 rfl (g_ty_i 0 0 (Nat.le_refl _) (Nat.le_refl _) (fun x_2 M_1 hF => ?_))
  refine g_if_eq 8 20 hC dX3_boxes_5 (by decide) rfl (fun c => ?_) (fun c => ?_)
  · have hF := hF.1 c
    refine g_sub [0] rfl ?_
    exact w_X3_boxes_b20 hC _ _ hF
  · have hF := hF.2 c
    refine g_iload_n 9 hC dX3_boxes_8 rfl 2 rfl rfl ?_
    refine g_i2l 10 hC dX3_boxes_9 rfl ?_
    refine g_lconst 11 hC (0 : Int64) dX3_boxes_10 (by decide) rfl ?_
    refine g_ldc2 14 hC q1530 dX3_boxes_11 rfl ?_
    refine g_cS (rest := []) wl_X3_94 hd_X3_in 17 hC (met_X3_in hF) rfl ⟨Nat.le_of_ble_eq_true rfl, Nat.le_of_ble_eq_true rfl⟩ ⟨Nat.zero_le _, Nat.zero_le _⟩ rfl (Nat.le_of_ble_eq_true rfl) dX3_boxes_14 rfl (g_ty_i 0 0 (Nat.le_refl _) (Nat.le_refl _) (fun x_4 M_3 hF => ?_))
    refine g_if_ne 20 28 hC dX3_boxes_17 (by decide) rfl (fun c => ?_) (fun c => ?_)
    · have hF := hF.1 c
      refine g_aload_n 29 hC dX3_boxes_28 rfl 0 rfl rfl ?_
      refine g_iload_n 30 hC dX3_boxes_29 rfl 2 rfl rfl ?_
      refine g_cV (rest := []) wl_X3_271 hd_X3_noRule (ci := 3) rfl 33 hC hF.1 (met_X3_noRule hF.2) rfl ⟨Nat.le_of_ble_eq_true rfl, Nat.le_of_ble_eq_true rfl⟩ ⟨Nat.zero_le _, Nat.zero_le _⟩ rfl (Nat.le_of_ble_eq_true rfl) dX3_boxes_30 rfl (g_ty_i 0 0 (Nat.le_refl _) (Nat.le_refl _) (fun x_6 M_5 hF => ?_))
      refine g_istore_n 34 hC (lv' := [(3, .int _), (0, .ref _), (1, .int _), (2, .int _)]) dX3_boxes_33 rfl rfl (by decide) rfl ?_
      refine g_iload_n 35 hC dX3_boxes_34 rfl 0 rfl rfl ?_
      refine g_if_eq 38 43 hC dX3_boxes_35 (by decide) rfl (fun c => ?_) (fun c => ?_)
      · have hF := hF.1 c
        refine g_aload_n 44 hC dX3_boxes_43 rfl 1 rfl rfl ?_
        refine g_iload_n 45 hC dX3_boxes_44 rfl 2 rfl rfl ?_
        refine g_iconst 46 hC (-1 : Int32) dX3_boxes_45 (by decide) rfl ?_
        refine g_iload_n 47 hC dX3_boxes_46 rfl 3 rfl rfl ?_
        refine g_cV (rest := []) wl_X3_300 hd_X3_meanOf (ci := 3) rfl 50 hC hF.1 (met_X3_meanOf hF.2) rfl ⟨Nat.le_of_ble_eq_true rfl, Nat.le_of_ble_eq_true rfl⟩ ⟨Nat.zero_le _, Nat.zero_le _⟩ rfl (Nat.le_of_ble_eq_true rfl) dX3_boxes_47 rfl (g_ty_j 0 0 (Nat.le_refl _) (Nat.le_refl _) (fun j_8 M_7 hF => ?_))
        exact g_lreturn hC ⟨_, rfl, hF⟩ dX3_boxes_50 (Nat.zero_le _) (Nat.zero_le _)
      · have hF := hF.2 c
        refine g_iload_n 39 hC dX3_boxes_38 rfl 0 rfl rfl ?_
        refine g_i2l 40 hC dX3_boxes_39 rfl ?_
        refine g_goto 50 hC dX3_boxes_40 (by decide) ?_
        exact g_lreturn hC ⟨_, rfl, hF⟩ dX3_boxes_50 (Nat.zero_le _) (Nat.zero_le _)
    · have hF := hF.2 c
      refine g_sub [0] rfl ?_
      exact w_X3_boxes_b20 hC _ _ hF
abbrev rm_X3_hasRoom : Room := { frames := 2, cells := 0, slots := 0, locals := 44 }
def F_X3_hasRoom_b2 (Q : Int32 → gM → Prop)    (a0 : Nat) (x1 : Int32) (x2 : Int32) : Nat → Int32 → gM → Prop
  | 0, _, _ => False
  | n + 1, x3, M =>
    rc M 3 a0 ∧ F_X3_states M a0 x1 fun x_2 M_1 =>
    ((x_2 ≤ x3 →
      Q (0 : Int32) M_1) ∧
      (¬ x_2 ≤ x3 →
      gN M_1 3 a0 35 fun a_3 =>
      aI M_1 .int a_3 x3 fun x_4 =>
      ((¬ x_4 = x2 →
        (F_X3_hasRoom_b2 Q a0 x1 x2 n) (x3 + (1 : Int32)) M_1) ∧
        (x_4 = x2 →
        Q (1 : Int32) M_1))))
theorem w_X3_hasRoom_b2 {G : gG} {Q : Int32 → gM → Prop} (hC : gCx G cX3_hasRoom 4 RX3 (some .boolean) (gQi Q) rm_X3_hasRoom)  (a0 : Nat) (x1 : Int32) (x2 : Int32)  : ∀ (n : Nat) (x3 : Int32)   (M : gM), F_X3_hasRoom_b2 Q a0 x1 x2 n x3 M → gAt G 0 0 M [(0, .ref a0), (1, .int x1), (2, .int x2), (3, .int x3)] 2 [] := by
  intro n
  induction n with
  | zero =>
    intro x3 M hF
    exact hF.elim
  | succ n ih =>
    intro x3 M hF
    have hK2 := ih
    unfold F_X3_hasRoom_b2 at hF
    refine g_iload_n 3 hC dX3_hasRoom_2 rfl 3 rfl rfl ?_
    refine g_aload_n 4 hC dX3_hasRoom_3 rfl 0 rfl rfl ?_
    refine g_iload_n 5 hC dX3_hasRoom_4 rfl 1 rfl rfl ?_
    refine g_cV (rest := [_]) wl_X3_110 hd_X3_states (ci := 3) rfl 8 hC hF.1 (met_X3_states hF.2) rfl ⟨Nat.le_of_ble_eq_true rfl, Nat.le_of_ble_eq_true rfl⟩ ⟨Nat.zero_le _, Nat.zero_le _⟩ rfl (Nat.le_of_ble_eq_true rfl) dX3_hasRoom_5 rfl (g_ty_i 0 0 (Nat.le_refl _) (Nat.le_refl _) (fun x_2 M_1 hF => ?_))
    refine g_icmp_ge 11 29 hC dX3_hasRoom_8 (by decide) rfl (fun c => ?_) (fun c => ?_)
    · have hF := hF.1 c
      refine g_iconst 30 hC (0 : Int32) dX3_hasRoom_29 (by decide) rfl ?_
      exact g_zreturn hC ⟨_, rfl, hF⟩ (Or.inl rfl) dX3_hasRoom_30 (Nat.zero_le _) (Nat.zero_le _)
    · have hF := hF.2 c
      refine g_aload_n 12 hC dX3_hasRoom_11 rfl 0 rfl rfl ?_
      refine gf_X3_76_3N 15 hC hF dX3_hasRoom_12 rfl (fun a_3 hF => ?_)
      refine g_iload_n 16 hC dX3_hasRoom_15 rfl 3 rfl rfl ?_
      refine g_iald 17 hC hF dX3_hasRoom_16 rfl (fun x_4 hF => ?_)
      refine g_iload_n 18 hC dX3_hasRoom_17 rfl 2 rfl rfl ?_
      refine g_icmp_ne 21 23 hC dX3_hasRoom_18 (by decide) rfl (fun c => ?_) (fun c => ?_)
      · have hF := hF.1 c
        refine g_iinc 26 hC (x3 + (1 : Int32)) (lv' := [(3, .int _), (0, .ref _), (1, .int _), (2, .int _)]) dX3_hasRoom_23 rfl 3 rfl rfl (by decide) rfl ?_
        refine g_goto 2 hC dX3_hasRoom_26 (by decide) ?_
        refine g_sub [1, 2, 3, 0] rfl ?_
        exact hK2 _ _ hF
      · have hF := hF.2 c
        refine g_iconst 22 hC (1 : Int32) dX3_hasRoom_21 (by decide) rfl ?_
        exact g_zreturn hC ⟨_, rfl, hF⟩ (Or.inr rfl) dX3_hasRoom_22 (Nat.zero_le _) (Nat.zero_le _)
def F_X3_hasRoom  (M : gM) (a0 : Nat) (x1 : Int32) (x2 : Int32) (Q : Int32 → gM → Prop)  : Prop :=
  ∃ n_1, F_X3_hasRoom_b2 Q a0 x1 x2 n_1 (0 : Int32) M
theorem met_X3_hasRoom {M : gM} {a0 : Nat} {x1 : Int32} {x2 : Int32} {Q : Int32 → gM → Prop} (hF : F_X3_hasRoom M a0 x1 x2 Q) : gMt yX3_hasRoom (ws_ yX3_hasRoom cX3_hasRoom 4 (some .boolean)) rm_X3_hasRoom M [.ref a0, .int x1, .int x2] (gQi Q) := by
  refine gMet (bytes := cX3_hasRoom) (maxL := 4) (ret := (some .boolean)) rfl rfl (by decide) (Nat.le_of_ble_eq_true rfl) (lv := [(0, .ref a0), (1, .int x1), (2, .int x2)]) rfl (fun G hC hin => ?_)
  unfold F_X3_hasRoom at hF
  refine g_iconst 1 hC (0 : Int32) dX3_hasRoom_0 (by decide) rfl ?_
  refine g_istore_n 2 hC (lv' := [(3, .int _), (0, .ref _), (1, .int _), (2, .int _)]) dX3_hasRoom_1 rfl rfl (by decide) rfl ?_
  refine g_sub [1, 2, 3, 0] rfl ?_
  obtain ⟨n_1, hF⟩ := hF
  exact w_X3_hasRoom_b2 hC _ _ _ n_1 _ _ hF
theorem hd_X3_hasRoom : yX3_hasRoom.cls = RX3 ∧ yX3_hasRoom.cls ≠ "java/lang/invoke/MethodHandle" ∧ yX3_hasRoom.cls ≠ "java/lang/invoke/VarHandle" ∧ (parseMethodDescriptor yX3_hasRoom.desc).map (fun d => d.parameters.length) = some 2 := by decide +kernel
theorem wl_X3_304 : GoodIn lw_all (wsV RX3 304 RX3 yX3_hasRoom (ws_ yX3_hasRoom cX3_hasRoom 4 (some .boolean))) := lw_V q1845 q1847 qs60 q72 q1848
abbrev rm_X3_leastOf : Room := { frames := 4, cells := 0, slots := 0, locals := 105 }
def F_X3_leastOf_b107 (Q : Int32 → gM → Prop)   (K14 : Int32 → Int64 → Int32 → gM → Prop) (a0 : Nat) (x1 : Int32) (x2 : Int32) (x3 : Int32) (x4 : Int32) (x5 : Int32) (j6 : Int64) (x8 : Int32)   (M : gM) : Prop :=
  K14 x5 j6 (x8 + (1 : Int32)) M
theorem w_X3_leastOf_b107 {G : gG} {Q : Int32 → gM → Prop} (hC : gCx G cX3_leastOf 11 RX3 (some .int) (gQi Q) rm_X3_leastOf) (K14 : Int32 → Int64 → Int32 → gM → Prop) (a0 : Nat) (x1 : Int32) (x2 : Int32) (x3 : Int32) (x4 : Int32) (x5 : Int32) (j6 : Int64) (x8 : Int32)  (hK14 : ∀ x5' j6' x8' M', K14 x5' j6' x8' M' → gAt G 0 0 M' [(0, .ref a0), (1, .int x1), (2, .int x2), (3, .int x3), (4, .int x4), (5, .int x5'), (6, .long j6'), (8, .int x8')] 14 [])   (M : gM) (hF : F_X3_leastOf_b107 Q K14 a0 x1 x2 x3 x4 x5 j6 x8 M) : gAt G 0 0 M [(0, .ref a0), (1, .int x1), (2, .int x2), (3, .int x3), (4, .int x4), (5, .int x5), (6, .long j6), (8, .int x8)] 107 [] := by
  unfold F_X3_leastOf_b107 at hF
  refine g_iinc 110 hC (x8 + (1 : Int32)) (lv' := [(8, .int _), (0, .ref _), (1, .int _), (2, .int _), (3, .int _), (4, .int _), (5, .int _), (6, .long _)]) dX3_leastOf_107 rfl 7 rfl rfl (by decide) rfl ?_
  refine g_goto 14 hC dX3_leastOf_110 (by decide) ?_
  refine g_sub [1, 2, 3, 4, 5, 6, 7, 0] rfl ?_
  exact hK14 _ _ _ _ hF
def F_X3_leastOf_b99 (Q : Int32 → gM → Prop)   (K14 : Int32 → Int64 → Int32 → gM → Prop) (a0 : Nat) (x1 : Int32) (x2 : Int32) (x3 : Int32) (x4 : Int32) (x8 : Int32) (j9 : Int64)   (M : gM) : Prop :=
  F_X3_leastOf_b107 Q K14 a0 x1 x2 x3 x4 x8 j9 x8 M
theorem w_X3_leastOf_b99 {G : gG} {Q : Int32 → gM → Prop} (hC : gCx G cX3_leastOf 11 RX3 (some .int) (gQi Q) rm_X3_leastOf) (K14 : Int32 → Int64 → Int32 → gM → Prop) (a0 : Nat) (x1 : Int32) (x2 : Int32) (x3 : Int32) (x4 : Int32) (x8 : Int32) (j9 : Int64)  (hK14 : ∀ x5' j6' x8' M', K14 x5' j6' x8' M' → gAt G 0 0 M' [(0, .ref a0), (1, .int x1), (2, .int x2), (3, .int x3), (4, .int x4), (5, .int x5'), (6, .long j6'), (8, .int x8')] 14 [])   (M : gM) (hF : F_X3_leastOf_b99 Q K14 a0 x1 x2 x3 x4 x8 j9 M) : gAt G 0 0 M [(0, .ref a0), (1, .int x1), (2, .int x2), (3, .int x3), (4, .int x4), (8, .int x8), (9, .long j9)] 99 [] := by
  unfold F_X3_leastOf_b99 at hF
  refine g_iload 101 hC dX3_leastOf_99 rfl 5 rfl ?_
  refine g_istore 103 hC (lv' := [(5, .int _), (0, .ref _), (1, .int _), (2, .int _), (3, .int _), (4, .int _), (8, .int _), (9, .long _)]) dX3_leastOf_101 rfl (by decide) rfl ?_
  refine g_lload 105 hC dX3_leastOf_103 rfl 7 rfl ?_
  refine g_lstore 107 hC (lv' := [(6, .long _), (5, .int _), (0, .ref _), (1, .int _), (2, .int _), (3, .int _), (4, .int _), (8, .int _), (9, .long _)]) dX3_leastOf_105 rfl (by decide) rfl ?_
  refine g_sub [2, 3, 4, 5, 6, 1, 0, 7] rfl ?_
  exact w_X3_leastOf_b107 hC _ _ _ _ _ _ _ _ _ hK14 _ hF
def F_X3_leastOf_b44 (Q : Int32 → gM → Prop)   (K14 : Int32 → Int64 → Int32 → gM → Prop) (a0 : Nat) (x1 : Int32) (x2 : Int32) (x3 : Int32) (x4 : Int32) (x5 : Int32) (j6 : Int64) (x8 : Int32)   (M : gM) : Prop :=
  gN M 3 a0 5 fun a_1 =>
  uI M a_1 (9 : Int32) x2 fun M_2 =>
  gN M_2 3 a0 6 fun a_3 =>
  uI M_2 a_3 (9 : Int32) x8 fun M_4 =>
  rc M_4 3 a0 ∧ F_X3_goesByRule M_4 a0 x1 (9 : Int32) fun M_5 =>
  gN M_5 3 a0 30 fun a_7 =>
  gN M_5 3 a0 12 fun a_8 =>
  aN M_5 (.array .int) a_8 x1 fun a_9 =>
  aI M_5 .int a_9 (0 : Int32) fun x_10 =>
  aN M_5 (.array .long) a_7 x_10 fun a_11 =>
  aJ M_5 a_11 (0 : Int32) fun j_12 =>
  ((x5 = (-1 : Int32) →
    F_X3_leastOf_b99 Q K14 a0 x1 x2 x3 x4 x8 j_12 M_5) ∧
    (¬ x5 = (-1 : Int32) →
    ((j6 ≤ j_12 →
      F_X3_leastOf_b107 Q K14 a0 x1 x2 x3 x4 x5 j6 x8 M_5) ∧
      (¬ j6 ≤ j_12 →
      F_X3_leastOf_b99 Q K14 a0 x1 x2 x3 x4 x8 j_12 M_5))))
theorem w_X3_leastOf_b44 {G : gG} {Q : Int32 → gM → Prop} (hC : gCx G cX3_leastOf 11 RX3 (some .int) (gQi Q) rm_X3_leastOf) (K14 : Int32 → Int64 → Int32 → gM → Prop) (a0 : Nat) (x1 : Int32) (x2 : Int32) (x3 : Int32) (x4 : Int32) (x5 : Int32) (j6 : Int64) (x8 : Int32)  (hK14 : ∀ x5' j6' x8' M', K14 x5' j6' x8' M' → gAt G 0 0 M' [(0, .ref a0), (1, .int x1), (2, .int x2), (3, .int x3), (4, .int x4), (5, .int x5'), (6, .long j6'), (8, .int x8')] 14 [])   (M : gM) (hF : F_X3_leastOf_b44 Q K14 a0 x1 x2 x3 x4 x5 j6 x8 M) : gAt G 0 0 M [(0, .ref a0), (1, .int x1), (2, .int x2), (3, .int x3), (4, .int x4), (5, .int x5), (6, .long j6), (8, .int x8)] 44 [] := by
  unfold F_X3_leastOf_b44 at hF
  refine g_aload_n 45 hC dX3_leastOf_44 rfl 0 rfl rfl ?_
  refine gf_X3_28_3N 48 hC hF dX3_leastOf_45 rfl (fun a_1 hF => ?_)
  refine g_bipush 50 hC (9 : Int32) dX3_leastOf_48 (by decide) rfl ?_
  refine g_iload_n 51 hC dX3_leastOf_50 rfl 2 rfl rfl ?_
  refine g_iast 52 hC hF dX3_leastOf_51 rfl (fun M_2 hF => ?_)
  refine g_aload_n 53 hC dX3_leastOf_52 rfl 0 rfl rfl ?_
  refine gf_X3_31_3N 56 hC hF dX3_leastOf_53 rfl (fun a_3 hF => ?_)
  refine g_bipush 58 hC (9 : Int32) dX3_leastOf_56 (by decide) rfl ?_
  refine g_iload 60 hC dX3_leastOf_58 rfl 7 rfl ?_
  refine g_iast 61 hC hF dX3_leastOf_60 rfl (fun M_4 hF => ?_)
  refine g_aload_n 62 hC dX3_leastOf_61 rfl 0 rfl rfl ?_
  refine g_iload_n 63 hC dX3_leastOf_62 rfl 1 rfl rfl ?_
  refine g_bipush 65 hC (9 : Int32) dX3_leastOf_63 (by decide) rfl ?_
  refine g_cV (rest := []) wl_X3_278 hd_X3_goesByRule (ci := 3) rfl 68 hC hF.1 (met_X3_goesByRule hF.2) rfl ⟨Nat.le_of_ble_eq_true rfl, Nat.le_of_ble_eq_true rfl⟩ ⟨Nat.zero_le _, Nat.zero_le _⟩ rfl (Nat.le_of_ble_eq_true rfl) dX3_leastOf_65 rfl (g_ty_v 0 0 (Nat.le_refl _) (Nat.le_refl _) (fun M_5 hF => ?_))
  refine g_aload_n 69 hC dX3_leastOf_68 rfl 0 rfl rfl ?_
  refine gf_X3_61_3N 72 hC hF dX3_leastOf_69 rfl (fun a_7 hF => ?_)
  refine g_aload_n 73 hC dX3_leastOf_72 rfl 0 rfl rfl ?_
  refine gf_X3_45_3N 76 hC hF dX3_leastOf_73 rfl (fun a_8 hF => ?_)
  refine g_iload_n 77 hC dX3_leastOf_76 rfl 1 rfl rfl ?_
  refine g_aaldN 78 hC hF (by decide) rfl (fun _ _ _ => rfl) dX3_leastOf_77 rfl (fun a_9 hF => ?_)
  refine g_iconst 79 hC (0 : Int32) dX3_leastOf_78 (by decide) rfl ?_
  refine g_iald 80 hC hF dX3_leastOf_79 rfl (fun x_10 hF => ?_)
  refine g_aaldN 81 hC hF (by decide) rfl (fun _ _ _ => rfl) dX3_leastOf_80 rfl (fun a_11 hF => ?_)
  refine g_iconst 82 hC (0 : Int32) dX3_leastOf_81 (by decide) rfl ?_
  refine g_lald 83 hC hF dX3_leastOf_82 rfl (fun j_12 hF => ?_)
  refine g_lstore 85 hC (lv' := [(9, .long _), (0, .ref _), (1, .int _), (2, .int _), (3, .int _), (4, .int _), (5, .int _), (6, .long _), (8, .int _)]) dX3_leastOf_83 rfl (by decide) rfl ?_
  refine g_iload 87 hC dX3_leastOf_85 rfl 6 rfl ?_
  refine g_iconst 88 hC (-1 : Int32) dX3_leastOf_87 (by decide) rfl ?_
  refine g_icmp_eq 91 99 hC dX3_leastOf_88 (by decide) rfl (fun c => ?_) (fun c => ?_)
  · have hF := hF.1 c
    refine g_sub [1, 2, 3, 4, 5, 8, 0] rfl ?_
    exact w_X3_leastOf_b99 hC _ _ _ _ _ _ _ _ hK14 _ hF
  · have hF := hF.2 c
    refine g_lload 93 hC dX3_leastOf_91 rfl 0 rfl ?_
    refine g_lload 95 hC dX3_leastOf_93 rfl 7 rfl ?_
    refine g_lcmp_ge 99 107 hC dX3_leastOf_95 rfl dX3_leastOf_96 (by decide) rfl (fun c => ?_) (fun c => ?_)
    · have hF := hF.1 c
      refine g_sub [1, 2, 3, 4, 5, 6, 7, 8] rfl ?_
      exact w_X3_leastOf_b107 hC _ _ _ _ _ _ _ _ _ hK14 _ hF
    · have hF := hF.2 c
      refine g_sub [1, 2, 3, 4, 5, 8, 0] rfl ?_
      exact w_X3_leastOf_b99 hC _ _ _ _ _ _ _ _ hK14 _ hF
def F_X3_leastOf_b14 (Q : Int32 → gM → Prop)    (a0 : Nat) (x1 : Int32) (x2 : Int32) (x3 : Int32) (x4 : Int32) : Nat → Int32 → Int64 → Int32 → gM → Prop
  | 0, _, _, _, _ => False
  | n + 1, x5, j6, x8, M =>
    ((x4 < x8 →
      Q x5 M) ∧
      (¬ x4 < x8 →
      ((x2 = (2 : Int32) →
        F_X3_leastOf_b44 Q (F_X3_leastOf_b14 Q a0 x1 x2 x3 x4 n) a0 x1 x2 x3 x4 x5 j6 x8 M) ∧
        (¬ x2 = (2 : Int32) →
        ((x8 = x3 →
          F_X3_leastOf_b44 Q (F_X3_leastOf_b14 Q a0 x1 x2 x3 x4 n) a0 x1 x2 x3 x4 x5 j6 x8 M) ∧
          (¬ x8 = x3 →
          rc M 3 a0 ∧ F_X3_hasRoom M a0 x1 (x8 - (1 : Int32)) fun x_2 M_1 =>
          ((x_2 = 0 →
            F_X3_leastOf_b107 Q (F_X3_leastOf_b14 Q a0 x1 x2 x3 x4 n) a0 x1 x2 x3 x4 x5 j6 x8 M_1) ∧
            (¬ x_2 = 0 →
            F_X3_leastOf_b44 Q (F_X3_leastOf_b14 Q a0 x1 x2 x3 x4 n) a0 x1 x2 x3 x4 x5 j6 x8 M_1))))))))
theorem w_X3_leastOf_b14 {G : gG} {Q : Int32 → gM → Prop} (hC : gCx G cX3_leastOf 11 RX3 (some .int) (gQi Q) rm_X3_leastOf)  (a0 : Nat) (x1 : Int32) (x2 : Int32) (x3 : Int32) (x4 : Int32)  : ∀ (n : Nat) (x5 : Int32) (j6 : Int64) (x8 : Int32)   (M : gM), F_X3_leastOf_b14 Q a0 x1 x2 x3 x4 n x5 j6 x8 M → gAt G 0 0 M [(0, .ref a0), (1, .int x1), (2, .int x2), (3, .int x3), (4, .int x4), (5, .int x5), (6, .long j6), (8, .int x8)] 14 [] := by
  intro n
  induction n with
  | zero =>
    intro x5 j6 x8 M hF
    exact hF.elim
  | succ n ih =>
    intro x5 j6 x8 M hF
    have hK14 := ih
    unfold F_X3_leastOf_b14 at hF
    refine g_iload 16 hC dX3_leastOf_14 rfl 7 rfl ?_
    refine g_iload 18 hC dX3_leastOf_16 rfl 4 rfl ?_
    refine g_icmp_gt 21 113 hC dX3_leastOf_18 (by decide) rfl (fun c => ?_) (fun c => ?_)
    · have hF := hF.1 c
      refine g_iload 115 hC dX3_leastOf_113 rfl 5 rfl ?_
      exact g_ireturn hC ⟨_, rfl, hF⟩ dX3_leastOf_115 (Nat.zero_le _) (Nat.zero_le _)
    · have hF := hF.2 c
      refine g_iload_n 22 hC dX3_leastOf_21 rfl 2 rfl rfl ?_
      refine g_iconst 23 hC (2 : Int32) dX3_leastOf_22 (by decide) rfl ?_
      refine g_icmp_eq 26 44 hC dX3_leastOf_23 (by decide) rfl (fun c => ?_) (fun c => ?_)
      · have hF := hF.1 c
        exact w_X3_leastOf_b44 hC _ _ _ _ _ _ _ _ _ hK14 _ hF
      · have hF := hF.2 c
        refine g_iload 28 hC dX3_leastOf_26 rfl 7 rfl ?_
        refine g_iload_n 29 hC dX3_leastOf_28 rfl 3 rfl rfl ?_
        refine g_icmp_eq 32 44 hC dX3_leastOf_29 (by decide) rfl (fun c => ?_) (fun c => ?_)
        · have hF := hF.1 c
          exact w_X3_leastOf_b44 hC _ _ _ _ _ _ _ _ _ hK14 _ hF
        · have hF := hF.2 c
          refine g_aload_n 33 hC dX3_leastOf_32 rfl 0 rfl rfl ?_
          refine g_iload_n 34 hC dX3_leastOf_33 rfl 1 rfl rfl ?_
          refine g_iload 36 hC dX3_leastOf_34 rfl 7 rfl ?_
          refine g_iconst 37 hC (1 : Int32) dX3_leastOf_36 (by decide) rfl ?_
          refine g_isub 38 hC dX3_leastOf_37 rfl ?_
          refine g_cV (rest := []) wl_X3_304 hd_X3_hasRoom (ci := 3) rfl 41 hC hF.1 (met_X3_hasRoom hF.2) rfl ⟨Nat.le_of_ble_eq_true rfl, Nat.le_of_ble_eq_true rfl⟩ ⟨Nat.zero_le _, Nat.zero_le _⟩ rfl (Nat.le_of_ble_eq_true rfl) dX3_leastOf_38 rfl (g_ty_i 0 0 (Nat.le_refl _) (Nat.le_refl _) (fun x_2 M_1 hF => ?_))
          refine g_if_eq 44 107 hC dX3_leastOf_41 (by decide) rfl (fun c => ?_) (fun c => ?_)
          · have hF := hF.1 c
            exact w_X3_leastOf_b107 hC _ _ _ _ _ _ _ _ _ hK14 _ hF
          · have hF := hF.2 c
            exact w_X3_leastOf_b44 hC _ _ _ _ _ _ _ _ _ hK14 _ hF
def F_X3_leastOf  (M : gM) (a0 : Nat) (x1 : Int32) (x2 : Int32) (x3 : Int32) (x4 : Int32) (Q : Int32 → gM → Prop)  : Prop :=
  rc M 3 a0 ∧ F_X3_findWays M a0 x1 fun M_1 =>
  ∃ n_3, F_X3_leastOf_b14 Q a0 x1 x2 x3 x4 n_3 (-1 : Int32) (0 : Int64) x3 M_1
theorem met_X3_leastOf {M : gM} {a0 : Nat} {x1 : Int32} {x2 : Int32} {x3 : Int32} {x4 : Int32} {Q : Int32 → gM → Prop} (hF : F_X3_leastOf M a0 x1 x2 x3 x4 Q) : gMt yX3_leastOf (ws_ yX3_leastOf cX3_leastOf 11 (some .int)) rm_X3_leastOf M [.ref a0, .int x1, .int x2, .int x3, .int x4] (gQi Q) := by
  refine gMet (bytes := cX3_leastOf) (maxL := 11) (ret := (some .int)) rfl rfl (by decide) (Nat.le_of_ble_eq_true rfl) (lv := [(0, .ref a0), (1, .int x1), (2, .int x2), (3, .int x3), (4, .int x4)]) rfl (fun G hC hin => ?_)
  unfold F_X3_leastOf at hF
  refine g_iconst 1 hC (-1 : Int32) dX3_leastOf_0 (by decide) rfl ?_
  refine g_istore 3 hC (lv' := [(5, .int _), (0, .ref _), (1, .int _), (2, .int _), (3, .int _), (4, .int _)]) dX3_leastOf_1 rfl (by decide) rfl ?_
  refine g_lconst 4 hC (0 : Int64) dX3_leastOf_3 (by decide) rfl ?_
  refine g_lstore 6 hC (lv' := [(6, .long _), (5, .int _), (0, .ref _), (1, .int _), (2, .int _), (3, .int _), (4, .int _)]) dX3_leastOf_4 rfl (by decide) rfl ?_
  refine g_aload_n 7 hC dX3_leastOf_6 rfl 2 rfl rfl ?_
  refine g_iload_n 8 hC dX3_leastOf_7 rfl 3 rfl rfl ?_
  refine g_cV (rest := []) wl_X3_249 hd_X3_findWays (ci := 3) rfl 11 hC hF.1 (met_X3_findWays hF.2) rfl ⟨Nat.le_of_ble_eq_true rfl, Nat.le_of_ble_eq_true rfl⟩ ⟨Nat.zero_le _, Nat.zero_le _⟩ rfl (Nat.le_of_ble_eq_true rfl) dX3_leastOf_8 rfl (g_ty_v 0 0 (Nat.le_refl _) (Nat.le_refl _) (fun M_1 hF => ?_))
  refine g_iload_n 12 hC dX3_leastOf_11 rfl 5 rfl rfl ?_
  refine g_istore 14 hC (lv' := [(8, .int _), (6, .long _), (5, .int _), (0, .ref _), (1, .int _), (2, .int _), (3, .int _), (4, .int _)]) dX3_leastOf_12 rfl (by decide) rfl ?_
  refine g_sub [3, 4, 5, 6, 7, 2, 1, 0] rfl ?_
  obtain ⟨n_3, hF⟩ := hF
  exact w_X3_leastOf_b14 hC _ _ _ _ _ n_3 _ _ _ _ hF
theorem hd_X3_leastOf : yX3_leastOf.cls = RX3 ∧ yX3_leastOf.cls ≠ "java/lang/invoke/MethodHandle" ∧ yX3_leastOf.cls ≠ "java/lang/invoke/VarHandle" ∧ (parseMethodDescriptor yX3_leastOf.desc).map (fun d => d.parameters.length) = some 4 := by decide +kernel
theorem wl_X3_307 : GoodIn lw_all (wsV RX3 307 RX3 yX3_leastOf (ws_ yX3_leastOf cX3_leastOf 11 (some .int))) := lw_V q1841 q1843 qs59 q72 q1844
abbrev rm_X3_plain : Room := { frames := 5, cells := 0, slots := 0, locals := 135 }
def F_X3_plain  (M : gM) (a0 : Nat) (x1 : Int32) (Q : Int32 → gM → Prop)  : Prop :=
  rc M 3 a0 ∧ F_X3_isHouse M a0 x1 fun x_2 M_1 =>
  ((x_2 = 0 →
    rc M_1 3 a0 ∧ F_X3_refuse M_1 a0 (-2 : Int32) fun x_4 M_3 =>
    Q x_4 M_3) ∧
    (¬ x_2 = 0 →
    rc M_1 3 a0 ∧ F_X3_leastOf M_1 a0 x1 (1 : Int32) (0 : Int32) (99 : Int32) fun x_6 M_5 =>
    Q x_6 M_5))
theorem met_X3_plain {M : gM} {a0 : Nat} {x1 : Int32} {Q : Int32 → gM → Prop} (hF : F_X3_plain M a0 x1 Q) : gMt yX3_plain (ws_ yX3_plain cX3_plain 2 (some .int)) rm_X3_plain M [.ref a0, .int x1] (gQi Q) := by
  refine gMet (bytes := cX3_plain) (maxL := 2) (ret := (some .int)) rfl rfl (by decide) (Nat.le_of_ble_eq_true rfl) (lv := [(0, .ref a0), (1, .int x1)]) rfl (fun G hC hin => ?_)
  unfold F_X3_plain at hF
  refine g_aload_n 1 hC dX3_plain_0 rfl 0 rfl rfl ?_
  refine g_iload_n 2 hC dX3_plain_1 rfl 1 rfl rfl ?_
  refine g_cV (rest := []) wl_X3_106 hd_X3_isHouse (ci := 3) rfl 5 hC hF.1 (met_X3_isHouse hF.2) rfl ⟨Nat.le_of_ble_eq_true rfl, Nat.le_of_ble_eq_true rfl⟩ ⟨Nat.zero_le _, Nat.zero_le _⟩ rfl (Nat.le_of_ble_eq_true rfl) dX3_plain_2 rfl (g_ty_i 0 0 (Nat.le_refl _) (Nat.le_refl _) (fun x_2 M_1 hF => ?_))
  refine g_if_eq 8 20 hC dX3_plain_5 (by decide) rfl (fun c => ?_) (fun c => ?_)
  · have hF := hF.1 c
    refine g_aload_n 21 hC dX3_plain_20 rfl 0 rfl rfl ?_
    refine g_bipush 23 hC (-2 : Int32) dX3_plain_21 (by decide) rfl ?_
    refine g_cV (rest := []) wl_X3_119 hd_X3_refuse (ci := 3) rfl 26 hC hF.1 (met_X3_refuse hF.2) rfl ⟨Nat.le_of_ble_eq_true rfl, Nat.le_of_ble_eq_true rfl⟩ ⟨Nat.zero_le _, Nat.zero_le _⟩ rfl (Nat.le_of_ble_eq_true rfl) dX3_plain_23 rfl (g_ty_i 0 0 (Nat.le_refl _) (Nat.le_refl _) (fun x_4 M_3 hF => ?_))
    exact g_ireturn hC ⟨_, rfl, hF⟩ dX3_plain_26 (Nat.zero_le _) (Nat.zero_le _)
  · have hF := hF.2 c
    refine g_aload_n 9 hC dX3_plain_8 rfl 0 rfl rfl ?_
    refine g_iload_n 10 hC dX3_plain_9 rfl 1 rfl rfl ?_
    refine g_iconst 11 hC (1 : Int32) dX3_plain_10 (by decide) rfl ?_
    refine g_iconst 12 hC (0 : Int32) dX3_plain_11 (by decide) rfl ?_
    refine g_bipush 14 hC (99 : Int32) dX3_plain_12 (by decide) rfl ?_
    refine g_cV (rest := []) wl_X3_307 hd_X3_leastOf (ci := 3) rfl 17 hC hF.1 (met_X3_leastOf hF.2) rfl ⟨Nat.le_of_ble_eq_true rfl, Nat.le_of_ble_eq_true rfl⟩ ⟨Nat.zero_le _, Nat.zero_le _⟩ rfl (Nat.le_of_ble_eq_true rfl) dX3_plain_14 rfl (g_ty_i 0 0 (Nat.le_refl _) (Nat.le_refl _) (fun x_6 M_5 hF => ?_))
    refine g_goto 26 hC dX3_plain_17 (by decide) ?_
    exact g_ireturn hC ⟨_, rfl, hF⟩ dX3_plain_26 (Nat.zero_le _) (Nat.zero_le _)
abbrev rm_X3_every : Room := { frames := 5, cells := 0, slots := 0, locals := 135 }
def F_X3_every  (M : gM) (a0 : Nat) (x1 : Int32) (Q : Int32 → gM → Prop)  : Prop :=
  rc M 3 a0 ∧ F_X3_isHouse M a0 x1 fun x_2 M_1 =>
  ((x_2 = 0 →
    rc M_1 3 a0 ∧ F_X3_refuse M_1 a0 (-2 : Int32) fun x_4 M_3 =>
    Q x_4 M_3) ∧
    (¬ x_2 = 0 →
    rc M_1 3 a0 ∧ F_X3_leastOf M_1 a0 x1 (2 : Int32) (1 : Int32) (6 : Int32) fun x_6 M_5 =>
    Q x_6 M_5))
theorem met_X3_every {M : gM} {a0 : Nat} {x1 : Int32} {Q : Int32 → gM → Prop} (hF : F_X3_every M a0 x1 Q) : gMt yX3_every (ws_ yX3_every cX3_every 2 (some .int)) rm_X3_every M [.ref a0, .int x1] (gQi Q) := by
  refine gMet (bytes := cX3_every) (maxL := 2) (ret := (some .int)) rfl rfl (by decide) (Nat.le_of_ble_eq_true rfl) (lv := [(0, .ref a0), (1, .int x1)]) rfl (fun G hC hin => ?_)
  unfold F_X3_every at hF
  refine g_aload_n 1 hC dX3_every_0 rfl 0 rfl rfl ?_
  refine g_iload_n 2 hC dX3_every_1 rfl 1 rfl rfl ?_
  refine g_cV (rest := []) wl_X3_106 hd_X3_isHouse (ci := 3) rfl 5 hC hF.1 (met_X3_isHouse hF.2) rfl ⟨Nat.le_of_ble_eq_true rfl, Nat.le_of_ble_eq_true rfl⟩ ⟨Nat.zero_le _, Nat.zero_le _⟩ rfl (Nat.le_of_ble_eq_true rfl) dX3_every_2 rfl (g_ty_i 0 0 (Nat.le_refl _) (Nat.le_refl _) (fun x_2 M_1 hF => ?_))
  refine g_if_eq 8 20 hC dX3_every_5 (by decide) rfl (fun c => ?_) (fun c => ?_)
  · have hF := hF.1 c
    refine g_aload_n 21 hC dX3_every_20 rfl 0 rfl rfl ?_
    refine g_bipush 23 hC (-2 : Int32) dX3_every_21 (by decide) rfl ?_
    refine g_cV (rest := []) wl_X3_119 hd_X3_refuse (ci := 3) rfl 26 hC hF.1 (met_X3_refuse hF.2) rfl ⟨Nat.le_of_ble_eq_true rfl, Nat.le_of_ble_eq_true rfl⟩ ⟨Nat.zero_le _, Nat.zero_le _⟩ rfl (Nat.le_of_ble_eq_true rfl) dX3_every_23 rfl (g_ty_i 0 0 (Nat.le_refl _) (Nat.le_refl _) (fun x_4 M_3 hF => ?_))
    exact g_ireturn hC ⟨_, rfl, hF⟩ dX3_every_26 (Nat.zero_le _) (Nat.zero_le _)
  · have hF := hF.2 c
    refine g_aload_n 9 hC dX3_every_8 rfl 0 rfl rfl ?_
    refine g_iload_n 10 hC dX3_every_9 rfl 1 rfl rfl ?_
    refine g_iconst 11 hC (2 : Int32) dX3_every_10 (by decide) rfl ?_
    refine g_iconst 12 hC (1 : Int32) dX3_every_11 (by decide) rfl ?_
    refine g_bipush 14 hC (6 : Int32) dX3_every_12 (by decide) rfl ?_
    refine g_cV (rest := []) wl_X3_307 hd_X3_leastOf (ci := 3) rfl 17 hC hF.1 (met_X3_leastOf hF.2) rfl ⟨Nat.le_of_ble_eq_true rfl, Nat.le_of_ble_eq_true rfl⟩ ⟨Nat.zero_le _, Nat.zero_le _⟩ rfl (Nat.le_of_ble_eq_true rfl) dX3_every_14 rfl (g_ty_i 0 0 (Nat.le_refl _) (Nat.le_refl _) (fun x_6 M_5 hF => ?_))
    refine g_goto 26 hC dX3_every_17 (by decide) ?_
    exact g_ireturn hC ⟨_, rfl, hF⟩ dX3_every_26 (Nat.zero_le _) (Nat.zero_le _)
abbrev rm_X3_promise : Room := { frames := 5, cells := 0, slots := 0, locals := 129 }
def F_X3_promise_b13 (Q : Int64 → gM → Prop)    (a0 : Nat)   (M : gM) : Prop :=
  rc M 3 a0 ∧ F_X3_refuse M a0 (-2 : Int32) fun x_2 M_1 =>
  Q x_2.toInt64 M_1
theorem w_X3_promise_b13 {G : gG} {Q : Int64 → gM → Prop} (hC : gCx G cX3_promise 5 RX3 (some .long) (gQj Q) rm_X3_promise)  (a0 : Nat)     (M : gM) (hF : F_X3_promise_b13 Q a0 M) : gAt G 0 0 M [(0, .ref a0)] 13 [] := by
  unfold F_X3_promise_b13 at hF
  refine g_aload_n 14 hC dX3_promise_13 rfl 0 rfl rfl ?_
  refine g_bipush 16 hC (-2 : Int32) dX3_promise_14 (by decide) rfl ?_
  refine g_cV (rest := []) wl_X3_119 hd_X3_refuse (ci := 3) rfl 19 hC hF.1 (met_X3_refuse hF.2) rfl ⟨Nat.le_of_ble_eq_true rfl, Nat.le_of_ble_eq_true rfl⟩ ⟨Nat.zero_le _, Nat.zero_le _⟩ rfl (Nat.le_of_ble_eq_true rfl) dX3_promise_16 rfl (g_ty_i 0 0 (Nat.le_refl _) (Nat.le_refl _) (fun x_2 M_1 hF => ?_))
  refine g_i2l 20 hC dX3_promise_19 rfl ?_
  exact g_lreturn hC ⟨_, rfl, hF⟩ dX3_promise_20 (Nat.zero_le _) (Nat.zero_le _)
def F_X3_promise  (M : gM) (a0 : Nat) (x1 : Int32) (x2 : Int32) (Q : Int64 → gM → Prop)  : Prop :=
  rc M 3 a0 ∧ F_X3_isLeft M a0 x1 x2 fun x_2 M_1 =>
  ((x_2 = 0 →
    F_X3_promise_b13 Q a0 M_1) ∧
    (¬ x_2 = 0 →
    ((¬ x2 = 0 →
      pI M_1 3 a0 39 x2 fun M_3 =>
      rc M_3 3 a0 ∧ F_X3_findBest M_3 a0 x1 fun M_4 =>
      gN M_4 3 a0 28 fun a_6 =>
      gN M_4 3 a0 12 fun a_7 =>
      aN M_4 (.array .int) a_7 x1 fun a_8 =>
      aI M_4 .int a_8 (0 : Int32) fun x_9 =>
      aN M_4 (.array .long) a_6 x_9 fun a_10 =>
      aJ M_4 a_10 (0 : Int32) fun j_11 =>
      pI M_4 3 a0 39 (-1 : Int32) fun M_12 =>
      rc M_12 3 a0 ∧ F_X3_findBest M_12 a0 x1 fun M_13 =>
      gN M_13 3 a0 28 fun a_15 =>
      gN M_13 3 a0 12 fun a_16 =>
      aN M_13 (.array .int) a_16 x1 fun a_17 =>
      aI M_13 .int a_17 (0 : Int32) fun x_18 =>
      aN M_13 (.array .long) a_15 x_18 fun a_19 =>
      aJ M_13 a_19 (0 : Int32) fun j_20 =>
      Q (j_11 - j_20) M_13) ∧
      (x2 = 0 →
      F_X3_promise_b13 Q a0 M_1))))
theorem met_X3_promise {M : gM} {a0 : Nat} {x1 : Int32} {x2 : Int32} {Q : Int64 → gM → Prop} (hF : F_X3_promise M a0 x1 x2 Q) : gMt yX3_promise (ws_ yX3_promise cX3_promise 5 (some .long)) rm_X3_promise M [.ref a0, .int x1, .int x2] (gQj Q) := by
  refine gMet (bytes := cX3_promise) (maxL := 5) (ret := (some .long)) rfl rfl (by decide) (Nat.le_of_ble_eq_true rfl) (lv := [(0, .ref a0), (1, .int x1), (2, .int x2)]) rfl (fun G hC hin => ?_)
  unfold F_X3_promise at hF
  refine g_aload_n 1 hC dX3_promise_0 rfl 0 rfl rfl ?_
  refine g_iload_n 2 hC dX3_promise_1 rfl 1 rfl rfl ?_
  refine g_iload_n 3 hC dX3_promise_2 rfl 2 rfl rfl ?_
  refine g_cV (rest := []) wl_X3_239 hd_X3_isLeft (ci := 3) rfl 6 hC hF.1 (met_X3_isLeft hF.2) rfl ⟨Nat.le_of_ble_eq_true rfl, Nat.le_of_ble_eq_true rfl⟩ ⟨Nat.zero_le _, Nat.zero_le _⟩ rfl (Nat.le_of_ble_eq_true rfl) dX3_promise_3 rfl (g_ty_i 0 0 (Nat.le_refl _) (Nat.le_refl _) (fun x_2 M_1 hF => ?_))
  refine g_if_eq 9 13 hC dX3_promise_6 (by decide) rfl (fun c => ?_) (fun c => ?_)
  · have hF := hF.1 c
    refine g_sub [0] rfl ?_
    exact w_X3_promise_b13 hC _ _ hF
  · have hF := hF.2 c
    refine g_iload_n 10 hC dX3_promise_9 rfl 2 rfl rfl ?_
    refine g_if_ne 13 21 hC dX3_promise_10 (by decide) rfl (fun c => ?_) (fun c => ?_)
    · have hF := hF.1 c
      refine g_aload_n 22 hC dX3_promise_21 rfl 0 rfl rfl ?_
      refine g_iload_n 23 hC dX3_promise_22 rfl 2 rfl rfl ?_
      refine g_putI (C := RX3) (T := TX3) (N := 46) (ci := 3) (k := 39) (ty := .int) in_X3 tyX3 tyX3_ok nmX3 rfl (by decide) q1426 rfl rfl (fun _ _ _ => rfl) rfl rfl 26 hC hF dX3_promise_23 rfl (fun M_3 hF => ?_)
      refine g_aload_n 27 hC dX3_promise_26 rfl 0 rfl rfl ?_
      refine g_iload_n 28 hC dX3_promise_27 rfl 1 rfl rfl ?_
      refine g_cV (rest := []) wl_X3_264 hd_X3_findBest (ci := 3) rfl 31 hC hF.1 (met_X3_findBest hF.2) rfl ⟨Nat.le_of_ble_eq_true rfl, Nat.le_of_ble_eq_true rfl⟩ ⟨Nat.zero_le _, Nat.zero_le _⟩ rfl (Nat.le_of_ble_eq_true rfl) dX3_promise_28 rfl (g_ty_v 0 0 (Nat.le_refl _) (Nat.le_refl _) (fun M_4 hF => ?_))
      refine g_aload_n 32 hC dX3_promise_31 rfl 0 rfl rfl ?_
      refine gf_X3_55_3N 35 hC hF dX3_promise_32 rfl (fun a_6 hF => ?_)
      refine g_aload_n 36 hC dX3_promise_35 rfl 0 rfl rfl ?_
      refine gf_X3_45_3N 39 hC hF dX3_promise_36 rfl (fun a_7 hF => ?_)
      refine g_iload_n 40 hC dX3_promise_39 rfl 1 rfl rfl ?_
      refine g_aaldN 41 hC hF (by decide) rfl (fun _ _ _ => rfl) dX3_promise_40 rfl (fun a_8 hF => ?_)
      refine g_iconst 42 hC (0 : Int32) dX3_promise_41 (by decide) rfl ?_
      refine g_iald 43 hC hF dX3_promise_42 rfl (fun x_9 hF => ?_)
      refine g_aaldN 44 hC hF (by decide) rfl (fun _ _ _ => rfl) dX3_promise_43 rfl (fun a_10 hF => ?_)
      refine g_iconst 45 hC (0 : Int32) dX3_promise_44 (by decide) rfl ?_
      refine g_lald 46 hC hF dX3_promise_45 rfl (fun j_11 hF => ?_)
      refine g_lstore_n 47 hC (lv' := [(3, .long _), (0, .ref _), (1, .int _), (2, .int _)]) dX3_promise_46 rfl rfl (by decide) rfl ?_
      refine g_aload_n 48 hC dX3_promise_47 rfl 1 rfl rfl ?_
      refine g_iconst 49 hC (-1 : Int32) dX3_promise_48 (by decide) rfl ?_
      refine g_putI (C := RX3) (T := TX3) (N := 46) (ci := 3) (k := 39) (ty := .int) in_X3 tyX3 tyX3_ok nmX3 rfl (by decide) q1426 rfl rfl (fun _ _ _ => rfl) rfl rfl 52 hC hF dX3_promise_49 rfl (fun M_12 hF => ?_)
      refine g_aload_n 53 hC dX3_promise_52 rfl 1 rfl rfl ?_
      refine g_iload_n 54 hC dX3_promise_53 rfl 2 rfl rfl ?_
      refine g_cV (rest := []) wl_X3_264 hd_X3_findBest (ci := 3) rfl 57 hC hF.1 (met_X3_findBest hF.2) rfl ⟨Nat.le_of_ble_eq_true rfl, Nat.le_of_ble_eq_true rfl⟩ ⟨Nat.zero_le _, Nat.zero_le _⟩ rfl (Nat.le_of_ble_eq_true rfl) dX3_promise_54 rfl (g_ty_v 0 0 (Nat.le_refl _) (Nat.le_refl _) (fun M_13 hF => ?_))
      refine g_lload_n 58 hC dX3_promise_57 rfl 0 rfl rfl ?_
      refine g_aload_n 59 hC dX3_promise_58 rfl 1 rfl rfl ?_
      refine gf_X3_55_3N 62 hC hF dX3_promise_59 rfl (fun a_15 hF => ?_)
      refine g_aload_n 63 hC dX3_promise_62 rfl 1 rfl rfl ?_
      refine gf_X3_45_3N 66 hC hF dX3_promise_63 rfl (fun a_16 hF => ?_)
      refine g_iload_n 67 hC dX3_promise_66 rfl 2 rfl rfl ?_
      refine g_aaldN 68 hC hF (by decide) rfl (fun _ _ _ => rfl) dX3_promise_67 rfl (fun a_17 hF => ?_)
      refine g_iconst 69 hC (0 : Int32) dX3_promise_68 (by decide) rfl ?_
      refine g_iald 70 hC hF dX3_promise_69 rfl (fun x_18 hF => ?_)
      refine g_aaldN 71 hC hF (by decide) rfl (fun _ _ _ => rfl) dX3_promise_70 rfl (fun a_19 hF => ?_)
      refine g_iconst 72 hC (0 : Int32) dX3_promise_71 (by decide) rfl ?_
      refine g_lald 73 hC hF dX3_promise_72 rfl (fun j_20 hF => ?_)
      refine g_lsub 74 hC dX3_promise_73 rfl ?_
      exact g_lreturn hC ⟨_, rfl, hF⟩ dX3_promise_74 (Nat.zero_le _) (Nat.zero_le _)
    · have hF := hF.2 c
      refine g_sub [0] rfl ?_
      exact w_X3_promise_b13 hC _ _ hF
abbrev rm_X3_dear : Room := { frames := 5, cells := 0, slots := 0, locals := 129 }
def F_X3_dear_b46 (Q : Int64 → gM → Prop)    (a0 : Nat)   (M : gM) : Prop :=
  rc M 3 a0 ∧ F_X3_refuse M a0 (-2 : Int32) fun x_2 M_1 =>
  Q x_2.toInt64 M_1
theorem w_X3_dear_b46 {G : gG} {Q : Int64 → gM → Prop} (hC : gCx G cX3_dear 5 RX3 (some .long) (gQj Q) rm_X3_dear)  (a0 : Nat)     (M : gM) (hF : F_X3_dear_b46 Q a0 M) : gAt G 0 0 M [(0, .ref a0)] 46 [] := by
  unfold F_X3_dear_b46 at hF
  refine g_aload_n 47 hC dX3_dear_46 rfl 0 rfl rfl ?_
  refine g_bipush 49 hC (-2 : Int32) dX3_dear_47 (by decide) rfl ?_
  refine g_cV (rest := []) wl_X3_119 hd_X3_refuse (ci := 3) rfl 52 hC hF.1 (met_X3_refuse hF.2) rfl ⟨Nat.le_of_ble_eq_true rfl, Nat.le_of_ble_eq_true rfl⟩ ⟨Nat.zero_le _, Nat.zero_le _⟩ rfl (Nat.le_of_ble_eq_true rfl) dX3_dear_49 rfl (g_ty_i 0 0 (Nat.le_refl _) (Nat.le_refl _) (fun x_2 M_1 hF => ?_))
  refine g_i2l 53 hC dX3_dear_52 rfl ?_
  exact g_lreturn hC ⟨_, rfl, hF⟩ dX3_dear_53 (Nat.zero_le _) (Nat.zero_le _)
def F_X3_dear  (M : gM) (a0 : Nat) (x1 : Int32) (x2 : Int32) (x3 : Int32) (x4 : Int32) (Q : Int64 → gM → Prop)  : Prop :=
  rc M 3 a0 ∧ F_X3_isLeft M a0 x1 x2 fun x_2 M_1 =>
  ((x_2 = 0 →
    F_X3_dear_b46 Q a0 M_1) ∧
    (¬ x_2 = 0 →
    rc M_1 3 a0 ∧ F_X3_isState M_1 a0 x1 x3 fun x_4 M_3 =>
    ((x_4 = 0 →
      F_X3_dear_b46 Q a0 M_3) ∧
      (¬ x_4 = 0 →
      rc M_3 3 a0 ∧ F_X3_sorts M_3 a0 x1 fun x_6 M_5 =>
      F_X3_in M_5 x4.toInt64 (0 : Int64) ((x_6 - (1 : Int32)).toInt64) fun x_8 M_7 =>
      ((x_8 = 0 →
        F_X3_dear_b46 Q a0 M_7) ∧
        (¬ x_8 = 0 →
        F_X3_ofState M_7 x3 x4 fun x_10 M_9 =>
        ((¬ x_10 = (4 : Int32) →
          rc M_9 3 a0 ∧ F_X3_findBest M_9 a0 x1 fun M_11 =>
          gN M_11 3 a0 28 fun a_13 =>
          aN M_11 (.array .long) a_13 x2 fun a_14 =>
          F_X3_power M_11 (5 : Int32) x4 fun x_16 M_15 =>
          aJ M_15 a_14 (x3 + x_16) fun j_17 =>
          gN M_15 3 a0 28 fun a_18 =>
          aN M_15 (.array .long) a_18 x2 fun a_19 =>
          aJ M_15 a_19 x3 fun j_20 =>
          Q (j_17 - j_20) M_15) ∧
          (x_10 = (4 : Int32) →
          F_X3_dear_b46 Q a0 M_9))))))))
theorem met_X3_dear {M : gM} {a0 : Nat} {x1 : Int32} {x2 : Int32} {x3 : Int32} {x4 : Int32} {Q : Int64 → gM → Prop} (hF : F_X3_dear M a0 x1 x2 x3 x4 Q) : gMt yX3_dear (ws_ yX3_dear cX3_dear 5 (some .long)) rm_X3_dear M [.ref a0, .int x1, .int x2, .int x3, .int x4] (gQj Q) := by
  refine gMet (bytes := cX3_dear) (maxL := 5) (ret := (some .long)) rfl rfl (by decide) (Nat.le_of_ble_eq_true rfl) (lv := [(0, .ref a0), (1, .int x1), (2, .int x2), (3, .int x3), (4, .int x4)]) rfl (fun G hC hin => ?_)
  unfold F_X3_dear at hF
  refine g_aload_n 1 hC dX3_dear_0 rfl 0 rfl rfl ?_
  refine g_iload_n 2 hC dX3_dear_1 rfl 1 rfl rfl ?_
  refine g_iload_n 3 hC dX3_dear_2 rfl 2 rfl rfl ?_
  refine g_cV (rest := []) wl_X3_239 hd_X3_isLeft (ci := 3) rfl 6 hC hF.1 (met_X3_isLeft hF.2) rfl ⟨Nat.le_of_ble_eq_true rfl, Nat.le_of_ble_eq_true rfl⟩ ⟨Nat.zero_le _, Nat.zero_le _⟩ rfl (Nat.le_of_ble_eq_true rfl) dX3_dear_3 rfl (g_ty_i 0 0 (Nat.le_refl _) (Nat.le_refl _) (fun x_2 M_1 hF => ?_))
  refine g_if_eq 9 46 hC dX3_dear_6 (by decide) rfl (fun c => ?_) (fun c => ?_)
  · have hF := hF.1 c
    refine g_sub [0] rfl ?_
    exact w_X3_dear_b46 hC _ _ hF
  · have hF := hF.2 c
    refine g_aload_n 10 hC dX3_dear_9 rfl 0 rfl rfl ?_
    refine g_iload_n 11 hC dX3_dear_10 rfl 1 rfl rfl ?_
    refine g_iload_n 12 hC dX3_dear_11 rfl 3 rfl rfl ?_
    refine g_cV (rest := []) wl_X3_233 hd_X3_isState (ci := 3) rfl 15 hC hF.1 (met_X3_isState hF.2) rfl ⟨Nat.le_of_ble_eq_true rfl, Nat.le_of_ble_eq_true rfl⟩ ⟨Nat.zero_le _, Nat.zero_le _⟩ rfl (Nat.le_of_ble_eq_true rfl) dX3_dear_12 rfl (g_ty_i 0 0 (Nat.le_refl _) (Nat.le_refl _) (fun x_4 M_3 hF => ?_))
    refine g_if_eq 18 46 hC dX3_dear_15 (by decide) rfl (fun c => ?_) (fun c => ?_)
    · have hF := hF.1 c
      refine g_sub [0] rfl ?_
      exact w_X3_dear_b46 hC _ _ hF
    · have hF := hF.2 c
      refine g_iload 20 hC dX3_dear_18 rfl 4 rfl ?_
      refine g_i2l 21 hC dX3_dear_20 rfl ?_
      refine g_lconst 22 hC (0 : Int64) dX3_dear_21 (by decide) rfl ?_
      refine g_aload_n 23 hC dX3_dear_22 rfl 0 rfl rfl ?_
      refine g_iload_n 24 hC dX3_dear_23 rfl 1 rfl rfl ?_
      refine g_cV (rest := [_, _]) wl_X3_98 hd_X3_sorts (ci := 3) rfl 27 hC hF.1 (met_X3_sorts hF.2) rfl ⟨Nat.le_of_ble_eq_true rfl, Nat.le_of_ble_eq_true rfl⟩ ⟨Nat.zero_le _, Nat.zero_le _⟩ rfl (Nat.le_of_ble_eq_true rfl) dX3_dear_24 rfl (g_ty_i 0 0 (Nat.le_refl _) (Nat.le_refl _) (fun x_6 M_5 hF => ?_))
      refine g_iconst 28 hC (1 : Int32) dX3_dear_27 (by decide) rfl ?_
      refine g_isub 29 hC dX3_dear_28 rfl ?_
      refine g_i2l 30 hC dX3_dear_29 rfl ?_
      refine g_cS (rest := []) wl_X3_94 hd_X3_in 33 hC (met_X3_in hF) rfl ⟨Nat.le_of_ble_eq_true rfl, Nat.le_of_ble_eq_true rfl⟩ ⟨Nat.zero_le _, Nat.zero_le _⟩ rfl (Nat.le_of_ble_eq_true rfl) dX3_dear_30 rfl (g_ty_i 0 0 (Nat.le_refl _) (Nat.le_refl _) (fun x_8 M_7 hF => ?_))
      refine g_if_eq 36 46 hC dX3_dear_33 (by decide) rfl (fun c => ?_) (fun c => ?_)
      · have hF := hF.1 c
        refine g_sub [0] rfl ?_
        exact w_X3_dear_b46 hC _ _ hF
      · have hF := hF.2 c
        refine g_iload_n 37 hC dX3_dear_36 rfl 3 rfl rfl ?_
        refine g_iload 39 hC dX3_dear_37 rfl 4 rfl ?_
        refine g_cS (rest := []) wl_X3_226 hd_X3_ofState 42 hC (met_X3_ofState hF) rfl ⟨Nat.le_of_ble_eq_true rfl, Nat.le_of_ble_eq_true rfl⟩ ⟨Nat.zero_le _, Nat.zero_le _⟩ rfl (Nat.le_of_ble_eq_true rfl) dX3_dear_39 rfl (g_ty_i 0 0 (Nat.le_refl _) (Nat.le_refl _) (fun x_10 M_9 hF => ?_))
        refine g_iconst 43 hC (4 : Int32) dX3_dear_42 (by decide) rfl ?_
        refine g_icmp_ne 46 54 hC dX3_dear_43 (by decide) rfl (fun c => ?_) (fun c => ?_)
        · have hF := hF.1 c
          refine g_aload_n 55 hC dX3_dear_54 rfl 0 rfl rfl ?_
          refine g_iload_n 56 hC dX3_dear_55 rfl 1 rfl rfl ?_
          refine g_cV (rest := []) wl_X3_264 hd_X3_findBest (ci := 3) rfl 59 hC hF.1 (met_X3_findBest hF.2) rfl ⟨Nat.le_of_ble_eq_true rfl, Nat.le_of_ble_eq_true rfl⟩ ⟨Nat.zero_le _, Nat.zero_le _⟩ rfl (Nat.le_of_ble_eq_true rfl) dX3_dear_56 rfl (g_ty_v 0 0 (Nat.le_refl _) (Nat.le_refl _) (fun M_11 hF => ?_))
          refine g_aload_n 60 hC dX3_dear_59 rfl 0 rfl rfl ?_
          refine gf_X3_55_3N 63 hC hF dX3_dear_60 rfl (fun a_13 hF => ?_)
          refine g_iload_n 64 hC dX3_dear_63 rfl 2 rfl rfl ?_
          refine g_aaldN 65 hC hF (by decide) rfl (fun _ _ _ => rfl) dX3_dear_64 rfl (fun a_14 hF => ?_)
          refine g_iload_n 66 hC dX3_dear_65 rfl 3 rfl rfl ?_
          refine g_iconst 67 hC (5 : Int32) dX3_dear_66 (by decide) rfl ?_
          refine g_iload 69 hC dX3_dear_67 rfl 4 rfl ?_
          refine g_cS (rest := [_, _]) wl_X3_102 hd_X3_power 72 hC (met_X3_power hF) rfl ⟨Nat.le_of_ble_eq_true rfl, Nat.le_of_ble_eq_true rfl⟩ ⟨Nat.zero_le _, Nat.zero_le _⟩ rfl (Nat.le_of_ble_eq_true rfl) dX3_dear_69 rfl (g_ty_i 0 0 (Nat.le_refl _) (Nat.le_refl _) (fun x_16 M_15 hF => ?_))
          refine g_iadd 73 hC dX3_dear_72 rfl ?_
          refine g_lald 74 hC hF dX3_dear_73 rfl (fun j_17 hF => ?_)
          refine g_aload_n 75 hC dX3_dear_74 rfl 0 rfl rfl ?_
          refine gf_X3_55_3N 78 hC hF dX3_dear_75 rfl (fun a_18 hF => ?_)
          refine g_iload_n 79 hC dX3_dear_78 rfl 2 rfl rfl ?_
          refine g_aaldN 80 hC hF (by decide) rfl (fun _ _ _ => rfl) dX3_dear_79 rfl (fun a_19 hF => ?_)
          refine g_iload_n 81 hC dX3_dear_80 rfl 3 rfl rfl ?_
          refine g_lald 82 hC hF dX3_dear_81 rfl (fun j_20 hF => ?_)
          refine g_lsub 83 hC dX3_dear_82 rfl ?_
          exact g_lreturn hC ⟨_, rfl, hF⟩ dX3_dear_83 (Nat.zero_le _) (Nat.zero_le _)
        · have hF := hF.2 c
          refine g_sub [0] rfl ?_
          exact w_X3_dear_b46 hC _ _ hF
theorem gf_X3_310_3I {G : gG} {cc : ByteArray} {nL : Nat} {ret : Option FieldType} {Qf : Option Value → gM → Prop} {rm : Room} {cells slots : Nat} {M : gM} {lv : List (Nat × Value)} {pc : Nat} {st : List Value} {a : Nat} (n : Nat) (hC : gCx G cc nL RX3 ret Qf rm) {κ : Int32 → Prop} (hF : gI M 3 a 40 κ) (hdg : decode cc pc = .ok (.getfield 310, 3)) (hn : pc + 3 = n) (kk : ∀ x, κ x → gAt G cells slots M lv n (.int x :: st)) : gAt G cells slots M lv pc (.ref a :: st) :=
  g_getI (C := RX3) (T := TX3) (N := 46) in_X3 rfl (by decide) q1427 (fun _ _ _ => rfl) n hC hF hdg hn kk
theorem gf_X3_313_3I {G : gG} {cc : ByteArray} {nL : Nat} {ret : Option FieldType} {Qf : Option Value → gM → Prop} {rm : Room} {cells slots : Nat} {M : gM} {lv : List (Nat × Value)} {pc : Nat} {st : List Value} {a : Nat} (n : Nat) (hC : gCx G cc nL RX3 ret Qf rm) {κ : Int32 → Prop} (hF : gI M 3 a 41 κ) (hdg : decode cc pc = .ok (.getfield 313, 3)) (hn : pc + 3 = n) (kk : ∀ x, κ x → gAt G cells slots M lv n (.int x :: st)) : gAt G cells slots M lv pc (.ref a :: st) :=
  g_getI (C := RX3) (T := TX3) (N := 46) in_X3 rfl (by decide) q1428 (fun _ _ _ => rfl) n hC hF hdg hn kk
abbrev rm_X3_findRooms : Room := { frames := 5, cells := 0, slots := 0, locals := 129 }
def F_X3_findRooms_b94 (Q : Int32 → gM → Prop)   (K17 : Int32 → gM → Prop) (a0 : Nat) (x1 : Int32) (x2 : Int32) (x3 : Int32)   (M : gM) : Prop :=
  K17 (x3 + (1 : Int32)) M
theorem w_X3_findRooms_b94 {G : gG} {Q : Int32 → gM → Prop} (hC : gCx G cX3_findRooms 5 RX3 (some .boolean) (gQi Q) rm_X3_findRooms) (K17 : Int32 → gM → Prop) (a0 : Nat) (x1 : Int32) (x2 : Int32) (x3 : Int32)  (hK17 : ∀ x3' M', K17 x3' M' → gAt G 0 0 M' [(0, .ref a0), (1, .int x1), (2, .int x2), (3, .int x3')] 17 [])   (M : gM) (hF : F_X3_findRooms_b94 Q K17 a0 x1 x2 x3 M) : gAt G 0 0 M [(0, .ref a0), (1, .int x1), (2, .int x2), (3, .int x3)] 94 [] := by
  unfold F_X3_findRooms_b94 at hF
  refine g_iinc 97 hC (x3 + (1 : Int32)) (lv' := [(3, .int _), (0, .ref _), (1, .int _), (2, .int _)]) dX3_findRooms_94 rfl 3 rfl rfl (by decide) rfl ?_
  refine g_goto 17 hC dX3_findRooms_97 (by decide) ?_
  refine g_sub [1, 2, 3, 0] rfl ?_
  exact hK17 _ _ hF
def F_X3_findRooms_b65 (Q : Int32 → gM → Prop)   (K17 : Int32 → gM → Prop) (a0 : Nat) (x1 : Int32) (x2 : Int32) (x3 : Int32) (t0 : Nat) (t1 : Int32)  (M : gM) : Prop :=
  pI M 3 t0 41 t1 fun M_1 =>
  F_X3_findRooms_b94 Q K17 a0 x1 x2 x3 M_1
theorem w_X3_findRooms_b65 {G : gG} {Q : Int32 → gM → Prop} (hC : gCx G cX3_findRooms 5 RX3 (some .boolean) (gQi Q) rm_X3_findRooms) (K17 : Int32 → gM → Prop) (a0 : Nat) (x1 : Int32) (x2 : Int32) (x3 : Int32) (t0 : Nat) (t1 : Int32) (hK17 : ∀ x3' M', K17 x3' M' → gAt G 0 0 M' [(0, .ref a0), (1, .int x1), (2, .int x2), (3, .int x3')] 17 [])   (M : gM) (hF : F_X3_findRooms_b65 Q K17 a0 x1 x2 x3 t0 t1 M) : gAt G 0 0 M [(0, .ref a0), (1, .int x1), (2, .int x2), (3, .int x3)] 65 [.int t1, .ref t0] := by
  unfold F_X3_findRooms_b65 at hF
  refine g_putI (C := RX3) (T := TX3) (N := 46) (ci := 3) (k := 41) (ty := .int) in_X3 tyX3 tyX3_ok nmX3 rfl (by decide) q1428 rfl rfl (fun _ _ _ => rfl) rfl rfl 68 hC hF dX3_findRooms_65 rfl (fun M_1 hF => ?_)
  refine g_goto 94 hC dX3_findRooms_68 (by decide) ?_
  exact w_X3_findRooms_b94 hC _ _ _ _ _ hK17 _ hF
def F_X3_findRooms_b88 (Q : Int32 → gM → Prop)   (K17 : Int32 → gM → Prop) (a0 : Nat) (x1 : Int32) (x2 : Int32) (x3 : Int32) (x4 : Int32)   (M : gM) : Prop :=
  pI M 3 a0 40 x4 fun M_1 =>
  F_X3_findRooms_b94 Q K17 a0 x1 x2 x3 M_1
theorem w_X3_findRooms_b88 {G : gG} {Q : Int32 → gM → Prop} (hC : gCx G cX3_findRooms 5 RX3 (some .boolean) (gQi Q) rm_X3_findRooms) (K17 : Int32 → gM → Prop) (a0 : Nat) (x1 : Int32) (x2 : Int32) (x3 : Int32) (x4 : Int32)  (hK17 : ∀ x3' M', K17 x3' M' → gAt G 0 0 M' [(0, .ref a0), (1, .int x1), (2, .int x2), (3, .int x3')] 17 [])   (M : gM) (hF : F_X3_findRooms_b88 Q K17 a0 x1 x2 x3 x4 M) : gAt G 0 0 M [(0, .ref a0), (1, .int x1), (2, .int x2), (3, .int x3), (4, .int x4)] 88 [] := by
  unfold F_X3_findRooms_b88 at hF
  refine g_aload_n 89 hC dX3_findRooms_88 rfl 0 rfl rfl ?_
  refine g_iload 91 hC dX3_findRooms_89 rfl 4 rfl ?_
  refine g_putI (C := RX3) (T := TX3) (N := 46) (ci := 3) (k := 40) (ty := .int) in_X3 tyX3 tyX3_ok nmX3 rfl (by decide) q1427 rfl rfl (fun _ _ _ => rfl) rfl rfl 94 hC hF dX3_findRooms_91 rfl (fun M_1 hF => ?_)
  refine g_sub [0, 1, 2, 3] rfl ?_
  exact w_X3_findRooms_b94 hC _ _ _ _ _ hK17 _ hF
def F_X3_findRooms_b17 (Q : Int32 → gM → Prop)    (a0 : Nat) (x1 : Int32) (x2 : Int32) : Nat → Int32 → gM → Prop
  | 0, _, _ => False
  | n + 1, x3, M =>
    rc M 3 a0 ∧ F_X3_states M a0 x1 fun x_2 M_1 =>
    ((x_2 ≤ x3 →
      gI M_1 3 a0 40 fun x_3 =>
      ((x_3 = (-1 : Int32) →
        Q (0 : Int32) M_1) ∧
        (¬ x_3 = (-1 : Int32) →
        Q (1 : Int32) M_1))) ∧
      (¬ x_2 ≤ x3 →
      rc M_1 3 a0 ∧ F_X3_sum M_1 a0 x1 x3 (0 : Int32) fun x_5 M_4 =>
      gN M_4 3 a0 29 fun a_6 =>
      aN M_4 (.array .int) a_6 x2 fun a_7 =>
      aI M_4 .int a_7 x3 fun x_8 =>
      ((¬ x_8 = 0 →
        gI M_4 3 a0 40 fun x_9 =>
        ((x_9 = (-1 : Int32) →
          F_X3_findRooms_b88 Q (F_X3_findRooms_b17 Q a0 x1 x2 n) a0 x1 x2 x3 x_5 M_4) ∧
          (¬ x_9 = (-1 : Int32) →
          gI M_4 3 a0 40 fun x_10 =>
          ((x_10 ≤ x_5 →
            F_X3_findRooms_b94 Q (F_X3_findRooms_b17 Q a0 x1 x2 n) a0 x1 x2 x3 M_4) ∧
            (¬ x_10 ≤ x_5 →
            F_X3_findRooms_b88 Q (F_X3_findRooms_b17 Q a0 x1 x2 n) a0 x1 x2 x3 x_5 M_4))))) ∧
        (x_8 = 0 →
        gI M_4 3 a0 41 fun x_11 =>
        ((x_5 ≤ x_11 →
          gI M_4 3 a0 41 fun x_12 =>
          F_X3_findRooms_b65 Q (F_X3_findRooms_b17 Q a0 x1 x2 n) a0 x1 x2 x3 a0 x_12 M_4) ∧
          (¬ x_5 ≤ x_11 →
          F_X3_findRooms_b65 Q (F_X3_findRooms_b17 Q a0 x1 x2 n) a0 x1 x2 x3 a0 x_5 M_4))))))
theorem w_X3_findRooms_b17 {G : gG} {Q : Int32 → gM → Prop} (hC : gCx G cX3_findRooms 5 RX3 (some .boolean) (gQi Q) rm_X3_findRooms)  (a0 : Nat) (x1 : Int32) (x2 : Int32)  : ∀ (n : Nat) (x3 : Int32)   (M : gM), F_X3_findRooms_b17 Q a0 x1 x2 n x3 M → gAt G 0 0 M [(0, .ref a0), (1, .int x1), (2, .int x2), (3, .int x3)] 17 [] := by
  intro n
  induction n with
  | zero =>
    intro x3 M hF
    exact hF.elim
  | succ n ih =>
    intro x3 M hF
    have hK17 := ih
    unfold F_X3_findRooms_b17 at hF
    refine g_iload_n 18 hC dX3_findRooms_17 rfl 3 rfl rfl ?_
    refine g_aload_n 19 hC dX3_findRooms_18 rfl 0 rfl rfl ?_
    refine g_iload_n 20 hC dX3_findRooms_19 rfl 1 rfl rfl ?_
    refine g_cV (rest := [_]) wl_X3_110 hd_X3_states (ci := 3) rfl 23 hC hF.1 (met_X3_states hF.2) rfl ⟨Nat.le_of_ble_eq_true rfl, Nat.le_of_ble_eq_true rfl⟩ ⟨Nat.zero_le _, Nat.zero_le _⟩ rfl (Nat.le_of_ble_eq_true rfl) dX3_findRooms_20 rfl (g_ty_i 0 0 (Nat.le_refl _) (Nat.le_refl _) (fun x_2 M_1 hF => ?_))
    refine g_icmp_ge 26 100 hC dX3_findRooms_23 (by decide) rfl (fun c => ?_) (fun c => ?_)
    · have hF := hF.1 c
      refine g_aload_n 101 hC dX3_findRooms_100 rfl 0 rfl rfl ?_
      refine gf_X3_310_3I 104 hC hF dX3_findRooms_101 rfl (fun x_3 hF => ?_)
      refine g_iconst 105 hC (-1 : Int32) dX3_findRooms_104 (by decide) rfl ?_
      refine g_icmp_eq 108 112 hC dX3_findRooms_105 (by decide) rfl (fun c => ?_) (fun c => ?_)
      · have hF := hF.1 c
        refine g_iconst 113 hC (0 : Int32) dX3_findRooms_112 (by decide) rfl ?_
        exact g_zreturn hC ⟨_, rfl, hF⟩ (Or.inl rfl) dX3_findRooms_113 (Nat.zero_le _) (Nat.zero_le _)
      · have hF := hF.2 c
        refine g_iconst 109 hC (1 : Int32) dX3_findRooms_108 (by decide) rfl ?_
        refine g_goto 113 hC dX3_findRooms_109 (by decide) ?_
        exact g_zreturn hC ⟨_, rfl, hF⟩ (Or.inr rfl) dX3_findRooms_113 (Nat.zero_le _) (Nat.zero_le _)
    · have hF := hF.2 c
      refine g_aload_n 27 hC dX3_findRooms_26 rfl 0 rfl rfl ?_
      refine g_iload_n 28 hC dX3_findRooms_27 rfl 1 rfl rfl ?_
      refine g_iload_n 29 hC dX3_findRooms_28 rfl 3 rfl rfl ?_
      refine g_iconst 30 hC (0 : Int32) dX3_findRooms_29 (by decide) rfl ?_
      refine g_cV (rest := []) wl_X3_236 hd_X3_sum (ci := 3) rfl 33 hC hF.1 (met_X3_sum hF.2) rfl ⟨Nat.le_of_ble_eq_true rfl, Nat.le_of_ble_eq_true rfl⟩ ⟨Nat.zero_le _, Nat.zero_le _⟩ rfl (Nat.le_of_ble_eq_true rfl) dX3_findRooms_30 rfl (g_ty_i 0 0 (Nat.le_refl _) (Nat.le_refl _) (fun x_5 M_4 hF => ?_))
      refine g_istore 35 hC (lv' := [(4, .int _), (0, .ref _), (1, .int _), (2, .int _), (3, .int _)]) dX3_findRooms_33 rfl (by decide) rfl ?_
      refine g_aload_n 36 hC dX3_findRooms_35 rfl 1 rfl rfl ?_
      refine gf_X3_58_3N 39 hC hF dX3_findRooms_36 rfl (fun a_6 hF => ?_)
      refine g_iload_n 40 hC dX3_findRooms_39 rfl 3 rfl rfl ?_
      refine g_aaldN 41 hC hF (by decide) rfl (fun _ _ _ => rfl) dX3_findRooms_40 rfl (fun a_7 hF => ?_)
      refine g_iload_n 42 hC dX3_findRooms_41 rfl 4 rfl rfl ?_
      refine g_iald 43 hC hF dX3_findRooms_42 rfl (fun x_8 hF => ?_)
      refine g_if_ne 46 71 hC dX3_findRooms_43 (by decide) rfl (fun c => ?_) (fun c => ?_)
      · have hF := hF.1 c
        refine g_aload_n 72 hC dX3_findRooms_71 rfl 1 rfl rfl ?_
        refine gf_X3_310_3I 75 hC hF dX3_findRooms_72 rfl (fun x_9 hF => ?_)
        refine g_iconst 76 hC (-1 : Int32) dX3_findRooms_75 (by decide) rfl ?_
        refine g_icmp_eq 79 88 hC dX3_findRooms_76 (by decide) rfl (fun c => ?_) (fun c => ?_)
        · have hF := hF.1 c
          refine g_sub [1, 2, 3, 4, 0] rfl ?_
          exact w_X3_findRooms_b88 hC _ _ _ _ _ _ hK17 _ hF
        · have hF := hF.2 c
          refine g_iload 81 hC dX3_findRooms_79 rfl 0 rfl ?_
          refine g_aload_n 82 hC dX3_findRooms_81 rfl 1 rfl rfl ?_
          refine gf_X3_310_3I 85 hC hF dX3_findRooms_82 rfl (fun x_10 hF => ?_)
          refine g_icmp_ge 88 94 hC dX3_findRooms_85 (by decide) rfl (fun c => ?_) (fun c => ?_)
          · have hF := hF.1 c
            refine g_sub [1, 2, 3, 4] rfl ?_
            exact w_X3_findRooms_b94 hC _ _ _ _ _ hK17 _ hF
          · have hF := hF.2 c
            refine g_sub [1, 2, 3, 4, 0] rfl ?_
            exact w_X3_findRooms_b88 hC _ _ _ _ _ _ hK17 _ hF
      · have hF := hF.2 c
        refine g_aload_n 47 hC dX3_findRooms_46 rfl 1 rfl rfl ?_
        refine g_iload 49 hC dX3_findRooms_47 rfl 0 rfl ?_
        refine g_aload_n 50 hC dX3_findRooms_49 rfl 1 rfl rfl ?_
        refine gf_X3_313_3I 53 hC hF dX3_findRooms_50 rfl (fun x_11 hF => ?_)
        refine g_icmp_le 56 61 hC dX3_findRooms_53 (by decide) rfl (fun c => ?_) (fun c => ?_)
        · have hF := hF.1 c
          refine g_aload_n 62 hC dX3_findRooms_61 rfl 1 rfl rfl ?_
          refine gf_X3_313_3I 65 hC hF dX3_findRooms_62 rfl (fun x_12 hF => ?_)
          refine g_sub [1, 2, 3, 4] rfl ?_
          exact w_X3_findRooms_b65 hC _ _ _ _ _ _ _ hK17 _ hF
        · have hF := hF.2 c
          refine g_iload 58 hC dX3_findRooms_56 rfl 0 rfl ?_
          refine g_goto 65 hC dX3_findRooms_58 (by decide) ?_
          refine g_sub [1, 2, 3, 4] rfl ?_
          exact w_X3_findRooms_b65 hC _ _ _ _ _ _ _ hK17 _ hF
def F_X3_findRooms  (M : gM) (a0 : Nat) (x1 : Int32) (x2 : Int32) (Q : Int32 → gM → Prop)  : Prop :=
  rc M 3 a0 ∧ F_X3_findBest M a0 x1 fun M_1 =>
  pI M_1 3 a0 40 (-1 : Int32) fun M_3 =>
  pI M_3 3 a0 41 (0 : Int32) fun M_4 =>
  ∃ n_5, F_X3_findRooms_b17 Q a0 x1 x2 n_5 (0 : Int32) M_4
theorem met_X3_findRooms {M : gM} {a0 : Nat} {x1 : Int32} {x2 : Int32} {Q : Int32 → gM → Prop} (hF : F_X3_findRooms M a0 x1 x2 Q) : gMt yX3_findRooms (ws_ yX3_findRooms cX3_findRooms 5 (some .boolean)) rm_X3_findRooms M [.ref a0, .int x1, .int x2] (gQi Q) := by
  refine gMet (bytes := cX3_findRooms) (maxL := 5) (ret := (some .boolean)) rfl rfl (by decide) (Nat.le_of_ble_eq_true rfl) (lv := [(0, .ref a0), (1, .int x1), (2, .int x2)]) rfl (fun G hC hin => ?_)
  unfold F_X3_findRooms at hF
  refine g_aload_n 1 hC dX3_findRooms_0 rfl 0 rfl rfl ?_
  refine g_iload_n 2 hC dX3_findRooms_1 rfl 1 rfl rfl ?_
  refine g_cV (rest := []) wl_X3_264 hd_X3_findBest (ci := 3) rfl 5 hC hF.1 (met_X3_findBest hF.2) rfl ⟨Nat.le_of_ble_eq_true rfl, Nat.le_of_ble_eq_true rfl⟩ ⟨Nat.zero_le _, Nat.zero_le _⟩ rfl (Nat.le_of_ble_eq_true rfl) dX3_findRooms_2 rfl (g_ty_v 0 0 (Nat.le_refl _) (Nat.le_refl _) (fun M_1 hF => ?_))
  refine g_aload_n 6 hC dX3_findRooms_5 rfl 0 rfl rfl ?_
  refine g_iconst 7 hC (-1 : Int32) dX3_findRooms_6 (by decide) rfl ?_
  refine g_putI (C := RX3) (T := TX3) (N := 46) (ci := 3) (k := 40) (ty := .int) in_X3 tyX3 tyX3_ok nmX3 rfl (by decide) q1427 rfl rfl (fun _ _ _ => rfl) rfl rfl 10 hC hF dX3_findRooms_7 rfl (fun M_3 hF => ?_)
  refine g_aload_n 11 hC dX3_findRooms_10 rfl 0 rfl rfl ?_
  refine g_iconst 12 hC (0 : Int32) dX3_findRooms_11 (by decide) rfl ?_
  refine g_putI (C := RX3) (T := TX3) (N := 46) (ci := 3) (k := 41) (ty := .int) in_X3 tyX3 tyX3_ok nmX3 rfl (by decide) q1428 rfl rfl (fun _ _ _ => rfl) rfl rfl 15 hC hF dX3_findRooms_12 rfl (fun M_4 hF => ?_)
  refine g_iconst 16 hC (0 : Int32) dX3_findRooms_15 (by decide) rfl ?_
  refine g_istore_n 17 hC (lv' := [(3, .int _), (0, .ref _), (1, .int _), (2, .int _)]) dX3_findRooms_16 rfl rfl (by decide) rfl ?_
  refine g_sub [1, 2, 3, 0] rfl ?_
  obtain ⟨n_5, hF⟩ := hF
  exact w_X3_findRooms_b17 hC _ _ _ n_5 _ _ hF
theorem hd_X3_findRooms : yX3_findRooms.cls = RX3 ∧ yX3_findRooms.cls ≠ "java/lang/invoke/MethodHandle" ∧ yX3_findRooms.cls ≠ "java/lang/invoke/VarHandle" ∧ (parseMethodDescriptor yX3_findRooms.desc).map (fun d => d.parameters.length) = some 2 := by decide +kernel
theorem wl_X3_316 : GoodIn lw_all (wsV RX3 316 RX3 yX3_findRooms (ws_ yX3_findRooms cX3_findRooms 5 (some .boolean))) := lw_V q1865 q1867 qs61 q72 q1868
abbrev rm_X3_shape : Room := { frames := 6, cells := 0, slots := 0, locals := 153 }
def F_X3_shape_b13 (Q : Int32 → gM → Prop)    (a0 : Nat)   (M : gM) : Prop :=
  rc M 3 a0 ∧ F_X3_refuse M a0 (-2 : Int32) fun x_2 M_1 =>
  Q x_2 M_1
theorem w_X3_shape_b13 {G : gG} {Q : Int32 → gM → Prop} (hC : gCx G cX3_shape 3 RX3 (some .int) (gQi Q) rm_X3_shape)  (a0 : Nat)     (M : gM) (hF : F_X3_shape_b13 Q a0 M) : gAt G 0 0 M [(0, .ref a0)] 13 [] := by
  unfold F_X3_shape_b13 at hF
  refine g_aload_n 14 hC dX3_shape_13 rfl 0 rfl rfl ?_
  refine g_bipush 16 hC (-2 : Int32) dX3_shape_14 (by decide) rfl ?_
  refine g_cV (rest := []) wl_X3_119 hd_X3_refuse (ci := 3) rfl 19 hC hF.1 (met_X3_refuse hF.2) rfl ⟨Nat.le_of_ble_eq_true rfl, Nat.le_of_ble_eq_true rfl⟩ ⟨Nat.zero_le _, Nat.zero_le _⟩ rfl (Nat.le_of_ble_eq_true rfl) dX3_shape_16 rfl (g_ty_i 0 0 (Nat.le_refl _) (Nat.le_refl _) (fun x_2 M_1 hF => ?_))
  exact g_ireturn hC ⟨_, rfl, hF⟩ dX3_shape_19 (Nat.zero_le _) (Nat.zero_le _)
def F_X3_shape  (M : gM) (a0 : Nat) (x1 : Int32) (x2 : Int32) (Q : Int32 → gM → Prop)  : Prop :=
  rc M 3 a0 ∧ F_X3_isLeft M a0 x1 x2 fun x_2 M_1 =>
  ((x_2 = 0 →
    F_X3_shape_b13 Q a0 M_1) ∧
    (¬ x_2 = 0 →
    ((¬ x2 = 0 →
      rc M_1 3 a0 ∧ F_X3_findRooms M_1 a0 x1 x2 fun x_4 M_3 =>
      ((x_4 = 0 →
        Q (-1 : Int32) M_3) ∧
        (¬ x_4 = 0 →
        gI M_3 3 a0 41 fun x_5 =>
        gI M_3 3 a0 40 fun x_6 =>
        ((x_6 ≤ x_5 →
          Q (-1 : Int32) M_3) ∧
          (¬ x_6 ≤ x_5 →
          gI M_3 3 a0 41 fun x_7 =>
          Q (x_7 + (1 : Int32)) M_3))))) ∧
      (x2 = 0 →
      F_X3_shape_b13 Q a0 M_1))))
theorem met_X3_shape {M : gM} {a0 : Nat} {x1 : Int32} {x2 : Int32} {Q : Int32 → gM → Prop} (hF : F_X3_shape M a0 x1 x2 Q) : gMt yX3_shape (ws_ yX3_shape cX3_shape 3 (some .int)) rm_X3_shape M [.ref a0, .int x1, .int x2] (gQi Q) := by
  refine gMet (bytes := cX3_shape) (maxL := 3) (ret := (some .int)) rfl rfl (by decide) (Nat.le_of_ble_eq_true rfl) (lv := [(0, .ref a0), (1, .int x1), (2, .int x2)]) rfl (fun G hC hin => ?_)
  unfold F_X3_shape at hF
  refine g_aload_n 1 hC dX3_shape_0 rfl 0 rfl rfl ?_
  refine g_iload_n 2 hC dX3_shape_1 rfl 1 rfl rfl ?_
  refine g_iload_n 3 hC dX3_shape_2 rfl 2 rfl rfl ?_
  refine g_cV (rest := []) wl_X3_239 hd_X3_isLeft (ci := 3) rfl 6 hC hF.1 (met_X3_isLeft hF.2) rfl ⟨Nat.le_of_ble_eq_true rfl, Nat.le_of_ble_eq_true rfl⟩ ⟨Nat.zero_le _, Nat.zero_le _⟩ rfl (Nat.le_of_ble_eq_true rfl) dX3_shape_3 rfl (g_ty_i 0 0 (Nat.le_refl _) (Nat.le_refl _) (fun x_2 M_1 hF => ?_))
  refine g_if_eq 9 13 hC dX3_shape_6 (by decide) rfl (fun c => ?_) (fun c => ?_)
  · have hF := hF.1 c
    refine g_sub [0] rfl ?_
    exact w_X3_shape_b13 hC _ _ hF
  · have hF := hF.2 c
    refine g_iload_n 10 hC dX3_shape_9 rfl 2 rfl rfl ?_
    refine g_if_ne 13 20 hC dX3_shape_10 (by decide) rfl (fun c => ?_) (fun c => ?_)
    · have hF := hF.1 c
      refine g_aload_n 21 hC dX3_shape_20 rfl 0 rfl rfl ?_
      refine g_iload_n 22 hC dX3_shape_21 rfl 1 rfl rfl ?_
      refine g_iload_n 23 hC dX3_shape_22 rfl 2 rfl rfl ?_
      refine g_cV (rest := []) wl_X3_316 hd_X3_findRooms (ci := 3) rfl 26 hC hF.1 (met_X3_findRooms hF.2) rfl ⟨Nat.le_of_ble_eq_true rfl, Nat.le_of_ble_eq_true rfl⟩ ⟨Nat.zero_le _, Nat.zero_le _⟩ rfl (Nat.le_of_ble_eq_true rfl) dX3_shape_23 rfl (g_ty_i 0 0 (Nat.le_refl _) (Nat.le_refl _) (fun x_4 M_3 hF => ?_))
      refine g_if_eq 29 49 hC dX3_shape_26 (by decide) rfl (fun c => ?_) (fun c => ?_)
      · have hF := hF.1 c
        refine g_iconst 50 hC (-1 : Int32) dX3_shape_49 (by decide) rfl ?_
        exact g_ireturn hC ⟨_, rfl, hF⟩ dX3_shape_50 (Nat.zero_le _) (Nat.zero_le _)
      · have hF := hF.2 c
        refine g_aload_n 30 hC dX3_shape_29 rfl 0 rfl rfl ?_
        refine gf_X3_313_3I 33 hC hF dX3_shape_30 rfl (fun x_5 hF => ?_)
        refine g_aload_n 34 hC dX3_shape_33 rfl 0 rfl rfl ?_
        refine gf_X3_310_3I 37 hC hF dX3_shape_34 rfl (fun x_6 hF => ?_)
        refine g_icmp_ge 40 49 hC dX3_shape_37 (by decide) rfl (fun c => ?_) (fun c => ?_)
        · have hF := hF.1 c
          refine g_iconst 50 hC (-1 : Int32) dX3_shape_49 (by decide) rfl ?_
          exact g_ireturn hC ⟨_, rfl, hF⟩ dX3_shape_50 (Nat.zero_le _) (Nat.zero_le _)
        · have hF := hF.2 c
          refine g_aload_n 41 hC dX3_shape_40 rfl 0 rfl rfl ?_
          refine gf_X3_313_3I 44 hC hF dX3_shape_41 rfl (fun x_7 hF => ?_)
          refine g_iconst 45 hC (1 : Int32) dX3_shape_44 (by decide) rfl ?_
          refine g_iadd 46 hC dX3_shape_45 rfl ?_
          refine g_goto 50 hC dX3_shape_46 (by decide) ?_
          exact g_ireturn hC ⟨_, rfl, hF⟩ dX3_shape_50 (Nat.zero_le _) (Nat.zero_le _)
    · have hF := hF.2 c
      refine g_sub [0] rfl ?_
      exact w_X3_shape_b13 hC _ _ hF
abbrev rm_X3_odd : Room := { frames := 6, cells := 0, slots := 0, locals := 153 }
def F_X3_odd_b69 (Q : Int32 → gM → Prop)   (K33 : Int32 → gM → Prop) (a0 : Nat) (x1 : Int32) (x2 : Int32) (x3 : Int32)   (M : gM) : Prop :=
  K33 (x3 + (1 : Int32)) M
theorem w_X3_odd_b69 {G : gG} {Q : Int32 → gM → Prop} (hC : gCx G cX3_odd 4 RX3 (some .int) (gQi Q) rm_X3_odd) (K33 : Int32 → gM → Prop) (a0 : Nat) (x1 : Int32) (x2 : Int32) (x3 : Int32)  (hK33 : ∀ x3' M', K33 x3' M' → gAt G 0 0 M' [(0, .ref a0), (1, .int x1), (2, .int x2), (3, .int x3')] 33 [])   (M : gM) (hF : F_X3_odd_b69 Q K33 a0 x1 x2 x3 M) : gAt G 0 0 M [(0, .ref a0), (1, .int x1), (2, .int x2), (3, .int x3)] 69 [] := by
  unfold F_X3_odd_b69 at hF
  refine g_iinc 72 hC (x3 + (1 : Int32)) (lv' := [(3, .int _), (0, .ref _), (1, .int _), (2, .int _)]) dX3_odd_69 rfl 3 rfl rfl (by decide) rfl ?_
  refine g_goto 33 hC dX3_odd_72 (by decide) ?_
  refine g_sub [1, 2, 3, 0] rfl ?_
  exact hK33 _ _ hF
def F_X3_odd_b33 (Q : Int32 → gM → Prop)    (a0 : Nat) (x1 : Int32) (x2 : Int32) : Nat → Int32 → gM → Prop
  | 0, _, _ => False
  | n + 1, x3, M =>
    rc M 3 a0 ∧ F_X3_states M a0 x1 fun x_2 M_1 =>
    ((x_2 ≤ x3 →
      Q (-1 : Int32) M_1) ∧
      (¬ x_2 ≤ x3 →
      gN M_1 3 a0 29 fun a_3 =>
      aN M_1 (.array .int) a_3 x2 fun a_4 =>
      aI M_1 .int a_4 x3 fun x_5 =>
      ((¬ x_5 = 0 →
        F_X3_odd_b69 Q (F_X3_odd_b33 Q a0 x1 x2 n) a0 x1 x2 x3 M_1) ∧
        (x_5 = 0 →
        rc M_1 3 a0 ∧ F_X3_sum M_1 a0 x1 x3 (0 : Int32) fun x_7 M_6 =>
        gI M_6 3 a0 40 fun x_8 =>
        ((x_7 < x_8 →
          F_X3_odd_b69 Q (F_X3_odd_b33 Q a0 x1 x2 n) a0 x1 x2 x3 M_6) ∧
          (¬ x_7 < x_8 →
          Q x3 M_6))))))
theorem w_X3_odd_b33 {G : gG} {Q : Int32 → gM → Prop} (hC : gCx G cX3_odd 4 RX3 (some .int) (gQi Q) rm_X3_odd)  (a0 : Nat) (x1 : Int32) (x2 : Int32)  : ∀ (n : Nat) (x3 : Int32)   (M : gM), F_X3_odd_b33 Q a0 x1 x2 n x3 M → gAt G 0 0 M [(0, .ref a0), (1, .int x1), (2, .int x2), (3, .int x3)] 33 [] := by
  intro n
  induction n with
  | zero =>
    intro x3 M hF
    exact hF.elim
  | succ n ih =>
    intro x3 M hF
    have hK33 := ih
    unfold F_X3_odd_b33 at hF
    refine g_iload_n 34 hC dX3_odd_33 rfl 3 rfl rfl ?_
    refine g_aload_n 35 hC dX3_odd_34 rfl 0 rfl rfl ?_
    refine g_iload_n 36 hC dX3_odd_35 rfl 1 rfl rfl ?_
    refine g_cV (rest := [_]) wl_X3_110 hd_X3_states (ci := 3) rfl 39 hC hF.1 (met_X3_states hF.2) rfl ⟨Nat.le_of_ble_eq_true rfl, Nat.le_of_ble_eq_true rfl⟩ ⟨Nat.zero_le _, Nat.zero_le _⟩ rfl (Nat.le_of_ble_eq_true rfl) dX3_odd_36 rfl (g_ty_i 0 0 (Nat.le_refl _) (Nat.le_refl _) (fun x_2 M_1 hF => ?_))
    refine g_icmp_ge 42 75 hC dX3_odd_39 (by decide) rfl (fun c => ?_) (fun c => ?_)
    · have hF := hF.1 c
      refine g_iconst 76 hC (-1 : Int32) dX3_odd_75 (by decide) rfl ?_
      exact g_ireturn hC ⟨_, rfl, hF⟩ dX3_odd_76 (Nat.zero_le _) (Nat.zero_le _)
    · have hF := hF.2 c
      refine g_aload_n 43 hC dX3_odd_42 rfl 0 rfl rfl ?_
      refine gf_X3_58_3N 46 hC hF dX3_odd_43 rfl (fun a_3 hF => ?_)
      refine g_iload_n 47 hC dX3_odd_46 rfl 2 rfl rfl ?_
      refine g_aaldN 48 hC hF (by decide) rfl (fun _ _ _ => rfl) dX3_odd_47 rfl (fun a_4 hF => ?_)
      refine g_iload_n 49 hC dX3_odd_48 rfl 3 rfl rfl ?_
      refine g_iald 50 hC hF dX3_odd_49 rfl (fun x_5 hF => ?_)
      refine g_if_ne 53 69 hC dX3_odd_50 (by decide) rfl (fun c => ?_) (fun c => ?_)
      · have hF := hF.1 c
        exact w_X3_odd_b69 hC _ _ _ _ _ hK33 _ hF
      · have hF := hF.2 c
        refine g_aload_n 54 hC dX3_odd_53 rfl 0 rfl rfl ?_
        refine g_iload_n 55 hC dX3_odd_54 rfl 1 rfl rfl ?_
        refine g_iload_n 56 hC dX3_odd_55 rfl 3 rfl rfl ?_
        refine g_iconst 57 hC (0 : Int32) dX3_odd_56 (by decide) rfl ?_
        refine g_cV (rest := []) wl_X3_236 hd_X3_sum (ci := 3) rfl 60 hC hF.1 (met_X3_sum hF.2) rfl ⟨Nat.le_of_ble_eq_true rfl, Nat.le_of_ble_eq_true rfl⟩ ⟨Nat.zero_le _, Nat.zero_le _⟩ rfl (Nat.le_of_ble_eq_true rfl) dX3_odd_57 rfl (g_ty_i 0 0 (Nat.le_refl _) (Nat.le_refl _) (fun x_7 M_6 hF => ?_))
        refine g_aload_n 61 hC dX3_odd_60 rfl 0 rfl rfl ?_
        refine gf_X3_310_3I 64 hC hF dX3_odd_61 rfl (fun x_8 hF => ?_)
        refine g_icmp_lt 67 69 hC dX3_odd_64 (by decide) rfl (fun c => ?_) (fun c => ?_)
        · have hF := hF.1 c
          exact w_X3_odd_b69 hC _ _ _ _ _ hK33 _ hF
        · have hF := hF.2 c
          refine g_iload_n 68 hC dX3_odd_67 rfl 3 rfl rfl ?_
          exact g_ireturn hC ⟨_, rfl, hF⟩ dX3_odd_68 (Nat.zero_le _) (Nat.zero_le _)
def F_X3_odd_b13 (Q : Int32 → gM → Prop)    (a0 : Nat)   (M : gM) : Prop :=
  rc M 3 a0 ∧ F_X3_refuse M a0 (-2 : Int32) fun x_2 M_1 =>
  Q x_2 M_1
theorem w_X3_odd_b13 {G : gG} {Q : Int32 → gM → Prop} (hC : gCx G cX3_odd 4 RX3 (some .int) (gQi Q) rm_X3_odd)  (a0 : Nat)     (M : gM) (hF : F_X3_odd_b13 Q a0 M) : gAt G 0 0 M [(0, .ref a0)] 13 [] := by
  unfold F_X3_odd_b13 at hF
  refine g_aload_n 14 hC dX3_odd_13 rfl 0 rfl rfl ?_
  refine g_bipush 16 hC (-2 : Int32) dX3_odd_14 (by decide) rfl ?_
  refine g_cV (rest := []) wl_X3_119 hd_X3_refuse (ci := 3) rfl 19 hC hF.1 (met_X3_refuse hF.2) rfl ⟨Nat.le_of_ble_eq_true rfl, Nat.le_of_ble_eq_true rfl⟩ ⟨Nat.zero_le _, Nat.zero_le _⟩ rfl (Nat.le_of_ble_eq_true rfl) dX3_odd_16 rfl (g_ty_i 0 0 (Nat.le_refl _) (Nat.le_refl _) (fun x_2 M_1 hF => ?_))
  exact g_ireturn hC ⟨_, rfl, hF⟩ dX3_odd_19 (Nat.zero_le _) (Nat.zero_le _)
def F_X3_odd  (M : gM) (a0 : Nat) (x1 : Int32) (x2 : Int32) (Q : Int32 → gM → Prop)  : Prop :=
  rc M 3 a0 ∧ F_X3_isLeft M a0 x1 x2 fun x_2 M_1 =>
  ((x_2 = 0 →
    F_X3_odd_b13 Q a0 M_1) ∧
    (¬ x_2 = 0 →
    ((¬ x2 = 0 →
      rc M_1 3 a0 ∧ F_X3_findRooms M_1 a0 x1 x2 fun x_4 M_3 =>
      ((¬ x_4 = 0 →
        ∃ n_5, F_X3_odd_b33 Q a0 x1 x2 n_5 (0 : Int32) M_3) ∧
        (x_4 = 0 →
        Q (-1 : Int32) M_3))) ∧
      (x2 = 0 →
      F_X3_odd_b13 Q a0 M_1))))
theorem met_X3_odd {M : gM} {a0 : Nat} {x1 : Int32} {x2 : Int32} {Q : Int32 → gM → Prop} (hF : F_X3_odd M a0 x1 x2 Q) : gMt yX3_odd (ws_ yX3_odd cX3_odd 4 (some .int)) rm_X3_odd M [.ref a0, .int x1, .int x2] (gQi Q) := by
  refine gMet (bytes := cX3_odd) (maxL := 4) (ret := (some .int)) rfl rfl (by decide) (Nat.le_of_ble_eq_true rfl) (lv := [(0, .ref a0), (1, .int x1), (2, .int x2)]) rfl (fun G hC hin => ?_)
  unfold F_X3_odd at hF
  refine g_aload_n 1 hC dX3_odd_0 rfl 0 rfl rfl ?_
  refine g_iload_n 2 hC dX3_odd_1 rfl 1 rfl rfl ?_
  refine g_iload_n 3 hC dX3_odd_2 rfl 2 rfl rfl ?_
  refine g_cV (rest := []) wl_X3_239 hd_X3_isLeft (ci := 3) rfl 6 hC hF.1 (met_X3_isLeft hF.2) rfl ⟨Nat.le_of_ble_eq_true rfl, Nat.le_of_ble_eq_true rfl⟩ ⟨Nat.zero_le _, Nat.zero_le _⟩ rfl (Nat.le_of_ble_eq_true rfl) dX3_odd_3 rfl (g_ty_i 0 0 (Nat.le_refl _) (Nat.le_refl _) (fun x_2 M_1 hF => ?_))
  refine g_if_eq 9 13 hC dX3_odd_6 (by decide) rfl (fun c => ?_) (fun c => ?_)
  · have hF := hF.1 c
    refine g_sub [0] rfl ?_
    exact w_X3_odd_b13 hC _ _ hF
  · have hF := hF.2 c
    refine g_iload_n 10 hC dX3_odd_9 rfl 2 rfl rfl ?_
    refine g_if_ne 13 20 hC dX3_odd_10 (by decide) rfl (fun c => ?_) (fun c => ?_)
    · have hF := hF.1 c
      refine g_aload_n 21 hC dX3_odd_20 rfl 0 rfl rfl ?_
      refine g_iload_n 22 hC dX3_odd_21 rfl 1 rfl rfl ?_
      refine g_iload_n 23 hC dX3_odd_22 rfl 2 rfl rfl ?_
      refine g_cV (rest := []) wl_X3_316 hd_X3_findRooms (ci := 3) rfl 26 hC hF.1 (met_X3_findRooms hF.2) rfl ⟨Nat.le_of_ble_eq_true rfl, Nat.le_of_ble_eq_true rfl⟩ ⟨Nat.zero_le _, Nat.zero_le _⟩ rfl (Nat.le_of_ble_eq_true rfl) dX3_odd_23 rfl (g_ty_i 0 0 (Nat.le_refl _) (Nat.le_refl _) (fun x_4 M_3 hF => ?_))
      refine g_if_ne 29 31 hC dX3_odd_26 (by decide) rfl (fun c => ?_) (fun c => ?_)
      · have hF := hF.1 c
        refine g_iconst 32 hC (0 : Int32) dX3_odd_31 (by decide) rfl ?_
        refine g_istore_n 33 hC (lv' := [(3, .int _), (0, .ref _), (1, .int _), (2, .int _)]) dX3_odd_32 rfl rfl (by decide) rfl ?_
        refine g_sub [1, 2, 3, 0] rfl ?_
        obtain ⟨n_5, hF⟩ := hF
        exact w_X3_odd_b33 hC _ _ _ n_5 _ _ hF
      · have hF := hF.2 c
        refine g_iconst 30 hC (-1 : Int32) dX3_odd_29 (by decide) rfl ?_
        exact g_ireturn hC ⟨_, rfl, hF⟩ dX3_odd_30 (Nat.zero_le _) (Nat.zero_le _)
    · have hF := hF.2 c
      refine g_sub [0] rfl ?_
      exact w_X3_odd_b13 hC _ _ hF
abbrev rm_X3_judge : Room := { frames := 3, cells := 0, slots := 0, locals := 68 }
def F_X3_judge_b88 (Q : Int32 → gM → Prop)    (a0 : Nat) (x1 : Int32) (x2 : Int32) (x3 : Int32) : Nat → Int32 → Int32 → gM → Prop
  | 0, _, _, _ => False
  | n + 1, x4, x5, M =>
    rc M 3 a0 ∧ F_X3_sorts M a0 x1 fun x_2 M_1 =>
    ((x_2 ≤ x5 →
      gN M_1 3 a0 12 fun a_3 =>
      aN M_1 (.array .int) a_3 x1 fun a_4 =>
      aI M_1 .int a_4 (2 : Int32) fun x_5 =>
      ((x4 ≤ x_5 →
        Q (0 : Int32) M_1) ∧
        (¬ x4 ≤ x_5 →
        Q (2 : Int32) M_1))) ∧
      (¬ x_2 ≤ x5 →
      gN M_1 3 a0 3 fun a_6 =>
      aN M_1 (.array .long) a_6 x3 fun a_7 =>
      aJ M_1 a_7 x5 fun j_8 =>
      F_X3_ofState M_1 x2 x5 fun x_10 M_9 =>
      F_X3_in M_9 j_8 (0 : Int64) x_10.toInt64 fun x_12 M_11 =>
      ((¬ x_12 = 0 →
        gN M_11 3 a0 3 fun a_13 =>
        aN M_11 (.array .long) a_13 x3 fun a_14 =>
        aJ M_11 a_14 x5 fun j_15 =>
        rc M_11 3 a0 ∧ F_X3_numberOf M_11 a0 x1 x5 (0 : Int32) fun x_17 M_16 =>
        (F_X3_judge_b88 Q a0 x1 x2 x3 n) (x4 + (j_15.toInt32 * x_17)) (x5 + (1 : Int32)) M_16) ∧
        (x_12 = 0 →
        Q (1 : Int32) M_11))))
theorem w_X3_judge_b88 {G : gG} {Q : Int32 → gM → Prop} (hC : gCx G cX3_judge 6 RX3 (some .int) (gQi Q) rm_X3_judge)  (a0 : Nat) (x1 : Int32) (x2 : Int32) (x3 : Int32)  : ∀ (n : Nat) (x4 : Int32) (x5 : Int32)   (M : gM), F_X3_judge_b88 Q a0 x1 x2 x3 n x4 x5 M → gAt G 0 0 M [(0, .ref a0), (1, .int x1), (2, .int x2), (3, .int x3), (4, .int x4), (5, .int x5)] 88 [] := by
  intro n
  induction n with
  | zero =>
    intro x4 x5 M hF
    exact hF.elim
  | succ n ih =>
    intro x4 x5 M hF
    have hK88 := ih
    unfold F_X3_judge_b88 at hF
    refine g_iload 90 hC dX3_judge_88 rfl 5 rfl ?_
    refine g_aload_n 91 hC dX3_judge_90 rfl 0 rfl rfl ?_
    refine g_iload_n 92 hC dX3_judge_91 rfl 1 rfl rfl ?_
    refine g_cV (rest := [_]) wl_X3_98 hd_X3_sorts (ci := 3) rfl 95 hC hF.1 (met_X3_sorts hF.2) rfl ⟨Nat.le_of_ble_eq_true rfl, Nat.le_of_ble_eq_true rfl⟩ ⟨Nat.zero_le _, Nat.zero_le _⟩ rfl (Nat.le_of_ble_eq_true rfl) dX3_judge_92 rfl (g_ty_i 0 0 (Nat.le_refl _) (Nat.le_refl _) (fun x_2 M_1 hF => ?_))
    refine g_icmp_ge 98 153 hC dX3_judge_95 (by decide) rfl (fun c => ?_) (fun c => ?_)
    · have hF := hF.1 c
      refine g_iload 155 hC dX3_judge_153 rfl 4 rfl ?_
      refine g_aload_n 156 hC dX3_judge_155 rfl 0 rfl rfl ?_
      refine gf_X3_45_3N 159 hC hF dX3_judge_156 rfl (fun a_3 hF => ?_)
      refine g_iload_n 160 hC dX3_judge_159 rfl 1 rfl rfl ?_
      refine g_aaldN 161 hC hF (by decide) rfl (fun _ _ _ => rfl) dX3_judge_160 rfl (fun a_4 hF => ?_)
      refine g_iconst 162 hC (2 : Int32) dX3_judge_161 (by decide) rfl ?_
      refine g_iald 163 hC hF dX3_judge_162 rfl (fun x_5 hF => ?_)
      refine g_icmp_le 166 170 hC dX3_judge_163 (by decide) rfl (fun c => ?_) (fun c => ?_)
      · have hF := hF.1 c
        refine g_iconst 171 hC (0 : Int32) dX3_judge_170 (by decide) rfl ?_
        exact g_ireturn hC ⟨_, rfl, hF⟩ dX3_judge_171 (Nat.zero_le _) (Nat.zero_le _)
      · have hF := hF.2 c
        refine g_iconst 167 hC (2 : Int32) dX3_judge_166 (by decide) rfl ?_
        refine g_goto 171 hC dX3_judge_167 (by decide) ?_
        exact g_ireturn hC ⟨_, rfl, hF⟩ dX3_judge_171 (Nat.zero_le _) (Nat.zero_le _)
    · have hF := hF.2 c
      refine g_aload_n 99 hC dX3_judge_98 rfl 0 rfl rfl ?_
      refine gf_X3_21_3N 102 hC hF dX3_judge_99 rfl (fun a_6 hF => ?_)
      refine g_iload_n 103 hC dX3_judge_102 rfl 3 rfl rfl ?_
      refine g_aaldN 104 hC hF (by decide) rfl (fun _ _ _ => rfl) dX3_judge_103 rfl (fun a_7 hF => ?_)
      refine g_iload 106 hC dX3_judge_104 rfl 5 rfl ?_
      refine g_lald 107 hC hF dX3_judge_106 rfl (fun j_8 hF => ?_)
      refine g_lconst 108 hC (0 : Int64) dX3_judge_107 (by decide) rfl ?_
      refine g_iload_n 109 hC dX3_judge_108 rfl 2 rfl rfl ?_
      refine g_iload 111 hC dX3_judge_109 rfl 5 rfl ?_
      refine g_cS (rest := [_, _]) wl_X3_226 hd_X3_ofState 114 hC (met_X3_ofState hF) rfl ⟨Nat.le_of_ble_eq_true rfl, Nat.le_of_ble_eq_true rfl⟩ ⟨Nat.zero_le _, Nat.zero_le _⟩ rfl (Nat.le_of_ble_eq_true rfl) dX3_judge_111 rfl (g_ty_i 0 0 (Nat.le_refl _) (Nat.le_refl _) (fun x_10 M_9 hF => ?_))
      refine g_i2l 115 hC dX3_judge_114 rfl ?_
      refine g_cS (rest := []) wl_X3_94 hd_X3_in 118 hC (met_X3_in hF) rfl ⟨Nat.le_of_ble_eq_true rfl, Nat.le_of_ble_eq_true rfl⟩ ⟨Nat.zero_le _, Nat.zero_le _⟩ rfl (Nat.le_of_ble_eq_true rfl) dX3_judge_115 rfl (g_ty_i 0 0 (Nat.le_refl _) (Nat.le_refl _) (fun x_12 M_11 hF => ?_))
      refine g_if_ne 121 123 hC dX3_judge_118 (by decide) rfl (fun c => ?_) (fun c => ?_)
      · have hF := hF.1 c
        refine g_iload 125 hC dX3_judge_123 rfl 4 rfl ?_
        refine g_aload_n 126 hC dX3_judge_125 rfl 0 rfl rfl ?_
        refine gf_X3_21_3N 129 hC hF dX3_judge_126 rfl (fun a_13 hF => ?_)
        refine g_iload_n 130 hC dX3_judge_129 rfl 3 rfl rfl ?_
        refine g_aaldN 131 hC hF (by decide) rfl (fun _ _ _ => rfl) dX3_judge_130 rfl (fun a_14 hF => ?_)
        refine g_iload 133 hC dX3_judge_131 rfl 5 rfl ?_
        refine g_lald 134 hC hF dX3_judge_133 rfl (fun j_15 hF => ?_)
        refine g_l2i 135 hC dX3_judge_134 rfl ?_
        refine g_aload_n 136 hC dX3_judge_135 rfl 0 rfl rfl ?_
        refine g_iload_n 137 hC dX3_judge_136 rfl 1 rfl rfl ?_
        refine g_iload 139 hC dX3_judge_137 rfl 5 rfl ?_
        refine g_iconst 140 hC (0 : Int32) dX3_judge_139 (by decide) rfl ?_
        refine g_cV (rest := [_, _]) wl_X3_229 hd_X3_numberOf (ci := 3) rfl 143 hC hF.1 (met_X3_numberOf hF.2) rfl ⟨Nat.le_of_ble_eq_true rfl, Nat.le_of_ble_eq_true rfl⟩ ⟨Nat.zero_le _, Nat.zero_le _⟩ rfl (Nat.le_of_ble_eq_true rfl) dX3_judge_140 rfl (g_ty_i 0 0 (Nat.le_refl _) (Nat.le_refl _) (fun x_17 M_16 hF => ?_))
        refine g_imul 144 hC dX3_judge_143 rfl ?_
        refine g_iadd 145 hC dX3_judge_144 rfl ?_
        refine g_istore 147 hC (lv' := [(4, .int _), (0, .ref _), (1, .int _), (2, .int _), (3, .int _), (5, .int _)]) dX3_judge_145 rfl (by decide) rfl ?_
        refine g_iinc 150 hC (x5 + (1 : Int32)) (lv' := [(5, .int _), (4, .int _), (0, .ref _), (1, .int _), (2, .int _), (3, .int _)]) dX3_judge_147 rfl 5 rfl rfl (by decide) rfl ?_
        refine g_goto 88 hC dX3_judge_150 (by decide) ?_
        refine g_sub [2, 3, 4, 5, 1, 0] rfl ?_
        exact hK88 _ _ _ hF
      · have hF := hF.2 c
        refine g_iconst 122 hC (1 : Int32) dX3_judge_121 (by decide) rfl ?_
        exact g_ireturn hC ⟨_, rfl, hF⟩ dX3_judge_122 (Nat.zero_le _) (Nat.zero_le _)
def F_X3_judge_b21 (Q : Int32 → gM → Prop)    (a0 : Nat)   (M : gM) : Prop :=
  rc M 3 a0 ∧ F_X3_refuse M a0 (-2 : Int32) fun x_2 M_1 =>
  Q x_2 M_1
theorem w_X3_judge_b21 {G : gG} {Q : Int32 → gM → Prop} (hC : gCx G cX3_judge 6 RX3 (some .int) (gQi Q) rm_X3_judge)  (a0 : Nat)     (M : gM) (hF : F_X3_judge_b21 Q a0 M) : gAt G 0 0 M [(0, .ref a0)] 21 [] := by
  unfold F_X3_judge_b21 at hF
  refine g_aload_n 22 hC dX3_judge_21 rfl 0 rfl rfl ?_
  refine g_bipush 24 hC (-2 : Int32) dX3_judge_22 (by decide) rfl ?_
  refine g_cV (rest := []) wl_X3_119 hd_X3_refuse (ci := 3) rfl 27 hC hF.1 (met_X3_refuse hF.2) rfl ⟨Nat.le_of_ble_eq_true rfl, Nat.le_of_ble_eq_true rfl⟩ ⟨Nat.zero_le _, Nat.zero_le _⟩ rfl (Nat.le_of_ble_eq_true rfl) dX3_judge_24 rfl (g_ty_i 0 0 (Nat.le_refl _) (Nat.le_refl _) (fun x_2 M_1 hF => ?_))
  exact g_ireturn hC ⟨_, rfl, hF⟩ dX3_judge_27 (Nat.zero_le _) (Nat.zero_le _)
def F_X3_judge  (M : gM) (a0 : Nat) (x1 : Int32) (x2 : Int32) (x3 : Int32) (Q : Int32 → gM → Prop)  : Prop :=
  rc M 3 a0 ∧ F_X3_isState M a0 x1 x2 fun x_2 M_1 =>
  ((x_2 = 0 →
    F_X3_judge_b21 Q a0 M_1) ∧
    (¬ x_2 = 0 →
    F_X3_in M_1 x3.toInt64 (0 : Int64) (7 : Int64) fun x_4 M_3 =>
    ((¬ x_4 = 0 →
      gN M_3 3 a0 0 fun a_5 =>
      aI M_3 .int a_5 x3 fun x_6 =>
      ((¬ x_6 = (2 : Int32) →
        gN M_3 3 a0 0 fun a_7 =>
        aI M_3 .int a_7 x3 fun x_8 =>
        ((¬ x_8 = 0 →
          gN M_3 3 a0 2 fun a_9 =>
          aI M_3 .int a_9 x3 fun x_10 =>
          rc M_3 3 a0 ∧ F_X3_sorts M_3 a0 x1 fun x_12 M_11 =>
          ((x_12 ≤ x_10 →
            ∃ n_13, F_X3_judge_b88 Q a0 x1 x2 x3 n_13 (0 : Int32) (0 : Int32) M_11) ∧
            (¬ x_12 ≤ x_10 →
            rc M_11 3 a0 ∧ F_X3_refuse M_11 a0 (-2 : Int32) fun x_15 M_14 =>
            Q x_15 M_14))) ∧
          (x_8 = 0 →
          rc M_3 3 a0 ∧ F_X3_refuse M_3 a0 (-4 : Int32) fun x_17 M_16 =>
          Q x_17 M_16))) ∧
        (x_6 = (2 : Int32) →
        rc M_3 3 a0 ∧ F_X3_refuse M_3 a0 (-3 : Int32) fun x_19 M_18 =>
        Q x_19 M_18))) ∧
      (x_4 = 0 →
      F_X3_judge_b21 Q a0 M_3))))
theorem met_X3_judge {M : gM} {a0 : Nat} {x1 : Int32} {x2 : Int32} {x3 : Int32} {Q : Int32 → gM → Prop} (hF : F_X3_judge M a0 x1 x2 x3 Q) : gMt yX3_judge (ws_ yX3_judge cX3_judge 6 (some .int)) rm_X3_judge M [.ref a0, .int x1, .int x2, .int x3] (gQi Q) := by
  refine gMet (bytes := cX3_judge) (maxL := 6) (ret := (some .int)) rfl rfl (by decide) (Nat.le_of_ble_eq_true rfl) (lv := [(0, .ref a0), (1, .int x1), (2, .int x2), (3, .int x3)]) rfl (fun G hC hin => ?_)
  unfold F_X3_judge at hF
  refine g_aload_n 1 hC dX3_judge_0 rfl 0 rfl rfl ?_
  refine g_iload_n 2 hC dX3_judge_1 rfl 1 rfl rfl ?_
  refine g_iload_n 3 hC dX3_judge_2 rfl 2 rfl rfl ?_
  refine g_cV (rest := []) wl_X3_233 hd_X3_isState (ci := 3) rfl 6 hC hF.1 (met_X3_isState hF.2) rfl ⟨Nat.le_of_ble_eq_true rfl, Nat.le_of_ble_eq_true rfl⟩ ⟨Nat.zero_le _, Nat.zero_le _⟩ rfl (Nat.le_of_ble_eq_true rfl) dX3_judge_3 rfl (g_ty_i 0 0 (Nat.le_refl _) (Nat.le_refl _) (fun x_2 M_1 hF => ?_))
  refine g_if_eq 9 21 hC dX3_judge_6 (by decide) rfl (fun c => ?_) (fun c => ?_)
  · have hF := hF.1 c
    refine g_sub [0] rfl ?_
    exact w_X3_judge_b21 hC _ _ hF
  · have hF := hF.2 c
    refine g_iload_n 10 hC dX3_judge_9 rfl 3 rfl rfl ?_
    refine g_i2l 11 hC dX3_judge_10 rfl ?_
    refine g_lconst 12 hC (0 : Int64) dX3_judge_11 (by decide) rfl ?_
    refine g_ldc2 15 hC q1530 dX3_judge_12 rfl ?_
    refine g_cS (rest := []) wl_X3_94 hd_X3_in 18 hC (met_X3_in hF) rfl ⟨Nat.le_of_ble_eq_true rfl, Nat.le_of_ble_eq_true rfl⟩ ⟨Nat.zero_le _, Nat.zero_le _⟩ rfl (Nat.le_of_ble_eq_true rfl) dX3_judge_15 rfl (g_ty_i 0 0 (Nat.le_refl _) (Nat.le_refl _) (fun x_4 M_3 hF => ?_))
    refine g_if_ne 21 28 hC dX3_judge_18 (by decide) rfl (fun c => ?_) (fun c => ?_)
    · have hF := hF.1 c
      refine g_aload_n 29 hC dX3_judge_28 rfl 0 rfl rfl ?_
      refine gf_X3_7_3N 32 hC hF dX3_judge_29 rfl (fun a_5 hF => ?_)
      refine g_iload_n 33 hC dX3_judge_32 rfl 3 rfl rfl ?_
      refine g_iald 34 hC hF dX3_judge_33 rfl (fun x_6 hF => ?_)
      refine g_iconst 35 hC (2 : Int32) dX3_judge_34 (by decide) rfl ?_
      refine g_icmp_ne 38 45 hC dX3_judge_35 (by decide) rfl (fun c => ?_) (fun c => ?_)
      · have hF := hF.1 c
        refine g_aload_n 46 hC dX3_judge_45 rfl 0 rfl rfl ?_
        refine gf_X3_7_3N 49 hC hF dX3_judge_46 rfl (fun a_7 hF => ?_)
        refine g_iload_n 50 hC dX3_judge_49 rfl 3 rfl rfl ?_
        refine g_iald 51 hC hF dX3_judge_50 rfl (fun x_8 hF => ?_)
        refine g_if_ne 54 61 hC dX3_judge_51 (by decide) rfl (fun c => ?_) (fun c => ?_)
        · have hF := hF.1 c
          refine g_aload_n 62 hC dX3_judge_61 rfl 0 rfl rfl ?_
          refine gf_X3_16_3N 65 hC hF dX3_judge_62 rfl (fun a_9 hF => ?_)
          refine g_iload_n 66 hC dX3_judge_65 rfl 3 rfl rfl ?_
          refine g_iald 67 hC hF dX3_judge_66 rfl (fun x_10 hF => ?_)
          refine g_aload_n 68 hC dX3_judge_67 rfl 0 rfl rfl ?_
          refine g_iload_n 69 hC dX3_judge_68 rfl 1 rfl rfl ?_
          refine g_cV (rest := [_]) wl_X3_98 hd_X3_sorts (ci := 3) rfl 72 hC hF.1 (met_X3_sorts hF.2) rfl ⟨Nat.le_of_ble_eq_true rfl, Nat.le_of_ble_eq_true rfl⟩ ⟨Nat.zero_le _, Nat.zero_le _⟩ rfl (Nat.le_of_ble_eq_true rfl) dX3_judge_69 rfl (g_ty_i 0 0 (Nat.le_refl _) (Nat.le_refl _) (fun x_12 M_11 hF => ?_))
          refine g_icmp_ge 75 82 hC dX3_judge_72 (by decide) rfl (fun c => ?_) (fun c => ?_)
          · have hF := hF.1 c
            refine g_iconst 83 hC (0 : Int32) dX3_judge_82 (by decide) rfl ?_
            refine g_istore 85 hC (lv' := [(4, .int _), (0, .ref _), (1, .int _), (2, .int _), (3, .int _)]) dX3_judge_83 rfl (by decide) rfl ?_
            refine g_iconst 86 hC (0 : Int32) dX3_judge_85 (by decide) rfl ?_
            refine g_istore 88 hC (lv' := [(5, .int _), (4, .int _), (0, .ref _), (1, .int _), (2, .int _), (3, .int _)]) dX3_judge_86 rfl (by decide) rfl ?_
            refine g_sub [2, 3, 4, 5, 1, 0] rfl ?_
            obtain ⟨n_13, hF⟩ := hF
            exact w_X3_judge_b88 hC _ _ _ _ n_13 _ _ _ hF
          · have hF := hF.2 c
            refine g_aload_n 76 hC dX3_judge_75 rfl 0 rfl rfl ?_
            refine g_bipush 78 hC (-2 : Int32) dX3_judge_76 (by decide) rfl ?_
            refine g_cV (rest := []) wl_X3_119 hd_X3_refuse (ci := 3) rfl 81 hC hF.1 (met_X3_refuse hF.2) rfl ⟨Nat.le_of_ble_eq_true rfl, Nat.le_of_ble_eq_true rfl⟩ ⟨Nat.zero_le _, Nat.zero_le _⟩ rfl (Nat.le_of_ble_eq_true rfl) dX3_judge_78 rfl (g_ty_i 0 0 (Nat.le_refl _) (Nat.le_refl _) (fun x_15 M_14 hF => ?_))
            exact g_ireturn hC ⟨_, rfl, hF⟩ dX3_judge_81 (Nat.zero_le _) (Nat.zero_le _)
        · have hF := hF.2 c
          refine g_aload_n 55 hC dX3_judge_54 rfl 0 rfl rfl ?_
          refine g_bipush 57 hC (-4 : Int32) dX3_judge_55 (by decide) rfl ?_
          refine g_cV (rest := []) wl_X3_119 hd_X3_refuse (ci := 3) rfl 60 hC hF.1 (met_X3_refuse hF.2) rfl ⟨Nat.le_of_ble_eq_true rfl, Nat.le_of_ble_eq_true rfl⟩ ⟨Nat.zero_le _, Nat.zero_le _⟩ rfl (Nat.le_of_ble_eq_true rfl) dX3_judge_57 rfl (g_ty_i 0 0 (Nat.le_refl _) (Nat.le_refl _) (fun x_17 M_16 hF => ?_))
          exact g_ireturn hC ⟨_, rfl, hF⟩ dX3_judge_60 (Nat.zero_le _) (Nat.zero_le _)
      · have hF := hF.2 c
        refine g_aload_n 39 hC dX3_judge_38 rfl 0 rfl rfl ?_
        refine g_bipush 41 hC (-3 : Int32) dX3_judge_39 (by decide) rfl ?_
        refine g_cV (rest := []) wl_X3_119 hd_X3_refuse (ci := 3) rfl 44 hC hF.1 (met_X3_refuse hF.2) rfl ⟨Nat.le_of_ble_eq_true rfl, Nat.le_of_ble_eq_true rfl⟩ ⟨Nat.zero_le _, Nat.zero_le _⟩ rfl (Nat.le_of_ble_eq_true rfl) dX3_judge_41 rfl (g_ty_i 0 0 (Nat.le_refl _) (Nat.le_refl _) (fun x_19 M_18 hF => ?_))
        exact g_ireturn hC ⟨_, rfl, hF⟩ dX3_judge_44 (Nat.zero_le _) (Nat.zero_le _)
    · have hF := hF.2 c
      refine g_sub [0] rfl ?_
      exact w_X3_judge_b21 hC _ _ hF
abbrev rm_X3_joinTo : Room := { frames := 1, cells := 0, slots := 0, locals := 21 }
def F_X3_joinTo_b37 (Q : gM → Prop)    (a0 : Nat) (x1 : Int32) (x2 : Int32) (x3 : Int32) : Nat → Int32 → gM → Prop
  | 0, _, _ => False
  | n + 1, x4, M =>
    rc M 3 a0 ∧ F_X3_sorts M a0 x2 fun x_2 M_1 =>
    ((((5 : Int32) * x_2) ≤ x4 →
      gN M_1 3 a0 12 fun a_3 =>
      aN M_1 (.array .int) a_3 x3 fun a_4 =>
      rc M_1 3 a0 ∧ F_X3_sorts M_1 a0 x1 fun x_6 M_5 =>
      rc M_5 3 a0 ∧ F_X3_sorts M_5 a0 x2 fun x_8 M_7 =>
      uI M_7 a_4 (4 : Int32) (x_6 + x_8) fun M_9 =>
      Q M_9) ∧
      (¬ ((5 : Int32) * x_2) ≤ x4 →
      gN M_1 3 a0 12 fun a_10 =>
      aN M_1 (.array .int) a_10 x3 fun a_11 =>
      rc M_1 3 a0 ∧ F_X3_sorts M_1 a0 x1 fun x_13 M_12 =>
      gN M_12 3 a0 12 fun a_14 =>
      aN M_12 (.array .int) a_14 x2 fun a_15 =>
      aI M_12 .int a_15 ((5 : Int32) + x4) fun x_16 =>
      uI M_12 a_11 (((5 : Int32) + ((5 : Int32) * x_13)) + x4) x_16 fun M_17 =>
      (F_X3_joinTo_b37 Q a0 x1 x2 x3 n) (x4 + (1 : Int32)) M_17))
theorem w_X3_joinTo_b37 {G : gG} {Q : gM → Prop} (hC : gCx G cX3_joinTo 5 RX3 none (gQv Q) rm_X3_joinTo)  (a0 : Nat) (x1 : Int32) (x2 : Int32) (x3 : Int32)  : ∀ (n : Nat) (x4 : Int32)   (M : gM), F_X3_joinTo_b37 Q a0 x1 x2 x3 n x4 M → gAt G 0 0 M [(0, .ref a0), (1, .int x1), (2, .int x2), (3, .int x3), (4, .int x4)] 37 [] := by
  intro n
  induction n with
  | zero =>
    intro x4 M hF
    exact hF.elim
  | succ n ih =>
    intro x4 M hF
    have hK37 := ih
    unfold F_X3_joinTo_b37 at hF
    refine g_iload 39 hC dX3_joinTo_37 rfl 4 rfl ?_
    refine g_iconst 40 hC (5 : Int32) dX3_joinTo_39 (by decide) rfl ?_
    refine g_aload_n 41 hC dX3_joinTo_40 rfl 0 rfl rfl ?_
    refine g_iload_n 42 hC dX3_joinTo_41 rfl 2 rfl rfl ?_
    refine g_cV (rest := [_, _]) wl_X3_98 hd_X3_sorts (ci := 3) rfl 45 hC hF.1 (met_X3_sorts hF.2) rfl ⟨Nat.le_of_ble_eq_true rfl, Nat.le_of_ble_eq_true rfl⟩ ⟨Nat.zero_le _, Nat.zero_le _⟩ rfl (Nat.le_of_ble_eq_true rfl) dX3_joinTo_42 rfl (g_ty_i 0 0 (Nat.le_refl _) (Nat.le_refl _) (fun x_2 M_1 hF => ?_))
    refine g_imul 46 hC dX3_joinTo_45 rfl ?_
    refine g_icmp_ge 49 85 hC dX3_joinTo_46 (by decide) rfl (fun c => ?_) (fun c => ?_)
    · have hF := hF.1 c
      refine g_aload_n 86 hC dX3_joinTo_85 rfl 0 rfl rfl ?_
      refine gf_X3_45_3N 89 hC hF dX3_joinTo_86 rfl (fun a_3 hF => ?_)
      refine g_iload_n 90 hC dX3_joinTo_89 rfl 3 rfl rfl ?_
      refine g_aaldN 91 hC hF (by decide) rfl (fun _ _ _ => rfl) dX3_joinTo_90 rfl (fun a_4 hF => ?_)
      refine g_iconst 92 hC (4 : Int32) dX3_joinTo_91 (by decide) rfl ?_
      refine g_aload_n 93 hC dX3_joinTo_92 rfl 0 rfl rfl ?_
      refine g_iload_n 94 hC dX3_joinTo_93 rfl 1 rfl rfl ?_
      refine g_cV (rest := [_, _]) wl_X3_98 hd_X3_sorts (ci := 3) rfl 97 hC hF.1 (met_X3_sorts hF.2) rfl ⟨Nat.le_of_ble_eq_true rfl, Nat.le_of_ble_eq_true rfl⟩ ⟨Nat.zero_le _, Nat.zero_le _⟩ rfl (Nat.le_of_ble_eq_true rfl) dX3_joinTo_94 rfl (g_ty_i 0 0 (Nat.le_refl _) (Nat.le_refl _) (fun x_6 M_5 hF => ?_))
      refine g_aload_n 98 hC dX3_joinTo_97 rfl 0 rfl rfl ?_
      refine g_iload_n 99 hC dX3_joinTo_98 rfl 2 rfl rfl ?_
      refine g_cV (rest := [_, _, _]) wl_X3_98 hd_X3_sorts (ci := 3) rfl 102 hC hF.1 (met_X3_sorts hF.2) rfl ⟨Nat.le_of_ble_eq_true rfl, Nat.le_of_ble_eq_true rfl⟩ ⟨Nat.zero_le _, Nat.zero_le _⟩ rfl (Nat.le_of_ble_eq_true rfl) dX3_joinTo_99 rfl (g_ty_i 0 0 (Nat.le_refl _) (Nat.le_refl _) (fun x_8 M_7 hF => ?_))
      refine g_iadd 103 hC dX3_joinTo_102 rfl ?_
      refine g_iast 104 hC hF dX3_joinTo_103 rfl (fun M_9 hF => ?_)
      exact g_return hC ⟨rfl, hF⟩ dX3_joinTo_104 (Nat.zero_le _) (Nat.zero_le _)
    · have hF := hF.2 c
      refine g_aload_n 50 hC dX3_joinTo_49 rfl 0 rfl rfl ?_
      refine gf_X3_45_3N 53 hC hF dX3_joinTo_50 rfl (fun a_10 hF => ?_)
      refine g_iload_n 54 hC dX3_joinTo_53 rfl 3 rfl rfl ?_
      refine g_aaldN 55 hC hF (by decide) rfl (fun _ _ _ => rfl) dX3_joinTo_54 rfl (fun a_11 hF => ?_)
      refine g_iconst 56 hC (5 : Int32) dX3_joinTo_55 (by decide) rfl ?_
      refine g_iconst 57 hC (5 : Int32) dX3_joinTo_56 (by decide) rfl ?_
      refine g_aload_n 58 hC dX3_joinTo_57 rfl 0 rfl rfl ?_
      refine g_iload_n 59 hC dX3_joinTo_58 rfl 1 rfl rfl ?_
      refine g_cV (rest := [_, _, _]) wl_X3_98 hd_X3_sorts (ci := 3) rfl 62 hC hF.1 (met_X3_sorts hF.2) rfl ⟨Nat.le_of_ble_eq_true rfl, Nat.le_of_ble_eq_true rfl⟩ ⟨Nat.zero_le _, Nat.zero_le _⟩ rfl (Nat.le_of_ble_eq_true rfl) dX3_joinTo_59 rfl (g_ty_i 0 0 (Nat.le_refl _) (Nat.le_refl _) (fun x_13 M_12 hF => ?_))
      refine g_imul 63 hC dX3_joinTo_62 rfl ?_
      refine g_iadd 64 hC dX3_joinTo_63 rfl ?_
      refine g_iload 66 hC dX3_joinTo_64 rfl 4 rfl ?_
      refine g_iadd 67 hC dX3_joinTo_66 rfl ?_
      refine g_aload_n 68 hC dX3_joinTo_67 rfl 0 rfl rfl ?_
      refine gf_X3_45_3N 71 hC hF dX3_joinTo_68 rfl (fun a_14 hF => ?_)
      refine g_iload_n 72 hC dX3_joinTo_71 rfl 2 rfl rfl ?_
      refine g_aaldN 73 hC hF (by decide) rfl (fun _ _ _ => rfl) dX3_joinTo_72 rfl (fun a_15 hF => ?_)
      refine g_iconst 74 hC (5 : Int32) dX3_joinTo_73 (by decide) rfl ?_
      refine g_iload 76 hC dX3_joinTo_74 rfl 4 rfl ?_
      refine g_iadd 77 hC dX3_joinTo_76 rfl ?_
      refine g_iald 78 hC hF dX3_joinTo_77 rfl (fun x_16 hF => ?_)
      refine g_iast 79 hC hF dX3_joinTo_78 rfl (fun M_17 hF => ?_)
      refine g_iinc 82 hC (x4 + (1 : Int32)) (lv' := [(4, .int _), (0, .ref _), (1, .int _), (2, .int _), (3, .int _)]) dX3_joinTo_79 rfl 4 rfl rfl (by decide) rfl ?_
      refine g_goto 37 hC dX3_joinTo_82 (by decide) ?_
      refine g_sub [1, 2, 3, 4, 0] rfl ?_
      exact hK37 _ _ hF
def F_X3_joinTo_b3 (Q : gM → Prop)    (a0 : Nat) (x1 : Int32) (x2 : Int32) (x3 : Int32) : Nat → Int32 → gM → Prop
  | 0, _, _ => False
  | n + 1, x4, M =>
    (((20 : Int32) ≤ x4 →
      ∃ n_1, F_X3_joinTo_b37 Q a0 x1 x2 x3 n_1 (0 : Int32) M) ∧
      (¬ (20 : Int32) ≤ x4 →
      gN M 3 a0 12 fun a_2 =>
      aN M (.array .int) a_2 x3 fun a_3 =>
      gN M 3 a0 12 fun a_4 =>
      aN M (.array .int) a_4 x1 fun a_5 =>
      aI M .int a_5 x4 fun x_6 =>
      uI M a_3 x4 x_6 fun M_7 =>
      (F_X3_joinTo_b3 Q a0 x1 x2 x3 n) (x4 + (1 : Int32)) M_7))
theorem w_X3_joinTo_b3 {G : gG} {Q : gM → Prop} (hC : gCx G cX3_joinTo 5 RX3 none (gQv Q) rm_X3_joinTo)  (a0 : Nat) (x1 : Int32) (x2 : Int32) (x3 : Int32)  : ∀ (n : Nat) (x4 : Int32)   (M : gM), F_X3_joinTo_b3 Q a0 x1 x2 x3 n x4 M → gAt G 0 0 M [(0, .ref a0), (1, .int x1), (2, .int x2), (3, .int x3), (4, .int x4)] 3 [] := by
  intro n
  induction n with
  | zero =>
    intro x4 M hF
    exact hF.elim
  | succ n ih =>
    intro x4 M hF
    have hK3 := ih
    unfold F_X3_joinTo_b3 at hF
    refine g_iload 5 hC dX3_joinTo_3 rfl 4 rfl ?_
    refine g_bipush 7 hC (20 : Int32) dX3_joinTo_5 (by decide) rfl ?_
    refine g_icmp_ge 10 34 hC dX3_joinTo_7 (by decide) rfl (fun c => ?_) (fun c => ?_)
    · have hF := hF.1 c
      refine g_iconst 35 hC (0 : Int32) dX3_joinTo_34 (by decide) rfl ?_
      refine g_istore 37 hC (lv' := [(4, .int _), (0, .ref _), (1, .int _), (2, .int _), (3, .int _)]) dX3_joinTo_35 rfl (by decide) rfl ?_
      refine g_sub [1, 2, 3, 4, 0] rfl ?_
      obtain ⟨n_1, hF⟩ := hF
      exact w_X3_joinTo_b37 hC _ _ _ _ n_1 _ _ hF
    · have hF := hF.2 c
      refine g_aload_n 11 hC dX3_joinTo_10 rfl 0 rfl rfl ?_
      refine gf_X3_45_3N 14 hC hF dX3_joinTo_11 rfl (fun a_2 hF => ?_)
      refine g_iload_n 15 hC dX3_joinTo_14 rfl 3 rfl rfl ?_
      refine g_aaldN 16 hC hF (by decide) rfl (fun _ _ _ => rfl) dX3_joinTo_15 rfl (fun a_3 hF => ?_)
      refine g_iload 18 hC dX3_joinTo_16 rfl 4 rfl ?_
      refine g_aload_n 19 hC dX3_joinTo_18 rfl 0 rfl rfl ?_
      refine gf_X3_45_3N 22 hC hF dX3_joinTo_19 rfl (fun a_4 hF => ?_)
      refine g_iload_n 23 hC dX3_joinTo_22 rfl 1 rfl rfl ?_
      refine g_aaldN 24 hC hF (by decide) rfl (fun _ _ _ => rfl) dX3_joinTo_23 rfl (fun a_5 hF => ?_)
      refine g_iload 26 hC dX3_joinTo_24 rfl 4 rfl ?_
      refine g_iald 27 hC hF dX3_joinTo_26 rfl (fun x_6 hF => ?_)
      refine g_iast 28 hC hF dX3_joinTo_27 rfl (fun M_7 hF => ?_)
      refine g_iinc 31 hC (x4 + (1 : Int32)) (lv' := [(4, .int _), (0, .ref _), (1, .int _), (2, .int _), (3, .int _)]) dX3_joinTo_28 rfl 4 rfl rfl (by decide) rfl ?_
      refine g_goto 3 hC dX3_joinTo_31 (by decide) ?_
      refine g_sub [1, 2, 3, 4, 0] rfl ?_
      exact hK3 _ _ hF
def F_X3_joinTo  (M : gM) (a0 : Nat) (x1 : Int32) (x2 : Int32) (x3 : Int32) (Q : gM → Prop)  : Prop :=
  ∃ n_1, F_X3_joinTo_b3 Q a0 x1 x2 x3 n_1 (0 : Int32) M
theorem met_X3_joinTo {M : gM} {a0 : Nat} {x1 : Int32} {x2 : Int32} {x3 : Int32} {Q : gM → Prop} (hF : F_X3_joinTo M a0 x1 x2 x3 Q) : gMt yX3_joinTo (ws_ yX3_joinTo cX3_joinTo 5 none) rm_X3_joinTo M [.ref a0, .int x1, .int x2, .int x3] (gQv Q) := by
  refine gMet (bytes := cX3_joinTo) (maxL := 5) (ret := none) rfl rfl (by decide) (Nat.le_of_ble_eq_true rfl) (lv := [(0, .ref a0), (1, .int x1), (2, .int x2), (3, .int x3)]) rfl (fun G hC hin => ?_)
  unfold F_X3_joinTo at hF
  refine g_iconst 1 hC (0 : Int32) dX3_joinTo_0 (by decide) rfl ?_
  refine g_istore 3 hC (lv' := [(4, .int _), (0, .ref _), (1, .int _), (2, .int _), (3, .int _)]) dX3_joinTo_1 rfl (by decide) rfl ?_
  refine g_sub [1, 2, 3, 4, 0] rfl ?_
  obtain ⟨n_1, hF⟩ := hF
  exact w_X3_joinTo_b3 hC _ _ _ _ n_1 _ _ hF
abbrev rm_X3_mayJoin : Room := { frames := 1, cells := 0, slots := 0, locals := 21 }
def F_X3_mayJoin  (M : gM) (a0 : Nat) (x1 : Int32) (x2 : Int32) (Q : Int32 → gM → Prop)  : Prop :=
  gN M 3 a0 12 fun a_1 =>
  aN M (.array .int) a_1 x1 fun a_2 =>
  aI M .int a_2 (0 : Int32) fun x_3 =>
  gN M 3 a0 12 fun a_4 =>
  aN M (.array .int) a_4 x2 fun a_5 =>
  aI M .int a_5 (0 : Int32) fun x_6 =>
  ((¬ x_3 = x_6 →
    Q (0 : Int32) M) ∧
    (x_3 = x_6 →
    rc M 3 a0 ∧ F_X3_sorts M a0 x1 fun x_8 M_7 =>
    rc M_7 3 a0 ∧ F_X3_sorts M_7 a0 x2 fun x_10 M_9 =>
    (((3 : Int32) < (x_8 + x_10) →
      Q (0 : Int32) M_9) ∧
      (¬ (3 : Int32) < (x_8 + x_10) →
      Q (1 : Int32) M_9))))
theorem met_X3_mayJoin {M : gM} {a0 : Nat} {x1 : Int32} {x2 : Int32} {Q : Int32 → gM → Prop} (hF : F_X3_mayJoin M a0 x1 x2 Q) : gMt yX3_mayJoin (ws_ yX3_mayJoin cX3_mayJoin 3 (some .boolean)) rm_X3_mayJoin M [.ref a0, .int x1, .int x2] (gQi Q) := by
  refine gMet (bytes := cX3_mayJoin) (maxL := 3) (ret := (some .boolean)) rfl rfl (by decide) (Nat.le_of_ble_eq_true rfl) (lv := [(0, .ref a0), (1, .int x1), (2, .int x2)]) rfl (fun G hC hin => ?_)
  unfold F_X3_mayJoin at hF
  refine g_aload_n 1 hC dX3_mayJoin_0 rfl 0 rfl rfl ?_
  refine gf_X3_45_3N 4 hC hF dX3_mayJoin_1 rfl (fun a_1 hF => ?_)
  refine g_iload_n 5 hC dX3_mayJoin_4 rfl 1 rfl rfl ?_
  refine g_aaldN 6 hC hF (by decide) rfl (fun _ _ _ => rfl) dX3_mayJoin_5 rfl (fun a_2 hF => ?_)
  refine g_iconst 7 hC (0 : Int32) dX3_mayJoin_6 (by decide) rfl ?_
  refine g_iald 8 hC hF dX3_mayJoin_7 rfl (fun x_3 hF => ?_)
  refine g_aload_n 9 hC dX3_mayJoin_8 rfl 0 rfl rfl ?_
  refine gf_X3_45_3N 12 hC hF dX3_mayJoin_9 rfl (fun a_4 hF => ?_)
  refine g_iload_n 13 hC dX3_mayJoin_12 rfl 2 rfl rfl ?_
  refine g_aaldN 14 hC hF (by decide) rfl (fun _ _ _ => rfl) dX3_mayJoin_13 rfl (fun a_5 hF => ?_)
  refine g_iconst 15 hC (0 : Int32) dX3_mayJoin_14 (by decide) rfl ?_
  refine g_iald 16 hC hF dX3_mayJoin_15 rfl (fun x_6 hF => ?_)
  refine g_icmp_ne 19 38 hC dX3_mayJoin_16 (by decide) rfl (fun c => ?_) (fun c => ?_)
  · have hF := hF.1 c
    refine g_iconst 39 hC (0 : Int32) dX3_mayJoin_38 (by decide) rfl ?_
    exact g_zreturn hC ⟨_, rfl, hF⟩ (Or.inl rfl) dX3_mayJoin_39 (Nat.zero_le _) (Nat.zero_le _)
  · have hF := hF.2 c
    refine g_aload_n 20 hC dX3_mayJoin_19 rfl 0 rfl rfl ?_
    refine g_iload_n 21 hC dX3_mayJoin_20 rfl 1 rfl rfl ?_
    refine g_cV (rest := []) wl_X3_98 hd_X3_sorts (ci := 3) rfl 24 hC hF.1 (met_X3_sorts hF.2) rfl ⟨Nat.le_of_ble_eq_true rfl, Nat.le_of_ble_eq_true rfl⟩ ⟨Nat.zero_le _, Nat.zero_le _⟩ rfl (Nat.le_of_ble_eq_true rfl) dX3_mayJoin_21 rfl (g_ty_i 0 0 (Nat.le_refl _) (Nat.le_refl _) (fun x_8 M_7 hF => ?_))
    refine g_aload_n 25 hC dX3_mayJoin_24 rfl 0 rfl rfl ?_
    refine g_iload_n 26 hC dX3_mayJoin_25 rfl 2 rfl rfl ?_
    refine g_cV (rest := [_]) wl_X3_98 hd_X3_sorts (ci := 3) rfl 29 hC hF.1 (met_X3_sorts hF.2) rfl ⟨Nat.le_of_ble_eq_true rfl, Nat.le_of_ble_eq_true rfl⟩ ⟨Nat.zero_le _, Nat.zero_le _⟩ rfl (Nat.le_of_ble_eq_true rfl) dX3_mayJoin_26 rfl (g_ty_i 0 0 (Nat.le_refl _) (Nat.le_refl _) (fun x_10 M_9 hF => ?_))
    refine g_iadd 30 hC dX3_mayJoin_29 rfl ?_
    refine g_iconst 31 hC (3 : Int32) dX3_mayJoin_30 (by decide) rfl ?_
    refine g_icmp_gt 34 38 hC dX3_mayJoin_31 (by decide) rfl (fun c => ?_) (fun c => ?_)
    · have hF := hF.1 c
      refine g_iconst 39 hC (0 : Int32) dX3_mayJoin_38 (by decide) rfl ?_
      exact g_zreturn hC ⟨_, rfl, hF⟩ (Or.inl rfl) dX3_mayJoin_39 (Nat.zero_le _) (Nat.zero_le _)
    · have hF := hF.2 c
      refine g_iconst 35 hC (1 : Int32) dX3_mayJoin_34 (by decide) rfl ?_
      refine g_goto 39 hC dX3_mayJoin_35 (by decide) ?_
      exact g_zreturn hC ⟨_, rfl, hF⟩ (Or.inr rfl) dX3_mayJoin_39 (Nat.zero_le _) (Nat.zero_le _)
theorem hd_X3_mayJoin : yX3_mayJoin.cls = RX3 ∧ yX3_mayJoin.cls ≠ "java/lang/invoke/MethodHandle" ∧ yX3_mayJoin.cls ≠ "java/lang/invoke/VarHandle" ∧ (parseMethodDescriptor yX3_mayJoin.desc).map (fun d => d.parameters.length) = some 2 := by decide +kernel
theorem wl_X3_319 : GoodIn lw_all (wsV RX3 319 RX3 yX3_mayJoin (ws_ yX3_mayJoin cX3_mayJoin 3 (some .boolean))) := lw_V q1881 q1883 qs62 q72 q1884
theorem hd_X3_joinTo : yX3_joinTo.cls = RX3 ∧ yX3_joinTo.cls ≠ "java/lang/invoke/MethodHandle" ∧ yX3_joinTo.cls ≠ "java/lang/invoke/VarHandle" ∧ (parseMethodDescriptor yX3_joinTo.desc).map (fun d => d.parameters.length) = some 3 := by decide +kernel
theorem wl_X3_322 : GoodIn lw_all (wsV RX3 322 RX3 yX3_joinTo (ws_ yX3_joinTo cX3_joinTo 5 none)) := lw_V q1885 q1887 qs63 q72 q1888
abbrev rm_X3_join : Room := { frames := 2, cells := 0, slots := 0, locals := 46 }
def F_X3_join_b21 (Q : Int32 → gM → Prop)    (a0 : Nat)   (M : gM) : Prop :=
  rc M 3 a0 ∧ F_X3_refuse M a0 (-2 : Int32) fun x_2 M_1 =>
  Q x_2 M_1
theorem w_X3_join_b21 {G : gG} {Q : Int32 → gM → Prop} (hC : gCx G cX3_join 3 RX3 (some .int) (gQi Q) rm_X3_join)  (a0 : Nat)     (M : gM) (hF : F_X3_join_b21 Q a0 M) : gAt G 0 0 M [(0, .ref a0)] 21 [] := by
  unfold F_X3_join_b21 at hF
  refine g_aload_n 22 hC dX3_join_21 rfl 0 rfl rfl ?_
  refine g_bipush 24 hC (-2 : Int32) dX3_join_22 (by decide) rfl ?_
  refine g_cV (rest := []) wl_X3_119 hd_X3_refuse (ci := 3) rfl 27 hC hF.1 (met_X3_refuse hF.2) rfl ⟨Nat.le_of_ble_eq_true rfl, Nat.le_of_ble_eq_true rfl⟩ ⟨Nat.zero_le _, Nat.zero_le _⟩ rfl (Nat.le_of_ble_eq_true rfl) dX3_join_24 rfl (g_ty_i 0 0 (Nat.le_refl _) (Nat.le_refl _) (fun x_2 M_1 hF => ?_))
  exact g_ireturn hC ⟨_, rfl, hF⟩ dX3_join_27 (Nat.zero_le _) (Nat.zero_le _)
def F_X3_join  (M : gM) (a0 : Nat) (x1 : Int32) (x2 : Int32) (Q : Int32 → gM → Prop)  : Prop :=
  rc M 3 a0 ∧ F_X3_isHouse M a0 x1 fun x_2 M_1 =>
  ((x_2 = 0 →
    F_X3_join_b21 Q a0 M_1) ∧
    (¬ x_2 = 0 →
    rc M_1 3 a0 ∧ F_X3_isHouse M_1 a0 x2 fun x_4 M_3 =>
    ((x_4 = 0 →
      F_X3_join_b21 Q a0 M_3) ∧
      (¬ x_4 = 0 →
      ((¬ x1 = x2 →
        rc M_3 3 a0 ∧ F_X3_mayJoin M_3 a0 x1 x2 fun x_6 M_5 =>
        ((¬ x_6 = 0 →
          gI M_5 3 a0 11 fun x_7 =>
          ((¬ x_7 = (6 : Int32) →
            gI M_5 3 a0 11 fun x_8 =>
            rc M_5 3 a0 ∧ F_X3_joinTo M_5 a0 x1 x2 x_8 fun M_9 =>
            gI M_9 3 a0 11 fun x_11 =>
            pI M_9 3 a0 11 (x_11 + (1 : Int32)) fun M_12 =>
            Q x_11 M_12) ∧
            (x_7 = (6 : Int32) →
            rc M_5 3 a0 ∧ F_X3_refuse M_5 a0 (-6 : Int32) fun x_14 M_13 =>
            Q x_14 M_13))) ∧
          (x_6 = 0 →
          rc M_5 3 a0 ∧ F_X3_refuse M_5 a0 (-5 : Int32) fun x_16 M_15 =>
          Q x_16 M_15))) ∧
        (x1 = x2 →
        F_X3_join_b21 Q a0 M_3))))))
theorem met_X3_join {M : gM} {a0 : Nat} {x1 : Int32} {x2 : Int32} {Q : Int32 → gM → Prop} (hF : F_X3_join M a0 x1 x2 Q) : gMt yX3_join (ws_ yX3_join cX3_join 3 (some .int)) rm_X3_join M [.ref a0, .int x1, .int x2] (gQi Q) := by
  refine gMet (bytes := cX3_join) (maxL := 3) (ret := (some .int)) rfl rfl (by decide) (Nat.le_of_ble_eq_true rfl) (lv := [(0, .ref a0), (1, .int x1), (2, .int x2)]) rfl (fun G hC hin => ?_)
  unfold F_X3_join at hF
  refine g_aload_n 1 hC dX3_join_0 rfl 0 rfl rfl ?_
  refine g_iload_n 2 hC dX3_join_1 rfl 1 rfl rfl ?_
  refine g_cV (rest := []) wl_X3_106 hd_X3_isHouse (ci := 3) rfl 5 hC hF.1 (met_X3_isHouse hF.2) rfl ⟨Nat.le_of_ble_eq_true rfl, Nat.le_of_ble_eq_true rfl⟩ ⟨Nat.zero_le _, Nat.zero_le _⟩ rfl (Nat.le_of_ble_eq_true rfl) dX3_join_2 rfl (g_ty_i 0 0 (Nat.le_refl _) (Nat.le_refl _) (fun x_2 M_1 hF => ?_))
  refine g_if_eq 8 21 hC dX3_join_5 (by decide) rfl (fun c => ?_) (fun c => ?_)
  · have hF := hF.1 c
    refine g_sub [0] rfl ?_
    exact w_X3_join_b21 hC _ _ hF
  · have hF := hF.2 c
    refine g_aload_n 9 hC dX3_join_8 rfl 0 rfl rfl ?_
    refine g_iload_n 10 hC dX3_join_9 rfl 2 rfl rfl ?_
    refine g_cV (rest := []) wl_X3_106 hd_X3_isHouse (ci := 3) rfl 13 hC hF.1 (met_X3_isHouse hF.2) rfl ⟨Nat.le_of_ble_eq_true rfl, Nat.le_of_ble_eq_true rfl⟩ ⟨Nat.zero_le _, Nat.zero_le _⟩ rfl (Nat.le_of_ble_eq_true rfl) dX3_join_10 rfl (g_ty_i 0 0 (Nat.le_refl _) (Nat.le_refl _) (fun x_4 M_3 hF => ?_))
    refine g_if_eq 16 21 hC dX3_join_13 (by decide) rfl (fun c => ?_) (fun c => ?_)
    · have hF := hF.1 c
      refine g_sub [0] rfl ?_
      exact w_X3_join_b21 hC _ _ hF
    · have hF := hF.2 c
      refine g_iload_n 17 hC dX3_join_16 rfl 1 rfl rfl ?_
      refine g_iload_n 18 hC dX3_join_17 rfl 2 rfl rfl ?_
      refine g_icmp_ne 21 28 hC dX3_join_18 (by decide) rfl (fun c => ?_) (fun c => ?_)
      · have hF := hF.1 c
        refine g_aload_n 29 hC dX3_join_28 rfl 0 rfl rfl ?_
        refine g_iload_n 30 hC dX3_join_29 rfl 1 rfl rfl ?_
        refine g_iload_n 31 hC dX3_join_30 rfl 2 rfl rfl ?_
        refine g_cV (rest := []) wl_X3_319 hd_X3_mayJoin (ci := 3) rfl 34 hC hF.1 (met_X3_mayJoin hF.2) rfl ⟨Nat.le_of_ble_eq_true rfl, Nat.le_of_ble_eq_true rfl⟩ ⟨Nat.zero_le _, Nat.zero_le _⟩ rfl (Nat.le_of_ble_eq_true rfl) dX3_join_31 rfl (g_ty_i 0 0 (Nat.le_refl _) (Nat.le_refl _) (fun x_6 M_5 hF => ?_))
        refine g_if_ne 37 44 hC dX3_join_34 (by decide) rfl (fun c => ?_) (fun c => ?_)
        · have hF := hF.1 c
          refine g_aload_n 45 hC dX3_join_44 rfl 0 rfl rfl ?_
          refine gf_X3_91_3I 48 hC hF dX3_join_45 rfl (fun x_7 hF => ?_)
          refine g_bipush 50 hC (6 : Int32) dX3_join_48 (by decide) rfl ?_
          refine g_icmp_ne 53 60 hC dX3_join_50 (by decide) rfl (fun c => ?_) (fun c => ?_)
          · have hF := hF.1 c
            refine g_aload_n 61 hC dX3_join_60 rfl 0 rfl rfl ?_
            refine g_iload_n 62 hC dX3_join_61 rfl 1 rfl rfl ?_
            refine g_iload_n 63 hC dX3_join_62 rfl 2 rfl rfl ?_
            refine g_aload_n 64 hC dX3_join_63 rfl 0 rfl rfl ?_
            refine gf_X3_91_3I 67 hC hF dX3_join_64 rfl (fun x_8 hF => ?_)
            refine g_cV (rest := []) wl_X3_322 hd_X3_joinTo (ci := 3) rfl 70 hC hF.1 (met_X3_joinTo hF.2) rfl ⟨Nat.le_of_ble_eq_true rfl, Nat.le_of_ble_eq_true rfl⟩ ⟨Nat.zero_le _, Nat.zero_le _⟩ rfl (Nat.le_of_ble_eq_true rfl) dX3_join_67 rfl (g_ty_v 0 0 (Nat.le_refl _) (Nat.le_refl _) (fun M_9 hF => ?_))
            refine g_aload_n 71 hC dX3_join_70 rfl 0 rfl rfl ?_
            refine g_dup 72 hC dX3_join_71 rfl rfl ?_
            refine gf_X3_91_3I 75 hC hF dX3_join_72 rfl (fun x_11 hF => ?_)
            refine g_dup_x1 76 hC dX3_join_75 rfl rfl rfl ?_
            refine g_iconst 77 hC (1 : Int32) dX3_join_76 (by decide) rfl ?_
            refine g_iadd 78 hC dX3_join_77 rfl ?_
            refine g_putI (C := RX3) (T := TX3) (N := 46) (ci := 3) (k := 11) (ty := .int) in_X3 tyX3 tyX3_ok nmX3 rfl (by decide) q1398 rfl rfl (fun _ _ _ => rfl) rfl rfl 81 hC hF dX3_join_78 rfl (fun M_12 hF => ?_)
            exact g_ireturn hC ⟨_, rfl, hF⟩ dX3_join_81 (Nat.zero_le _) (Nat.zero_le _)
          · have hF := hF.2 c
            refine g_aload_n 54 hC dX3_join_53 rfl 0 rfl rfl ?_
            refine g_bipush 56 hC (-6 : Int32) dX3_join_54 (by decide) rfl ?_
            refine g_cV (rest := []) wl_X3_119 hd_X3_refuse (ci := 3) rfl 59 hC hF.1 (met_X3_refuse hF.2) rfl ⟨Nat.le_of_ble_eq_true rfl, Nat.le_of_ble_eq_true rfl⟩ ⟨Nat.zero_le _, Nat.zero_le _⟩ rfl (Nat.le_of_ble_eq_true rfl) dX3_join_56 rfl (g_ty_i 0 0 (Nat.le_refl _) (Nat.le_refl _) (fun x_14 M_13 hF => ?_))
            exact g_ireturn hC ⟨_, rfl, hF⟩ dX3_join_59 (Nat.zero_le _) (Nat.zero_le _)
        · have hF := hF.2 c
          refine g_aload_n 38 hC dX3_join_37 rfl 0 rfl rfl ?_
          refine g_bipush 40 hC (-5 : Int32) dX3_join_38 (by decide) rfl ?_
          refine g_cV (rest := []) wl_X3_119 hd_X3_refuse (ci := 3) rfl 43 hC hF.1 (met_X3_refuse hF.2) rfl ⟨Nat.le_of_ble_eq_true rfl, Nat.le_of_ble_eq_true rfl⟩ ⟨Nat.zero_le _, Nat.zero_le _⟩ rfl (Nat.le_of_ble_eq_true rfl) dX3_join_40 rfl (g_ty_i 0 0 (Nat.le_refl _) (Nat.le_refl _) (fun x_16 M_15 hF => ?_))
          exact g_ireturn hC ⟨_, rfl, hF⟩ dX3_join_43 (Nat.zero_le _) (Nat.zero_le _)
      · have hF := hF.2 c
        refine g_sub [0] rfl ?_
        exact w_X3_join_b21 hC _ _ hF
abbrev rm_X3_wholeCost : Room := { frames := 5, cells := 0, slots := 0, locals := 129 }
def F_X3_wholeCost  (M : gM) (a0 : Nat) (x1 : Int32) (Q : Int64 → gM → Prop)  : Prop :=
  rc M 3 a0 ∧ F_X3_findBest M a0 x1 fun M_1 =>
  gN M_1 3 a0 28 fun a_3 =>
  gN M_1 3 a0 12 fun a_4 =>
  aN M_1 (.array .int) a_4 x1 fun a_5 =>
  aI M_1 .int a_5 (0 : Int32) fun x_6 =>
  aN M_1 (.array .long) a_3 x_6 fun a_7 =>
  aJ M_1 a_7 (0 : Int32) fun j_8 =>
  Q j_8 M_1
theorem met_X3_wholeCost {M : gM} {a0 : Nat} {x1 : Int32} {Q : Int64 → gM → Prop} (hF : F_X3_wholeCost M a0 x1 Q) : gMt yX3_wholeCost (ws_ yX3_wholeCost cX3_wholeCost 2 (some .long)) rm_X3_wholeCost M [.ref a0, .int x1] (gQj Q) := by
  refine gMet (bytes := cX3_wholeCost) (maxL := 2) (ret := (some .long)) rfl rfl (by decide) (Nat.le_of_ble_eq_true rfl) (lv := [(0, .ref a0), (1, .int x1)]) rfl (fun G hC hin => ?_)
  unfold F_X3_wholeCost at hF
  refine g_aload_n 1 hC dX3_wholeCost_0 rfl 0 rfl rfl ?_
  refine g_iload_n 2 hC dX3_wholeCost_1 rfl 1 rfl rfl ?_
  refine g_cV (rest := []) wl_X3_264 hd_X3_findBest (ci := 3) rfl 5 hC hF.1 (met_X3_findBest hF.2) rfl ⟨Nat.le_of_ble_eq_true rfl, Nat.le_of_ble_eq_true rfl⟩ ⟨Nat.zero_le _, Nat.zero_le _⟩ rfl (Nat.le_of_ble_eq_true rfl) dX3_wholeCost_2 rfl (g_ty_v 0 0 (Nat.le_refl _) (Nat.le_refl _) (fun M_1 hF => ?_))
  refine g_aload_n 6 hC dX3_wholeCost_5 rfl 0 rfl rfl ?_
  refine gf_X3_55_3N 9 hC hF dX3_wholeCost_6 rfl (fun a_3 hF => ?_)
  refine g_aload_n 10 hC dX3_wholeCost_9 rfl 0 rfl rfl ?_
  refine gf_X3_45_3N 13 hC hF dX3_wholeCost_10 rfl (fun a_4 hF => ?_)
  refine g_iload_n 14 hC dX3_wholeCost_13 rfl 1 rfl rfl ?_
  refine g_aaldN 15 hC hF (by decide) rfl (fun _ _ _ => rfl) dX3_wholeCost_14 rfl (fun a_5 hF => ?_)
  refine g_iconst 16 hC (0 : Int32) dX3_wholeCost_15 (by decide) rfl ?_
  refine g_iald 17 hC hF dX3_wholeCost_16 rfl (fun x_6 hF => ?_)
  refine g_aaldN 18 hC hF (by decide) rfl (fun _ _ _ => rfl) dX3_wholeCost_17 rfl (fun a_7 hF => ?_)
  refine g_iconst 19 hC (0 : Int32) dX3_wholeCost_18 (by decide) rfl ?_
  refine g_lald 20 hC hF dX3_wholeCost_19 rfl (fun j_8 hF => ?_)
  exact g_lreturn hC ⟨_, rfl, hF⟩ dX3_wholeCost_20 (Nat.zero_le _) (Nat.zero_le _)
theorem hd_X3_wholeCost : yX3_wholeCost.cls = RX3 ∧ yX3_wholeCost.cls ≠ "java/lang/invoke/MethodHandle" ∧ yX3_wholeCost.cls ≠ "java/lang/invoke/VarHandle" ∧ (parseMethodDescriptor yX3_wholeCost.desc).map (fun d => d.parameters.length) = some 1 := by decide +kernel
theorem wl_X3_326 : GoodIn lw_all (wsV RX3 326 RX3 yX3_wholeCost (ws_ yX3_wholeCost cX3_wholeCost 2 (some .long))) := lw_V q1893 q1895 qs64 q72 q1896
abbrev rm_X3_saved : Room := { frames := 6, cells := 0, slots := 0, locals := 150 }
def F_X3_saved_b21 (Q : Int64 → gM → Prop)    (a0 : Nat)   (M : gM) : Prop :=
  rc M 3 a0 ∧ F_X3_refuse M a0 (-2 : Int32) fun x_2 M_1 =>
  Q x_2.toInt64 M_1
theorem w_X3_saved_b21 {G : gG} {Q : Int64 → gM → Prop} (hC : gCx G cX3_saved 12 RX3 (some .long) (gQj Q) rm_X3_saved)  (a0 : Nat)     (M : gM) (hF : F_X3_saved_b21 Q a0 M) : gAt G 0 0 M [(0, .ref a0)] 21 [] := by
  unfold F_X3_saved_b21 at hF
  refine g_aload_n 22 hC dX3_saved_21 rfl 0 rfl rfl ?_
  refine g_bipush 24 hC (-2 : Int32) dX3_saved_22 (by decide) rfl ?_
  refine g_cV (rest := []) wl_X3_119 hd_X3_refuse (ci := 3) rfl 27 hC hF.1 (met_X3_refuse hF.2) rfl ⟨Nat.le_of_ble_eq_true rfl, Nat.le_of_ble_eq_true rfl⟩ ⟨Nat.zero_le _, Nat.zero_le _⟩ rfl (Nat.le_of_ble_eq_true rfl) dX3_saved_24 rfl (g_ty_i 0 0 (Nat.le_refl _) (Nat.le_refl _) (fun x_2 M_1 hF => ?_))
  refine g_i2l 28 hC dX3_saved_27 rfl ?_
  exact g_lreturn hC ⟨_, rfl, hF⟩ dX3_saved_28 (Nat.zero_le _) (Nat.zero_le _)
def F_X3_saved  (M : gM) (a0 : Nat) (x1 : Int32) (x2 : Int32) (Q : Int64 → gM → Prop)  : Prop :=
  rc M 3 a0 ∧ F_X3_isHouse M a0 x1 fun x_2 M_1 =>
  ((x_2 = 0 →
    F_X3_saved_b21 Q a0 M_1) ∧
    (¬ x_2 = 0 →
    rc M_1 3 a0 ∧ F_X3_isHouse M_1 a0 x2 fun x_4 M_3 =>
    ((x_4 = 0 →
      F_X3_saved_b21 Q a0 M_3) ∧
      (¬ x_4 = 0 →
      ((¬ x1 = x2 →
        rc M_3 3 a0 ∧ F_X3_mayJoin M_3 a0 x1 x2 fun x_6 M_5 =>
        ((¬ x_6 = 0 →
          rc M_5 3 a0 ∧ F_X3_joinTo M_5 a0 x1 x2 (6 : Int32) fun M_7 =>
          gN M_7 3 a0 12 fun a_9 =>
          aN M_7 (.array .int) a_9 x1 fun a_10 =>
          aI M_7 .int a_10 (0 : Int32) fun x_11 =>
          rc M_7 3 a0 ∧ F_X3_scaleOf M_7 a0 (6 : Int32) x_11 fun j_13 M_12 =>
          rc M_12 3 a0 ∧ F_X3_wholeCost M_12 a0 x1 fun j_15 M_14 =>
          rc M_14 3 a0 ∧ F_X3_scaleOf M_14 a0 x1 x_11 fun j_17 M_16 =>
          dzJ j_17 <|
          rc M_16 3 a0 ∧ F_X3_wholeCost M_16 a0 x2 fun j_19 M_18 =>
          rc M_18 3 a0 ∧ F_X3_scaleOf M_18 a0 x2 x_11 fun j_21 M_20 =>
          dzJ j_21 <|
          rc M_20 3 a0 ∧ F_X3_wholeCost M_20 a0 (6 : Int32) fun j_23 M_22 =>
          (((0 : Int64) ≤ (((j_15 * (j_13 / j_17)) + (j_19 * (j_13 / j_21))) - j_23) →
            Q (((j_15 * (j_13 / j_17)) + (j_19 * (j_13 / j_21))) - j_23) M_22) ∧
            (¬ (0 : Int64) ≤ (((j_15 * (j_13 / j_17)) + (j_19 * (j_13 / j_21))) - j_23) →
            Q (0 : Int64) M_22))) ∧
          (x_6 = 0 →
          rc M_5 3 a0 ∧ F_X3_refuse M_5 a0 (-5 : Int32) fun x_25 M_24 =>
          Q x_25.toInt64 M_24))) ∧
        (x1 = x2 →
        F_X3_saved_b21 Q a0 M_3))))))
theorem met_X3_saved {M : gM} {a0 : Nat} {x1 : Int32} {x2 : Int32} {Q : Int64 → gM → Prop} (hF : F_X3_saved M a0 x1 x2 Q) : gMt yX3_saved (ws_ yX3_saved cX3_saved 12 (some .long)) rm_X3_saved M [.ref a0, .int x1, .int x2] (gQj Q) := by
  refine gMet (bytes := cX3_saved) (maxL := 12) (ret := (some .long)) rfl rfl (by decide) (Nat.le_of_ble_eq_true rfl) (lv := [(0, .ref a0), (1, .int x1), (2, .int x2)]) rfl (fun G hC hin => ?_)
  unfold F_X3_saved at hF
  refine g_aload_n 1 hC dX3_saved_0 rfl 0 rfl rfl ?_
  refine g_iload_n 2 hC dX3_saved_1 rfl 1 rfl rfl ?_
  refine g_cV (rest := []) wl_X3_106 hd_X3_isHouse (ci := 3) rfl 5 hC hF.1 (met_X3_isHouse hF.2) rfl ⟨Nat.le_of_ble_eq_true rfl, Nat.le_of_ble_eq_true rfl⟩ ⟨Nat.zero_le _, Nat.zero_le _⟩ rfl (Nat.le_of_ble_eq_true rfl) dX3_saved_2 rfl (g_ty_i 0 0 (Nat.le_refl _) (Nat.le_refl _) (fun x_2 M_1 hF => ?_))
  refine g_if_eq 8 21 hC dX3_saved_5 (by decide) rfl (fun c => ?_) (fun c => ?_)
  · have hF := hF.1 c
    refine g_sub [0] rfl ?_
    exact w_X3_saved_b21 hC _ _ hF
  · have hF := hF.2 c
    refine g_aload_n 9 hC dX3_saved_8 rfl 0 rfl rfl ?_
    refine g_iload_n 10 hC dX3_saved_9 rfl 2 rfl rfl ?_
    refine g_cV (rest := []) wl_X3_106 hd_X3_isHouse (ci := 3) rfl 13 hC hF.1 (met_X3_isHouse hF.2) rfl ⟨Nat.le_of_ble_eq_true rfl, Nat.le_of_ble_eq_true rfl⟩ ⟨Nat.zero_le _, Nat.zero_le _⟩ rfl (Nat.le_of_ble_eq_true rfl) dX3_saved_10 rfl (g_ty_i 0 0 (Nat.le_refl _) (Nat.le_refl _) (fun x_4 M_3 hF => ?_))
    refine g_if_eq 16 21 hC dX3_saved_13 (by decide) rfl (fun c => ?_) (fun c => ?_)
    · have hF := hF.1 c
      refine g_sub [0] rfl ?_
      exact w_X3_saved_b21 hC _ _ hF
    · have hF := hF.2 c
      refine g_iload_n 17 hC dX3_saved_16 rfl 1 rfl rfl ?_
      refine g_iload_n 18 hC dX3_saved_17 rfl 2 rfl rfl ?_
      refine g_icmp_ne 21 29 hC dX3_saved_18 (by decide) rfl (fun c => ?_) (fun c => ?_)
      · have hF := hF.1 c
        refine g_aload_n 30 hC dX3_saved_29 rfl 0 rfl rfl ?_
        refine g_iload_n 31 hC dX3_saved_30 rfl 1 rfl rfl ?_
        refine g_iload_n 32 hC dX3_saved_31 rfl 2 rfl rfl ?_
        refine g_cV (rest := []) wl_X3_319 hd_X3_mayJoin (ci := 3) rfl 35 hC hF.1 (met_X3_mayJoin hF.2) rfl ⟨Nat.le_of_ble_eq_true rfl, Nat.le_of_ble_eq_true rfl⟩ ⟨Nat.zero_le _, Nat.zero_le _⟩ rfl (Nat.le_of_ble_eq_true rfl) dX3_saved_32 rfl (g_ty_i 0 0 (Nat.le_refl _) (Nat.le_refl _) (fun x_6 M_5 hF => ?_))
        refine g_if_ne 38 46 hC dX3_saved_35 (by decide) rfl (fun c => ?_) (fun c => ?_)
        · have hF := hF.1 c
          refine g_aload_n 47 hC dX3_saved_46 rfl 0 rfl rfl ?_
          refine g_iload_n 48 hC dX3_saved_47 rfl 1 rfl rfl ?_
          refine g_iload_n 49 hC dX3_saved_48 rfl 2 rfl rfl ?_
          refine g_bipush 51 hC (6 : Int32) dX3_saved_49 (by decide) rfl ?_
          refine g_cV (rest := []) wl_X3_322 hd_X3_joinTo (ci := 3) rfl 54 hC hF.1 (met_X3_joinTo hF.2) rfl ⟨Nat.le_of_ble_eq_true rfl, Nat.le_of_ble_eq_true rfl⟩ ⟨Nat.zero_le _, Nat.zero_le _⟩ rfl (Nat.le_of_ble_eq_true rfl) dX3_saved_51 rfl (g_ty_v 0 0 (Nat.le_refl _) (Nat.le_refl _) (fun M_7 hF => ?_))
          refine g_aload_n 55 hC dX3_saved_54 rfl 0 rfl rfl ?_
          refine gf_X3_45_3N 58 hC hF dX3_saved_55 rfl (fun a_9 hF => ?_)
          refine g_iload_n 59 hC dX3_saved_58 rfl 1 rfl rfl ?_
          refine g_aaldN 60 hC hF (by decide) rfl (fun _ _ _ => rfl) dX3_saved_59 rfl (fun a_10 hF => ?_)
          refine g_iconst 61 hC (0 : Int32) dX3_saved_60 (by decide) rfl ?_
          refine g_iald 62 hC hF dX3_saved_61 rfl (fun x_11 hF => ?_)
          refine g_istore_n 63 hC (lv' := [(3, .int _), (0, .ref _), (1, .int _), (2, .int _)]) dX3_saved_62 rfl rfl (by decide) rfl ?_
          refine g_aload_n 64 hC dX3_saved_63 rfl 1 rfl rfl ?_
          refine g_bipush 66 hC (6 : Int32) dX3_saved_64 (by decide) rfl ?_
          refine g_iload_n 67 hC dX3_saved_66 rfl 0 rfl rfl ?_
          refine g_cV (rest := []) wl_X3_242 hd_X3_scaleOf (ci := 3) rfl 70 hC hF.1 (met_X3_scaleOf hF.2) rfl ⟨Nat.le_of_ble_eq_true rfl, Nat.le_of_ble_eq_true rfl⟩ ⟨Nat.zero_le _, Nat.zero_le _⟩ rfl (Nat.le_of_ble_eq_true rfl) dX3_saved_67 rfl (g_ty_j 0 0 (Nat.le_refl _) (Nat.le_refl _) (fun j_13 M_12 hF => ?_))
          refine g_lstore 72 hC (lv' := [(4, .long _), (3, .int _), (0, .ref _), (1, .int _), (2, .int _)]) dX3_saved_70 rfl (by decide) rfl ?_
          refine g_aload_n 73 hC dX3_saved_72 rfl 2 rfl rfl ?_
          refine g_iload_n 74 hC dX3_saved_73 rfl 3 rfl rfl ?_
          refine g_cV (rest := []) wl_X3_326 hd_X3_wholeCost (ci := 3) rfl 77 hC hF.1 (met_X3_wholeCost hF.2) rfl ⟨Nat.le_of_ble_eq_true rfl, Nat.le_of_ble_eq_true rfl⟩ ⟨Nat.zero_le _, Nat.zero_le _⟩ rfl (Nat.le_of_ble_eq_true rfl) dX3_saved_74 rfl (g_ty_j 0 0 (Nat.le_refl _) (Nat.le_refl _) (fun j_15 M_14 hF => ?_))
          refine g_lload 79 hC dX3_saved_77 rfl 0 rfl ?_
          refine g_aload_n 80 hC dX3_saved_79 rfl 2 rfl rfl ?_
          refine g_iload_n 81 hC dX3_saved_80 rfl 3 rfl rfl ?_
          refine g_iload_n 82 hC dX3_saved_81 rfl 1 rfl rfl ?_
          refine g_cV (rest := [_, _]) wl_X3_242 hd_X3_scaleOf (ci := 3) rfl 85 hC hF.1 (met_X3_scaleOf hF.2) rfl ⟨Nat.le_of_ble_eq_true rfl, Nat.le_of_ble_eq_true rfl⟩ ⟨Nat.zero_le _, Nat.zero_le _⟩ rfl (Nat.le_of_ble_eq_true rfl) dX3_saved_82 rfl (g_ty_j 0 0 (Nat.le_refl _) (Nat.le_refl _) (fun j_17 M_16 hF => ?_))
          refine g_ldiv 86 hC hF.1 dX3_saved_85 rfl ?_
          have hF := hF.2
          refine g_lmul 87 hC dX3_saved_86 rfl ?_
          refine g_lstore 89 hC (lv' := [(6, .long _), (4, .long _), (3, .int _), (0, .ref _), (1, .int _), (2, .int _)]) dX3_saved_87 rfl (by decide) rfl ?_
          refine g_aload_n 90 hC dX3_saved_89 rfl 3 rfl rfl ?_
          refine g_iload_n 91 hC dX3_saved_90 rfl 5 rfl rfl ?_
          refine g_cV (rest := []) wl_X3_326 hd_X3_wholeCost (ci := 3) rfl 94 hC hF.1 (met_X3_wholeCost hF.2) rfl ⟨Nat.le_of_ble_eq_true rfl, Nat.le_of_ble_eq_true rfl⟩ ⟨Nat.zero_le _, Nat.zero_le _⟩ rfl (Nat.le_of_ble_eq_true rfl) dX3_saved_91 rfl (g_ty_j 0 0 (Nat.le_refl _) (Nat.le_refl _) (fun j_19 M_18 hF => ?_))
          refine g_lload 96 hC dX3_saved_94 rfl 1 rfl ?_
          refine g_aload_n 97 hC dX3_saved_96 rfl 3 rfl rfl ?_
          refine g_iload_n 98 hC dX3_saved_97 rfl 5 rfl rfl ?_
          refine g_iload_n 99 hC dX3_saved_98 rfl 2 rfl rfl ?_
          refine g_cV (rest := [_, _]) wl_X3_242 hd_X3_scaleOf (ci := 3) rfl 102 hC hF.1 (met_X3_scaleOf hF.2) rfl ⟨Nat.le_of_ble_eq_true rfl, Nat.le_of_ble_eq_true rfl⟩ ⟨Nat.zero_le _, Nat.zero_le _⟩ rfl (Nat.le_of_ble_eq_true rfl) dX3_saved_99 rfl (g_ty_j 0 0 (Nat.le_refl _) (Nat.le_refl _) (fun j_21 M_20 hF => ?_))
          refine g_ldiv 103 hC hF.1 dX3_saved_102 rfl ?_
          have hF := hF.2
          refine g_lmul 104 hC dX3_saved_103 rfl ?_
          refine g_lstore 106 hC (lv' := [(8, .long _), (6, .long _), (4, .long _), (3, .int _), (0, .ref _), (1, .int _), (2, .int _)]) dX3_saved_104 rfl (by decide) rfl ?_
          refine g_lload 108 hC dX3_saved_106 rfl 1 rfl ?_
          refine g_lload 110 hC dX3_saved_108 rfl 0 rfl ?_
          refine g_ladd 111 hC dX3_saved_110 rfl ?_
          refine g_aload_n 112 hC dX3_saved_111 rfl 4 rfl rfl ?_
          refine g_bipush 114 hC (6 : Int32) dX3_saved_112 (by decide) rfl ?_
          refine g_cV (rest := [_]) wl_X3_326 hd_X3_wholeCost (ci := 3) rfl 117 hC hF.1 (met_X3_wholeCost hF.2) rfl ⟨Nat.le_of_ble_eq_true rfl, Nat.le_of_ble_eq_true rfl⟩ ⟨Nat.zero_le _, Nat.zero_le _⟩ rfl (Nat.le_of_ble_eq_true rfl) dX3_saved_114 rfl (g_ty_j 0 0 (Nat.le_refl _) (Nat.le_refl _) (fun j_23 M_22 hF => ?_))
          refine g_lsub 118 hC dX3_saved_117 rfl ?_
          refine g_lstore 120 hC (lv' := [(10, .long _), (8, .long _), (6, .long _), (4, .long _), (3, .int _), (0, .ref _), (1, .int _), (2, .int _)]) dX3_saved_118 rfl (by decide) rfl ?_
          refine g_lload 122 hC dX3_saved_120 rfl 0 rfl ?_
          refine g_lconst 123 hC (0 : Int64) dX3_saved_122 (by decide) rfl ?_
          refine g_lcmp_ge 127 131 hC dX3_saved_123 rfl dX3_saved_124 (by decide) rfl (fun c => ?_) (fun c => ?_)
          · have hF := hF.1 c
            refine g_lload 133 hC dX3_saved_131 rfl 0 rfl ?_
            exact g_lreturn hC ⟨_, rfl, hF⟩ dX3_saved_133 (Nat.zero_le _) (Nat.zero_le _)
          · have hF := hF.2 c
            refine g_lconst 128 hC (0 : Int64) dX3_saved_127 (by decide) rfl ?_
            refine g_goto 133 hC dX3_saved_128 (by decide) ?_
            exact g_lreturn hC ⟨_, rfl, hF⟩ dX3_saved_133 (Nat.zero_le _) (Nat.zero_le _)
        · have hF := hF.2 c
          refine g_aload_n 39 hC dX3_saved_38 rfl 0 rfl rfl ?_
          refine g_bipush 41 hC (-5 : Int32) dX3_saved_39 (by decide) rfl ?_
          refine g_cV (rest := []) wl_X3_119 hd_X3_refuse (ci := 3) rfl 44 hC hF.1 (met_X3_refuse hF.2) rfl ⟨Nat.le_of_ble_eq_true rfl, Nat.le_of_ble_eq_true rfl⟩ ⟨Nat.zero_le _, Nat.zero_le _⟩ rfl (Nat.le_of_ble_eq_true rfl) dX3_saved_41 rfl (g_ty_i 0 0 (Nat.le_refl _) (Nat.le_refl _) (fun x_25 M_24 hF => ?_))
          refine g_i2l 45 hC dX3_saved_44 rfl ?_
          exact g_lreturn hC ⟨_, rfl, hF⟩ dX3_saved_45 (Nat.zero_le _) (Nat.zero_le _)
      · have hF := hF.2 c
        refine g_sub [0] rfl ?_
        exact w_X3_saved_b21 hC _ _ hF
theorem gf_X3_48_3I {G : gG} {cc : ByteArray} {nL : Nat} {ret : Option FieldType} {Qf : Option Value → gM → Prop} {rm : Room} {cells slots : Nat} {M : gM} {lv : List (Nat × Value)} {pc : Nat} {st : List Value} {a : Nat} (n : Nat) (hC : gCx G cc nL RX3 ret Qf rm) {κ : Int32 → Prop} (hF : gI M 3 a 13 κ) (hdg : decode cc pc = .ok (.getfield 48, 3)) (hn : pc + 3 = n) (kk : ∀ x, κ x → gAt G cells slots M lv n (.int x :: st)) : gAt G cells slots M lv pc (.ref a :: st) :=
  g_getI (C := RX3) (T := TX3) (N := 46) in_X3 rfl (by decide) q1400 (fun _ _ _ => rfl) n hC hF hdg hn kk
abbrev rm_X3_seed : Room := { frames := 0, cells := 0, slots := 0, locals := 0 }
def F_X3_seed  (M : gM) (a0 : Nat) (x1 : Int32) (Q : Int32 → gM → Prop)  : Prop :=
  gI M 3 a0 13 fun x_1 =>
  pI M 3 a0 13 x1 fun M_2 =>
  Q x_1 M_2
theorem met_X3_seed {M : gM} {a0 : Nat} {x1 : Int32} {Q : Int32 → gM → Prop} (hF : F_X3_seed M a0 x1 Q) : gMt yX3_seed (ws_ yX3_seed cX3_seed 3 (some .int)) rm_X3_seed M [.ref a0, .int x1] (gQi Q) := by
  refine gMet (bytes := cX3_seed) (maxL := 3) (ret := (some .int)) rfl rfl (by decide) (Nat.le_of_ble_eq_true rfl) (lv := [(0, .ref a0), (1, .int x1)]) rfl (fun G hC hin => ?_)
  unfold F_X3_seed at hF
  refine g_aload_n 1 hC dX3_seed_0 rfl 0 rfl rfl ?_
  refine gf_X3_48_3I 4 hC hF dX3_seed_1 rfl (fun x_1 hF => ?_)
  refine g_istore_n 5 hC (lv' := [(2, .int _), (0, .ref _), (1, .int _)]) dX3_seed_4 rfl rfl (by decide) rfl ?_
  refine g_aload_n 6 hC dX3_seed_5 rfl 1 rfl rfl ?_
  refine g_iload_n 7 hC dX3_seed_6 rfl 2 rfl rfl ?_
  refine g_putI (C := RX3) (T := TX3) (N := 46) (ci := 3) (k := 13) (ty := .int) in_X3 tyX3 tyX3_ok nmX3 rfl (by decide) q1400 rfl rfl (fun _ _ _ => rfl) rfl rfl 10 hC hF dX3_seed_7 rfl (fun M_2 hF => ?_)
  refine g_iload_n 11 hC dX3_seed_10 rfl 0 rfl rfl ?_
  exact g_ireturn hC ⟨_, rfl, hF⟩ dX3_seed_11 (Nat.zero_le _) (Nat.zero_le _)
theorem gf_X3_349_3I {G : gG} {cc : ByteArray} {nL : Nat} {ret : Option FieldType} {Qf : Option Value → gM → Prop} {rm : Room} {cells slots : Nat} {M : gM} {lv : List (Nat × Value)} {pc : Nat} {st : List Value} {a : Nat} (n : Nat) (hC : gCx G cc nL RX3 ret Qf rm) {κ : Int32 → Prop} (hF : gI M 3 a 15 κ) (hdg : decode cc pc = .ok (.getfield 349, 3)) (hn : pc + 3 = n) (kk : ∀ x, κ x → gAt G cells slots M lv n (.int x :: st)) : gAt G cells slots M lv pc (.ref a :: st) :=
  g_getI (C := RX3) (T := TX3) (N := 46) in_X3 rfl (by decide) q1402 (fun _ _ _ => rfl) n hC hF hdg hn kk
abbrev rm_X3_begin : Room := { frames := 2, cells := 0, slots := 0, locals := 46 }
def F_X3_begin_b103 (Q : Int32 → gM → Prop)    (a0 : Nat) (x1 : Int32) (x2 : Int32) : Nat → Int32 → gM → Prop
  | 0, _, _ => False
  | n + 1, x4, M =>
    (((125 : Int32) ≤ x4 →
      pI M 3 a0 14 (1 : Int32) fun M_1 =>
      gN M_1 3 a0 12 fun a_2 =>
      aN M_1 (.array .int) a_2 x1 fun a_3 =>
      aI M_1 .int a_3 (0 : Int32) fun x_4 =>
      pI M_1 3 a0 15 x_4 fun M_5 =>
      pI M_5 3 a0 16 (0 : Int32) fun M_6 =>
      pI M_6 3 a0 17 (0 : Int32) fun M_7 =>
      pI M_7 3 a0 18 (0 : Int32) fun M_8 =>
      pI M_8 3 a0 19 (0 : Int32) fun M_9 =>
      pI M_9 3 a0 20 (0 : Int32) fun M_10 =>
      gI M_10 3 a0 15 fun x_11 =>
      Q x_11 M_10) ∧
      (¬ (125 : Int32) ≤ x4 →
      gN M 3 a0 7 fun a_12 =>
      aN M (.array .int) a_12 (8 : Int32) fun a_13 =>
      gN M 3 a0 7 fun a_14 =>
      aN M (.array .int) a_14 x2 fun a_15 =>
      aI M .int a_15 x4 fun x_16 =>
      uI M a_13 x4 x_16 fun M_17 =>
      (F_X3_begin_b103 Q a0 x1 x2 n) (x4 + (1 : Int32)) M_17))
theorem w_X3_begin_b103 {G : gG} {Q : Int32 → gM → Prop} (hC : gCx G cX3_begin 5 RX3 (some .int) (gQi Q) rm_X3_begin)  (a0 : Nat) (x1 : Int32) (x2 : Int32)  : ∀ (n : Nat) (x4 : Int32)   (M : gM), F_X3_begin_b103 Q a0 x1 x2 n x4 M → gAt G 0 0 M [(0, .ref a0), (1, .int x1), (2, .int x2), (4, .int x4)] 103 [] := by
  intro n
  induction n with
  | zero =>
    intro x4 M hF
    exact hF.elim
  | succ n ih =>
    intro x4 M hF
    have hK103 := ih
    unfold F_X3_begin_b103 at hF
    refine g_iload 105 hC dX3_begin_103 rfl 3 rfl ?_
    refine g_bipush 107 hC (125 : Int32) dX3_begin_105 (by decide) rfl ?_
    refine g_icmp_ge 110 135 hC dX3_begin_107 (by decide) rfl (fun c => ?_) (fun c => ?_)
    · have hF := hF.1 c
      refine g_aload_n 136 hC dX3_begin_135 rfl 0 rfl rfl ?_
      refine g_iconst 137 hC (1 : Int32) dX3_begin_136 (by decide) rfl ?_
      refine g_putI (C := RX3) (T := TX3) (N := 46) (ci := 3) (k := 14) (ty := .int) in_X3 tyX3 tyX3_ok nmX3 rfl (by decide) q1401 rfl rfl (fun _ _ _ => rfl) rfl rfl 140 hC hF dX3_begin_137 rfl (fun M_1 hF => ?_)
      refine g_aload_n 141 hC dX3_begin_140 rfl 0 rfl rfl ?_
      refine g_aload_n 142 hC dX3_begin_141 rfl 0 rfl rfl ?_
      refine gf_X3_45_3N 145 hC hF dX3_begin_142 rfl (fun a_2 hF => ?_)
      refine g_iload_n 146 hC dX3_begin_145 rfl 1 rfl rfl ?_
      refine g_aaldN 147 hC hF (by decide) rfl (fun _ _ _ => rfl) dX3_begin_146 rfl (fun a_3 hF => ?_)
      refine g_iconst 148 hC (0 : Int32) dX3_begin_147 (by decide) rfl ?_
      refine g_iald 149 hC hF dX3_begin_148 rfl (fun x_4 hF => ?_)
      refine g_putI (C := RX3) (T := TX3) (N := 46) (ci := 3) (k := 15) (ty := .int) in_X3 tyX3 tyX3_ok nmX3 rfl (by decide) q1402 rfl rfl (fun _ _ _ => rfl) rfl rfl 152 hC hF dX3_begin_149 rfl (fun M_5 hF => ?_)
      refine g_aload_n 153 hC dX3_begin_152 rfl 0 rfl rfl ?_
      refine g_iconst 154 hC (0 : Int32) dX3_begin_153 (by decide) rfl ?_
      refine g_putI (C := RX3) (T := TX3) (N := 46) (ci := 3) (k := 16) (ty := .int) in_X3 tyX3 tyX3_ok nmX3 rfl (by decide) q1403 rfl rfl (fun _ _ _ => rfl) rfl rfl 157 hC hF dX3_begin_154 rfl (fun M_6 hF => ?_)
      refine g_aload_n 158 hC dX3_begin_157 rfl 0 rfl rfl ?_
      refine g_iconst 159 hC (0 : Int32) dX3_begin_158 (by decide) rfl ?_
      refine g_putI (C := RX3) (T := TX3) (N := 46) (ci := 3) (k := 17) (ty := .int) in_X3 tyX3 tyX3_ok nmX3 rfl (by decide) q1404 rfl rfl (fun _ _ _ => rfl) rfl rfl 162 hC hF dX3_begin_159 rfl (fun M_7 hF => ?_)
      refine g_aload_n 163 hC dX3_begin_162 rfl 0 rfl rfl ?_
      refine g_iconst 164 hC (0 : Int32) dX3_begin_163 (by decide) rfl ?_
      refine g_putI (C := RX3) (T := TX3) (N := 46) (ci := 3) (k := 18) (ty := .int) in_X3 tyX3 tyX3_ok nmX3 rfl (by decide) q1405 rfl rfl (fun _ _ _ => rfl) rfl rfl 167 hC hF dX3_begin_164 rfl (fun M_8 hF => ?_)
      refine g_aload_n 168 hC dX3_begin_167 rfl 0 rfl rfl ?_
      refine g_iconst 169 hC (0 : Int32) dX3_begin_168 (by decide) rfl ?_
      refine g_putI (C := RX3) (T := TX3) (N := 46) (ci := 3) (k := 19) (ty := .int) in_X3 tyX3 tyX3_ok nmX3 rfl (by decide) q1406 rfl rfl (fun _ _ _ => rfl) rfl rfl 172 hC hF dX3_begin_169 rfl (fun M_9 hF => ?_)
      refine g_aload_n 173 hC dX3_begin_172 rfl 0 rfl rfl ?_
      refine g_iconst 174 hC (0 : Int32) dX3_begin_173 (by decide) rfl ?_
      refine g_putI (C := RX3) (T := TX3) (N := 46) (ci := 3) (k := 20) (ty := .int) in_X3 tyX3 tyX3_ok nmX3 rfl (by decide) q1407 rfl rfl (fun _ _ _ => rfl) rfl rfl 177 hC hF dX3_begin_174 rfl (fun M_10 hF => ?_)
      refine g_aload_n 178 hC dX3_begin_177 rfl 0 rfl rfl ?_
      refine gf_X3_349_3I 181 hC hF dX3_begin_178 rfl (fun x_11 hF => ?_)
      exact g_ireturn hC ⟨_, rfl, hF⟩ dX3_begin_181 (Nat.zero_le _) (Nat.zero_le _)
    · have hF := hF.2 c
      refine g_aload_n 111 hC dX3_begin_110 rfl 0 rfl rfl ?_
      refine gf_X3_36_3N 114 hC hF dX3_begin_111 rfl (fun a_12 hF => ?_)
      refine g_bipush 116 hC (8 : Int32) dX3_begin_114 (by decide) rfl ?_
      refine g_aaldN 117 hC hF (by decide) rfl (fun _ _ _ => rfl) dX3_begin_116 rfl (fun a_13 hF => ?_)
      refine g_iload 119 hC dX3_begin_117 rfl 3 rfl ?_
      refine g_aload_n 120 hC dX3_begin_119 rfl 0 rfl rfl ?_
      refine gf_X3_36_3N 123 hC hF dX3_begin_120 rfl (fun a_14 hF => ?_)
      refine g_iload_n 124 hC dX3_begin_123 rfl 2 rfl rfl ?_
      refine g_aaldN 125 hC hF (by decide) rfl (fun _ _ _ => rfl) dX3_begin_124 rfl (fun a_15 hF => ?_)
      refine g_iload 127 hC dX3_begin_125 rfl 3 rfl ?_
      refine g_iald 128 hC hF dX3_begin_127 rfl (fun x_16 hF => ?_)
      refine g_iast 129 hC hF dX3_begin_128 rfl (fun M_17 hF => ?_)
      refine g_iinc 132 hC (x4 + (1 : Int32)) (lv' := [(4, .int _), (0, .ref _), (1, .int _), (2, .int _)]) dX3_begin_129 rfl 3 rfl rfl (by decide) rfl ?_
      refine g_goto 103 hC dX3_begin_132 (by decide) ?_
      refine g_sub [1, 2, 3, 0] rfl ?_
      exact hK103 _ _ hF
def F_X3_begin_b42 (Q : Int32 → gM → Prop)    (a0 : Nat) (x1 : Int32) (x2 : Int32) : Nat → Int32 → gM → Prop
  | 0, _, _ => False
  | n + 1, x4, M =>
    (((20 : Int32) ≤ x4 →
      gN M 3 a0 5 fun a_1 =>
      gN M 3 a0 5 fun a_2 =>
      aI M .int a_2 x2 fun x_3 =>
      uI M a_1 (8 : Int32) x_3 fun M_4 =>
      gN M_4 3 a0 6 fun a_5 =>
      gN M_4 3 a0 6 fun a_6 =>
      aI M_4 .int a_6 x2 fun x_7 =>
      uI M_4 a_5 (8 : Int32) x_7 fun M_8 =>
      ∃ n_9, F_X3_begin_b103 Q a0 x1 x2 n_9 (0 : Int32) M_8) ∧
      (¬ (20 : Int32) ≤ x4 →
      gN M 3 a0 12 fun a_10 =>
      aN M (.array .int) a_10 (7 : Int32) fun a_11 =>
      gN M 3 a0 12 fun a_12 =>
      aN M (.array .int) a_12 x1 fun a_13 =>
      aI M .int a_13 x4 fun x_14 =>
      uI M a_11 x4 x_14 fun M_15 =>
      (F_X3_begin_b42 Q a0 x1 x2 n) (x4 + (1 : Int32)) M_15))
theorem w_X3_begin_b42 {G : gG} {Q : Int32 → gM → Prop} (hC : gCx G cX3_begin 5 RX3 (some .int) (gQi Q) rm_X3_begin)  (a0 : Nat) (x1 : Int32) (x2 : Int32)  : ∀ (n : Nat) (x4 : Int32)   (M : gM), F_X3_begin_b42 Q a0 x1 x2 n x4 M → gAt G 0 0 M [(0, .ref a0), (1, .int x1), (2, .int x2), (4, .int x4)] 42 [] := by
  intro n
  induction n with
  | zero =>
    intro x4 M hF
    exact hF.elim
  | succ n ih =>
    intro x4 M hF
    have hK42 := ih
    unfold F_X3_begin_b42 at hF
    refine g_iload 44 hC dX3_begin_42 rfl 3 rfl ?_
    refine g_bipush 46 hC (20 : Int32) dX3_begin_44 (by decide) rfl ?_
    refine g_icmp_ge 49 74 hC dX3_begin_46 (by decide) rfl (fun c => ?_) (fun c => ?_)
    · have hF := hF.1 c
      refine g_aload_n 75 hC dX3_begin_74 rfl 0 rfl rfl ?_
      refine gf_X3_28_3N 78 hC hF dX3_begin_75 rfl (fun a_1 hF => ?_)
      refine g_bipush 80 hC (8 : Int32) dX3_begin_78 (by decide) rfl ?_
      refine g_aload_n 81 hC dX3_begin_80 rfl 0 rfl rfl ?_
      refine gf_X3_28_3N 84 hC hF dX3_begin_81 rfl (fun a_2 hF => ?_)
      refine g_iload_n 85 hC dX3_begin_84 rfl 2 rfl rfl ?_
      refine g_iald 86 hC hF dX3_begin_85 rfl (fun x_3 hF => ?_)
      refine g_iast 87 hC hF dX3_begin_86 rfl (fun M_4 hF => ?_)
      refine g_aload_n 88 hC dX3_begin_87 rfl 0 rfl rfl ?_
      refine gf_X3_31_3N 91 hC hF dX3_begin_88 rfl (fun a_5 hF => ?_)
      refine g_bipush 93 hC (8 : Int32) dX3_begin_91 (by decide) rfl ?_
      refine g_aload_n 94 hC dX3_begin_93 rfl 0 rfl rfl ?_
      refine gf_X3_31_3N 97 hC hF dX3_begin_94 rfl (fun a_6 hF => ?_)
      refine g_iload_n 98 hC dX3_begin_97 rfl 2 rfl rfl ?_
      refine g_iald 99 hC hF dX3_begin_98 rfl (fun x_7 hF => ?_)
      refine g_iast 100 hC hF dX3_begin_99 rfl (fun M_8 hF => ?_)
      refine g_iconst 101 hC (0 : Int32) dX3_begin_100 (by decide) rfl ?_
      refine g_istore 103 hC (lv' := [(4, .int _), (0, .ref _), (1, .int _), (2, .int _)]) dX3_begin_101 rfl (by decide) rfl ?_
      refine g_sub [1, 2, 3, 0] rfl ?_
      obtain ⟨n_9, hF⟩ := hF
      exact w_X3_begin_b103 hC _ _ _ n_9 _ _ hF
    · have hF := hF.2 c
      refine g_aload_n 50 hC dX3_begin_49 rfl 0 rfl rfl ?_
      refine gf_X3_45_3N 53 hC hF dX3_begin_50 rfl (fun a_10 hF => ?_)
      refine g_bipush 55 hC (7 : Int32) dX3_begin_53 (by decide) rfl ?_
      refine g_aaldN 56 hC hF (by decide) rfl (fun _ _ _ => rfl) dX3_begin_55 rfl (fun a_11 hF => ?_)
      refine g_iload 58 hC dX3_begin_56 rfl 3 rfl ?_
      refine g_aload_n 59 hC dX3_begin_58 rfl 0 rfl rfl ?_
      refine gf_X3_45_3N 62 hC hF dX3_begin_59 rfl (fun a_12 hF => ?_)
      refine g_iload_n 63 hC dX3_begin_62 rfl 1 rfl rfl ?_
      refine g_aaldN 64 hC hF (by decide) rfl (fun _ _ _ => rfl) dX3_begin_63 rfl (fun a_13 hF => ?_)
      refine g_iload 66 hC dX3_begin_64 rfl 3 rfl ?_
      refine g_iald 67 hC hF dX3_begin_66 rfl (fun x_14 hF => ?_)
      refine g_iast 68 hC hF dX3_begin_67 rfl (fun M_15 hF => ?_)
      refine g_iinc 71 hC (x4 + (1 : Int32)) (lv' := [(4, .int _), (0, .ref _), (1, .int _), (2, .int _)]) dX3_begin_68 rfl 3 rfl rfl (by decide) rfl ?_
      refine g_goto 42 hC dX3_begin_71 (by decide) ?_
      refine g_sub [1, 2, 3, 0] rfl ?_
      exact hK42 _ _ hF
def F_X3_begin_b20 (Q : Int32 → gM → Prop)    (a0 : Nat)   (M : gM) : Prop :=
  rc M 3 a0 ∧ F_X3_refuse M a0 (-2 : Int32) fun x_2 M_1 =>
  Q x_2 M_1
theorem w_X3_begin_b20 {G : gG} {Q : Int32 → gM → Prop} (hC : gCx G cX3_begin 5 RX3 (some .int) (gQi Q) rm_X3_begin)  (a0 : Nat)     (M : gM) (hF : F_X3_begin_b20 Q a0 M) : gAt G 0 0 M [(0, .ref a0)] 20 [] := by
  unfold F_X3_begin_b20 at hF
  refine g_aload_n 21 hC dX3_begin_20 rfl 0 rfl rfl ?_
  refine g_bipush 23 hC (-2 : Int32) dX3_begin_21 (by decide) rfl ?_
  refine g_cV (rest := []) wl_X3_119 hd_X3_refuse (ci := 3) rfl 26 hC hF.1 (met_X3_refuse hF.2) rfl ⟨Nat.le_of_ble_eq_true rfl, Nat.le_of_ble_eq_true rfl⟩ ⟨Nat.zero_le _, Nat.zero_le _⟩ rfl (Nat.le_of_ble_eq_true rfl) dX3_begin_23 rfl (g_ty_i 0 0 (Nat.le_refl _) (Nat.le_refl _) (fun x_2 M_1 hF => ?_))
  exact g_ireturn hC ⟨_, rfl, hF⟩ dX3_begin_26 (Nat.zero_le _) (Nat.zero_le _)
def F_X3_begin  (M : gM) (a0 : Nat) (x1 : Int32) (x2 : Int32) (Q : Int32 → gM → Prop)  : Prop :=
  rc M 3 a0 ∧ F_X3_isHouse M a0 x1 fun x_2 M_1 =>
  ((x_2 = 0 →
    F_X3_begin_b20 Q a0 M_1) ∧
    (¬ x_2 = 0 →
    F_X3_in M_1 x2.toInt64 (0 : Int64) (7 : Int64) fun x_4 M_3 =>
    ((¬ x_4 = 0 →
      rc M_3 3 a0 ∧ F_X3_noRule M_3 a0 x2 fun x_6 M_5 =>
      ((x_6 = 0 →
        ∃ n_7, F_X3_begin_b42 Q a0 x1 x2 n_7 (0 : Int32) M_5) ∧
        (¬ x_6 = 0 →
        Q x_6 M_5))) ∧
      (x_4 = 0 →
      F_X3_begin_b20 Q a0 M_3))))
theorem met_X3_begin {M : gM} {a0 : Nat} {x1 : Int32} {x2 : Int32} {Q : Int32 → gM → Prop} (hF : F_X3_begin M a0 x1 x2 Q) : gMt yX3_begin (ws_ yX3_begin cX3_begin 5 (some .int)) rm_X3_begin M [.ref a0, .int x1, .int x2] (gQi Q) := by
  refine gMet (bytes := cX3_begin) (maxL := 5) (ret := (some .int)) rfl rfl (by decide) (Nat.le_of_ble_eq_true rfl) (lv := [(0, .ref a0), (1, .int x1), (2, .int x2)]) rfl (fun G hC hin => ?_)
  unfold F_X3_begin at hF
  refine g_aload_n 1 hC dX3_begin_0 rfl 0 rfl rfl ?_
  refine g_iload_n 2 hC dX3_begin_1 rfl 1 rfl rfl ?_
  refine g_cV (rest := []) wl_X3_106 hd_X3_isHouse (ci := 3) rfl 5 hC hF.1 (met_X3_isHouse hF.2) rfl ⟨Nat.le_of_ble_eq_true rfl, Nat.le_of_ble_eq_true rfl⟩ ⟨Nat.zero_le _, Nat.zero_le _⟩ rfl (Nat.le_of_ble_eq_true rfl) dX3_begin_2 rfl (g_ty_i 0 0 (Nat.le_refl _) (Nat.le_refl _) (fun x_2 M_1 hF => ?_))
  refine g_if_eq 8 20 hC dX3_begin_5 (by decide) rfl (fun c => ?_) (fun c => ?_)
  · have hF := hF.1 c
    refine g_sub [0] rfl ?_
    exact w_X3_begin_b20 hC _ _ hF
  · have hF := hF.2 c
    refine g_iload_n 9 hC dX3_begin_8 rfl 2 rfl rfl ?_
    refine g_i2l 10 hC dX3_begin_9 rfl ?_
    refine g_lconst 11 hC (0 : Int64) dX3_begin_10 (by decide) rfl ?_
    refine g_ldc2 14 hC q1530 dX3_begin_11 rfl ?_
    refine g_cS (rest := []) wl_X3_94 hd_X3_in 17 hC (met_X3_in hF) rfl ⟨Nat.le_of_ble_eq_true rfl, Nat.le_of_ble_eq_true rfl⟩ ⟨Nat.zero_le _, Nat.zero_le _⟩ rfl (Nat.le_of_ble_eq_true rfl) dX3_begin_14 rfl (g_ty_i 0 0 (Nat.le_refl _) (Nat.le_refl _) (fun x_4 M_3 hF => ?_))
    refine g_if_ne 20 27 hC dX3_begin_17 (by decide) rfl (fun c => ?_) (fun c => ?_)
    · have hF := hF.1 c
      refine g_aload_n 28 hC dX3_begin_27 rfl 0 rfl rfl ?_
      refine g_iload_n 29 hC dX3_begin_28 rfl 2 rfl rfl ?_
      refine g_cV (rest := []) wl_X3_271 hd_X3_noRule (ci := 3) rfl 32 hC hF.1 (met_X3_noRule hF.2) rfl ⟨Nat.le_of_ble_eq_true rfl, Nat.le_of_ble_eq_true rfl⟩ ⟨Nat.zero_le _, Nat.zero_le _⟩ rfl (Nat.le_of_ble_eq_true rfl) dX3_begin_29 rfl (g_ty_i 0 0 (Nat.le_refl _) (Nat.le_refl _) (fun x_6 M_5 hF => ?_))
      refine g_istore_n 33 hC (lv' := [(3, .int _), (0, .ref _), (1, .int _), (2, .int _)]) dX3_begin_32 rfl rfl (by decide) rfl ?_
      refine g_iload_n 34 hC dX3_begin_33 rfl 0 rfl rfl ?_
      refine g_if_eq 37 39 hC dX3_begin_34 (by decide) rfl (fun c => ?_) (fun c => ?_)
      · have hF := hF.1 c
        refine g_iconst 40 hC (0 : Int32) dX3_begin_39 (by decide) rfl ?_
        refine g_istore 42 hC (lv' := [(4, .int _), (3, .int _), (0, .ref _), (1, .int _), (2, .int _)]) dX3_begin_40 rfl (by decide) rfl ?_
        refine g_sub [2, 3, 4, 0] rfl ?_
        obtain ⟨n_7, hF⟩ := hF
        exact w_X3_begin_b42 hC _ _ _ n_7 _ _ hF
      · have hF := hF.2 c
        refine g_iload_n 38 hC dX3_begin_37 rfl 0 rfl rfl ?_
        exact g_ireturn hC ⟨_, rfl, hF⟩ dX3_begin_38 (Nat.zero_le _) (Nat.zero_le _)
    · have hF := hF.2 c
      refine g_sub [0] rfl ?_
      exact w_X3_begin_b20 hC _ _ hF
abbrev rm_X3_draw : Room := { frames := 0, cells := 0, slots := 0, locals := 0 }
def F_X3_draw  (M : gM) (a0 : Nat) (Q : Int32 → gM → Prop)  : Prop :=
  gI M 3 a0 13 fun x_1 =>
  pI M 3 a0 13 ((x_1 * (1103515245 : Int32)) + (12345 : Int32)) fun M_2 =>
  gI M_2 3 a0 13 fun x_3 =>
  Q ((x_3.toUInt32 >>> ((16 : Int32).toUInt32 &&& Int32.toUInt32 31)).toInt32 - (x_3.toUInt32 >>> ((16 : Int32).toUInt32 &&& Int32.toUInt32 31)).toInt32 / (4 : Int32) * (4 : Int32)) M_2
theorem met_X3_draw {M : gM} {a0 : Nat} {Q : Int32 → gM → Prop} (hF : F_X3_draw M a0 Q) : gMt yX3_draw (ws_ yX3_draw cX3_draw 1 (some .int)) rm_X3_draw M [.ref a0] (gQi Q) := by
  refine gMet (bytes := cX3_draw) (maxL := 1) (ret := (some .int)) rfl rfl (by decide) (Nat.le_of_ble_eq_true rfl) (lv := [(0, .ref a0)]) rfl (fun G hC hin => ?_)
  unfold F_X3_draw at hF
  refine g_aload_n 1 hC dX3_draw_0 rfl 0 rfl rfl ?_
  refine g_aload_n 2 hC dX3_draw_1 rfl 0 rfl rfl ?_
  refine gf_X3_48_3I 5 hC hF dX3_draw_2 rfl (fun x_1 hF => ?_)
  refine g_ldcw 8 hC q1917 dX3_draw_5 rfl ?_
  refine g_imul 9 hC dX3_draw_8 rfl ?_
  refine g_sipush 12 hC (12345 : Int32) dX3_draw_9 (by decide) rfl ?_
  refine g_iadd 13 hC dX3_draw_12 rfl ?_
  refine g_putI (C := RX3) (T := TX3) (N := 46) (ci := 3) (k := 13) (ty := .int) in_X3 tyX3 tyX3_ok nmX3 rfl (by decide) q1400 rfl rfl (fun _ _ _ => rfl) rfl rfl 16 hC hF dX3_draw_13 rfl (fun M_2 hF => ?_)
  refine g_aload_n 17 hC dX3_draw_16 rfl 0 rfl rfl ?_
  refine gf_X3_48_3I 20 hC hF dX3_draw_17 rfl (fun x_3 hF => ?_)
  refine g_bipush 22 hC (16 : Int32) dX3_draw_20 (by decide) rfl ?_
  refine g_iushr 23 hC dX3_draw_22 rfl ?_
  refine g_iconst 24 hC (4 : Int32) dX3_draw_23 (by decide) rfl ?_
  refine g_irem 25 hC (by decide) dX3_draw_24 rfl ?_
  exact g_ireturn hC ⟨_, rfl, hF⟩ dX3_draw_25 (Nat.zero_le _) (Nat.zero_le _)
theorem hd_X3_draw : yX3_draw.cls = RX3 ∧ yX3_draw.cls ≠ "java/lang/invoke/MethodHandle" ∧ yX3_draw.cls ≠ "java/lang/invoke/VarHandle" ∧ (parseMethodDescriptor yX3_draw.desc).map (fun d => d.parameters.length) = some 0 := by decide +kernel
theorem wl_X3_331 : GoodIn lw_all (wsV RX3 331 RX3 yX3_draw (ws_ yX3_draw cX3_draw 1 (some .int))) := lw_V q1913 q1915 qs66 q72 q1916
theorem gf_X3_340_3I {G : gG} {cc : ByteArray} {nL : Nat} {ret : Option FieldType} {Qf : Option Value → gM → Prop} {rm : Room} {cells slots : Nat} {M : gM} {lv : List (Nat × Value)} {pc : Nat} {st : List Value} {a : Nat} (n : Nat) (hC : gCx G cc nL RX3 ret Qf rm) {κ : Int32 → Prop} (hF : gI M 3 a 44 κ) (hdg : decode cc pc = .ok (.getfield 340, 3)) (hn : pc + 3 = n) (kk : ∀ x, κ x → gAt G cells slots M lv n (.int x :: st)) : gAt G cells slots M lv pc (.ref a :: st) :=
  g_getI (C := RX3) (T := TX3) (N := 46) in_X3 rfl (by decide) q1431 (fun _ _ _ => rfl) n hC hF hdg hn kk
theorem gf_X3_337_3I {G : gG} {cc : ByteArray} {nL : Nat} {ret : Option FieldType} {Qf : Option Value → gM → Prop} {rm : Room} {cells slots : Nat} {M : gM} {lv : List (Nat × Value)} {pc : Nat} {st : List Value} {a : Nat} (n : Nat) (hC : gCx G cc nL RX3 ret Qf rm) {κ : Int32 → Prop} (hF : gI M 3 a 43 κ) (hdg : decode cc pc = .ok (.getfield 337, 3)) (hn : pc + 3 = n) (kk : ∀ x, κ x → gAt G cells slots M lv n (.int x :: st)) : gAt G cells slots M lv pc (.ref a :: st) :=
  g_getI (C := RX3) (T := TX3) (N := 46) in_X3 rfl (by decide) q1430 (fun _ _ _ => rfl) n hC hF hdg hn kk
abbrev rm_X3_day : Room := { frames := 4, cells := 0, slots := 0, locals := 97 }
def F_X3_day_b203 (Q : Int32 → gM → Prop)   (K130 : Int32 → Int32 → Int32 → gM → Prop) (a0 : Nat) (x1 : Int32) (x2 : Int32) (x6 : Int32) (x7 : Int32) (x8 : Int32)   (M : gM) : Prop :=
  K130 x6 x7 (x8 + (1 : Int32)) M
theorem w_X3_day_b203 {G : gG} {Q : Int32 → gM → Prop} (hC : gCx G cX3_day 9 RX3 (some .int) (gQi Q) rm_X3_day) (K130 : Int32 → Int32 → Int32 → gM → Prop) (a0 : Nat) (x1 : Int32) (x2 : Int32) (x6 : Int32) (x7 : Int32) (x8 : Int32)  (hK130 : ∀ x6' x7' x8' M', K130 x6' x7' x8' M' → gAt G 0 0 M' [(0, .ref a0), (1, .int x1), (2, .int x2), (6, .int x6'), (7, .int x7'), (8, .int x8')] 130 [])   (M : gM) (hF : F_X3_day_b203 Q K130 a0 x1 x2 x6 x7 x8 M) : gAt G 0 0 M [(0, .ref a0), (1, .int x1), (2, .int x2), (6, .int x6), (7, .int x7), (8, .int x8)] 203 [] := by
  unfold F_X3_day_b203 at hF
  refine g_iinc 206 hC (x8 + (1 : Int32)) (lv' := [(8, .int _), (0, .ref _), (1, .int _), (2, .int _), (6, .int _), (7, .int _)]) dX3_day_203 rfl 5 rfl rfl (by decide) rfl ?_
  refine g_goto 130 hC dX3_day_206 (by decide) ?_
  refine g_sub [1, 2, 3, 4, 5, 0] rfl ?_
  exact hK130 _ _ _ _ hF
def F_X3_day_b130 (Q : Int32 → gM → Prop)    (a0 : Nat) (x1 : Int32) (x2 : Int32) : Nat → Int32 → Int32 → Int32 → gM → Prop
  | 0, _, _, _, _ => False
  | n + 1, x6, x7, x8, M =>
    rc M 3 a0 ∧ F_X3_sorts M a0 x1 fun x_2 M_1 =>
    ((x_2 ≤ x8 →
      pI M_1 3 a0 45 x7 fun M_3 =>
      ((¬ x2 = (1 : Int32) →
        Q x6 M_3) ∧
        (x2 = (1 : Int32) →
        rc M_3 3 a0 ∧ F_X3_sum M_3 a0 x1 x7 (4 : Int32) fun x_5 M_4 =>
        Q (x6 + x_5) M_4))) ∧
      (¬ x_2 ≤ x8 →
      rc M_1 3 a0 ∧ F_X3_draw M_1 a0 fun x_7 M_6 =>
      rc M_6 3 a0 ∧ F_X3_numberOf M_6 a0 x1 x8 (1 : Int32) fun x_9 M_8 =>
      ((x_9 ≤ x_7 →
        F_X3_day_b203 Q (F_X3_day_b130 Q a0 x1 x2 n) a0 x1 x2 x6 x7 x8 M_8) ∧
        (¬ x_9 ≤ x_7 →
        F_X3_ofState M_8 x7 x8 fun x_11 M_10 =>
        ((¬ x_11 = (4 : Int32) →
          F_X3_power M_10 (5 : Int32) x8 fun x_13 M_12 =>
          F_X3_day_b203 Q (F_X3_day_b130 Q a0 x1 x2 n) a0 x1 x2 x6 (x7 + x_13) x8 M_12) ∧
          (x_11 = (4 : Int32) →
          rc M_10 3 a0 ∧ F_X3_numberOf M_10 a0 x1 x8 (3 : Int32) fun x_15 M_14 =>
          gI M_14 3 a0 44 fun x_16 =>
          pI M_14 3 a0 44 (x_16 + (1 : Int32)) fun M_17 =>
          F_X3_day_b203 Q (F_X3_day_b130 Q a0 x1 x2 n) a0 x1 x2 (x6 + x_15) x7 x8 M_17))))))
theorem w_X3_day_b130 {G : gG} {Q : Int32 → gM → Prop} (hC : gCx G cX3_day 9 RX3 (some .int) (gQi Q) rm_X3_day)  (a0 : Nat) (x1 : Int32) (x2 : Int32)  : ∀ (n : Nat) (x6 : Int32) (x7 : Int32) (x8 : Int32)   (M : gM), F_X3_day_b130 Q a0 x1 x2 n x6 x7 x8 M → gAt G 0 0 M [(0, .ref a0), (1, .int x1), (2, .int x2), (6, .int x6), (7, .int x7), (8, .int x8)] 130 [] := by
  intro n
  induction n with
  | zero =>
    intro x6 x7 x8 M hF
    exact hF.elim
  | succ n ih =>
    intro x6 x7 x8 M hF
    have hK130 := ih
    unfold F_X3_day_b130 at hF
    refine g_iload 132 hC dX3_day_130 rfl 5 rfl ?_
    refine g_aload_n 133 hC dX3_day_132 rfl 0 rfl rfl ?_
    refine g_iload_n 134 hC dX3_day_133 rfl 1 rfl rfl ?_
    refine g_cV (rest := [_]) wl_X3_98 hd_X3_sorts (ci := 3) rfl 137 hC hF.1 (met_X3_sorts hF.2) rfl ⟨Nat.le_of_ble_eq_true rfl, Nat.le_of_ble_eq_true rfl⟩ ⟨Nat.zero_le _, Nat.zero_le _⟩ rfl (Nat.le_of_ble_eq_true rfl) dX3_day_134 rfl (g_ty_i 0 0 (Nat.le_refl _) (Nat.le_refl _) (fun x_2 M_1 hF => ?_))
    refine g_icmp_ge 140 209 hC dX3_day_137 (by decide) rfl (fun c => ?_) (fun c => ?_)
    · have hF := hF.1 c
      refine g_aload_n 210 hC dX3_day_209 rfl 0 rfl rfl ?_
      refine g_iload 212 hC dX3_day_210 rfl 4 rfl ?_
      refine g_putI (C := RX3) (T := TX3) (N := 46) (ci := 3) (k := 45) (ty := .int) in_X3 tyX3 tyX3_ok nmX3 rfl (by decide) q1432 rfl rfl (fun _ _ _ => rfl) rfl rfl 215 hC hF dX3_day_212 rfl (fun M_3 hF => ?_)
      refine g_iload_n 216 hC dX3_day_215 rfl 2 rfl rfl ?_
      refine g_iconst 217 hC (1 : Int32) dX3_day_216 (by decide) rfl ?_
      refine g_icmp_ne 220 234 hC dX3_day_217 (by decide) rfl (fun c => ?_) (fun c => ?_)
      · have hF := hF.1 c
        refine g_iload 236 hC dX3_day_234 rfl 3 rfl ?_
        exact g_ireturn hC ⟨_, rfl, hF⟩ dX3_day_236 (Nat.zero_le _) (Nat.zero_le _)
      · have hF := hF.2 c
        refine g_iload 222 hC dX3_day_220 rfl 3 rfl ?_
        refine g_aload_n 223 hC dX3_day_222 rfl 0 rfl rfl ?_
        refine g_iload_n 224 hC dX3_day_223 rfl 1 rfl rfl ?_
        refine g_iload 226 hC dX3_day_224 rfl 4 rfl ?_
        refine g_iconst 227 hC (4 : Int32) dX3_day_226 (by decide) rfl ?_
        refine g_cV (rest := [_]) wl_X3_236 hd_X3_sum (ci := 3) rfl 230 hC hF.1 (met_X3_sum hF.2) rfl ⟨Nat.le_of_ble_eq_true rfl, Nat.le_of_ble_eq_true rfl⟩ ⟨Nat.zero_le _, Nat.zero_le _⟩ rfl (Nat.le_of_ble_eq_true rfl) dX3_day_227 rfl (g_ty_i 0 0 (Nat.le_refl _) (Nat.le_refl _) (fun x_5 M_4 hF => ?_))
        refine g_iadd 231 hC dX3_day_230 rfl ?_
        refine g_goto 236 hC dX3_day_231 (by decide) ?_
        exact g_ireturn hC ⟨_, rfl, hF⟩ dX3_day_236 (Nat.zero_le _) (Nat.zero_le _)
    · have hF := hF.2 c
      refine g_aload_n 141 hC dX3_day_140 rfl 0 rfl rfl ?_
      refine g_cV (rest := []) wl_X3_331 hd_X3_draw (ci := 3) rfl 144 hC hF.1 (met_X3_draw hF.2) rfl ⟨Nat.le_of_ble_eq_true rfl, Nat.le_of_ble_eq_true rfl⟩ ⟨Nat.zero_le _, Nat.zero_le _⟩ rfl (Nat.le_of_ble_eq_true rfl) dX3_day_141 rfl (g_ty_i 0 0 (Nat.le_refl _) (Nat.le_refl _) (fun x_7 M_6 hF => ?_))
      refine g_aload_n 145 hC dX3_day_144 rfl 0 rfl rfl ?_
      refine g_iload_n 146 hC dX3_day_145 rfl 1 rfl rfl ?_
      refine g_iload 148 hC dX3_day_146 rfl 5 rfl ?_
      refine g_iconst 149 hC (1 : Int32) dX3_day_148 (by decide) rfl ?_
      refine g_cV (rest := [_]) wl_X3_229 hd_X3_numberOf (ci := 3) rfl 152 hC hF.1 (met_X3_numberOf hF.2) rfl ⟨Nat.le_of_ble_eq_true rfl, Nat.le_of_ble_eq_true rfl⟩ ⟨Nat.zero_le _, Nat.zero_le _⟩ rfl (Nat.le_of_ble_eq_true rfl) dX3_day_149 rfl (g_ty_i 0 0 (Nat.le_refl _) (Nat.le_refl _) (fun x_9 M_8 hF => ?_))
      refine g_icmp_ge 155 203 hC dX3_day_152 (by decide) rfl (fun c => ?_) (fun c => ?_)
      · have hF := hF.1 c
        exact w_X3_day_b203 hC _ _ _ _ _ _ _ hK130 _ hF
      · have hF := hF.2 c
        refine g_iload 157 hC dX3_day_155 rfl 4 rfl ?_
        refine g_iload 159 hC dX3_day_157 rfl 5 rfl ?_
        refine g_cS (rest := []) wl_X3_226 hd_X3_ofState 162 hC (met_X3_ofState hF) rfl ⟨Nat.le_of_ble_eq_true rfl, Nat.le_of_ble_eq_true rfl⟩ ⟨Nat.zero_le _, Nat.zero_le _⟩ rfl (Nat.le_of_ble_eq_true rfl) dX3_day_159 rfl (g_ty_i 0 0 (Nat.le_refl _) (Nat.le_refl _) (fun x_11 M_10 hF => ?_))
        refine g_iconst 163 hC (4 : Int32) dX3_day_162 (by decide) rfl ?_
        refine g_icmp_ne 166 192 hC dX3_day_163 (by decide) rfl (fun c => ?_) (fun c => ?_)
        · have hF := hF.1 c
          refine g_iload 194 hC dX3_day_192 rfl 4 rfl ?_
          refine g_iconst 195 hC (5 : Int32) dX3_day_194 (by decide) rfl ?_
          refine g_iload 197 hC dX3_day_195 rfl 5 rfl ?_
          refine g_cS (rest := [_]) wl_X3_102 hd_X3_power 200 hC (met_X3_power hF) rfl ⟨Nat.le_of_ble_eq_true rfl, Nat.le_of_ble_eq_true rfl⟩ ⟨Nat.zero_le _, Nat.zero_le _⟩ rfl (Nat.le_of_ble_eq_true rfl) dX3_day_197 rfl (g_ty_i 0 0 (Nat.le_refl _) (Nat.le_refl _) (fun x_13 M_12 hF => ?_))
          refine g_iadd 201 hC dX3_day_200 rfl ?_
          refine g_istore 203 hC (lv' := [(7, .int _), (0, .ref _), (1, .int _), (2, .int _), (6, .int _), (8, .int _)]) dX3_day_201 rfl (by decide) rfl ?_
          refine g_sub [1, 2, 3, 4, 0, 5] rfl ?_
          exact w_X3_day_b203 hC _ _ _ _ _ _ _ hK130 _ hF
        · have hF := hF.2 c
          refine g_iload 168 hC dX3_day_166 rfl 3 rfl ?_
          refine g_aload_n 169 hC dX3_day_168 rfl 0 rfl rfl ?_
          refine g_iload_n 170 hC dX3_day_169 rfl 1 rfl rfl ?_
          refine g_iload 172 hC dX3_day_170 rfl 5 rfl ?_
          refine g_iconst 173 hC (3 : Int32) dX3_day_172 (by decide) rfl ?_
          refine g_cV (rest := [_]) wl_X3_229 hd_X3_numberOf (ci := 3) rfl 176 hC hF.1 (met_X3_numberOf hF.2) rfl ⟨Nat.le_of_ble_eq_true rfl, Nat.le_of_ble_eq_true rfl⟩ ⟨Nat.zero_le _, Nat.zero_le _⟩ rfl (Nat.le_of_ble_eq_true rfl) dX3_day_173 rfl (g_ty_i 0 0 (Nat.le_refl _) (Nat.le_refl _) (fun x_15 M_14 hF => ?_))
          refine g_iadd 177 hC dX3_day_176 rfl ?_
          refine g_istore 179 hC (lv' := [(6, .int _), (0, .ref _), (1, .int _), (2, .int _), (7, .int _), (8, .int _)]) dX3_day_177 rfl (by decide) rfl ?_
          refine g_aload_n 180 hC dX3_day_179 rfl 1 rfl rfl ?_
          refine g_dup 181 hC dX3_day_180 rfl rfl ?_
          refine gf_X3_340_3I 184 hC hF dX3_day_181 rfl (fun x_16 hF => ?_)
          refine g_iconst 185 hC (1 : Int32) dX3_day_184 (by decide) rfl ?_
          refine g_iadd 186 hC dX3_day_185 rfl ?_
          refine g_putI (C := RX3) (T := TX3) (N := 46) (ci := 3) (k := 44) (ty := .int) in_X3 tyX3 tyX3_ok nmX3 rfl (by decide) q1431 rfl rfl (fun _ _ _ => rfl) rfl rfl 189 hC hF dX3_day_186 rfl (fun M_17 hF => ?_)
          refine g_goto 203 hC dX3_day_189 (by decide) ?_
          refine g_sub [1, 2, 3, 0, 4, 5] rfl ?_
          exact w_X3_day_b203 hC _ _ _ _ _ _ _ hK130 _ hF
def F_X3_day_b76 (Q : Int32 → gM → Prop)    (a0 : Nat) (x1 : Int32) (x2 : Int32) (x3 : Int32) (x5 : Int32) (x6 : Int32) : Nat → Int32 → gM → Prop
  | 0, _, _ => False
  | n + 1, x7, M =>
    rc M 3 a0 ∧ F_X3_sorts M a0 x1 fun x_2 M_1 =>
    ((x_2 ≤ x7 →
      rc M_1 3 a0 ∧ F_X3_sum M_1 a0 x1 (x3 - x5) (2 : Int32) fun x_4 M_3 =>
      ∃ n_5, F_X3_day_b130 Q a0 x1 x2 n_5 (x6 + x_4) (x3 - x5) (0 : Int32) M_3) ∧
      (¬ x_2 ≤ x7 →
      gI M_1 3 a0 43 fun x_6 =>
      F_X3_ofState M_1 x5 x7 fun x_8 M_7 =>
      pI M_7 3 a0 43 (x_6 + x_8) fun M_9 =>
      (F_X3_day_b76 Q a0 x1 x2 x3 x5 x6 n) (x7 + (1 : Int32)) M_9))
theorem w_X3_day_b76 {G : gG} {Q : Int32 → gM → Prop} (hC : gCx G cX3_day 9 RX3 (some .int) (gQi Q) rm_X3_day)  (a0 : Nat) (x1 : Int32) (x2 : Int32) (x3 : Int32) (x5 : Int32) (x6 : Int32)  : ∀ (n : Nat) (x7 : Int32)   (M : gM), F_X3_day_b76 Q a0 x1 x2 x3 x5 x6 n x7 M → gAt G 0 0 M [(0, .ref a0), (1, .int x1), (2, .int x2), (3, .int x3), (5, .int x5), (6, .int x6), (7, .int x7)] 76 [] := by
  intro n
  induction n with
  | zero =>
    intro x7 M hF
    exact hF.elim
  | succ n ih =>
    intro x7 M hF
    have hK76 := ih
    unfold F_X3_day_b76 at hF
    refine g_iload 78 hC dX3_day_76 rfl 6 rfl ?_
    refine g_aload_n 79 hC dX3_day_78 rfl 0 rfl rfl ?_
    refine g_iload_n 80 hC dX3_day_79 rfl 1 rfl rfl ?_
    refine g_cV (rest := [_]) wl_X3_98 hd_X3_sorts (ci := 3) rfl 83 hC hF.1 (met_X3_sorts hF.2) rfl ⟨Nat.le_of_ble_eq_true rfl, Nat.le_of_ble_eq_true rfl⟩ ⟨Nat.zero_le _, Nat.zero_le _⟩ rfl (Nat.le_of_ble_eq_true rfl) dX3_day_80 rfl (g_ty_i 0 0 (Nat.le_refl _) (Nat.le_refl _) (fun x_2 M_1 hF => ?_))
    refine g_icmp_ge 86 108 hC dX3_day_83 (by decide) rfl (fun c => ?_) (fun c => ?_)
    · have hF := hF.1 c
      refine g_iload_n 109 hC dX3_day_108 rfl 3 rfl rfl ?_
      refine g_iload 111 hC dX3_day_109 rfl 4 rfl ?_
      refine g_isub 112 hC dX3_day_111 rfl ?_
      refine g_istore 114 hC (lv' := [(7, .int _), (0, .ref _), (1, .int _), (2, .int _), (3, .int _), (5, .int _), (6, .int _)]) dX3_day_112 rfl (by decide) rfl ?_
      refine g_iload 116 hC dX3_day_114 rfl 6 rfl ?_
      refine g_aload_n 117 hC dX3_day_116 rfl 1 rfl rfl ?_
      refine g_iload_n 118 hC dX3_day_117 rfl 2 rfl rfl ?_
      refine g_iload 120 hC dX3_day_118 rfl 0 rfl ?_
      refine g_iconst 121 hC (2 : Int32) dX3_day_120 (by decide) rfl ?_
      refine g_cV (rest := [_]) wl_X3_236 hd_X3_sum (ci := 3) rfl 124 hC hF.1 (met_X3_sum hF.2) rfl ⟨Nat.le_of_ble_eq_true rfl, Nat.le_of_ble_eq_true rfl⟩ ⟨Nat.zero_le _, Nat.zero_le _⟩ rfl (Nat.le_of_ble_eq_true rfl) dX3_day_121 rfl (g_ty_i 0 0 (Nat.le_refl _) (Nat.le_refl _) (fun x_4 M_3 hF => ?_))
      refine g_iadd 125 hC dX3_day_124 rfl ?_
      refine g_istore 127 hC (lv' := [(6, .int _), (7, .int _), (0, .ref _), (1, .int _), (2, .int _), (3, .int _), (5, .int _)]) dX3_day_125 rfl (by decide) rfl ?_
      refine g_iconst 128 hC (0 : Int32) dX3_day_127 (by decide) rfl ?_
      refine g_istore 130 hC (lv' := [(8, .int _), (6, .int _), (7, .int _), (0, .ref _), (1, .int _), (2, .int _), (3, .int _), (5, .int _)]) dX3_day_128 rfl (by decide) rfl ?_
      refine g_sub [3, 4, 5, 1, 2, 0] rfl ?_
      obtain ⟨n_5, hF⟩ := hF
      exact w_X3_day_b130 hC _ _ _ n_5 _ _ _ _ hF
    · have hF := hF.2 c
      refine g_aload_n 87 hC dX3_day_86 rfl 0 rfl rfl ?_
      refine g_dup 88 hC dX3_day_87 rfl rfl ?_
      refine gf_X3_337_3I 91 hC hF dX3_day_88 rfl (fun x_6 hF => ?_)
      refine g_iload 93 hC dX3_day_91 rfl 4 rfl ?_
      refine g_iload 95 hC dX3_day_93 rfl 6 rfl ?_
      refine g_cS (rest := [_, _]) wl_X3_226 hd_X3_ofState 98 hC (met_X3_ofState hF) rfl ⟨Nat.le_of_ble_eq_true rfl, Nat.le_of_ble_eq_true rfl⟩ ⟨Nat.zero_le _, Nat.zero_le _⟩ rfl (Nat.le_of_ble_eq_true rfl) dX3_day_95 rfl (g_ty_i 0 0 (Nat.le_refl _) (Nat.le_refl _) (fun x_8 M_7 hF => ?_))
      refine g_iadd 99 hC dX3_day_98 rfl ?_
      refine g_putI (C := RX3) (T := TX3) (N := 46) (ci := 3) (k := 43) (ty := .int) in_X3 tyX3 tyX3_ok nmX3 rfl (by decide) q1430 rfl rfl (fun _ _ _ => rfl) rfl rfl 102 hC hF dX3_day_99 rfl (fun M_9 hF => ?_)
      refine g_iinc 105 hC (x7 + (1 : Int32)) (lv' := [(7, .int _), (0, .ref _), (1, .int _), (2, .int _), (3, .int _), (5, .int _), (6, .int _)]) dX3_day_102 rfl 6 rfl rfl (by decide) rfl ?_
      refine g_goto 76 hC dX3_day_105 (by decide) ?_
      refine g_sub [1, 2, 3, 4, 5, 6, 0] rfl ?_
      exact hK76 _ _ hF
def F_X3_day_b60 (Q : Int32 → gM → Prop)    (a0 : Nat) (x1 : Int32) (x2 : Int32) (x3 : Int32) (x5 : Int32) (x6 : Int32) (t0 : Nat) (t1 : Int32)  (M : gM) : Prop :=
  pI M 3 t0 42 t1 fun M_1 =>
  pI M_1 3 a0 43 (0 : Int32) fun M_2 =>
  pI M_2 3 a0 44 (0 : Int32) fun M_3 =>
  ∃ n_4, F_X3_day_b76 Q a0 x1 x2 x3 x5 x6 n_4 (0 : Int32) M_3
theorem w_X3_day_b60 {G : gG} {Q : Int32 → gM → Prop} (hC : gCx G cX3_day 9 RX3 (some .int) (gQi Q) rm_X3_day)  (a0 : Nat) (x1 : Int32) (x2 : Int32) (x3 : Int32) (x5 : Int32) (x6 : Int32) (t0 : Nat) (t1 : Int32)    (M : gM) (hF : F_X3_day_b60 Q a0 x1 x2 x3 x5 x6 t0 t1 M) : gAt G 0 0 M [(0, .ref a0), (1, .int x1), (2, .int x2), (3, .int x3), (5, .int x5), (6, .int x6)] 60 [.int t1, .ref t0] := by
  unfold F_X3_day_b60 at hF
  refine g_putI (C := RX3) (T := TX3) (N := 46) (ci := 3) (k := 42) (ty := .int) in_X3 tyX3 tyX3_ok nmX3 rfl (by decide) q1429 rfl rfl (fun _ _ _ => rfl) rfl rfl 63 hC hF dX3_day_60 rfl (fun M_1 hF => ?_)
  refine g_aload_n 64 hC dX3_day_63 rfl 0 rfl rfl ?_
  refine g_iconst 65 hC (0 : Int32) dX3_day_64 (by decide) rfl ?_
  refine g_putI (C := RX3) (T := TX3) (N := 46) (ci := 3) (k := 43) (ty := .int) in_X3 tyX3 tyX3_ok nmX3 rfl (by decide) q1430 rfl rfl (fun _ _ _ => rfl) rfl rfl 68 hC hF dX3_day_65 rfl (fun M_2 hF => ?_)
  refine g_aload_n 69 hC dX3_day_68 rfl 0 rfl rfl ?_
  refine g_iconst 70 hC (0 : Int32) dX3_day_69 (by decide) rfl ?_
  refine g_putI (C := RX3) (T := TX3) (N := 46) (ci := 3) (k := 44) (ty := .int) in_X3 tyX3 tyX3_ok nmX3 rfl (by decide) q1431 rfl rfl (fun _ _ _ => rfl) rfl rfl 73 hC hF dX3_day_70 rfl (fun M_3 hF => ?_)
  refine g_iconst 74 hC (0 : Int32) dX3_day_73 (by decide) rfl ?_
  refine g_istore 76 hC (lv' := [(7, .int _), (0, .ref _), (1, .int _), (2, .int _), (3, .int _), (5, .int _), (6, .int _)]) dX3_day_74 rfl (by decide) rfl ?_
  refine g_sub [1, 2, 3, 4, 5, 6, 0] rfl ?_
  obtain ⟨n_4, hF⟩ := hF
  exact w_X3_day_b76 hC _ _ _ _ _ _ n_4 _ _ hF
def F_X3_day_b47 (Q : Int32 → gM → Prop)    (a0 : Nat) (x1 : Int32) (x2 : Int32) (x3 : Int32) (x5 : Int32) (t0 : Int32)  (M : gM) : Prop :=
  ((x5 = 0 →
    F_X3_day_b60 Q a0 x1 x2 x3 x5 t0 a0 (0 : Int32) M) ∧
    (¬ x5 = 0 →
    F_X3_day_b60 Q a0 x1 x2 x3 x5 t0 a0 (1 : Int32) M))
theorem w_X3_day_b47 {G : gG} {Q : Int32 → gM → Prop} (hC : gCx G cX3_day 9 RX3 (some .int) (gQi Q) rm_X3_day)  (a0 : Nat) (x1 : Int32) (x2 : Int32) (x3 : Int32) (x5 : Int32) (t0 : Int32)    (M : gM) (hF : F_X3_day_b47 Q a0 x1 x2 x3 x5 t0 M) : gAt G 0 0 M [(0, .ref a0), (1, .int x1), (2, .int x2), (3, .int x3), (5, .int x5)] 47 [.int t0] := by
  unfold F_X3_day_b47 at hF
  refine g_istore 49 hC (lv' := [(6, .int _), (0, .ref _), (1, .int _), (2, .int _), (3, .int _), (5, .int _)]) dX3_day_47 rfl (by decide) rfl ?_
  refine g_aload_n 50 hC dX3_day_49 rfl 1 rfl rfl ?_
  refine g_iload 52 hC dX3_day_50 rfl 5 rfl ?_
  refine g_if_eq 55 59 hC dX3_day_52 (by decide) rfl (fun c => ?_) (fun c => ?_)
  · have hF := hF.1 c
    refine g_iconst 60 hC (0 : Int32) dX3_day_59 (by decide) rfl ?_
    refine g_sub [1, 2, 3, 4, 5, 0] rfl ?_
    exact w_X3_day_b60 hC _ _ _ _ _ _ _ _ _ hF
  · have hF := hF.2 c
    refine g_iconst 56 hC (1 : Int32) dX3_day_55 (by decide) rfl ?_
    refine g_goto 60 hC dX3_day_56 (by decide) ?_
    refine g_sub [1, 2, 3, 4, 5, 0] rfl ?_
    exact w_X3_day_b60 hC _ _ _ _ _ _ _ _ _ hF
def F_X3_day_b28 (Q : Int32 → gM → Prop)    (a0 : Nat) (x1 : Int32) (x2 : Int32) (x3 : Int32) (t0 : Int32)  (M : gM) : Prop :=
  ((t0 = 0 →
    F_X3_day_b47 Q a0 x1 x2 x3 t0 (0 : Int32) M) ∧
    (¬ t0 = 0 →
    gN M 3 a0 12 fun a_1 =>
    aN M (.array .int) a_1 x1 fun a_2 =>
    aI M .int a_2 (1 : Int32) fun x_3 =>
    F_X3_day_b47 Q a0 x1 x2 x3 t0 x_3 M))
theorem w_X3_day_b28 {G : gG} {Q : Int32 → gM → Prop} (hC : gCx G cX3_day 9 RX3 (some .int) (gQi Q) rm_X3_day)  (a0 : Nat) (x1 : Int32) (x2 : Int32) (x3 : Int32) (t0 : Int32)    (M : gM) (hF : F_X3_day_b28 Q a0 x1 x2 x3 t0 M) : gAt G 0 0 M [(0, .ref a0), (1, .int x1), (2, .int x2), (3, .int x3)] 28 [.int t0] := by
  unfold F_X3_day_b28 at hF
  refine g_istore 30 hC (lv' := [(5, .int _), (0, .ref _), (1, .int _), (2, .int _), (3, .int _)]) dX3_day_28 rfl (by decide) rfl ?_
  refine g_iload 32 hC dX3_day_30 rfl 0 rfl ?_
  refine g_if_eq 35 46 hC dX3_day_32 (by decide) rfl (fun c => ?_) (fun c => ?_)
  · have hF := hF.1 c
    refine g_iconst 47 hC (0 : Int32) dX3_day_46 (by decide) rfl ?_
    refine g_sub [1, 2, 3, 4, 0] rfl ?_
    exact w_X3_day_b47 hC _ _ _ _ _ _ _ hF
  · have hF := hF.2 c
    refine g_aload_n 36 hC dX3_day_35 rfl 1 rfl rfl ?_
    refine gf_X3_45_3N 39 hC hF dX3_day_36 rfl (fun a_1 hF => ?_)
    refine g_iload_n 40 hC dX3_day_39 rfl 2 rfl rfl ?_
    refine g_aaldN 41 hC hF (by decide) rfl (fun _ _ _ => rfl) dX3_day_40 rfl (fun a_2 hF => ?_)
    refine g_iconst 42 hC (1 : Int32) dX3_day_41 (by decide) rfl ?_
    refine g_iald 43 hC hF dX3_day_42 rfl (fun x_3 hF => ?_)
    refine g_goto 47 hC dX3_day_43 (by decide) ?_
    refine g_sub [1, 2, 3, 4, 0] rfl ?_
    exact w_X3_day_b47 hC _ _ _ _ _ _ _ hF
def F_X3_day  (M : gM) (a0 : Nat) (x1 : Int32) (x2 : Int32) (x3 : Int32) (x4 : Int32) (Q : Int32 → gM → Prop)  : Prop :=
  rc M 3 a0 ∧ F_X3_draw M a0 fun x_2 M_1 =>
  gN M_1 3 a0 12 fun a_3 =>
  aN M_1 (.array .int) a_3 x1 fun a_4 =>
  aI M_1 .int a_4 (3 : Int32) fun x_5 =>
  ((x_5 ≤ x_2 →
    rc M_1 3 a0 ∧ F_X3_loadBy M_1 a0 x1 x2 x3 x4 fun x_7 M_6 =>
    F_X3_day_b28 Q a0 x1 x2 x3 x_7 M_6) ∧
    (¬ x_5 ≤ x_2 →
    F_X3_day_b28 Q a0 x1 x2 x3 (0 : Int32) M_1))
theorem met_X3_day {M : gM} {a0 : Nat} {x1 : Int32} {x2 : Int32} {x3 : Int32} {x4 : Int32} {Q : Int32 → gM → Prop} (hF : F_X3_day M a0 x1 x2 x3 x4 Q) : gMt yX3_day (ws_ yX3_day cX3_day 9 (some .int)) rm_X3_day M [.ref a0, .int x1, .int x2, .int x3, .int x4] (gQi Q) := by
  refine gMet (bytes := cX3_day) (maxL := 9) (ret := (some .int)) rfl rfl (by decide) (Nat.le_of_ble_eq_true rfl) (lv := [(0, .ref a0), (1, .int x1), (2, .int x2), (3, .int x3), (4, .int x4)]) rfl (fun G hC hin => ?_)
  unfold F_X3_day at hF
  refine g_aload_n 1 hC dX3_day_0 rfl 0 rfl rfl ?_
  refine g_cV (rest := []) wl_X3_331 hd_X3_draw (ci := 3) rfl 4 hC hF.1 (met_X3_draw hF.2) rfl ⟨Nat.le_of_ble_eq_true rfl, Nat.le_of_ble_eq_true rfl⟩ ⟨Nat.zero_le _, Nat.zero_le _⟩ rfl (Nat.le_of_ble_eq_true rfl) dX3_day_1 rfl (g_ty_i 0 0 (Nat.le_refl _) (Nat.le_refl _) (fun x_2 M_1 hF => ?_))
  refine g_aload_n 5 hC dX3_day_4 rfl 0 rfl rfl ?_
  refine gf_X3_45_3N 8 hC hF dX3_day_5 rfl (fun a_3 hF => ?_)
  refine g_iload_n 9 hC dX3_day_8 rfl 1 rfl rfl ?_
  refine g_aaldN 10 hC hF (by decide) rfl (fun _ _ _ => rfl) dX3_day_9 rfl (fun a_4 hF => ?_)
  refine g_iconst 11 hC (3 : Int32) dX3_day_10 (by decide) rfl ?_
  refine g_iald 12 hC hF dX3_day_11 rfl (fun x_5 hF => ?_)
  refine g_icmp_ge 15 19 hC dX3_day_12 (by decide) rfl (fun c => ?_) (fun c => ?_)
  · have hF := hF.1 c
    refine g_aload_n 20 hC dX3_day_19 rfl 0 rfl rfl ?_
    refine g_iload_n 21 hC dX3_day_20 rfl 1 rfl rfl ?_
    refine g_iload_n 22 hC dX3_day_21 rfl 2 rfl rfl ?_
    refine g_iload_n 23 hC dX3_day_22 rfl 3 rfl rfl ?_
    refine g_iload 25 hC dX3_day_23 rfl 4 rfl ?_
    refine g_cV (rest := []) wl_X3_274 hd_X3_loadBy (ci := 3) rfl 28 hC hF.1 (met_X3_loadBy hF.2) rfl ⟨Nat.le_of_ble_eq_true rfl, Nat.le_of_ble_eq_true rfl⟩ ⟨Nat.zero_le _, Nat.zero_le _⟩ rfl (Nat.le_of_ble_eq_true rfl) dX3_day_25 rfl (g_ty_i 0 0 (Nat.le_refl _) (Nat.le_refl _) (fun x_7 M_6 hF => ?_))
    refine g_sub [0, 1, 2, 3] rfl ?_
    exact w_X3_day_b28 hC _ _ _ _ _ _ hF
  · have hF := hF.2 c
    refine g_iconst 16 hC (0 : Int32) dX3_day_15 (by decide) rfl ?_
    refine g_goto 28 hC dX3_day_16 (by decide) ?_
    refine g_sub [0, 1, 2, 3] rfl ?_
    exact w_X3_day_b28 hC _ _ _ _ _ _ hF
theorem gf_X3_355_3I {G : gG} {cc : ByteArray} {nL : Nat} {ret : Option FieldType} {Qf : Option Value → gM → Prop} {rm : Room} {cells slots : Nat} {M : gM} {lv : List (Nat × Value)} {pc : Nat} {st : List Value} {a : Nat} (n : Nat) (hC : gCx G cc nL RX3 ret Qf rm) {κ : Int32 → Prop} (hF : gI M 3 a 17 κ) (hdg : decode cc pc = .ok (.getfield 355, 3)) (hn : pc + 3 = n) (kk : ∀ x, κ x → gAt G cells slots M lv n (.int x :: st)) : gAt G cells slots M lv pc (.ref a :: st) :=
  g_getI (C := RX3) (T := TX3) (N := 46) in_X3 rfl (by decide) q1404 (fun _ _ _ => rfl) n hC hF hdg hn kk
theorem gf_X3_352_3I {G : gG} {cc : ByteArray} {nL : Nat} {ret : Option FieldType} {Qf : Option Value → gM → Prop} {rm : Room} {cells slots : Nat} {M : gM} {lv : List (Nat × Value)} {pc : Nat} {st : List Value} {a : Nat} (n : Nat) (hC : gCx G cc nL RX3 ret Qf rm) {κ : Int32 → Prop} (hF : gI M 3 a 16 κ) (hdg : decode cc pc = .ok (.getfield 352, 3)) (hn : pc + 3 = n) (kk : ∀ x, κ x → gAt G cells slots M lv n (.int x :: st)) : gAt G cells slots M lv pc (.ref a :: st) :=
  g_getI (C := RX3) (T := TX3) (N := 46) in_X3 rfl (by decide) q1403 (fun _ _ _ => rfl) n hC hF hdg hn kk
theorem hd_X3_day : yX3_day.cls = RX3 ∧ yX3_day.cls ≠ "java/lang/invoke/MethodHandle" ∧ yX3_day.cls ≠ "java/lang/invoke/VarHandle" ∧ (parseMethodDescriptor yX3_day.desc).map (fun d => d.parameters.length) = some 4 := by decide +kernel
theorem wl_X3_367 : GoodIn lw_all (wsV RX3 367 RX3 yX3_day (ws_ yX3_day cX3_day 9 (some .int))) := lw_V q1909 q1911 qs65 q72 q1912
theorem gf_X3_343_3I {G : gG} {cc : ByteArray} {nL : Nat} {ret : Option FieldType} {Qf : Option Value → gM → Prop} {rm : Room} {cells slots : Nat} {M : gM} {lv : List (Nat × Value)} {pc : Nat} {st : List Value} {a : Nat} (n : Nat) (hC : gCx G cc nL RX3 ret Qf rm) {κ : Int32 → Prop} (hF : gI M 3 a 45 κ) (hdg : decode cc pc = .ok (.getfield 343, 3)) (hn : pc + 3 = n) (kk : ∀ x, κ x → gAt G cells slots M lv n (.int x :: st)) : gAt G cells slots M lv pc (.ref a :: st) :=
  g_getI (C := RX3) (T := TX3) (N := 46) in_X3 rfl (by decide) q1432 (fun _ _ _ => rfl) n hC hF hdg hn kk
theorem gf_X3_358_3I {G : gG} {cc : ByteArray} {nL : Nat} {ret : Option FieldType} {Qf : Option Value → gM → Prop} {rm : Room} {cells slots : Nat} {M : gM} {lv : List (Nat × Value)} {pc : Nat} {st : List Value} {a : Nat} (n : Nat) (hC : gCx G cc nL RX3 ret Qf rm) {κ : Int32 → Prop} (hF : gI M 3 a 18 κ) (hdg : decode cc pc = .ok (.getfield 358, 3)) (hn : pc + 3 = n) (kk : ∀ x, κ x → gAt G cells slots M lv n (.int x :: st)) : gAt G cells slots M lv pc (.ref a :: st) :=
  g_getI (C := RX3) (T := TX3) (N := 46) in_X3 rfl (by decide) q1405 (fun _ _ _ => rfl) n hC hF hdg hn kk
theorem gf_X3_334_3I {G : gG} {cc : ByteArray} {nL : Nat} {ret : Option FieldType} {Qf : Option Value → gM → Prop} {rm : Room} {cells slots : Nat} {M : gM} {lv : List (Nat × Value)} {pc : Nat} {st : List Value} {a : Nat} (n : Nat) (hC : gCx G cc nL RX3 ret Qf rm) {κ : Int32 → Prop} (hF : gI M 3 a 42 κ) (hdg : decode cc pc = .ok (.getfield 334, 3)) (hn : pc + 3 = n) (kk : ∀ x, κ x → gAt G cells slots M lv n (.int x :: st)) : gAt G cells slots M lv pc (.ref a :: st) :=
  g_getI (C := RX3) (T := TX3) (N := 46) in_X3 rfl (by decide) q1429 (fun _ _ _ => rfl) n hC hF hdg hn kk
theorem gf_X3_361_3I {G : gG} {cc : ByteArray} {nL : Nat} {ret : Option FieldType} {Qf : Option Value → gM → Prop} {rm : Room} {cells slots : Nat} {M : gM} {lv : List (Nat × Value)} {pc : Nat} {st : List Value} {a : Nat} (n : Nat) (hC : gCx G cc nL RX3 ret Qf rm) {κ : Int32 → Prop} (hF : gI M 3 a 19 κ) (hdg : decode cc pc = .ok (.getfield 361, 3)) (hn : pc + 3 = n) (kk : ∀ x, κ x → gAt G cells slots M lv n (.int x :: st)) : gAt G cells slots M lv pc (.ref a :: st) :=
  g_getI (C := RX3) (T := TX3) (N := 46) in_X3 rfl (by decide) q1406 (fun _ _ _ => rfl) n hC hF hdg hn kk
theorem gf_X3_364_3I {G : gG} {cc : ByteArray} {nL : Nat} {ret : Option FieldType} {Qf : Option Value → gM → Prop} {rm : Room} {cells slots : Nat} {M : gM} {lv : List (Nat × Value)} {pc : Nat} {st : List Value} {a : Nat} (n : Nat) (hC : gCx G cc nL RX3 ret Qf rm) {κ : Int32 → Prop} (hF : gI M 3 a 20 κ) (hdg : decode cc pc = .ok (.getfield 364, 3)) (hn : pc + 3 = n) (kk : ∀ x, κ x → gAt G cells slots M lv n (.int x :: st)) : gAt G cells slots M lv pc (.ref a :: st) :=
  g_getI (C := RX3) (T := TX3) (N := 46) in_X3 rfl (by decide) q1407 (fun _ _ _ => rfl) n hC hF hdg hn kk
theorem gf_X3_346_3I {G : gG} {cc : ByteArray} {nL : Nat} {ret : Option FieldType} {Qf : Option Value → gM → Prop} {rm : Room} {cells slots : Nat} {M : gM} {lv : List (Nat × Value)} {pc : Nat} {st : List Value} {a : Nat} (n : Nat) (hC : gCx G cc nL RX3 ret Qf rm) {κ : Int32 → Prop} (hF : gI M 3 a 14 κ) (hdg : decode cc pc = .ok (.getfield 346, 3)) (hn : pc + 3 = n) (kk : ∀ x, κ x → gAt G cells slots M lv n (.int x :: st)) : gAt G cells slots M lv pc (.ref a :: st) :=
  g_getI (C := RX3) (T := TX3) (N := 46) in_X3 rfl (by decide) q1401 (fun _ _ _ => rfl) n hC hF hdg hn kk
abbrev rm_X3_step : Room := { frames := 5, cells := 0, slots := 0, locals := 129 }
def F_X3_step_b144 (Q : Int32 → gM → Prop)    (a0 : Nat) (x2 : Int32)   (M : gM) : Prop :=
  gI M 3 a0 17 fun x_1 =>
  pI M 3 a0 17 (x_1 + x2) fun M_2 =>
  Q x2 M_2
theorem w_X3_step_b144 {G : gG} {Q : Int32 → gM → Prop} (hC : gCx G cX3_step 4 RX3 (some .int) (gQi Q) rm_X3_step)  (a0 : Nat) (x2 : Int32)     (M : gM) (hF : F_X3_step_b144 Q a0 x2 M) : gAt G 0 0 M [(0, .ref a0), (2, .int x2)] 144 [] := by
  unfold F_X3_step_b144 at hF
  refine g_aload_n 145 hC dX3_step_144 rfl 0 rfl rfl ?_
  refine g_dup 146 hC dX3_step_145 rfl rfl ?_
  refine gf_X3_355_3I 149 hC hF dX3_step_146 rfl (fun x_1 hF => ?_)
  refine g_iload_n 150 hC dX3_step_149 rfl 1 rfl rfl ?_
  refine g_iadd 151 hC dX3_step_150 rfl ?_
  refine g_putI (C := RX3) (T := TX3) (N := 46) (ci := 3) (k := 17) (ty := .int) in_X3 tyX3 tyX3_ok nmX3 rfl (by decide) q1404 rfl rfl (fun _ _ _ => rfl) rfl rfl 154 hC hF dX3_step_151 rfl (fun M_2 hF => ?_)
  refine g_iload_n 155 hC dX3_step_154 rfl 1 rfl rfl ?_
  exact g_ireturn hC ⟨_, rfl, hF⟩ dX3_step_155 (Nat.zero_le _) (Nat.zero_le _)
def F_X3_step_b33 (Q : Int32 → gM → Prop)    (a0 : Nat)   (M : gM) : Prop :=
  rc M 3 a0 ∧ F_X3_refuse M a0 (-5 : Int32) fun x_2 M_1 =>
  Q x_2 M_1
theorem w_X3_step_b33 {G : gG} {Q : Int32 → gM → Prop} (hC : gCx G cX3_step 4 RX3 (some .int) (gQi Q) rm_X3_step)  (a0 : Nat)     (M : gM) (hF : F_X3_step_b33 Q a0 M) : gAt G 0 0 M [(0, .ref a0)] 33 [] := by
  unfold F_X3_step_b33 at hF
  refine g_aload_n 34 hC dX3_step_33 rfl 0 rfl rfl ?_
  refine g_bipush 36 hC (-5 : Int32) dX3_step_34 (by decide) rfl ?_
  refine g_cV (rest := []) wl_X3_119 hd_X3_refuse (ci := 3) rfl 39 hC hF.1 (met_X3_refuse hF.2) rfl ⟨Nat.le_of_ble_eq_true rfl, Nat.le_of_ble_eq_true rfl⟩ ⟨Nat.zero_le _, Nat.zero_le _⟩ rfl (Nat.le_of_ble_eq_true rfl) dX3_step_36 rfl (g_ty_i 0 0 (Nat.le_refl _) (Nat.le_refl _) (fun x_2 M_1 hF => ?_))
  exact g_ireturn hC ⟨_, rfl, hF⟩ dX3_step_39 (Nat.zero_le _) (Nat.zero_le _)
def F_X3_step_b50 (Q : Int32 → gM → Prop)    (a0 : Nat) (x1 : Int32) : Nat → Int32 → Int32 → gM → Prop
  | 0, _, _, _ => False
  | n + 1, x2, x3, M =>
    ((x1 ≤ x3 →
      F_X3_step_b144 Q a0 x2 M) ∧
      (¬ x1 ≤ x3 →
      gI M 3 a0 15 fun x_1 =>
      ((x_1 ≤ 0 →
        F_X3_step_b144 Q a0 x2 M) ∧
        (¬ x_1 ≤ 0 →
        gI M 3 a0 15 fun x_2 =>
        gI M 3 a0 16 fun x_3 =>
        rc M 3 a0 ∧ F_X3_day M a0 (7 : Int32) x_2 x_3 (8 : Int32) fun x_5 M_4 =>
        gI M_4 3 a0 45 fun x_6 =>
        pI M_4 3 a0 16 x_6 fun M_7 =>
        gI M_7 3 a0 18 fun x_8 =>
        gI M_7 3 a0 42 fun x_9 =>
        pI M_7 3 a0 18 (x_8 + x_9) fun M_10 =>
        gI M_10 3 a0 19 fun x_11 =>
        gI M_10 3 a0 43 fun x_12 =>
        pI M_10 3 a0 19 (x_11 + x_12) fun M_13 =>
        gI M_13 3 a0 20 fun x_14 =>
        gI M_13 3 a0 44 fun x_15 =>
        pI M_13 3 a0 20 (x_14 + x_15) fun M_16 =>
        gI M_16 3 a0 15 fun x_17 =>
        pI M_16 3 a0 15 (x_17 - (1 : Int32)) fun M_18 =>
        (F_X3_step_b50 Q a0 x1 n) (x2 + x_5) (x3 + (1 : Int32)) M_18))))
theorem w_X3_step_b50 {G : gG} {Q : Int32 → gM → Prop} (hC : gCx G cX3_step 4 RX3 (some .int) (gQi Q) rm_X3_step)  (a0 : Nat) (x1 : Int32)  : ∀ (n : Nat) (x2 : Int32) (x3 : Int32)   (M : gM), F_X3_step_b50 Q a0 x1 n x2 x3 M → gAt G 0 0 M [(0, .ref a0), (1, .int x1), (2, .int x2), (3, .int x3)] 50 [] := by
  intro n
  induction n with
  | zero =>
    intro x2 x3 M hF
    exact hF.elim
  | succ n ih =>
    intro x2 x3 M hF
    have hK50 := ih
    unfold F_X3_step_b50 at hF
    refine g_iload_n 51 hC dX3_step_50 rfl 3 rfl rfl ?_
    refine g_iload_n 52 hC dX3_step_51 rfl 1 rfl rfl ?_
    refine g_icmp_ge 55 144 hC dX3_step_52 (by decide) rfl (fun c => ?_) (fun c => ?_)
    · have hF := hF.1 c
      refine g_sub [0, 2] rfl ?_
      exact w_X3_step_b144 hC _ _ _ hF
    · have hF := hF.2 c
      refine g_aload_n 56 hC dX3_step_55 rfl 0 rfl rfl ?_
      refine gf_X3_349_3I 59 hC hF dX3_step_56 rfl (fun x_1 hF => ?_)
      refine g_if_le 62 144 hC dX3_step_59 (by decide) rfl (fun c => ?_) (fun c => ?_)
      · have hF := hF.1 c
        refine g_sub [0, 2] rfl ?_
        exact w_X3_step_b144 hC _ _ _ hF
      · have hF := hF.2 c
        refine g_iload_n 63 hC dX3_step_62 rfl 2 rfl rfl ?_
        refine g_aload_n 64 hC dX3_step_63 rfl 0 rfl rfl ?_
        refine g_bipush 66 hC (7 : Int32) dX3_step_64 (by decide) rfl ?_
        refine g_aload_n 67 hC dX3_step_66 rfl 0 rfl rfl ?_
        refine gf_X3_349_3I 70 hC hF dX3_step_67 rfl (fun x_2 hF => ?_)
        refine g_aload_n 71 hC dX3_step_70 rfl 0 rfl rfl ?_
        refine gf_X3_352_3I 74 hC hF dX3_step_71 rfl (fun x_3 hF => ?_)
        refine g_bipush 76 hC (8 : Int32) dX3_step_74 (by decide) rfl ?_
        refine g_cV (rest := [_]) wl_X3_367 hd_X3_day (ci := 3) rfl 79 hC hF.1 (met_X3_day hF.2) rfl ⟨Nat.le_of_ble_eq_true rfl, Nat.le_of_ble_eq_true rfl⟩ ⟨Nat.zero_le _, Nat.zero_le _⟩ rfl (Nat.le_of_ble_eq_true rfl) dX3_step_76 rfl (g_ty_i 0 0 (Nat.le_refl _) (Nat.le_refl _) (fun x_5 M_4 hF => ?_))
        refine g_iadd 80 hC dX3_step_79 rfl ?_
        refine g_istore_n 81 hC (lv' := [(2, .int _), (0, .ref _), (1, .int _), (3, .int _)]) dX3_step_80 rfl rfl (by decide) rfl ?_
        refine g_aload_n 82 hC dX3_step_81 rfl 1 rfl rfl ?_
        refine g_aload_n 83 hC dX3_step_82 rfl 1 rfl rfl ?_
        refine gf_X3_343_3I 86 hC hF dX3_step_83 rfl (fun x_6 hF => ?_)
        refine g_putI (C := RX3) (T := TX3) (N := 46) (ci := 3) (k := 16) (ty := .int) in_X3 tyX3 tyX3_ok nmX3 rfl (by decide) q1403 rfl rfl (fun _ _ _ => rfl) rfl rfl 89 hC hF dX3_step_86 rfl (fun M_7 hF => ?_)
        refine g_aload_n 90 hC dX3_step_89 rfl 1 rfl rfl ?_
        refine g_dup 91 hC dX3_step_90 rfl rfl ?_
        refine gf_X3_358_3I 94 hC hF dX3_step_91 rfl (fun x_8 hF => ?_)
        refine g_aload_n 95 hC dX3_step_94 rfl 1 rfl rfl ?_
        refine gf_X3_334_3I 98 hC hF dX3_step_95 rfl (fun x_9 hF => ?_)
        refine g_iadd 99 hC dX3_step_98 rfl ?_
        refine g_putI (C := RX3) (T := TX3) (N := 46) (ci := 3) (k := 18) (ty := .int) in_X3 tyX3 tyX3_ok nmX3 rfl (by decide) q1405 rfl rfl (fun _ _ _ => rfl) rfl rfl 102 hC hF dX3_step_99 rfl (fun M_10 hF => ?_)
        refine g_aload_n 103 hC dX3_step_102 rfl 1 rfl rfl ?_
        refine g_dup 104 hC dX3_step_103 rfl rfl ?_
        refine gf_X3_361_3I 107 hC hF dX3_step_104 rfl (fun x_11 hF => ?_)
        refine g_aload_n 108 hC dX3_step_107 rfl 1 rfl rfl ?_
        refine gf_X3_337_3I 111 hC hF dX3_step_108 rfl (fun x_12 hF => ?_)
        refine g_iadd 112 hC dX3_step_111 rfl ?_
        refine g_putI (C := RX3) (T := TX3) (N := 46) (ci := 3) (k := 19) (ty := .int) in_X3 tyX3 tyX3_ok nmX3 rfl (by decide) q1406 rfl rfl (fun _ _ _ => rfl) rfl rfl 115 hC hF dX3_step_112 rfl (fun M_13 hF => ?_)
        refine g_aload_n 116 hC dX3_step_115 rfl 1 rfl rfl ?_
        refine g_dup 117 hC dX3_step_116 rfl rfl ?_
        refine gf_X3_364_3I 120 hC hF dX3_step_117 rfl (fun x_14 hF => ?_)
        refine g_aload_n 121 hC dX3_step_120 rfl 1 rfl rfl ?_
        refine gf_X3_340_3I 124 hC hF dX3_step_121 rfl (fun x_15 hF => ?_)
        refine g_iadd 125 hC dX3_step_124 rfl ?_
        refine g_putI (C := RX3) (T := TX3) (N := 46) (ci := 3) (k := 20) (ty := .int) in_X3 tyX3 tyX3_ok nmX3 rfl (by decide) q1407 rfl rfl (fun _ _ _ => rfl) rfl rfl 128 hC hF dX3_step_125 rfl (fun M_16 hF => ?_)
        refine g_aload_n 129 hC dX3_step_128 rfl 1 rfl rfl ?_
        refine g_dup 130 hC dX3_step_129 rfl rfl ?_
        refine gf_X3_349_3I 133 hC hF dX3_step_130 rfl (fun x_17 hF => ?_)
        refine g_iconst 134 hC (1 : Int32) dX3_step_133 (by decide) rfl ?_
        refine g_isub 135 hC dX3_step_134 rfl ?_
        refine g_putI (C := RX3) (T := TX3) (N := 46) (ci := 3) (k := 15) (ty := .int) in_X3 tyX3 tyX3_ok nmX3 rfl (by decide) q1402 rfl rfl (fun _ _ _ => rfl) rfl rfl 138 hC hF dX3_step_135 rfl (fun M_18 hF => ?_)
        refine g_iinc 141 hC (x3 + (1 : Int32)) (lv' := [(3, .int _), (2, .int _), (0, .ref _), (1, .int _)]) dX3_step_138 rfl 3 rfl rfl (by decide) rfl ?_
        refine g_goto 50 hC dX3_step_141 (by decide) ?_
        refine g_sub [2, 3, 1, 0] rfl ?_
        exact hK50 _ _ _ hF
def F_X3_step  (M : gM) (a0 : Nat) (x1 : Int32) (Q : Int32 → gM → Prop)  : Prop :=
  F_X3_in M x1.toInt64 (1 : Int64) (6 : Int64) fun x_2 M_1 =>
  ((¬ x_2 = 0 →
    gI M_1 3 a0 14 fun x_3 =>
    ((x_3 = 0 →
      F_X3_step_b33 Q a0 M_1) ∧
      (¬ x_3 = 0 →
      gI M_1 3 a0 15 fun x_4 =>
      ((¬ x_4 = 0 →
        rc M_1 3 a0 ∧ F_X3_findBest M_1 a0 (7 : Int32) fun M_5 =>
        ∃ n_7, F_X3_step_b50 Q a0 x1 n_7 (0 : Int32) (0 : Int32) M_5) ∧
        (x_4 = 0 →
        F_X3_step_b33 Q a0 M_1))))) ∧
    (x_2 = 0 →
    rc M_1 3 a0 ∧ F_X3_refuse M_1 a0 (-2 : Int32) fun x_9 M_8 =>
    Q x_9 M_8))
theorem met_X3_step {M : gM} {a0 : Nat} {x1 : Int32} {Q : Int32 → gM → Prop} (hF : F_X3_step M a0 x1 Q) : gMt yX3_step (ws_ yX3_step cX3_step 4 (some .int)) rm_X3_step M [.ref a0, .int x1] (gQi Q) := by
  refine gMet (bytes := cX3_step) (maxL := 4) (ret := (some .int)) rfl rfl (by decide) (Nat.le_of_ble_eq_true rfl) (lv := [(0, .ref a0), (1, .int x1)]) rfl (fun G hC hin => ?_)
  unfold F_X3_step at hF
  refine g_iload_n 1 hC dX3_step_0 rfl 1 rfl rfl ?_
  refine g_i2l 2 hC dX3_step_1 rfl ?_
  refine g_lconst 3 hC (1 : Int64) dX3_step_2 (by decide) rfl ?_
  refine g_ldc2 6 hC q1568 dX3_step_3 rfl ?_
  refine g_cS (rest := []) wl_X3_94 hd_X3_in 9 hC (met_X3_in hF) rfl ⟨Nat.le_of_ble_eq_true rfl, Nat.le_of_ble_eq_true rfl⟩ ⟨Nat.zero_le _, Nat.zero_le _⟩ rfl (Nat.le_of_ble_eq_true rfl) dX3_step_6 rfl (g_ty_i 0 0 (Nat.le_refl _) (Nat.le_refl _) (fun x_2 M_1 hF => ?_))
  refine g_if_ne 12 19 hC dX3_step_9 (by decide) rfl (fun c => ?_) (fun c => ?_)
  · have hF := hF.1 c
    refine g_aload_n 20 hC dX3_step_19 rfl 0 rfl rfl ?_
    refine gf_X3_346_3I 23 hC hF dX3_step_20 rfl (fun x_3 hF => ?_)
    refine g_if_eq 26 33 hC dX3_step_23 (by decide) rfl (fun c => ?_) (fun c => ?_)
    · have hF := hF.1 c
      refine g_sub [0] rfl ?_
      exact w_X3_step_b33 hC _ _ hF
    · have hF := hF.2 c
      refine g_aload_n 27 hC dX3_step_26 rfl 0 rfl rfl ?_
      refine gf_X3_349_3I 30 hC hF dX3_step_27 rfl (fun x_4 hF => ?_)
      refine g_if_ne 33 40 hC dX3_step_30 (by decide) rfl (fun c => ?_) (fun c => ?_)
      · have hF := hF.1 c
        refine g_aload_n 41 hC dX3_step_40 rfl 0 rfl rfl ?_
        refine g_bipush 43 hC (7 : Int32) dX3_step_41 (by decide) rfl ?_
        refine g_cV (rest := []) wl_X3_264 hd_X3_findBest (ci := 3) rfl 46 hC hF.1 (met_X3_findBest hF.2) rfl ⟨Nat.le_of_ble_eq_true rfl, Nat.le_of_ble_eq_true rfl⟩ ⟨Nat.zero_le _, Nat.zero_le _⟩ rfl (Nat.le_of_ble_eq_true rfl) dX3_step_43 rfl (g_ty_v 0 0 (Nat.le_refl _) (Nat.le_refl _) (fun M_5 hF => ?_))
        refine g_iconst 47 hC (0 : Int32) dX3_step_46 (by decide) rfl ?_
        refine g_istore_n 48 hC (lv' := [(2, .int _), (0, .ref _), (1, .int _)]) dX3_step_47 rfl rfl (by decide) rfl ?_
        refine g_iconst 49 hC (0 : Int32) dX3_step_48 (by decide) rfl ?_
        refine g_istore_n 50 hC (lv' := [(3, .int _), (2, .int _), (0, .ref _), (1, .int _)]) dX3_step_49 rfl rfl (by decide) rfl ?_
        refine g_sub [2, 3, 1, 0] rfl ?_
        obtain ⟨n_7, hF⟩ := hF
        exact w_X3_step_b50 hC _ _ n_7 _ _ _ hF
      · have hF := hF.2 c
        refine g_sub [0] rfl ?_
        exact w_X3_step_b33 hC _ _ hF
  · have hF := hF.2 c
    refine g_aload_n 13 hC dX3_step_12 rfl 0 rfl rfl ?_
    refine g_bipush 15 hC (-2 : Int32) dX3_step_13 (by decide) rfl ?_
    refine g_cV (rest := []) wl_X3_119 hd_X3_refuse (ci := 3) rfl 18 hC hF.1 (met_X3_refuse hF.2) rfl ⟨Nat.le_of_ble_eq_true rfl, Nat.le_of_ble_eq_true rfl⟩ ⟨Nat.zero_le _, Nat.zero_le _⟩ rfl (Nat.le_of_ble_eq_true rfl) dX3_step_15 rfl (g_ty_i 0 0 (Nat.le_refl _) (Nat.le_refl _) (fun x_9 M_8 hF => ?_))
    exact g_ireturn hC ⟨_, rfl, hF⟩ dX3_step_18 (Nat.zero_le _) (Nat.zero_le _)
abbrev rm_X3_week : Room := { frames := 1, cells := 0, slots := 0, locals := 25 }
def F_X3_week  (M : gM) (a0 : Nat) (x1 : Int32) (Q : Int32 → gM → Prop)  : Prop :=
  F_X3_in M x1.toInt64 (0 : Int64) (5 : Int64) fun x_2 M_1 =>
  ((¬ x_2 = 0 →
    gI M_1 3 a0 14 fun x_3 =>
    ((¬ x_3 = 0 →
      (((x1.toInt < 0 ∨ 4 < x1.toInt) →
        gI M_1 3 a0 20 fun x_4 =>
        Q x_4 M_1) ∧
        (x1 = (0 : Int32) →
        gI M_1 3 a0 15 fun x_5 =>
        Q x_5 M_1) ∧
        (x1 = (1 : Int32) →
        gI M_1 3 a0 16 fun x_6 =>
        Q x_6 M_1) ∧
        (x1 = (2 : Int32) →
        gI M_1 3 a0 17 fun x_7 =>
        Q x_7 M_1) ∧
        (x1 = (3 : Int32) →
        gI M_1 3 a0 18 fun x_8 =>
        Q x_8 M_1) ∧
        (x1 = (4 : Int32) →
        gI M_1 3 a0 19 fun x_9 =>
        Q x_9 M_1))) ∧
      (x_3 = 0 →
      rc M_1 3 a0 ∧ F_X3_refuse M_1 a0 (-5 : Int32) fun x_11 M_10 =>
      Q x_11 M_10))) ∧
    (x_2 = 0 →
    rc M_1 3 a0 ∧ F_X3_refuse M_1 a0 (-2 : Int32) fun x_13 M_12 =>
    Q x_13 M_12))
theorem met_X3_week {M : gM} {a0 : Nat} {x1 : Int32} {Q : Int32 → gM → Prop} (hF : F_X3_week M a0 x1 Q) : gMt yX3_week (ws_ yX3_week cX3_week 2 (some .int)) rm_X3_week M [.ref a0, .int x1] (gQi Q) := by
  refine gMet (bytes := cX3_week) (maxL := 2) (ret := (some .int)) rfl rfl (by decide) (Nat.le_of_ble_eq_true rfl) (lv := [(0, .ref a0), (1, .int x1)]) rfl (fun G hC hin => ?_)
  unfold F_X3_week at hF
  refine g_iload_n 1 hC dX3_week_0 rfl 1 rfl rfl ?_
  refine g_i2l 2 hC dX3_week_1 rfl ?_
  refine g_lconst 3 hC (0 : Int64) dX3_week_2 (by decide) rfl ?_
  refine g_ldc2 6 hC q1563 dX3_week_3 rfl ?_
  refine g_cS (rest := []) wl_X3_94 hd_X3_in 9 hC (met_X3_in hF) rfl ⟨Nat.le_of_ble_eq_true rfl, Nat.le_of_ble_eq_true rfl⟩ ⟨Nat.zero_le _, Nat.zero_le _⟩ rfl (Nat.le_of_ble_eq_true rfl) dX3_week_6 rfl (g_ty_i 0 0 (Nat.le_refl _) (Nat.le_refl _) (fun x_2 M_1 hF => ?_))
  refine g_if_ne 12 19 hC dX3_week_9 (by decide) rfl (fun c => ?_) (fun c => ?_)
  · have hF := hF.1 c
    refine g_aload_n 20 hC dX3_week_19 rfl 0 rfl rfl ?_
    refine gf_X3_346_3I 23 hC hF dX3_week_20 rfl (fun x_3 hF => ?_)
    refine g_if_ne 26 33 hC dX3_week_23 (by decide) rfl (fun c => ?_) (fun c => ?_)
    · have hF := hF.1 c
      refine g_iload_n 34 hC dX3_week_33 rfl 1 rfl rfl ?_
      rcases (by omega : ((x1.toInt < 0 ∨ 4 < x1.toInt) ∨ x1.toInt = 0 ∨ x1.toInt = 1 ∨ x1.toInt = 2 ∨ x1.toInt = 3 ∨ x1.toInt = 4)) with c | c | c | c | c | c
      · refine g_tsOut 93 hC dX3_week_34 c (by decide) ?_
        have hF := hF.1 c
        refine g_aload_n 94 hC dX3_week_93 rfl 0 rfl rfl ?_
        refine gf_X3_364_3I 97 hC hF dX3_week_94 rfl (fun x_4 hF => ?_)
        exact g_ireturn hC ⟨_, rfl, hF⟩ dX3_week_97 (Nat.zero_le _) (Nat.zero_le _)
      · have c : x1 = (0 : Int32) := Int32.toInt_inj.mp (c.trans (by decide))
        refine g_tsIn 68 hC (0 : Int32) c dX3_week_34 (by decide) (by decide) rfl (by decide) ?_
        have hF := hF.2.1 c
        refine g_aload_n 69 hC dX3_week_68 rfl 0 rfl rfl ?_
        refine gf_X3_349_3I 72 hC hF dX3_week_69 rfl (fun x_5 hF => ?_)
        exact g_ireturn hC ⟨_, rfl, hF⟩ dX3_week_72 (Nat.zero_le _) (Nat.zero_le _)
      · have c : x1 = (1 : Int32) := Int32.toInt_inj.mp (c.trans (by decide))
        refine g_tsIn 73 hC (1 : Int32) c dX3_week_34 (by decide) (by decide) rfl (by decide) ?_
        have hF := hF.2.2.1 c
        refine g_aload_n 74 hC dX3_week_73 rfl 0 rfl rfl ?_
        refine gf_X3_352_3I 77 hC hF dX3_week_74 rfl (fun x_6 hF => ?_)
        exact g_ireturn hC ⟨_, rfl, hF⟩ dX3_week_77 (Nat.zero_le _) (Nat.zero_le _)
      · have c : x1 = (2 : Int32) := Int32.toInt_inj.mp (c.trans (by decide))
        refine g_tsIn 78 hC (2 : Int32) c dX3_week_34 (by decide) (by decide) rfl (by decide) ?_
        have hF := hF.2.2.2.1 c
        refine g_aload_n 79 hC dX3_week_78 rfl 0 rfl rfl ?_
        refine gf_X3_355_3I 82 hC hF dX3_week_79 rfl (fun x_7 hF => ?_)
        exact g_ireturn hC ⟨_, rfl, hF⟩ dX3_week_82 (Nat.zero_le _) (Nat.zero_le _)
      · have c : x1 = (3 : Int32) := Int32.toInt_inj.mp (c.trans (by decide))
        refine g_tsIn 83 hC (3 : Int32) c dX3_week_34 (by decide) (by decide) rfl (by decide) ?_
        have hF := hF.2.2.2.2.1 c
        refine g_aload_n 84 hC dX3_week_83 rfl 0 rfl rfl ?_
        refine gf_X3_358_3I 87 hC hF dX3_week_84 rfl (fun x_8 hF => ?_)
        exact g_ireturn hC ⟨_, rfl, hF⟩ dX3_week_87 (Nat.zero_le _) (Nat.zero_le _)
      · have c : x1 = (4 : Int32) := Int32.toInt_inj.mp (c.trans (by decide))
        refine g_tsIn 88 hC (4 : Int32) c dX3_week_34 (by decide) (by decide) rfl (by decide) ?_
        have hF := hF.2.2.2.2.2 c
        refine g_aload_n 89 hC dX3_week_88 rfl 0 rfl rfl ?_
        refine gf_X3_361_3I 92 hC hF dX3_week_89 rfl (fun x_9 hF => ?_)
        exact g_ireturn hC ⟨_, rfl, hF⟩ dX3_week_92 (Nat.zero_le _) (Nat.zero_le _)
    · have hF := hF.2 c
      refine g_aload_n 27 hC dX3_week_26 rfl 0 rfl rfl ?_
      refine g_bipush 29 hC (-5 : Int32) dX3_week_27 (by decide) rfl ?_
      refine g_cV (rest := []) wl_X3_119 hd_X3_refuse (ci := 3) rfl 32 hC hF.1 (met_X3_refuse hF.2) rfl ⟨Nat.le_of_ble_eq_true rfl, Nat.le_of_ble_eq_true rfl⟩ ⟨Nat.zero_le _, Nat.zero_le _⟩ rfl (Nat.le_of_ble_eq_true rfl) dX3_week_29 rfl (g_ty_i 0 0 (Nat.le_refl _) (Nat.le_refl _) (fun x_11 M_10 hF => ?_))
      exact g_ireturn hC ⟨_, rfl, hF⟩ dX3_week_32 (Nat.zero_le _) (Nat.zero_le _)
  · have hF := hF.2 c
    refine g_aload_n 13 hC dX3_week_12 rfl 0 rfl rfl ?_
    refine g_bipush 15 hC (-2 : Int32) dX3_week_13 (by decide) rfl ?_
    refine g_cV (rest := []) wl_X3_119 hd_X3_refuse (ci := 3) rfl 18 hC hF.1 (met_X3_refuse hF.2) rfl ⟨Nat.le_of_ble_eq_true rfl, Nat.le_of_ble_eq_true rfl⟩ ⟨Nat.zero_le _, Nat.zero_le _⟩ rfl (Nat.le_of_ble_eq_true rfl) dX3_week_15 rfl (g_ty_i 0 0 (Nat.le_refl _) (Nat.le_refl _) (fun x_13 M_12 hF => ?_))
    exact g_ireturn hC ⟨_, rfl, hF⟩ dX3_week_18 (Nat.zero_le _) (Nat.zero_le _)
abbrev rm_X3_weeks : Room := { frames := 5, cells := 0, slots := 0, locals := 129 }
def F_X3_weeks_b32 (Q : Int32 → gM → Prop)    (a0 : Nat)   (M : gM) : Prop :=
  rc M 3 a0 ∧ F_X3_refuse M a0 (-2 : Int32) fun x_2 M_1 =>
  Q x_2 M_1
theorem w_X3_weeks_b32 {G : gG} {Q : Int32 → gM → Prop} (hC : gCx G cX3_weeks 9 RX3 (some .int) (gQi Q) rm_X3_weeks)  (a0 : Nat)     (M : gM) (hF : F_X3_weeks_b32 Q a0 M) : gAt G 0 0 M [(0, .ref a0)] 32 [] := by
  unfold F_X3_weeks_b32 at hF
  refine g_aload_n 33 hC dX3_weeks_32 rfl 0 rfl rfl ?_
  refine g_bipush 35 hC (-2 : Int32) dX3_weeks_33 (by decide) rfl ?_
  refine g_cV (rest := []) wl_X3_119 hd_X3_refuse (ci := 3) rfl 38 hC hF.1 (met_X3_refuse hF.2) rfl ⟨Nat.le_of_ble_eq_true rfl, Nat.le_of_ble_eq_true rfl⟩ ⟨Nat.zero_le _, Nat.zero_le _⟩ rfl (Nat.le_of_ble_eq_true rfl) dX3_weeks_35 rfl (g_ty_i 0 0 (Nat.le_refl _) (Nat.le_refl _) (fun x_2 M_1 hF => ?_))
  exact g_ireturn hC ⟨_, rfl, hF⟩ dX3_weeks_38 (Nat.zero_le _) (Nat.zero_le _)
def F_X3_weeks_b84 (Q : Int32 → gM → Prop)   (K65 : Int32 → Int32 → gM → Prop) (a0 : Nat) (x1 : Int32) (x2 : Int32) (x3 : Int32) (x6 : Int32) : Nat → Int32 → Int32 → Int32 → gM → Prop
  | 0, _, _, _, _ => False
  | n + 1, x5, x7, x8, M =>
    ((x8 ≤ 0 →
      K65 x5 (x6 + (1 : Int32)) M) ∧
      (¬ x8 ≤ 0 →
      rc M 3 a0 ∧ F_X3_day M a0 x1 x8 x7 x2 fun x_2 M_1 =>
      gI M_1 3 a0 45 fun x_3 =>
      (F_X3_weeks_b84 Q K65 a0 x1 x2 x3 x6 n) (x5 + x_2) x_3 (x8 + (-1 : Int32)) M_1))
theorem w_X3_weeks_b84 {G : gG} {Q : Int32 → gM → Prop} (hC : gCx G cX3_weeks 9 RX3 (some .int) (gQi Q) rm_X3_weeks) (K65 : Int32 → Int32 → gM → Prop) (a0 : Nat) (x1 : Int32) (x2 : Int32) (x3 : Int32) (x6 : Int32) (hK65 : ∀ x5' x6' M', K65 x5' x6' M' → gAt G 0 0 M' [(0, .ref a0), (1, .int x1), (2, .int x2), (3, .int x3), (5, .int x5'), (6, .int x6')] 65 []) : ∀ (n : Nat) (x5 : Int32) (x7 : Int32) (x8 : Int32)   (M : gM), F_X3_weeks_b84 Q K65 a0 x1 x2 x3 x6 n x5 x7 x8 M → gAt G 0 0 M [(0, .ref a0), (1, .int x1), (2, .int x2), (3, .int x3), (5, .int x5), (6, .int x6), (7, .int x7), (8, .int x8)] 84 [] := by
  intro n
  induction n with
  | zero =>
    intro x5 x7 x8 M hF
    exact hF.elim
  | succ n ih =>
    intro x5 x7 x8 M hF
    have hK84 := ih
    unfold F_X3_weeks_b84 at hF
    refine g_iload 86 hC dX3_weeks_84 rfl 7 rfl ?_
    refine g_if_le 89 116 hC dX3_weeks_86 (by decide) rfl (fun c => ?_) (fun c => ?_)
    · have hF := hF.1 c
      refine g_iinc 119 hC (x6 + (1 : Int32)) (lv' := [(6, .int _), (0, .ref _), (1, .int _), (2, .int _), (3, .int _), (5, .int _), (7, .int _), (8, .int _)]) dX3_weeks_116 rfl 5 rfl rfl (by decide) rfl ?_
      refine g_goto 65 hC dX3_weeks_119 (by decide) ?_
      refine g_sub [1, 2, 3, 4, 5, 0] rfl ?_
      exact hK65 _ _ _ hF
    · have hF := hF.2 c
      refine g_iload 91 hC dX3_weeks_89 rfl 4 rfl ?_
      refine g_aload_n 92 hC dX3_weeks_91 rfl 0 rfl rfl ?_
      refine g_iload_n 93 hC dX3_weeks_92 rfl 1 rfl rfl ?_
      refine g_iload 95 hC dX3_weeks_93 rfl 7 rfl ?_
      refine g_iload 97 hC dX3_weeks_95 rfl 6 rfl ?_
      refine g_iload_n 98 hC dX3_weeks_97 rfl 2 rfl rfl ?_
      refine g_cV (rest := [_]) wl_X3_367 hd_X3_day (ci := 3) rfl 101 hC hF.1 (met_X3_day hF.2) rfl ⟨Nat.le_of_ble_eq_true rfl, Nat.le_of_ble_eq_true rfl⟩ ⟨Nat.zero_le _, Nat.zero_le _⟩ rfl (Nat.le_of_ble_eq_true rfl) dX3_weeks_98 rfl (g_ty_i 0 0 (Nat.le_refl _) (Nat.le_refl _) (fun x_2 M_1 hF => ?_))
      refine g_iadd 102 hC dX3_weeks_101 rfl ?_
      refine g_istore 104 hC (lv' := [(5, .int _), (0, .ref _), (1, .int _), (2, .int _), (3, .int _), (6, .int _), (7, .int _), (8, .int _)]) dX3_weeks_102 rfl (by decide) rfl ?_
      refine g_aload_n 105 hC dX3_weeks_104 rfl 1 rfl rfl ?_
      refine gf_X3_343_3I 108 hC hF dX3_weeks_105 rfl (fun x_3 hF => ?_)
      refine g_istore 110 hC (lv' := [(7, .int _), (5, .int _), (0, .ref _), (1, .int _), (2, .int _), (3, .int _), (6, .int _), (8, .int _)]) dX3_weeks_108 rfl (by decide) rfl ?_
      refine g_iinc 113 hC (x8 + (-1 : Int32)) (lv' := [(8, .int _), (7, .int _), (5, .int _), (0, .ref _), (1, .int _), (2, .int _), (3, .int _), (6, .int _)]) dX3_weeks_110 rfl 7 rfl rfl (by decide) rfl ?_
      refine g_goto 84 hC dX3_weeks_113 (by decide) ?_
      refine g_sub [3, 4, 5, 6, 2, 7, 1, 0] rfl ?_
      exact hK84 _ _ _ _ hF
def F_X3_weeks_b65 (Q : Int32 → gM → Prop)    (a0 : Nat) (x1 : Int32) (x2 : Int32) (x3 : Int32) : Nat → Int32 → Int32 → gM → Prop
  | 0, _, _, _ => False
  | n + 1, x5, x6, M =>
    ((x3 ≤ x6 →
      Q x5 M) ∧
      (¬ x3 ≤ x6 →
      gN M 3 a0 12 fun a_1 =>
      aN M (.array .int) a_1 x1 fun a_2 =>
      aI M .int a_2 (0 : Int32) fun x_3 =>
      ∃ n_4, F_X3_weeks_b84 Q (F_X3_weeks_b65 Q a0 x1 x2 x3 n) a0 x1 x2 x3 x6 n_4 x5 (0 : Int32) x_3 M))
theorem w_X3_weeks_b65 {G : gG} {Q : Int32 → gM → Prop} (hC : gCx G cX3_weeks 9 RX3 (some .int) (gQi Q) rm_X3_weeks)  (a0 : Nat) (x1 : Int32) (x2 : Int32) (x3 : Int32)  : ∀ (n : Nat) (x5 : Int32) (x6 : Int32)   (M : gM), F_X3_weeks_b65 Q a0 x1 x2 x3 n x5 x6 M → gAt G 0 0 M [(0, .ref a0), (1, .int x1), (2, .int x2), (3, .int x3), (5, .int x5), (6, .int x6)] 65 [] := by
  intro n
  induction n with
  | zero =>
    intro x5 x6 M hF
    exact hF.elim
  | succ n ih =>
    intro x5 x6 M hF
    have hK65 := ih
    unfold F_X3_weeks_b65 at hF
    refine g_iload 67 hC dX3_weeks_65 rfl 5 rfl ?_
    refine g_iload_n 68 hC dX3_weeks_67 rfl 3 rfl rfl ?_
    refine g_icmp_ge 71 122 hC dX3_weeks_68 (by decide) rfl (fun c => ?_) (fun c => ?_)
    · have hF := hF.1 c
      refine g_iload 124 hC dX3_weeks_122 rfl 4 rfl ?_
      exact g_ireturn hC ⟨_, rfl, hF⟩ dX3_weeks_124 (Nat.zero_le _) (Nat.zero_le _)
    · have hF := hF.2 c
      refine g_iconst 72 hC (0 : Int32) dX3_weeks_71 (by decide) rfl ?_
      refine g_istore 74 hC (lv' := [(7, .int _), (0, .ref _), (1, .int _), (2, .int _), (3, .int _), (5, .int _), (6, .int _)]) dX3_weeks_72 rfl (by decide) rfl ?_
      refine g_aload_n 75 hC dX3_weeks_74 rfl 1 rfl rfl ?_
      refine gf_X3_45_3N 78 hC hF dX3_weeks_75 rfl (fun a_1 hF => ?_)
      refine g_iload_n 79 hC dX3_weeks_78 rfl 2 rfl rfl ?_
      refine g_aaldN 80 hC hF (by decide) rfl (fun _ _ _ => rfl) dX3_weeks_79 rfl (fun a_2 hF => ?_)
      refine g_iconst 81 hC (0 : Int32) dX3_weeks_80 (by decide) rfl ?_
      refine g_iald 82 hC hF dX3_weeks_81 rfl (fun x_3 hF => ?_)
      refine g_istore 84 hC (lv' := [(8, .int _), (7, .int _), (0, .ref _), (1, .int _), (2, .int _), (3, .int _), (5, .int _), (6, .int _)]) dX3_weeks_82 rfl (by decide) rfl ?_
      refine g_sub [2, 3, 4, 5, 6, 7, 1, 0] rfl ?_
      obtain ⟨n_4, hF⟩ := hF
      exact w_X3_weeks_b84 hC _ _ _ _ _ _ hK65 n_4 _ _ _ _ hF
def F_X3_weeks  (M : gM) (a0 : Nat) (x1 : Int32) (x2 : Int32) (x3 : Int32) (Q : Int32 → gM → Prop)  : Prop :=
  rc M 3 a0 ∧ F_X3_isHouse M a0 x1 fun x_2 M_1 =>
  ((x_2 = 0 →
    F_X3_weeks_b32 Q a0 M_1) ∧
    (¬ x_2 = 0 →
    F_X3_in M_1 x2.toInt64 (0 : Int64) (7 : Int64) fun x_4 M_3 =>
    ((x_4 = 0 →
      F_X3_weeks_b32 Q a0 M_3) ∧
      (¬ x_4 = 0 →
      F_X3_in M_3 x3.toInt64 (1 : Int64) (50 : Int64) fun x_6 M_5 =>
      ((¬ x_6 = 0 →
        rc M_5 3 a0 ∧ F_X3_noRule M_5 a0 x2 fun x_8 M_7 =>
        ((x_8 = 0 →
          rc M_7 3 a0 ∧ F_X3_findBest M_7 a0 x1 fun M_9 =>
          ∃ n_11, F_X3_weeks_b65 Q a0 x1 x2 x3 n_11 (0 : Int32) (0 : Int32) M_9) ∧
          (¬ x_8 = 0 →
          Q x_8 M_7))) ∧
        (x_6 = 0 →
        F_X3_weeks_b32 Q a0 M_5))))))
theorem met_X3_weeks {M : gM} {a0 : Nat} {x1 : Int32} {x2 : Int32} {x3 : Int32} {Q : Int32 → gM → Prop} (hF : F_X3_weeks M a0 x1 x2 x3 Q) : gMt yX3_weeks (ws_ yX3_weeks cX3_weeks 9 (some .int)) rm_X3_weeks M [.ref a0, .int x1, .int x2, .int x3] (gQi Q) := by
  refine gMet (bytes := cX3_weeks) (maxL := 9) (ret := (some .int)) rfl rfl (by decide) (Nat.le_of_ble_eq_true rfl) (lv := [(0, .ref a0), (1, .int x1), (2, .int x2), (3, .int x3)]) rfl (fun G hC hin => ?_)
  unfold F_X3_weeks at hF
  refine g_aload_n 1 hC dX3_weeks_0 rfl 0 rfl rfl ?_
  refine g_iload_n 2 hC dX3_weeks_1 rfl 1 rfl rfl ?_
  refine g_cV (rest := []) wl_X3_106 hd_X3_isHouse (ci := 3) rfl 5 hC hF.1 (met_X3_isHouse hF.2) rfl ⟨Nat.le_of_ble_eq_true rfl, Nat.le_of_ble_eq_true rfl⟩ ⟨Nat.zero_le _, Nat.zero_le _⟩ rfl (Nat.le_of_ble_eq_true rfl) dX3_weeks_2 rfl (g_ty_i 0 0 (Nat.le_refl _) (Nat.le_refl _) (fun x_2 M_1 hF => ?_))
  refine g_if_eq 8 32 hC dX3_weeks_5 (by decide) rfl (fun c => ?_) (fun c => ?_)
  · have hF := hF.1 c
    refine g_sub [0] rfl ?_
    exact w_X3_weeks_b32 hC _ _ hF
  · have hF := hF.2 c
    refine g_iload_n 9 hC dX3_weeks_8 rfl 2 rfl rfl ?_
    refine g_i2l 10 hC dX3_weeks_9 rfl ?_
    refine g_lconst 11 hC (0 : Int64) dX3_weeks_10 (by decide) rfl ?_
    refine g_ldc2 14 hC q1530 dX3_weeks_11 rfl ?_
    refine g_cS (rest := []) wl_X3_94 hd_X3_in 17 hC (met_X3_in hF) rfl ⟨Nat.le_of_ble_eq_true rfl, Nat.le_of_ble_eq_true rfl⟩ ⟨Nat.zero_le _, Nat.zero_le _⟩ rfl (Nat.le_of_ble_eq_true rfl) dX3_weeks_14 rfl (g_ty_i 0 0 (Nat.le_refl _) (Nat.le_refl _) (fun x_4 M_3 hF => ?_))
    refine g_if_eq 20 32 hC dX3_weeks_17 (by decide) rfl (fun c => ?_) (fun c => ?_)
    · have hF := hF.1 c
      refine g_sub [0] rfl ?_
      exact w_X3_weeks_b32 hC _ _ hF
    · have hF := hF.2 c
      refine g_iload_n 21 hC dX3_weeks_20 rfl 3 rfl rfl ?_
      refine g_i2l 22 hC dX3_weeks_21 rfl ?_
      refine g_lconst 23 hC (1 : Int64) dX3_weeks_22 (by decide) rfl ?_
      refine g_ldc2 26 hC q1926 dX3_weeks_23 rfl ?_
      refine g_cS (rest := []) wl_X3_94 hd_X3_in 29 hC (met_X3_in hF) rfl ⟨Nat.le_of_ble_eq_true rfl, Nat.le_of_ble_eq_true rfl⟩ ⟨Nat.zero_le _, Nat.zero_le _⟩ rfl (Nat.le_of_ble_eq_true rfl) dX3_weeks_26 rfl (g_ty_i 0 0 (Nat.le_refl _) (Nat.le_refl _) (fun x_6 M_5 hF => ?_))
      refine g_if_ne 32 39 hC dX3_weeks_29 (by decide) rfl (fun c => ?_) (fun c => ?_)
      · have hF := hF.1 c
        refine g_aload_n 40 hC dX3_weeks_39 rfl 0 rfl rfl ?_
        refine g_iload_n 41 hC dX3_weeks_40 rfl 2 rfl rfl ?_
        refine g_cV (rest := []) wl_X3_271 hd_X3_noRule (ci := 3) rfl 44 hC hF.1 (met_X3_noRule hF.2) rfl ⟨Nat.le_of_ble_eq_true rfl, Nat.le_of_ble_eq_true rfl⟩ ⟨Nat.zero_le _, Nat.zero_le _⟩ rfl (Nat.le_of_ble_eq_true rfl) dX3_weeks_41 rfl (g_ty_i 0 0 (Nat.le_refl _) (Nat.le_refl _) (fun x_8 M_7 hF => ?_))
        refine g_istore 46 hC (lv' := [(4, .int _), (0, .ref _), (1, .int _), (2, .int _), (3, .int _)]) dX3_weeks_44 rfl (by decide) rfl ?_
        refine g_iload 48 hC dX3_weeks_46 rfl 0 rfl ?_
        refine g_if_eq 51 54 hC dX3_weeks_48 (by decide) rfl (fun c => ?_) (fun c => ?_)
        · have hF := hF.1 c
          refine g_aload_n 55 hC dX3_weeks_54 rfl 1 rfl rfl ?_
          refine g_iload_n 56 hC dX3_weeks_55 rfl 2 rfl rfl ?_
          refine g_cV (rest := []) wl_X3_264 hd_X3_findBest (ci := 3) rfl 59 hC hF.1 (met_X3_findBest hF.2) rfl ⟨Nat.le_of_ble_eq_true rfl, Nat.le_of_ble_eq_true rfl⟩ ⟨Nat.zero_le _, Nat.zero_le _⟩ rfl (Nat.le_of_ble_eq_true rfl) dX3_weeks_56 rfl (g_ty_v 0 0 (Nat.le_refl _) (Nat.le_refl _) (fun M_9 hF => ?_))
          refine g_iconst 60 hC (0 : Int32) dX3_weeks_59 (by decide) rfl ?_
          refine g_istore 62 hC (lv' := [(5, .int _), (4, .int _), (0, .ref _), (1, .int _), (2, .int _), (3, .int _)]) dX3_weeks_60 rfl (by decide) rfl ?_
          refine g_iconst 63 hC (0 : Int32) dX3_weeks_62 (by decide) rfl ?_
          refine g_istore 65 hC (lv' := [(6, .int _), (5, .int _), (4, .int _), (0, .ref _), (1, .int _), (2, .int _), (3, .int _)]) dX3_weeks_63 rfl (by decide) rfl ?_
          refine g_sub [3, 4, 5, 6, 1, 0] rfl ?_
          obtain ⟨n_11, hF⟩ := hF
          exact w_X3_weeks_b65 hC _ _ _ _ n_11 _ _ _ hF
        · have hF := hF.2 c
          refine g_iload 53 hC dX3_weeks_51 rfl 0 rfl ?_
          exact g_ireturn hC ⟨_, rfl, hF⟩ dX3_weeks_53 (Nat.zero_le _) (Nat.zero_le _)
      · have hF := hF.2 c
        refine g_sub [0] rfl ?_
        exact w_X3_weeks_b32 hC _ _ hF
abbrev rm_X3_takeFrom : Room := { frames := 0, cells := 0, slots := 0, locals := 0 }
def F_X3_takeFrom_b18 (Q : gM → Prop)   (K10 : Int32 → gM → Prop) (a0 : Nat) (a1 : Nat) (x2 : Int32) : Nat → Int32 → gM → Prop
  | 0, _, _ => False
  | n + 1, x3, M =>
    (((20 : Int32) ≤ x3 →
      K10 (x2 + (1 : Int32)) M) ∧
      (¬ (20 : Int32) ≤ x3 →
      gN M 3 a0 12 fun a_1 =>
      aN M (.array .int) a_1 x2 fun a_2 =>
      gN M 3 a1 12 fun a_3 =>
      aN M (.array .int) a_3 x2 fun a_4 =>
      aI M .int a_4 x3 fun x_5 =>
      uI M a_2 x3 x_5 fun M_6 =>
      (F_X3_takeFrom_b18 Q K10 a0 a1 x2 n) (x3 + (1 : Int32)) M_6))
theorem w_X3_takeFrom_b18 {G : gG} {Q : gM → Prop} (hC : gCx G cX3_takeFrom 4 RX3 none (gQv Q) rm_X3_takeFrom) (K10 : Int32 → gM → Prop) (a0 : Nat) (a1 : Nat) (x2 : Int32) (hK10 : ∀ x2' M', K10 x2' M' → gAt G 0 0 M' [(0, .ref a0), (1, .ref a1), (2, .int x2')] 10 []) : ∀ (n : Nat) (x3 : Int32)   (M : gM), F_X3_takeFrom_b18 Q K10 a0 a1 x2 n x3 M → gAt G 0 0 M [(0, .ref a0), (1, .ref a1), (2, .int x2), (3, .int x3)] 18 [] := by
  intro n
  induction n with
  | zero =>
    intro x3 M hF
    exact hF.elim
  | succ n ih =>
    intro x3 M hF
    have hK18 := ih
    unfold F_X3_takeFrom_b18 at hF
    refine g_iload_n 19 hC dX3_takeFrom_18 rfl 3 rfl rfl ?_
    refine g_bipush 21 hC (20 : Int32) dX3_takeFrom_19 (by decide) rfl ?_
    refine g_icmp_ge 24 46 hC dX3_takeFrom_21 (by decide) rfl (fun c => ?_) (fun c => ?_)
    · have hF := hF.1 c
      refine g_iinc 49 hC (x2 + (1 : Int32)) (lv' := [(2, .int _), (0, .ref _), (1, .ref _), (3, .int _)]) dX3_takeFrom_46 rfl 2 rfl rfl (by decide) rfl ?_
      refine g_goto 10 hC dX3_takeFrom_49 (by decide) ?_
      refine g_sub [1, 2, 0] rfl ?_
      exact hK10 _ _ hF
    · have hF := hF.2 c
      refine g_aload_n 25 hC dX3_takeFrom_24 rfl 0 rfl rfl ?_
      refine gf_X3_45_3N 28 hC hF dX3_takeFrom_25 rfl (fun a_1 hF => ?_)
      refine g_iload_n 29 hC dX3_takeFrom_28 rfl 2 rfl rfl ?_
      refine g_aaldN 30 hC hF (by decide) rfl (fun _ _ _ => rfl) dX3_takeFrom_29 rfl (fun a_2 hF => ?_)
      refine g_iload_n 31 hC dX3_takeFrom_30 rfl 3 rfl rfl ?_
      refine g_aload_n 32 hC dX3_takeFrom_31 rfl 1 rfl rfl ?_
      refine gf_X3_45_3N 35 hC hF dX3_takeFrom_32 rfl (fun a_3 hF => ?_)
      refine g_iload_n 36 hC dX3_takeFrom_35 rfl 2 rfl rfl ?_
      refine g_aaldN 37 hC hF (by decide) rfl (fun _ _ _ => rfl) dX3_takeFrom_36 rfl (fun a_4 hF => ?_)
      refine g_iload_n 38 hC dX3_takeFrom_37 rfl 3 rfl rfl ?_
      refine g_iald 39 hC hF dX3_takeFrom_38 rfl (fun x_5 hF => ?_)
      refine g_iast 40 hC hF dX3_takeFrom_39 rfl (fun M_6 hF => ?_)
      refine g_iinc 43 hC (x3 + (1 : Int32)) (lv' := [(3, .int _), (0, .ref _), (1, .ref _), (2, .int _)]) dX3_takeFrom_40 rfl 3 rfl rfl (by decide) rfl ?_
      refine g_goto 18 hC dX3_takeFrom_43 (by decide) ?_
      refine g_sub [1, 2, 3, 0] rfl ?_
      exact hK18 _ _ hF
def F_X3_takeFrom_b82 (Q : gM → Prop)    (a0 : Nat) (a1 : Nat) : Nat → Int32 → gM → Prop
  | 0, _, _ => False
  | n + 1, x2, M =>
    (((125 : Int32) ≤ x2 →
      gI M 3 a1 13 fun x_1 =>
      pI M 3 a0 13 x_1 fun M_2 =>
      gI M_2 3 a1 14 fun x_3 =>
      pI M_2 3 a0 14 x_3 fun M_4 =>
      gI M_4 3 a1 15 fun x_5 =>
      pI M_4 3 a0 15 x_5 fun M_6 =>
      gI M_6 3 a1 16 fun x_7 =>
      pI M_6 3 a0 16 x_7 fun M_8 =>
      gI M_8 3 a1 17 fun x_9 =>
      pI M_8 3 a0 17 x_9 fun M_10 =>
      gI M_10 3 a1 18 fun x_11 =>
      pI M_10 3 a0 18 x_11 fun M_12 =>
      gI M_12 3 a1 19 fun x_13 =>
      pI M_12 3 a0 19 x_13 fun M_14 =>
      gI M_14 3 a1 20 fun x_15 =>
      pI M_14 3 a0 20 x_15 fun M_16 =>
      Q M_16) ∧
      (¬ (125 : Int32) ≤ x2 →
      gN M 3 a0 7 fun a_17 =>
      aN M (.array .int) a_17 (8 : Int32) fun a_18 =>
      gN M 3 a1 7 fun a_19 =>
      aN M (.array .int) a_19 (8 : Int32) fun a_20 =>
      aI M .int a_20 x2 fun x_21 =>
      uI M a_18 x2 x_21 fun M_22 =>
      (F_X3_takeFrom_b82 Q a0 a1 n) (x2 + (1 : Int32)) M_22))
theorem w_X3_takeFrom_b82 {G : gG} {Q : gM → Prop} (hC : gCx G cX3_takeFrom 4 RX3 none (gQv Q) rm_X3_takeFrom)  (a0 : Nat) (a1 : Nat)  : ∀ (n : Nat) (x2 : Int32)   (M : gM), F_X3_takeFrom_b82 Q a0 a1 n x2 M → gAt G 0 0 M [(0, .ref a0), (1, .ref a1), (2, .int x2)] 82 [] := by
  intro n
  induction n with
  | zero =>
    intro x2 M hF
    exact hF.elim
  | succ n ih =>
    intro x2 M hF
    have hK82 := ih
    unfold F_X3_takeFrom_b82 at hF
    refine g_iload_n 83 hC dX3_takeFrom_82 rfl 2 rfl rfl ?_
    refine g_bipush 85 hC (125 : Int32) dX3_takeFrom_83 (by decide) rfl ?_
    refine g_icmp_ge 88 112 hC dX3_takeFrom_85 (by decide) rfl (fun c => ?_) (fun c => ?_)
    · have hF := hF.1 c
      refine g_aload_n 113 hC dX3_takeFrom_112 rfl 0 rfl rfl ?_
      refine g_aload_n 114 hC dX3_takeFrom_113 rfl 1 rfl rfl ?_
      refine gf_X3_48_3I 117 hC hF dX3_takeFrom_114 rfl (fun x_1 hF => ?_)
      refine g_putI (C := RX3) (T := TX3) (N := 46) (ci := 3) (k := 13) (ty := .int) in_X3 tyX3 tyX3_ok nmX3 rfl (by decide) q1400 rfl rfl (fun _ _ _ => rfl) rfl rfl 120 hC hF dX3_takeFrom_117 rfl (fun M_2 hF => ?_)
      refine g_aload_n 121 hC dX3_takeFrom_120 rfl 0 rfl rfl ?_
      refine g_aload_n 122 hC dX3_takeFrom_121 rfl 1 rfl rfl ?_
      refine gf_X3_346_3I 125 hC hF dX3_takeFrom_122 rfl (fun x_3 hF => ?_)
      refine g_putI (C := RX3) (T := TX3) (N := 46) (ci := 3) (k := 14) (ty := .int) in_X3 tyX3 tyX3_ok nmX3 rfl (by decide) q1401 rfl rfl (fun _ _ _ => rfl) rfl rfl 128 hC hF dX3_takeFrom_125 rfl (fun M_4 hF => ?_)
      refine g_aload_n 129 hC dX3_takeFrom_128 rfl 0 rfl rfl ?_
      refine g_aload_n 130 hC dX3_takeFrom_129 rfl 1 rfl rfl ?_
      refine gf_X3_349_3I 133 hC hF dX3_takeFrom_130 rfl (fun x_5 hF => ?_)
      refine g_putI (C := RX3) (T := TX3) (N := 46) (ci := 3) (k := 15) (ty := .int) in_X3 tyX3 tyX3_ok nmX3 rfl (by decide) q1402 rfl rfl (fun _ _ _ => rfl) rfl rfl 136 hC hF dX3_takeFrom_133 rfl (fun M_6 hF => ?_)
      refine g_aload_n 137 hC dX3_takeFrom_136 rfl 0 rfl rfl ?_
      refine g_aload_n 138 hC dX3_takeFrom_137 rfl 1 rfl rfl ?_
      refine gf_X3_352_3I 141 hC hF dX3_takeFrom_138 rfl (fun x_7 hF => ?_)
      refine g_putI (C := RX3) (T := TX3) (N := 46) (ci := 3) (k := 16) (ty := .int) in_X3 tyX3 tyX3_ok nmX3 rfl (by decide) q1403 rfl rfl (fun _ _ _ => rfl) rfl rfl 144 hC hF dX3_takeFrom_141 rfl (fun M_8 hF => ?_)
      refine g_aload_n 145 hC dX3_takeFrom_144 rfl 0 rfl rfl ?_
      refine g_aload_n 146 hC dX3_takeFrom_145 rfl 1 rfl rfl ?_
      refine gf_X3_355_3I 149 hC hF dX3_takeFrom_146 rfl (fun x_9 hF => ?_)
      refine g_putI (C := RX3) (T := TX3) (N := 46) (ci := 3) (k := 17) (ty := .int) in_X3 tyX3 tyX3_ok nmX3 rfl (by decide) q1404 rfl rfl (fun _ _ _ => rfl) rfl rfl 152 hC hF dX3_takeFrom_149 rfl (fun M_10 hF => ?_)
      refine g_aload_n 153 hC dX3_takeFrom_152 rfl 0 rfl rfl ?_
      refine g_aload_n 154 hC dX3_takeFrom_153 rfl 1 rfl rfl ?_
      refine gf_X3_358_3I 157 hC hF dX3_takeFrom_154 rfl (fun x_11 hF => ?_)
      refine g_putI (C := RX3) (T := TX3) (N := 46) (ci := 3) (k := 18) (ty := .int) in_X3 tyX3 tyX3_ok nmX3 rfl (by decide) q1405 rfl rfl (fun _ _ _ => rfl) rfl rfl 160 hC hF dX3_takeFrom_157 rfl (fun M_12 hF => ?_)
      refine g_aload_n 161 hC dX3_takeFrom_160 rfl 0 rfl rfl ?_
      refine g_aload_n 162 hC dX3_takeFrom_161 rfl 1 rfl rfl ?_
      refine gf_X3_361_3I 165 hC hF dX3_takeFrom_162 rfl (fun x_13 hF => ?_)
      refine g_putI (C := RX3) (T := TX3) (N := 46) (ci := 3) (k := 19) (ty := .int) in_X3 tyX3 tyX3_ok nmX3 rfl (by decide) q1406 rfl rfl (fun _ _ _ => rfl) rfl rfl 168 hC hF dX3_takeFrom_165 rfl (fun M_14 hF => ?_)
      refine g_aload_n 169 hC dX3_takeFrom_168 rfl 0 rfl rfl ?_
      refine g_aload_n 170 hC dX3_takeFrom_169 rfl 1 rfl rfl ?_
      refine gf_X3_364_3I 173 hC hF dX3_takeFrom_170 rfl (fun x_15 hF => ?_)
      refine g_putI (C := RX3) (T := TX3) (N := 46) (ci := 3) (k := 20) (ty := .int) in_X3 tyX3 tyX3_ok nmX3 rfl (by decide) q1407 rfl rfl (fun _ _ _ => rfl) rfl rfl 176 hC hF dX3_takeFrom_173 rfl (fun M_16 hF => ?_)
      exact g_return hC ⟨rfl, hF⟩ dX3_takeFrom_176 (Nat.zero_le _) (Nat.zero_le _)
    · have hF := hF.2 c
      refine g_aload_n 89 hC dX3_takeFrom_88 rfl 0 rfl rfl ?_
      refine gf_X3_36_3N 92 hC hF dX3_takeFrom_89 rfl (fun a_17 hF => ?_)
      refine g_bipush 94 hC (8 : Int32) dX3_takeFrom_92 (by decide) rfl ?_
      refine g_aaldN 95 hC hF (by decide) rfl (fun _ _ _ => rfl) dX3_takeFrom_94 rfl (fun a_18 hF => ?_)
      refine g_iload_n 96 hC dX3_takeFrom_95 rfl 2 rfl rfl ?_
      refine g_aload_n 97 hC dX3_takeFrom_96 rfl 1 rfl rfl ?_
      refine gf_X3_36_3N 100 hC hF dX3_takeFrom_97 rfl (fun a_19 hF => ?_)
      refine g_bipush 102 hC (8 : Int32) dX3_takeFrom_100 (by decide) rfl ?_
      refine g_aaldN 103 hC hF (by decide) rfl (fun _ _ _ => rfl) dX3_takeFrom_102 rfl (fun a_20 hF => ?_)
      refine g_iload_n 104 hC dX3_takeFrom_103 rfl 2 rfl rfl ?_
      refine g_iald 105 hC hF dX3_takeFrom_104 rfl (fun x_21 hF => ?_)
      refine g_iast 106 hC hF dX3_takeFrom_105 rfl (fun M_22 hF => ?_)
      refine g_iinc 109 hC (x2 + (1 : Int32)) (lv' := [(2, .int _), (0, .ref _), (1, .ref _)]) dX3_takeFrom_106 rfl 2 rfl rfl (by decide) rfl ?_
      refine g_goto 82 hC dX3_takeFrom_109 (by decide) ?_
      refine g_sub [1, 2, 0] rfl ?_
      exact hK82 _ _ hF
def F_X3_takeFrom_b10 (Q : gM → Prop)    (a0 : Nat) (a1 : Nat) : Nat → Int32 → gM → Prop
  | 0, _, _ => False
  | n + 1, x2, M =>
    (((8 : Int32) ≤ x2 →
      gN M 3 a0 5 fun a_1 =>
      gN M 3 a1 5 fun a_2 =>
      aI M .int a_2 (8 : Int32) fun x_3 =>
      uI M a_1 (8 : Int32) x_3 fun M_4 =>
      gN M_4 3 a0 6 fun a_5 =>
      gN M_4 3 a1 6 fun a_6 =>
      aI M_4 .int a_6 (8 : Int32) fun x_7 =>
      uI M_4 a_5 (8 : Int32) x_7 fun M_8 =>
      ∃ n_9, F_X3_takeFrom_b82 Q a0 a1 n_9 (0 : Int32) M_8) ∧
      (¬ (8 : Int32) ≤ x2 →
      ∃ n_10, F_X3_takeFrom_b18 Q (F_X3_takeFrom_b10 Q a0 a1 n) a0 a1 x2 n_10 (0 : Int32) M))
theorem w_X3_takeFrom_b10 {G : gG} {Q : gM → Prop} (hC : gCx G cX3_takeFrom 4 RX3 none (gQv Q) rm_X3_takeFrom)  (a0 : Nat) (a1 : Nat)  : ∀ (n : Nat) (x2 : Int32)   (M : gM), F_X3_takeFrom_b10 Q a0 a1 n x2 M → gAt G 0 0 M [(0, .ref a0), (1, .ref a1), (2, .int x2)] 10 [] := by
  intro n
  induction n with
  | zero =>
    intro x2 M hF
    exact hF.elim
  | succ n ih =>
    intro x2 M hF
    have hK10 := ih
    unfold F_X3_takeFrom_b10 at hF
    refine g_iload_n 11 hC dX3_takeFrom_10 rfl 2 rfl rfl ?_
    refine g_bipush 13 hC (8 : Int32) dX3_takeFrom_11 (by decide) rfl ?_
    refine g_icmp_ge 16 52 hC dX3_takeFrom_13 (by decide) rfl (fun c => ?_) (fun c => ?_)
    · have hF := hF.1 c
      refine g_aload_n 53 hC dX3_takeFrom_52 rfl 0 rfl rfl ?_
      refine gf_X3_28_3N 56 hC hF dX3_takeFrom_53 rfl (fun a_1 hF => ?_)
      refine g_bipush 58 hC (8 : Int32) dX3_takeFrom_56 (by decide) rfl ?_
      refine g_aload_n 59 hC dX3_takeFrom_58 rfl 1 rfl rfl ?_
      refine gf_X3_28_3N 62 hC hF dX3_takeFrom_59 rfl (fun a_2 hF => ?_)
      refine g_bipush 64 hC (8 : Int32) dX3_takeFrom_62 (by decide) rfl ?_
      refine g_iald 65 hC hF dX3_takeFrom_64 rfl (fun x_3 hF => ?_)
      refine g_iast 66 hC hF dX3_takeFrom_65 rfl (fun M_4 hF => ?_)
      refine g_aload_n 67 hC dX3_takeFrom_66 rfl 0 rfl rfl ?_
      refine gf_X3_31_3N 70 hC hF dX3_takeFrom_67 rfl (fun a_5 hF => ?_)
      refine g_bipush 72 hC (8 : Int32) dX3_takeFrom_70 (by decide) rfl ?_
      refine g_aload_n 73 hC dX3_takeFrom_72 rfl 1 rfl rfl ?_
      refine gf_X3_31_3N 76 hC hF dX3_takeFrom_73 rfl (fun a_6 hF => ?_)
      refine g_bipush 78 hC (8 : Int32) dX3_takeFrom_76 (by decide) rfl ?_
      refine g_iald 79 hC hF dX3_takeFrom_78 rfl (fun x_7 hF => ?_)
      refine g_iast 80 hC hF dX3_takeFrom_79 rfl (fun M_8 hF => ?_)
      refine g_iconst 81 hC (0 : Int32) dX3_takeFrom_80 (by decide) rfl ?_
      refine g_istore_n 82 hC (lv' := [(2, .int _), (0, .ref _), (1, .ref _)]) dX3_takeFrom_81 rfl rfl (by decide) rfl ?_
      refine g_sub [1, 2, 0] rfl ?_
      obtain ⟨n_9, hF⟩ := hF
      exact w_X3_takeFrom_b82 hC _ _ n_9 _ _ hF
    · have hF := hF.2 c
      refine g_iconst 17 hC (0 : Int32) dX3_takeFrom_16 (by decide) rfl ?_
      refine g_istore_n 18 hC (lv' := [(3, .int _), (0, .ref _), (1, .ref _), (2, .int _)]) dX3_takeFrom_17 rfl rfl (by decide) rfl ?_
      refine g_sub [1, 2, 3, 0] rfl ?_
      obtain ⟨n_10, hF⟩ := hF
      exact w_X3_takeFrom_b18 hC _ _ _ _ hK10 n_10 _ _ hF
def F_X3_takeFrom  (M : gM) (a0 : Nat) (a1 : Nat) (Q : gM → Prop)  : Prop :=
  gI M 3 a1 11 fun x_1 =>
  pI M 3 a0 11 x_1 fun M_2 =>
  ∃ n_3, F_X3_takeFrom_b10 Q a0 a1 n_3 (0 : Int32) M_2
theorem met_X3_takeFrom {M : gM} {a0 : Nat} {a1 : Nat} {Q : gM → Prop} (hF : F_X3_takeFrom M a0 a1 Q) : gMt yX3_takeFrom (ws_ yX3_takeFrom cX3_takeFrom 4 none) rm_X3_takeFrom M [.ref a0, .ref a1] (gQv Q) := by
  refine gMet (bytes := cX3_takeFrom) (maxL := 4) (ret := none) rfl rfl (by decide) (Nat.le_of_ble_eq_true rfl) (lv := [(0, .ref a0), (1, .ref a1)]) rfl (fun G hC hin => ?_)
  unfold F_X3_takeFrom at hF
  refine g_aload_n 1 hC dX3_takeFrom_0 rfl 0 rfl rfl ?_
  refine g_aload_n 2 hC dX3_takeFrom_1 rfl 1 rfl rfl ?_
  refine gf_X3_91_3I 5 hC hF dX3_takeFrom_2 rfl (fun x_1 hF => ?_)
  refine g_putI (C := RX3) (T := TX3) (N := 46) (ci := 3) (k := 11) (ty := .int) in_X3 tyX3 tyX3_ok nmX3 rfl (by decide) q1398 rfl rfl (fun _ _ _ => rfl) rfl rfl 8 hC hF dX3_takeFrom_5 rfl (fun M_2 hF => ?_)
  refine g_iconst 9 hC (0 : Int32) dX3_takeFrom_8 (by decide) rfl ?_
  refine g_istore_n 10 hC (lv' := [(2, .int _), (0, .ref _), (1, .ref _)]) dX3_takeFrom_9 rfl rfl (by decide) rfl ?_
  refine g_sub [1, 2, 0] rfl ?_
  obtain ⟨n_3, hF⟩ := hF
  exact w_X3_takeFrom_b10 hC _ _ n_3 _ _ hF
theorem gf_X3_372_3R {G : gG} {cc : ByteArray} {nL : Nat} {ret : Option FieldType} {Qf : Option Value → gM → Prop} {rm : Room} {cells slots : Nat} {M : gM} {lv : List (Nat × Value)} {pc : Nat} {st : List Value} {a : Nat} (n : Nat) (hC : gCx G cc nL RX3 ret Qf rm) {κ : Option Nat → Prop} (hF : gR M 3 a 21 κ) (hdg : decode cc pc = .ok (.getfield 372, 3)) (hn : pc + 3 = n) (kk : ∀ x, κ x → gAt G cells slots M lv n (va_rf x :: st)) : gAt G cells slots M lv pc (.ref a :: st) :=
  g_getR (C := RX3) (T := TX3) (N := 46) in_X3 rfl (by decide) q1408 (fun _ _ _ => rfl) n hC hF hdg hn kk
theorem hd_X3_takeFrom : yX3_takeFrom.cls = RX3 ∧ yX3_takeFrom.cls ≠ "java/lang/invoke/MethodHandle" ∧ yX3_takeFrom.cls ≠ "java/lang/invoke/VarHandle" ∧ (parseMethodDescriptor yX3_takeFrom.desc).map (fun d => d.parameters.length) = some 1 := by decide +kernel
theorem wl_X3_377 : GoodIn lw_all (wsV RX3 377 RX3 yX3_takeFrom (ws_ yX3_takeFrom cX3_takeFrom 4 none)) := lw_V q1933 q1935 qs67 q72 q1936
abbrev rm_X3_back : Room := { frames := 1, cells := 0, slots := 0, locals := 23 }
def F_X3_back  (M : gM) (a0 : Nat) (Q : Int32 → gM → Prop)  : Prop :=
  gR M 3 a0 21 fun r_1 =>
  ((r_1 = none →
    rc M 3 a0 ∧ F_X3_refuse M a0 (-5 : Int32) fun x_4 M_3 =>
    Q x_4 M_3) ∧
    (∀ b_2, r_1 = some b_2 →
    gR M 3 a0 21 fun r_5 =>
    dN r_5 fun b_6 =>
    rc M 3 a0 ∧ F_X3_takeFrom M a0 b_6 fun M_7 =>
    Q (1 : Int32) M_7))
theorem met_X3_back {M : gM} {a0 : Nat} {Q : Int32 → gM → Prop} (hF : F_X3_back M a0 Q) : gMt yX3_back (ws_ yX3_back cX3_back 1 (some .int)) rm_X3_back M [.ref a0] (gQi Q) := by
  refine gMet (bytes := cX3_back) (maxL := 1) (ret := (some .int)) rfl rfl (by decide) (Nat.le_of_ble_eq_true rfl) (lv := [(0, .ref a0)]) rfl (fun G hC hin => ?_)
  unfold F_X3_back at hF
  refine g_aload_n 1 hC dX3_back_0 rfl 0 rfl rfl ?_
  refine gf_X3_372_3R 4 hC hF dX3_back_1 rfl (fun r_1 hF => ?_)
  refine g_ifnonnull 7 14 hC dX3_back_4 (by decide) rfl (fun b_2 c => ?_) (fun c => ?_)
  · have hF := hF.2 b_2 c
    try rw [c]
    refine g_aload_n 15 hC dX3_back_14 rfl 0 rfl rfl ?_
    refine g_aload_n 16 hC dX3_back_15 rfl 0 rfl rfl ?_
    refine gf_X3_372_3R 19 hC hF dX3_back_16 rfl (fun r_5 hF => ?_)
    obtain ⟨b_6, hr_, hF⟩ := hF
    try rw [hr_]
    refine g_cV (rest := []) wl_X3_377 hd_X3_takeFrom (ci := 3) rfl 22 hC hF.1 (met_X3_takeFrom hF.2) rfl ⟨Nat.le_of_ble_eq_true rfl, Nat.le_of_ble_eq_true rfl⟩ ⟨Nat.zero_le _, Nat.zero_le _⟩ rfl (Nat.le_of_ble_eq_true rfl) dX3_back_19 rfl (g_ty_v 0 0 (Nat.le_refl _) (Nat.le_refl _) (fun M_7 hF => ?_))
    refine g_iconst 23 hC (1 : Int32) dX3_back_22 (by decide) rfl ?_
    exact g_ireturn hC ⟨_, rfl, hF⟩ dX3_back_23 (Nat.zero_le _) (Nat.zero_le _)
  · have hF := hF.1 c
    try rw [c]
    refine g_aload_n 8 hC dX3_back_7 rfl 0 rfl rfl ?_
    refine g_bipush 10 hC (-5 : Int32) dX3_back_8 (by decide) rfl ?_
    refine g_cV (rest := []) wl_X3_119 hd_X3_refuse (ci := 3) rfl 13 hC hF.1 (met_X3_refuse hF.2) rfl ⟨Nat.le_of_ble_eq_true rfl, Nat.le_of_ble_eq_true rfl⟩ ⟨Nat.zero_le _, Nat.zero_le _⟩ rfl (Nat.le_of_ble_eq_true rfl) dX3_back_10 rfl (g_ty_i 0 0 (Nat.le_refl _) (Nat.le_refl _) (fun x_4 M_3 hF => ?_))
    exact g_ireturn hC ⟨_, rfl, hF⟩ dX3_back_13 (Nat.zero_le _) (Nat.zero_le _)
abbrev rm_X3_status : Room := { frames := 1, cells := 0, slots := 0, locals := 25 }
def F_X3_status_b72 (Q : Int32 → gM → Prop)   (K51 : Int32 → Int32 → gM → Prop) (a0 : Nat) (x3 : Int32) (t0 : Int32) (t1 : Int32)  (M : gM) : Prop :=
  K51 (t0 + t1) (x3 + (1 : Int32)) M
theorem w_X3_status_b72 {G : gG} {Q : Int32 → gM → Prop} (hC : gCx G cX3_status 4 RX3 (some .int) (gQi Q) rm_X3_status) (K51 : Int32 → Int32 → gM → Prop) (a0 : Nat) (x3 : Int32) (t0 : Int32) (t1 : Int32) (hK51 : ∀ x2' x3' M', K51 x2' x3' M' → gAt G 0 0 M' [(0, .ref a0), (2, .int x2'), (3, .int x3')] 51 [])   (M : gM) (hF : F_X3_status_b72 Q K51 a0 x3 t0 t1 M) : gAt G 0 0 M [(0, .ref a0), (3, .int x3)] 72 [.int t1, .int t0] := by
  unfold F_X3_status_b72 at hF
  refine g_iadd 73 hC dX3_status_72 rfl ?_
  refine g_istore_n 74 hC (lv' := [(2, .int _), (0, .ref _), (3, .int _)]) dX3_status_73 rfl rfl (by decide) rfl ?_
  refine g_iinc 77 hC (x3 + (1 : Int32)) (lv' := [(3, .int _), (2, .int _), (0, .ref _)]) dX3_status_74 rfl 2 rfl rfl (by decide) rfl ?_
  refine g_goto 51 hC dX3_status_77 (by decide) ?_
  refine g_sub [2, 1, 0] rfl ?_
  exact hK51 _ _ _ hF
def F_X3_status_b51 (Q : Int32 → gM → Prop)    (a0 : Nat) : Nat → Int32 → Int32 → gM → Prop
  | 0, _, _, _ => False
  | n + 1, x2, x3, M =>
    (((8 : Int32) ≤ x3 →
      Q x2 M) ∧
      (¬ (8 : Int32) ≤ x3 →
      gN M 3 a0 0 fun a_1 =>
      aI M .int a_1 x3 fun x_2 =>
      ((x_2 = 0 →
        F_X3_status_b72 Q (F_X3_status_b51 Q a0 n) a0 x3 x2 (0 : Int32) M) ∧
        (¬ x_2 = 0 →
        F_X3_status_b72 Q (F_X3_status_b51 Q a0 n) a0 x3 x2 (1 : Int32) M))))
theorem w_X3_status_b51 {G : gG} {Q : Int32 → gM → Prop} (hC : gCx G cX3_status 4 RX3 (some .int) (gQi Q) rm_X3_status)  (a0 : Nat)  : ∀ (n : Nat) (x2 : Int32) (x3 : Int32)   (M : gM), F_X3_status_b51 Q a0 n x2 x3 M → gAt G 0 0 M [(0, .ref a0), (2, .int x2), (3, .int x3)] 51 [] := by
  intro n
  induction n with
  | zero =>
    intro x2 x3 M hF
    exact hF.elim
  | succ n ih =>
    intro x2 x3 M hF
    have hK51 := ih
    unfold F_X3_status_b51 at hF
    refine g_iload_n 52 hC dX3_status_51 rfl 2 rfl rfl ?_
    refine g_bipush 54 hC (8 : Int32) dX3_status_52 (by decide) rfl ?_
    refine g_icmp_ge 57 80 hC dX3_status_54 (by decide) rfl (fun c => ?_) (fun c => ?_)
    · have hF := hF.1 c
      refine g_iload_n 81 hC dX3_status_80 rfl 1 rfl rfl ?_
      exact g_ireturn hC ⟨_, rfl, hF⟩ dX3_status_81 (Nat.zero_le _) (Nat.zero_le _)
    · have hF := hF.2 c
      refine g_iload_n 58 hC dX3_status_57 rfl 1 rfl rfl ?_
      refine g_aload_n 59 hC dX3_status_58 rfl 0 rfl rfl ?_
      refine gf_X3_7_3N 62 hC hF dX3_status_59 rfl (fun a_1 hF => ?_)
      refine g_iload_n 63 hC dX3_status_62 rfl 2 rfl rfl ?_
      refine g_iald 64 hC hF dX3_status_63 rfl (fun x_2 hF => ?_)
      refine g_if_eq 67 71 hC dX3_status_64 (by decide) rfl (fun c => ?_) (fun c => ?_)
      · have hF := hF.1 c
        refine g_iconst 72 hC (0 : Int32) dX3_status_71 (by decide) rfl ?_
        refine g_sub [0, 2] rfl ?_
        exact w_X3_status_b72 hC _ _ _ _ _ hK51 _ hF
      · have hF := hF.2 c
        refine g_iconst 68 hC (1 : Int32) dX3_status_67 (by decide) rfl ?_
        refine g_goto 72 hC dX3_status_68 (by decide) ?_
        refine g_sub [0, 2] rfl ?_
        exact w_X3_status_b72 hC _ _ _ _ _ hK51 _ hF
def F_X3_status  (M : gM) (a0 : Nat) (x1 : Int32) (Q : Int32 → gM → Prop)  : Prop :=
  (((x1.toInt < 0 ∨ 3 < x1.toInt) →
    F_X3_in M x1.toInt64 (12 : Int64) (16 : Int64) fun x_2 M_1 =>
    ((x_2 = 0 →
      Q (-1 : Int32) M_1) ∧
      (¬ x_2 = 0 →
      gN M_1 3 a0 10 fun a_3 =>
      aI M_1 .int a_3 (x1 - (10 : Int32)) fun x_4 =>
      Q x_4 M_1))) ∧
    (x1 = (0 : Int32) →
    gI M 3 a0 11 fun x_5 =>
    Q x_5 M) ∧
    (x1 = (1 : Int32) →
    gI M 3 a0 9 fun x_6 =>
    Q x_6 M) ∧
    (x1 = (2 : Int32) →
    gI M 3 a0 13 fun x_7 =>
    Q x_7 M) ∧
    (x1 = (3 : Int32) →
    ∃ n_8, F_X3_status_b51 Q a0 n_8 (0 : Int32) (0 : Int32) M))
theorem met_X3_status {M : gM} {a0 : Nat} {x1 : Int32} {Q : Int32 → gM → Prop} (hF : F_X3_status M a0 x1 Q) : gMt yX3_status (ws_ yX3_status cX3_status 4 (some .int)) rm_X3_status M [.ref a0, .int x1] (gQi Q) := by
  refine gMet (bytes := cX3_status) (maxL := 4) (ret := (some .int)) rfl rfl (by decide) (Nat.le_of_ble_eq_true rfl) (lv := [(0, .ref a0), (1, .int x1)]) rfl (fun G hC hin => ?_)
  unfold F_X3_status at hF
  refine g_iload_n 1 hC dX3_status_0 rfl 1 rfl rfl ?_
  rcases (by omega : ((x1.toInt < 0 ∨ 3 < x1.toInt) ∨ x1.toInt = 0 ∨ x1.toInt = 1 ∨ x1.toInt = 2 ∨ x1.toInt = 3)) with c | c | c | c | c
  · refine g_tsOut 82 hC dX3_status_1 c (by decide) ?_
    have hF := hF.1 c
    refine g_iload_n 83 hC dX3_status_82 rfl 1 rfl rfl ?_
    refine g_i2l 84 hC dX3_status_83 rfl ?_
    refine g_ldc2 87 hC q1945 dX3_status_84 rfl ?_
    refine g_ldc2 90 hC q1946 dX3_status_87 rfl ?_
    refine g_cS (rest := []) wl_X3_94 hd_X3_in 93 hC (met_X3_in hF) rfl ⟨Nat.le_of_ble_eq_true rfl, Nat.le_of_ble_eq_true rfl⟩ ⟨Nat.zero_le _, Nat.zero_le _⟩ rfl (Nat.le_of_ble_eq_true rfl) dX3_status_90 rfl (g_ty_i 0 0 (Nat.le_refl _) (Nat.le_refl _) (fun x_2 M_1 hF => ?_))
    refine g_if_eq 96 108 hC dX3_status_93 (by decide) rfl (fun c => ?_) (fun c => ?_)
    · have hF := hF.1 c
      refine g_iconst 109 hC (-1 : Int32) dX3_status_108 (by decide) rfl ?_
      exact g_ireturn hC ⟨_, rfl, hF⟩ dX3_status_109 (Nat.zero_le _) (Nat.zero_le _)
    · have hF := hF.2 c
      refine g_aload_n 97 hC dX3_status_96 rfl 0 rfl rfl ?_
      refine gf_X3_42_3N 100 hC hF dX3_status_97 rfl (fun a_3 hF => ?_)
      refine g_iload_n 101 hC dX3_status_100 rfl 1 rfl rfl ?_
      refine g_bipush 103 hC (10 : Int32) dX3_status_101 (by decide) rfl ?_
      refine g_isub 104 hC dX3_status_103 rfl ?_
      refine g_iald 105 hC hF dX3_status_104 rfl (fun x_4 hF => ?_)
      refine g_goto 109 hC dX3_status_105 (by decide) ?_
      exact g_ireturn hC ⟨_, rfl, hF⟩ dX3_status_109 (Nat.zero_le _) (Nat.zero_le _)
  · have c : x1 = (0 : Int32) := Int32.toInt_inj.mp (c.trans (by decide))
    refine g_tsIn 32 hC (0 : Int32) c dX3_status_1 (by decide) (by decide) rfl (by decide) ?_
    have hF := hF.2.1 c
    refine g_aload_n 33 hC dX3_status_32 rfl 0 rfl rfl ?_
    refine gf_X3_91_3I 36 hC hF dX3_status_33 rfl (fun x_5 hF => ?_)
    exact g_ireturn hC ⟨_, rfl, hF⟩ dX3_status_36 (Nat.zero_le _) (Nat.zero_le _)
  · have c : x1 = (1 : Int32) := Int32.toInt_inj.mp (c.trans (by decide))
    refine g_tsIn 37 hC (1 : Int32) c dX3_status_1 (by decide) (by decide) rfl (by decide) ?_
    have hF := hF.2.2.1 c
    refine g_aload_n 38 hC dX3_status_37 rfl 0 rfl rfl ?_
    refine gf_X3_136_3I 41 hC hF dX3_status_38 rfl (fun x_6 hF => ?_)
    exact g_ireturn hC ⟨_, rfl, hF⟩ dX3_status_41 (Nat.zero_le _) (Nat.zero_le _)
  · have c : x1 = (2 : Int32) := Int32.toInt_inj.mp (c.trans (by decide))
    refine g_tsIn 42 hC (2 : Int32) c dX3_status_1 (by decide) (by decide) rfl (by decide) ?_
    have hF := hF.2.2.2.1 c
    refine g_aload_n 43 hC dX3_status_42 rfl 0 rfl rfl ?_
    refine gf_X3_48_3I 46 hC hF dX3_status_43 rfl (fun x_7 hF => ?_)
    exact g_ireturn hC ⟨_, rfl, hF⟩ dX3_status_46 (Nat.zero_le _) (Nat.zero_le _)
  · have c : x1 = (3 : Int32) := Int32.toInt_inj.mp (c.trans (by decide))
    refine g_tsIn 47 hC (3 : Int32) c dX3_status_1 (by decide) (by decide) rfl (by decide) ?_
    have hF := hF.2.2.2.2 c
    refine g_iconst 48 hC (0 : Int32) dX3_status_47 (by decide) rfl ?_
    refine g_istore_n 49 hC (lv' := [(2, .int _), (0, .ref _), (1, .int _)]) dX3_status_48 rfl rfl (by decide) rfl ?_
    refine g_iconst 50 hC (0 : Int32) dX3_status_49 (by decide) rfl ?_
    refine g_istore_n 51 hC (lv' := [(3, .int _), (2, .int _), (0, .ref _), (1, .int _)]) dX3_status_50 rfl rfl (by decide) rfl ?_
    refine g_sub [2, 1, 0] rfl ?_
    obtain ⟨n_8, hF⟩ := hF
    exact w_X3_status_b51 hC _ n_8 _ _ _ hF