set_option maxRecDepth 100000
set_option maxHeartbeats 1000000
abbrev rm_J0_init_3_X4 : Room := { frames := 1, cells := 0, slots := 0, locals := 24 }
def F_J0_init_3_X4_b41 (Q : gM → Prop)    (a0 : Nat) (r1 : Option Nat) (r2 : Option Nat) (x3 : Int32)   (M : gM) : Prop :=
  pR M 4 a0 3 r1 fun M_1 =>
  pR M_1 4 a0 0 r2 fun M_2 =>
  ((¬ x3 = 0 →
    Q M_2) ∧
    (x3 = 0 →
    pR M_2 4 a0 2 none fun M_3 =>
    Q M_3))
theorem w_J0_init_3_X4_b41 {G : gG} {Q : gM → Prop} (hC : gCx G cJ0_init_3 5 RJ0 none (gQv Q) rm_J0_init_3_X4) (hin : G.2.2.1.2.2.2.2.1.name = "<init>")  (a0 : Nat) (r1 : Option Nat) (r2 : Option Nat) (x3 : Int32)     (M : gM) (hF : F_J0_init_3_X4_b41 Q a0 r1 r2 x3 M) : gAt G 0 0 M [(0, .ref a0), (1, va_rf r1), (2, va_rf r2), (3, .int x3)] 41 [] := by
  unfold F_J0_init_3_X4_b41 at hF
  refine g_aload_n 42 hC dJ0_init_3_41 rfl 0 rfl rfl ?_
  refine g_qload_n 43 hC dJ0_init_3_42 rfl 1 rfl rfl ?_
  refine g_putR (C := RX4) (T := TX4) (N := 7) (ci := 4) (k := 3) (ty := (.object "java/lang/String")) in_X4 tyX4 tyX4_ok nmX4 rfl (by decide) q219 rfl rfl (fun _ _ _ => rfl) (g_narR _ _ (by decide)) (g_fitR _ _ (by decide)) 46 hC hF dJ0_init_3_43 rfl (fun M_1 hF => ?_)
  refine g_aload_n 47 hC dJ0_init_3_46 rfl 0 rfl rfl ?_
  refine g_qload_n 48 hC dJ0_init_3_47 rfl 2 rfl rfl ?_
  refine g_putR (C := RX4) (T := TX4) (N := 7) (ci := 4) (k := 0) (ty := (.object "java/lang/Throwable")) in_X4 tyX4 tyX4_ok nmX4 rfl (by decide) q220 rfl rfl (fun _ _ _ => rfl) (g_narR _ _ (by decide)) (g_fitR _ _ (by decide)) 51 hC hF dJ0_init_3_48 rfl (fun M_2 hF => ?_)
  refine g_iload_n 52 hC dJ0_init_3_51 rfl 3 rfl rfl ?_
  refine g_if_ne 55 60 hC dJ0_init_3_52 (by decide) rfl (fun c => ?_) (fun c => ?_)
  · have hF := hF.1 c
    exact g_return hC ⟨rfl, hF⟩ dJ0_init_3_60 (Nat.zero_le _) (Nat.zero_le _)
  · have hF := hF.2 c
    refine g_aload_n 56 hC dJ0_init_3_55 rfl 0 rfl rfl ?_
    refine g_null 57 hC dJ0_init_3_56 rfl ?_
    refine g_putR (C := RX4) (T := TX4) (N := 7) (ci := 4) (k := 2) (ty := (.object "java/util/List")) in_X4 tyX4 tyX4_ok nmX4 rfl (by decide) q222 rfl rfl (fun _ _ _ => rfl) (g_narR _ _ (by decide)) (g_fitR _ _ (by decide)) 60 hC hF dJ0_init_3_57 rfl (fun M_3 hF => ?_)
    exact g_return hC ⟨rfl, hF⟩ dJ0_init_3_60 (Nat.zero_le _) (Nat.zero_le _)
def F_J0_init_3_X4  (M : gM) (a0 : Nat) (r1 : Option Nat) (r2 : Option Nat) (x3 : Int32) (x4 : Int32) (Q : gM → Prop)  : Prop :=
  pR M 4 a0 0 (some a0) fun M_1 =>
  ∀ r_2 : Option Nat,
  pR M_1 4 a0 1 r_2 fun M_3 =>
  ∀ r_4 : Option Nat,
  pR M_3 4 a0 2 r_4 fun M_5 =>
  ((x4 = 0 →
    pR M_5 4 a0 1 none fun M_6 =>
    F_J0_init_3_X4_b41 Q a0 r1 r2 x3 M_6) ∧
    (¬ x4 = 0 →
    False))
theorem met_J0_init_3_X4 {M : gM} {a0 : Nat} {r1 : Option Nat} {r2 : Option Nat} {x3 : Int32} {x4 : Int32} {Q : gM → Prop} (hF : F_J0_init_3_X4 M a0 r1 r2 x3 x4 Q) : gMt yJ0_init_3 (ws_ yJ0_init_3 cJ0_init_3 5 none) rm_J0_init_3_X4 M [.ref a0, va_rf r1, va_rf r2, .int x3, .int x4] (gQv Q) := by
  refine gMet (bytes := cJ0_init_3) (maxL := 5) (ret := none) rfl rfl (by decide) (by cases r1 <;> cases r2 <;> exact Nat.le_of_ble_eq_true rfl) (lv := [(0, .ref a0), (1, va_rf r1), (2, va_rf r2), (3, .int x3), (4, .int x4)]) (by cases r1 <;> cases r2 <;> rfl) (fun G hC hin => ?_)
  unfold F_J0_init_3_X4 at hF
  refine g_aload_n 1 hC dJ0_init_3_0 rfl 0 rfl rfl ?_
  refine g_objInit 4 hC q184 q109 q110 (Nat.le_of_ble_eq_true rfl) (Nat.le_of_ble_eq_true rfl) dJ0_init_3_1 rfl ?_
  refine g_aload_n 5 hC dJ0_init_3_4 rfl 0 rfl rfl ?_
  refine g_aload_n 6 hC dJ0_init_3_5 rfl 0 rfl rfl ?_
  refine g_putR (C := RX4) (T := TX4) (N := 7) (ci := 4) (k := 0) (ty := (.object "java/lang/Throwable")) in_X4 tyX4 tyX4_ok nmX4 rfl (by decide) q220 rfl rfl (fun _ _ _ => rfl) (g_narR _ _ (by decide)) (g_fitR _ _ (by decide)) 9 hC hF dJ0_init_3_6 rfl (fun M_1 hF => ?_)
  refine g_aload_n 10 hC dJ0_init_3_9 rfl 0 rfl rfl ?_
  refine g_getsq 13 hC sq_unas q185 dJ0_init_3_10 rfl (fun r_2 => ?_)
  have hF := hF r_2
  refine g_putR (C := RX4) (T := TX4) (N := 7) (ci := 4) (k := 1) (ty := (.array (.object "java/lang/StackTraceElement"))) in_X4 tyX4 tyX4_ok nmX4 rfl (by decide) q221 rfl rfl (fun _ _ _ => rfl) (g_narR _ _ (by decide)) (g_fitR _ _ (by decide)) 16 hC hF dJ0_init_3_13 rfl (fun M_3 hF => ?_)
  refine g_aload_n 17 hC dJ0_init_3_16 rfl 0 rfl rfl ?_
  refine g_getsq 20 hC sq_sent q187 dJ0_init_3_17 rfl (fun r_4 => ?_)
  have hF := hF r_4
  refine g_putR (C := RX4) (T := TX4) (N := 7) (ci := 4) (k := 2) (ty := (.object "java/util/List")) in_X4 tyX4 tyX4_ok nmX4 rfl (by decide) q222 rfl rfl (fun _ _ _ => rfl) (g_narR _ _ (by decide)) (g_fitR _ _ (by decide)) 23 hC hF dJ0_init_3_20 rfl (fun M_5 hF => ?_)
  refine g_iload 25 hC dJ0_init_3_23 rfl 4 rfl ?_
  refine g_if_eq 28 36 hC dJ0_init_3_25 (by decide) rfl (fun c => ?_) (fun c => ?_)
  · have hF := hF.1 c
    refine g_aload_n 37 hC dJ0_init_3_36 rfl 0 rfl rfl ?_
    refine g_null 38 hC dJ0_init_3_37 rfl ?_
    refine g_putR (C := RX4) (T := TX4) (N := 7) (ci := 4) (k := 1) (ty := (.array (.object "java/lang/StackTraceElement"))) in_X4 tyX4 tyX4_ok nmX4 rfl (by decide) q221 rfl rfl (fun _ _ _ => rfl) (g_narR _ _ (by decide)) (g_fitR _ _ (by decide)) 41 hC hF dJ0_init_3_38 rfl (fun M_6 hF => ?_)
    refine g_sub [0, 1, 2, 3] rfl ?_
    exact w_J0_init_3_X4_b41 hC hin _ _ _ _ _ hF
  · have hF := hF.2 c
    refine g_aload_n 29 hC dJ0_init_3_28 rfl 0 rfl rfl ?_
    exact hF.elim -- call of ('java/lang/Throwable', 'fillInStackTrace', '()Ljava/lang/Throwable;')
theorem hd_J0_init_3 : yJ0_init_3.cls ≠ "java/lang/invoke/MethodHandle" ∧ yJ0_init_3.cls ≠ "java/lang/invoke/VarHandle" ∧ (parseMethodDescriptor yJ0_init_3.desc).map (fun d => d.parameters.length) = some 4 := by decide +kernel
abbrev rm_J1_init_2_X4 : Room := { frames := 2, cells := 0, slots := 0, locals := 48 }
def F_J1_init_2_X4  (M : gM) (a0 : Nat) (r1 : Option Nat) (r2 : Option Nat) (x3 : Int32) (x4 : Int32) (Q : gM → Prop)  : Prop :=
  F_J0_init_3_X4 M a0 r1 r2 x3 x4 fun M_1 =>
  Q M_1
theorem met_J1_init_2_X4 {M : gM} {a0 : Nat} {r1 : Option Nat} {r2 : Option Nat} {x3 : Int32} {x4 : Int32} {Q : gM → Prop} (hF : F_J1_init_2_X4 M a0 r1 r2 x3 x4 Q) : gMt yJ1_init_2 (ws_ yJ1_init_2 cJ1_init_2 5 none) rm_J1_init_2_X4 M [.ref a0, va_rf r1, va_rf r2, .int x3, .int x4] (gQv Q) := by
  refine gMet (bytes := cJ1_init_2) (maxL := 5) (ret := none) rfl rfl (by decide) (by cases r1 <;> cases r2 <;> exact Nat.le_of_ble_eq_true rfl) (lv := [(0, .ref a0), (1, va_rf r1), (2, va_rf r2), (3, .int x3), (4, .int x4)]) (by cases r1 <;> cases r2 <;> rfl) (fun G hC hin => ?_)
  unfold F_J1_init_2_X4 at hF
  refine g_aload_n 1 hC dJ1_init_2_0 rfl 0 rfl rfl ?_
  refine g_qload_n 2 hC dJ1_init_2_1 rfl 1 rfl rfl ?_
  refine g_qload_n 3 hC dJ1_init_2_2 rfl 2 rfl rfl ?_
  refine g_iload_n 4 hC dJ1_init_2_3 rfl 3 rfl rfl ?_
  refine g_iload 6 hC dJ1_init_2_4 rfl 4 rfl ?_
  refine g_cI (rest := []) q323 q73 q321 q322 rfl hd_J0_init_3 9 hC (met_J0_init_3_X4 hF) rfl ⟨Nat.le_of_ble_eq_true rfl, Nat.le_of_ble_eq_true rfl⟩ ⟨Nat.zero_le _, Nat.zero_le _⟩ rfl (Nat.le_of_ble_eq_true rfl) dJ1_init_2_6 rfl (g_ty_v 0 0 (Nat.le_refl _) (Nat.le_refl _) (fun M_1 hF => ?_))
  exact g_return hC ⟨rfl, hF⟩ dJ1_init_2_9 (Nat.zero_le _) (Nat.zero_le _)
theorem hd_J1_init_2 : yJ1_init_2.cls ≠ "java/lang/invoke/MethodHandle" ∧ yJ1_init_2.cls ≠ "java/lang/invoke/VarHandle" ∧ (parseMethodDescriptor yJ1_init_2.desc).map (fun d => d.parameters.length) = some 4 := by decide +kernel
abbrev rm_J2_init_2_X4 : Room := { frames := 3, cells := 0, slots := 0, locals := 72 }
def F_J2_init_2_X4  (M : gM) (a0 : Nat) (r1 : Option Nat) (r2 : Option Nat) (x3 : Int32) (x4 : Int32) (Q : gM → Prop)  : Prop :=
  F_J1_init_2_X4 M a0 r1 r2 x3 x4 fun M_1 =>
  Q M_1
theorem met_J2_init_2_X4 {M : gM} {a0 : Nat} {r1 : Option Nat} {r2 : Option Nat} {x3 : Int32} {x4 : Int32} {Q : gM → Prop} (hF : F_J2_init_2_X4 M a0 r1 r2 x3 x4 Q) : gMt yJ2_init_2 (ws_ yJ2_init_2 cJ2_init_2 5 none) rm_J2_init_2_X4 M [.ref a0, va_rf r1, va_rf r2, .int x3, .int x4] (gQv Q) := by
  refine gMet (bytes := cJ2_init_2) (maxL := 5) (ret := none) rfl rfl (by decide) (by cases r1 <;> cases r2 <;> exact Nat.le_of_ble_eq_true rfl) (lv := [(0, .ref a0), (1, va_rf r1), (2, va_rf r2), (3, .int x3), (4, .int x4)]) (by cases r1 <;> cases r2 <;> rfl) (fun G hC hin => ?_)
  unfold F_J2_init_2_X4 at hF
  refine g_aload_n 1 hC dJ2_init_2_0 rfl 0 rfl rfl ?_
  refine g_qload_n 2 hC dJ2_init_2_1 rfl 1 rfl rfl ?_
  refine g_qload_n 3 hC dJ2_init_2_2 rfl 2 rfl rfl ?_
  refine g_iload_n 4 hC dJ2_init_2_3 rfl 3 rfl rfl ?_
  refine g_iload 6 hC dJ2_init_2_4 rfl 4 rfl ?_
  refine g_cI (rest := []) q320 q74 q318 q319 rfl hd_J1_init_2 9 hC (met_J1_init_2_X4 hF) rfl ⟨Nat.le_of_ble_eq_true rfl, Nat.le_of_ble_eq_true rfl⟩ ⟨Nat.zero_le _, Nat.zero_le _⟩ rfl (Nat.le_of_ble_eq_true rfl) dJ2_init_2_6 rfl (g_ty_v 0 0 (Nat.le_refl _) (Nat.le_refl _) (fun M_1 hF => ?_))
  exact g_return hC ⟨rfl, hF⟩ dJ2_init_2_9 (Nat.zero_le _) (Nat.zero_le _)
theorem hd_J2_init_2 : yJ2_init_2.cls ≠ "java/lang/invoke/MethodHandle" ∧ yJ2_init_2.cls ≠ "java/lang/invoke/VarHandle" ∧ (parseMethodDescriptor yJ2_init_2.desc).map (fun d => d.parameters.length) = some 4 := by decide +kernel
abbrev rm_X4_init : Room := { frames := 4, cells := 0, slots := 0, locals := 96 }
def F_X4_init  (M : gM) (a0 : Nat) (x1 : Int32) (Q : gM → Prop)  : Prop :=
  F_J2_init_2_X4 M a0 none none (0 : Int32) (0 : Int32) fun M_1 =>
  pI M_1 4 a0 6 x1 fun M_3 =>
  Q M_3
theorem met_X4_init {M : gM} {a0 : Nat} {x1 : Int32} {Q : gM → Prop} (hF : F_X4_init M a0 x1 Q) : gMt yX4_init (ws_ yX4_init cX4_init 2 none) rm_X4_init M [.ref a0, .int x1] (gQv Q) := by
  refine gMet (bytes := cX4_init) (maxL := 2) (ret := none) rfl rfl (by decide) (Nat.le_of_ble_eq_true rfl) (lv := [(0, .ref a0), (1, .int x1)]) rfl (fun G hC hin => ?_)
  unfold F_X4_init at hF
  refine g_aload_n 1 hC dX4_init_0 rfl 0 rfl rfl ?_
  refine g_null 2 hC dX4_init_1 rfl ?_
  refine g_null 3 hC dX4_init_2 rfl ?_
  refine g_iconst 4 hC (0 : Int32) dX4_init_3 (by decide) rfl ?_
  refine g_iconst 5 hC (0 : Int32) dX4_init_4 (by decide) rfl ?_
  refine g_cI (rest := []) q317 q75 q315 q316 rfl hd_J2_init_2 8 hC (met_J2_init_2_X4 hF) rfl ⟨Nat.le_of_ble_eq_true rfl, Nat.le_of_ble_eq_true rfl⟩ ⟨Nat.zero_le _, Nat.zero_le _⟩ rfl (Nat.le_of_ble_eq_true rfl) dX4_init_5 rfl (g_ty_v 0 0 (Nat.le_refl _) (Nat.le_refl _) (fun M_1 hF => ?_))
  refine g_aload_n 9 hC dX4_init_8 rfl 0 rfl rfl ?_
  refine g_iload_n 10 hC dX4_init_9 rfl 1 rfl rfl ?_
  refine g_putFI (C := RX4) (T := TX4) (N := 7) (ci := 4) (k := 6) (ty := .int) in_X4 tyX4 tyX4_ok nmX4 rfl (by decide) q324 rfl rfl rfl (fun _ _ _ => rfl) rfl rfl 13 hC hin hF dX4_init_10 rfl (fun M_3 hF => ?_)
  exact g_return hC ⟨rfl, hF⟩ dX4_init_13 (Nat.zero_le _) (Nat.zero_le _)
abbrev rm_J0_init_3_X13 : Room := { frames := 1, cells := 0, slots := 0, locals := 24 }
def F_J0_init_3_X13_b41 (Q : gM → Prop)    (a0 : Nat) (r1 : Option Nat) (r2 : Option Nat) (x3 : Int32)   (M : gM) : Prop :=
  pR M 13 a0 3 r1 fun M_1 =>
  pR M_1 13 a0 0 r2 fun M_2 =>
  ((¬ x3 = 0 →
    Q M_2) ∧
    (x3 = 0 →
    pR M_2 13 a0 2 none fun M_3 =>
    Q M_3))
theorem w_J0_init_3_X13_b41 {G : gG} {Q : gM → Prop} (hC : gCx G cJ0_init_3 5 RJ0 none (gQv Q) rm_J0_init_3_X13) (hin : G.2.2.1.2.2.2.2.1.name = "<init>")  (a0 : Nat) (r1 : Option Nat) (r2 : Option Nat) (x3 : Int32)     (M : gM) (hF : F_J0_init_3_X13_b41 Q a0 r1 r2 x3 M) : gAt G 0 0 M [(0, .ref a0), (1, va_rf r1), (2, va_rf r2), (3, .int x3)] 41 [] := by
  unfold F_J0_init_3_X13_b41 at hF
  refine g_aload_n 42 hC dJ0_init_3_41 rfl 0 rfl rfl ?_
  refine g_qload_n 43 hC dJ0_init_3_42 rfl 1 rfl rfl ?_
  refine g_putR (C := RX13) (T := TX13) (N := 7) (ci := 13) (k := 3) (ty := (.object "java/lang/String")) in_X13 tyX13 tyX13_ok nmX13 rfl (by decide) q219 rfl rfl (fun _ _ _ => rfl) (g_narR _ _ (by decide)) (g_fitR _ _ (by decide)) 46 hC hF dJ0_init_3_43 rfl (fun M_1 hF => ?_)
  refine g_aload_n 47 hC dJ0_init_3_46 rfl 0 rfl rfl ?_
  refine g_qload_n 48 hC dJ0_init_3_47 rfl 2 rfl rfl ?_
  refine g_putR (C := RX13) (T := TX13) (N := 7) (ci := 13) (k := 0) (ty := (.object "java/lang/Throwable")) in_X13 tyX13 tyX13_ok nmX13 rfl (by decide) q220 rfl rfl (fun _ _ _ => rfl) (g_narR _ _ (by decide)) (g_fitR _ _ (by decide)) 51 hC hF dJ0_init_3_48 rfl (fun M_2 hF => ?_)
  refine g_iload_n 52 hC dJ0_init_3_51 rfl 3 rfl rfl ?_
  refine g_if_ne 55 60 hC dJ0_init_3_52 (by decide) rfl (fun c => ?_) (fun c => ?_)
  · have hF := hF.1 c
    exact g_return hC ⟨rfl, hF⟩ dJ0_init_3_60 (Nat.zero_le _) (Nat.zero_le _)
  · have hF := hF.2 c
    refine g_aload_n 56 hC dJ0_init_3_55 rfl 0 rfl rfl ?_
    refine g_null 57 hC dJ0_init_3_56 rfl ?_
    refine g_putR (C := RX13) (T := TX13) (N := 7) (ci := 13) (k := 2) (ty := (.object "java/util/List")) in_X13 tyX13 tyX13_ok nmX13 rfl (by decide) q222 rfl rfl (fun _ _ _ => rfl) (g_narR _ _ (by decide)) (g_fitR _ _ (by decide)) 60 hC hF dJ0_init_3_57 rfl (fun M_3 hF => ?_)
    exact g_return hC ⟨rfl, hF⟩ dJ0_init_3_60 (Nat.zero_le _) (Nat.zero_le _)
def F_J0_init_3_X13  (M : gM) (a0 : Nat) (r1 : Option Nat) (r2 : Option Nat) (x3 : Int32) (x4 : Int32) (Q : gM → Prop)  : Prop :=
  pR M 13 a0 0 (some a0) fun M_1 =>
  ∀ r_2 : Option Nat,
  pR M_1 13 a0 1 r_2 fun M_3 =>
  ∀ r_4 : Option Nat,
  pR M_3 13 a0 2 r_4 fun M_5 =>
  ((x4 = 0 →
    pR M_5 13 a0 1 none fun M_6 =>
    F_J0_init_3_X13_b41 Q a0 r1 r2 x3 M_6) ∧
    (¬ x4 = 0 →
    False))
theorem met_J0_init_3_X13 {M : gM} {a0 : Nat} {r1 : Option Nat} {r2 : Option Nat} {x3 : Int32} {x4 : Int32} {Q : gM → Prop} (hF : F_J0_init_3_X13 M a0 r1 r2 x3 x4 Q) : gMt yJ0_init_3 (ws_ yJ0_init_3 cJ0_init_3 5 none) rm_J0_init_3_X13 M [.ref a0, va_rf r1, va_rf r2, .int x3, .int x4] (gQv Q) := by
  refine gMet (bytes := cJ0_init_3) (maxL := 5) (ret := none) rfl rfl (by decide) (by cases r1 <;> cases r2 <;> exact Nat.le_of_ble_eq_true rfl) (lv := [(0, .ref a0), (1, va_rf r1), (2, va_rf r2), (3, .int x3), (4, .int x4)]) (by cases r1 <;> cases r2 <;> rfl) (fun G hC hin => ?_)
  unfold F_J0_init_3_X13 at hF
  refine g_aload_n 1 hC dJ0_init_3_0 rfl 0 rfl rfl ?_
  refine g_objInit 4 hC q184 q109 q110 (Nat.le_of_ble_eq_true rfl) (Nat.le_of_ble_eq_true rfl) dJ0_init_3_1 rfl ?_
  refine g_aload_n 5 hC dJ0_init_3_4 rfl 0 rfl rfl ?_
  refine g_aload_n 6 hC dJ0_init_3_5 rfl 0 rfl rfl ?_
  refine g_putR (C := RX13) (T := TX13) (N := 7) (ci := 13) (k := 0) (ty := (.object "java/lang/Throwable")) in_X13 tyX13 tyX13_ok nmX13 rfl (by decide) q220 rfl rfl (fun _ _ _ => rfl) (g_narR _ _ (by decide)) (g_fitR _ _ (by decide)) 9 hC hF dJ0_init_3_6 rfl (fun M_1 hF => ?_)
  refine g_aload_n 10 hC dJ0_init_3_9 rfl 0 rfl rfl ?_
  refine g_getsq 13 hC sq_unas q185 dJ0_init_3_10 rfl (fun r_2 => ?_)
  have hF := hF r_2
  refine g_putR (C := RX13) (T := TX13) (N := 7) (ci := 13) (k := 1) (ty := (.array (.object "java/lang/StackTraceElement"))) in_X13 tyX13 tyX13_ok nmX13 rfl (by decide) q221 rfl rfl (fun _ _ _ => rfl) (g_narR _ _ (by decide)) (g_fitR _ _ (by decide)) 16 hC hF dJ0_init_3_13 rfl (fun M_3 hF => ?_)
  refine g_aload_n 17 hC dJ0_init_3_16 rfl 0 rfl rfl ?_
  refine g_getsq 20 hC sq_sent q187 dJ0_init_3_17 rfl (fun r_4 => ?_)
  have hF := hF r_4
  refine g_putR (C := RX13) (T := TX13) (N := 7) (ci := 13) (k := 2) (ty := (.object "java/util/List")) in_X13 tyX13 tyX13_ok nmX13 rfl (by decide) q222 rfl rfl (fun _ _ _ => rfl) (g_narR _ _ (by decide)) (g_fitR _ _ (by decide)) 23 hC hF dJ0_init_3_20 rfl (fun M_5 hF => ?_)
  refine g_iload 25 hC dJ0_init_3_23 rfl 4 rfl ?_
  refine g_if_eq 28 36 hC dJ0_init_3_25 (by decide) rfl (fun c => ?_) (fun c => ?_)
  · have hF := hF.1 c
    refine g_aload_n 37 hC dJ0_init_3_36 rfl 0 rfl rfl ?_
    refine g_null 38 hC dJ0_init_3_37 rfl ?_
    refine g_putR (C := RX13) (T := TX13) (N := 7) (ci := 13) (k := 1) (ty := (.array (.object "java/lang/StackTraceElement"))) in_X13 tyX13 tyX13_ok nmX13 rfl (by decide) q221 rfl rfl (fun _ _ _ => rfl) (g_narR _ _ (by decide)) (g_fitR _ _ (by decide)) 41 hC hF dJ0_init_3_38 rfl (fun M_6 hF => ?_)
    refine g_sub [0, 1, 2, 3] rfl ?_
    exact w_J0_init_3_X13_b41 hC hin _ _ _ _ _ hF
  · have hF := hF.2 c
    refine g_aload_n 29 hC dJ0_init_3_28 rfl 0 rfl rfl ?_
    exact hF.elim -- call of ('java/lang/Throwable', 'fillInStackTrace', '()Ljava/lang/Throwable;')
abbrev rm_J1_init_2_X13 : Room := { frames := 2, cells := 0, slots := 0, locals := 48 }
def F_J1_init_2_X13  (M : gM) (a0 : Nat) (r1 : Option Nat) (r2 : Option Nat) (x3 : Int32) (x4 : Int32) (Q : gM → Prop)  : Prop :=
  F_J0_init_3_X13 M a0 r1 r2 x3 x4 fun M_1 =>
  Q M_1
theorem met_J1_init_2_X13 {M : gM} {a0 : Nat} {r1 : Option Nat} {r2 : Option Nat} {x3 : Int32} {x4 : Int32} {Q : gM → Prop} (hF : F_J1_init_2_X13 M a0 r1 r2 x3 x4 Q) : gMt yJ1_init_2 (ws_ yJ1_init_2 cJ1_init_2 5 none) rm_J1_init_2_X13 M [.ref a0, va_rf r1, va_rf r2, .int x3, .int x4] (gQv Q) := by
  refine gMet (bytes := cJ1_init_2) (maxL := 5) (ret := none) rfl rfl (by decide) (by cases r1 <;> cases r2 <;> exact Nat.le_of_ble_eq_true rfl) (lv := [(0, .ref a0), (1, va_rf r1), (2, va_rf r2), (3, .int x3), (4, .int x4)]) (by cases r1 <;> cases r2 <;> rfl) (fun G hC hin => ?_)
  unfold F_J1_init_2_X13 at hF
  refine g_aload_n 1 hC dJ1_init_2_0 rfl 0 rfl rfl ?_
  refine g_qload_n 2 hC dJ1_init_2_1 rfl 1 rfl rfl ?_
  refine g_qload_n 3 hC dJ1_init_2_2 rfl 2 rfl rfl ?_
  refine g_iload_n 4 hC dJ1_init_2_3 rfl 3 rfl rfl ?_
  refine g_iload 6 hC dJ1_init_2_4 rfl 4 rfl ?_
  refine g_cI (rest := []) q323 q73 q321 q322 rfl hd_J0_init_3 9 hC (met_J0_init_3_X13 hF) rfl ⟨Nat.le_of_ble_eq_true rfl, Nat.le_of_ble_eq_true rfl⟩ ⟨Nat.zero_le _, Nat.zero_le _⟩ rfl (Nat.le_of_ble_eq_true rfl) dJ1_init_2_6 rfl (g_ty_v 0 0 (Nat.le_refl _) (Nat.le_refl _) (fun M_1 hF => ?_))
  exact g_return hC ⟨rfl, hF⟩ dJ1_init_2_9 (Nat.zero_le _) (Nat.zero_le _)
abbrev rm_X13_init : Room := { frames := 3, cells := 0, slots := 0, locals := 72 }
def F_X13_init  (M : gM) (a0 : Nat) (x1 : Int32) (Q : gM → Prop)  : Prop :=
  F_J1_init_2_X13 M a0 none none (0 : Int32) (0 : Int32) fun M_1 =>
  pI M_1 13 a0 6 x1 fun M_3 =>
  Q M_3
theorem met_X13_init {M : gM} {a0 : Nat} {x1 : Int32} {Q : gM → Prop} (hF : F_X13_init M a0 x1 Q) : gMt yX13_init (ws_ yX13_init cX13_init 2 none) rm_X13_init M [.ref a0, .int x1] (gQv Q) := by
  refine gMet (bytes := cX13_init) (maxL := 2) (ret := none) rfl rfl (by decide) (Nat.le_of_ble_eq_true rfl) (lv := [(0, .ref a0), (1, .int x1)]) rfl (fun G hC hin => ?_)
  unfold F_X13_init at hF
  refine g_aload_n 1 hC dX13_init_0 rfl 0 rfl rfl ?_
  refine g_null 2 hC dX13_init_1 rfl ?_
  refine g_null 3 hC dX13_init_2 rfl ?_
  refine g_iconst 4 hC (0 : Int32) dX13_init_3 (by decide) rfl ?_
  refine g_iconst 5 hC (0 : Int32) dX13_init_4 (by decide) rfl ?_
  refine g_cI (rest := []) q320 q74 q883 q319 rfl hd_J1_init_2 8 hC (met_J1_init_2_X13 hF) rfl ⟨Nat.le_of_ble_eq_true rfl, Nat.le_of_ble_eq_true rfl⟩ ⟨Nat.zero_le _, Nat.zero_le _⟩ rfl (Nat.le_of_ble_eq_true rfl) dX13_init_5 rfl (g_ty_v 0 0 (Nat.le_refl _) (Nat.le_refl _) (fun M_1 hF => ?_))
  refine g_aload_n 9 hC dX13_init_8 rfl 0 rfl rfl ?_
  refine g_iload_n 10 hC dX13_init_9 rfl 1 rfl rfl ?_
  refine g_putFI (C := RX13) (T := TX13) (N := 7) (ci := 13) (k := 6) (ty := .int) in_X13 tyX13 tyX13_ok nmX13 rfl (by decide) q884 rfl rfl rfl (fun _ _ _ => rfl) rfl rfl 13 hC hin hF dX13_init_10 rfl (fun M_3 hF => ?_)
  exact g_return hC ⟨rfl, hF⟩ dX13_init_13 (Nat.zero_le _) (Nat.zero_le _)
abbrev rm_X0_sortOf : Room := { frames := 0, cells := 0, slots := 0, locals := 0 }
def F_X0_sortOf  (M : gM) (a0 : Nat) (Q : Int32 → gM → Prop)  : Prop :=
  iO M a0 "[B" fun x_1 =>
  ((x_1 = 0 →
    iO M a0 "[S" fun x_2 =>
    ((x_2 = 0 →
      iO M a0 "[I" fun x_3 =>
      ((x_3 = 0 →
        iO M a0 "[J" fun x_4 =>
        ((x_4 = 0 →
          Q (4 : Int32) M) ∧
          (¬ x_4 = 0 →
          Q (3 : Int32) M))) ∧
        (¬ x_3 = 0 →
        Q (2 : Int32) M))) ∧
      (¬ x_2 = 0 →
      Q (1 : Int32) M))) ∧
    (¬ x_1 = 0 →
    Q (0 : Int32) M))
theorem met_X0_sortOf {M : gM} {a0 : Nat} {Q : Int32 → gM → Prop} (hF : F_X0_sortOf M a0 Q) : gMt yX0_sortOf (ws_ yX0_sortOf cX0_sortOf 1 (some .int)) rm_X0_sortOf M [.ref a0] (gQi Q) := by
  refine gMet (bytes := cX0_sortOf) (maxL := 1) (ret := (some .int)) rfl rfl (by decide) (Nat.le_of_ble_eq_true rfl) (lv := [(0, .ref a0)]) rfl (fun G hC hin => ?_)
  unfold F_X0_sortOf at hF
  refine g_aload_n 1 hC dX0_sortOf_0 rfl 0 rfl rfl ?_
  refine g_inst 4 hC q336 hF dX0_sortOf_1 rfl (fun x_1 hF => ?_)
  refine g_if_eq 7 9 hC dX0_sortOf_4 (by decide) rfl (fun c => ?_) (fun c => ?_)
  · have hF := hF.1 c
    refine g_aload_n 10 hC dX0_sortOf_9 rfl 0 rfl rfl ?_
    refine g_inst 13 hC q337 hF dX0_sortOf_10 rfl (fun x_2 hF => ?_)
    refine g_if_eq 16 18 hC dX0_sortOf_13 (by decide) rfl (fun c => ?_) (fun c => ?_)
    · have hF := hF.1 c
      refine g_aload_n 19 hC dX0_sortOf_18 rfl 0 rfl rfl ?_
      refine g_inst 22 hC q338 hF dX0_sortOf_19 rfl (fun x_3 hF => ?_)
      refine g_if_eq 25 27 hC dX0_sortOf_22 (by decide) rfl (fun c => ?_) (fun c => ?_)
      · have hF := hF.1 c
        refine g_aload_n 28 hC dX0_sortOf_27 rfl 0 rfl rfl ?_
        refine g_inst 31 hC q339 hF dX0_sortOf_28 rfl (fun x_4 hF => ?_)
        refine g_if_eq 34 38 hC dX0_sortOf_31 (by decide) rfl (fun c => ?_) (fun c => ?_)
        · have hF := hF.1 c
          refine g_iconst 39 hC (4 : Int32) dX0_sortOf_38 (by decide) rfl ?_
          exact g_ireturn hC ⟨_, rfl, hF⟩ dX0_sortOf_39 (Nat.zero_le _) (Nat.zero_le _)
        · have hF := hF.2 c
          refine g_iconst 35 hC (3 : Int32) dX0_sortOf_34 (by decide) rfl ?_
          refine g_goto 39 hC dX0_sortOf_35 (by decide) ?_
          exact g_ireturn hC ⟨_, rfl, hF⟩ dX0_sortOf_39 (Nat.zero_le _) (Nat.zero_le _)
      · have hF := hF.2 c
        refine g_iconst 26 hC (2 : Int32) dX0_sortOf_25 (by decide) rfl ?_
        exact g_ireturn hC ⟨_, rfl, hF⟩ dX0_sortOf_26 (Nat.zero_le _) (Nat.zero_le _)
    · have hF := hF.2 c
      refine g_iconst 17 hC (1 : Int32) dX0_sortOf_16 (by decide) rfl ?_
      exact g_ireturn hC ⟨_, rfl, hF⟩ dX0_sortOf_17 (Nat.zero_le _) (Nat.zero_le _)
  · have hF := hF.2 c
    refine g_iconst 8 hC (0 : Int32) dX0_sortOf_7 (by decide) rfl ?_
    exact g_ireturn hC ⟨_, rfl, hF⟩ dX0_sortOf_8 (Nat.zero_le _) (Nat.zero_le _)
theorem hd_X0_sortOf : yX0_sortOf.cls ≠ "java/lang/invoke/MethodHandle" ∧ yX0_sortOf.cls ≠ "java/lang/invoke/VarHandle" ∧ (parseMethodDescriptor yX0_sortOf.desc).map (fun d => d.parameters.length) = some 1 := by decide +kernel
theorem wl_X0_72 : GoodIn lw_all (va_wsS RX0 72 yX0_sortOf (ws_ yX0_sortOf cX0_sortOf 1 (some .int))) := lw_S q333 q334 q69 q335
abbrev rm_X0_sizeOf : Room := { frames := 1, cells := 0, slots := 0, locals := 20 }
def F_X0_sizeOf  (M : gM) (a0 : Nat) (Q : Int32 → gM → Prop)  : Prop :=
  F_X0_sortOf M a0 fun x_2 M_1 =>
  (((x_2.toInt < 0 ∨ 3 < x_2.toInt) →
    cY M_1 a0 "[Z" ∧
    aL M_1 a0 fun x_3 =>
    Q x_3 M_1) ∧
    (x_2 = (0 : Int32) →
    cY M_1 a0 "[B" ∧
    aL M_1 a0 fun x_4 =>
    Q x_4 M_1) ∧
    (x_2 = (1 : Int32) →
    cY M_1 a0 "[S" ∧
    aL M_1 a0 fun x_5 =>
    Q x_5 M_1) ∧
    (x_2 = (2 : Int32) →
    cY M_1 a0 "[I" ∧
    aL M_1 a0 fun x_6 =>
    Q x_6 M_1) ∧
    (x_2 = (3 : Int32) →
    cY M_1 a0 "[J" ∧
    aL M_1 a0 fun x_7 =>
    Q x_7 M_1))
theorem met_X0_sizeOf {M : gM} {a0 : Nat} {Q : Int32 → gM → Prop} (hF : F_X0_sizeOf M a0 Q) : gMt yX0_sizeOf (ws_ yX0_sizeOf cX0_sizeOf 1 (some .int)) rm_X0_sizeOf M [.ref a0] (gQi Q) := by
  refine gMet (bytes := cX0_sizeOf) (maxL := 1) (ret := (some .int)) rfl rfl (by decide) (Nat.le_of_ble_eq_true rfl) (lv := [(0, .ref a0)]) rfl (fun G hC hin => ?_)
  unfold F_X0_sizeOf at hF
  refine g_aload_n 1 hC dX0_sizeOf_0 rfl 0 rfl rfl ?_
  refine g_cS (rest := []) wl_X0_72 hd_X0_sortOf 4 hC (met_X0_sortOf hF) rfl ⟨Nat.le_of_ble_eq_true rfl, Nat.le_of_ble_eq_true rfl⟩ ⟨Nat.zero_le _, Nat.zero_le _⟩ rfl (Nat.le_of_ble_eq_true rfl) dX0_sizeOf_1 rfl (g_ty_i 0 0 (Nat.le_refl _) (Nat.le_refl _) (fun x_2 M_1 hF => ?_))
  rcases (by omega : ((x_2.toInt < 0 ∨ 3 < x_2.toInt) ∨ x_2.toInt = 0 ∨ x_2.toInt = 1 ∨ x_2.toInt = 2 ∨ x_2.toInt = 3)) with c | c | c | c | c
  · refine g_tsOut 60 hC dX0_sizeOf_4 c (by decide) ?_
    have hF := hF.1 c
    refine g_aload_n 61 hC dX0_sizeOf_60 rfl 0 rfl rfl ?_
    refine g_cast 64 hC q340 hF.1 dX0_sizeOf_61 rfl ?_
    have hF := hF.2
    refine g_alen 65 hC hF dX0_sizeOf_64 rfl (fun x_3 hF => ?_)
    exact g_ireturn hC ⟨_, rfl, hF⟩ dX0_sizeOf_65 (Nat.zero_le _) (Nat.zero_le _)
  · have c : x_2 = (0 : Int32) := Int32.toInt_inj.mp (c.trans (by decide))
    refine g_tsIn 36 hC (0 : Int32) c dX0_sizeOf_4 (by decide) (by decide) rfl (by decide) ?_
    have hF := hF.2.1 c
    refine g_aload_n 37 hC dX0_sizeOf_36 rfl 0 rfl rfl ?_
    refine g_cast 40 hC q336 hF.1 dX0_sizeOf_37 rfl ?_
    have hF := hF.2
    refine g_alen 41 hC hF dX0_sizeOf_40 rfl (fun x_4 hF => ?_)
    exact g_ireturn hC ⟨_, rfl, hF⟩ dX0_sizeOf_41 (Nat.zero_le _) (Nat.zero_le _)
  · have c : x_2 = (1 : Int32) := Int32.toInt_inj.mp (c.trans (by decide))
    refine g_tsIn 42 hC (1 : Int32) c dX0_sizeOf_4 (by decide) (by decide) rfl (by decide) ?_
    have hF := hF.2.2.1 c
    refine g_aload_n 43 hC dX0_sizeOf_42 rfl 0 rfl rfl ?_
    refine g_cast 46 hC q337 hF.1 dX0_sizeOf_43 rfl ?_
    have hF := hF.2
    refine g_alen 47 hC hF dX0_sizeOf_46 rfl (fun x_5 hF => ?_)
    exact g_ireturn hC ⟨_, rfl, hF⟩ dX0_sizeOf_47 (Nat.zero_le _) (Nat.zero_le _)
  · have c : x_2 = (2 : Int32) := Int32.toInt_inj.mp (c.trans (by decide))
    refine g_tsIn 48 hC (2 : Int32) c dX0_sizeOf_4 (by decide) (by decide) rfl (by decide) ?_
    have hF := hF.2.2.2.1 c
    refine g_aload_n 49 hC dX0_sizeOf_48 rfl 0 rfl rfl ?_
    refine g_cast 52 hC q338 hF.1 dX0_sizeOf_49 rfl ?_
    have hF := hF.2
    refine g_alen 53 hC hF dX0_sizeOf_52 rfl (fun x_6 hF => ?_)
    exact g_ireturn hC ⟨_, rfl, hF⟩ dX0_sizeOf_53 (Nat.zero_le _) (Nat.zero_le _)
  · have c : x_2 = (3 : Int32) := Int32.toInt_inj.mp (c.trans (by decide))
    refine g_tsIn 54 hC (3 : Int32) c dX0_sizeOf_4 (by decide) (by decide) rfl (by decide) ?_
    have hF := hF.2.2.2.2 c
    refine g_aload_n 55 hC dX0_sizeOf_54 rfl 0 rfl rfl ?_
    refine g_cast 58 hC q339 hF.1 dX0_sizeOf_55 rfl ?_
    have hF := hF.2
    refine g_alen 59 hC hF dX0_sizeOf_58 rfl (fun x_7 hF => ?_)
    exact g_ireturn hC ⟨_, rfl, hF⟩ dX0_sizeOf_59 (Nat.zero_le _) (Nat.zero_le _)
abbrev rm_X0_elementOf (Lc Ls : Nat) : Room := { frames := 8, cells := Lc, slots := Ls, locals := 10256 }
def F_X0_elementOf (Lc Ls : Nat) (M : gM) (a0 : Nat) (x1 : Int32) (Q : Int64 → gM → Prop) (X : String → Nat → gM → Prop) : Prop :=
  F_X0_sortOf M a0 fun x_2 M_1 =>
  (((x_2.toInt < 0 ∨ 3 < x_2.toInt) →
    cY M_1 a0 "[Z" ∧
    xI M_1 0 0 Lc Ls .boolean a0 x1 (fun x_4 =>
      ((x_4 = 0 →
        Q (0 : Int64) M_1) ∧
        (¬ x_4 = 0 →
        Q (1 : Int64) M_1))) (fun q_3 =>
      X "java/lang/ArrayIndexOutOfBoundsException" q_3 M_1)) ∧
    (x_2 = (0 : Int32) →
    cY M_1 a0 "[B" ∧
    xI M_1 0 0 Lc Ls .byte a0 x1 (fun x_6 =>
      Q x_6.toInt64 M_1) (fun q_5 =>
      X "java/lang/ArrayIndexOutOfBoundsException" q_5 M_1)) ∧
    (x_2 = (1 : Int32) →
    cY M_1 a0 "[S" ∧
    xI M_1 0 0 Lc Ls .short a0 x1 (fun x_8 =>
      Q x_8.toInt64 M_1) (fun q_7 =>
      X "java/lang/ArrayIndexOutOfBoundsException" q_7 M_1)) ∧
    (x_2 = (2 : Int32) →
    cY M_1 a0 "[I" ∧
    xI M_1 0 0 Lc Ls .int a0 x1 (fun x_10 =>
      Q x_10.toInt64 M_1) (fun q_9 =>
      X "java/lang/ArrayIndexOutOfBoundsException" q_9 M_1)) ∧
    (x_2 = (3 : Int32) →
    cY M_1 a0 "[J" ∧
    xJ M_1 0 0 Lc Ls a0 x1 (fun j_12 =>
      Q j_12 M_1) (fun q_11 =>
      X "java/lang/ArrayIndexOutOfBoundsException" q_11 M_1)))
theorem met_X0_elementOf {M : gM} {a0 : Nat} {x1 : Int32} {Q : Int64 → gM → Prop} {X : String → Nat → gM → Prop} {Lc Ls : Nat} (hF : F_X0_elementOf Lc Ls M a0 x1 Q X) : gMx yX0_elementOf (ws_ yX0_elementOf cX0_elementOf 2 (some .long)) (rm_X0_elementOf Lc Ls) M [.ref a0, .int x1] (gQj Q) X := by
  refine gMetX (bytes := cX0_elementOf) (maxL := 2) (ret := (some .long)) rfl rfl (by decide) (Nat.le_of_ble_eq_true rfl) (lv := [(0, .ref a0), (1, .int x1)]) rfl (fun G hC hT hin => ?_)
  have hu : 0 ≤ Lc ∧ 0 ≤ Ls := ⟨Nat.zero_le _, Nat.zero_le _⟩
  unfold F_X0_elementOf at hF
  refine g_aload_n 1 hC dX0_elementOf_0 rfl 0 rfl rfl ?_
  refine g_cS (rest := []) wl_X0_72 hd_X0_sortOf 4 hC (met_X0_sortOf hF) rfl ⟨Nat.le_of_ble_eq_true rfl, Nat.le_of_ble_eq_true rfl⟩ hu rfl (Nat.le_of_ble_eq_true rfl) dX0_elementOf_1 rfl (g_ty_i 0 0 (Nat.le_refl _) (Nat.le_refl _) (fun x_2 M_1 hF => ?_))
  rcases (by omega : ((x_2.toInt < 0 ∨ 3 < x_2.toInt) ∨ x_2.toInt = 0 ∨ x_2.toInt = 1 ∨ x_2.toInt = 2 ∨ x_2.toInt = 3)) with c | c | c | c | c
  · refine g_tsOut 67 hC dX0_elementOf_4 c (by decide) ?_
    have hF := hF.1 c
    refine g_aload_n 68 hC dX0_elementOf_67 rfl 0 rfl rfl ?_
    refine g_cast 71 hC q340 hF.1 dX0_elementOf_68 rfl ?_
    have hF := hF.2
    refine g_iload_n 72 hC dX0_elementOf_71 rfl 1 rfl rfl ?_
    refine g_zaldX 73 hC hF (Nat.le_of_ble_eq_true rfl) (Nat.le_of_ble_eq_true rfl) dX0_elementOf_72 rfl (fun x_4 hF => ?_) (fun q_3 hu hF => ?_)
    · have hF := hF
      refine g_if_eq 76 80 hC dX0_elementOf_73 (by decide) rfl (fun c => ?_) (fun c => ?_)
      · have hF := hF.1 c
        refine g_lconst 81 hC (0 : Int64) dX0_elementOf_80 (by decide) rfl ?_
        exact g_lreturn hC ⟨_, rfl, hF⟩ dX0_elementOf_81 hu.1 hu.2
      · have hF := hF.2 c
        refine g_lconst 77 hC (1 : Int64) dX0_elementOf_76 (by decide) rfl ?_
        refine g_goto 81 hC dX0_elementOf_77 (by decide) ?_
        exact g_lreturn hC ⟨_, rfl, hF⟩ dX0_elementOf_81 hu.1 hu.2
    · have hF := hF
      exact g_out hC hT (fun _ h => absurd h List.not_mem_nil) hF hu
  · have c : x_2 = (0 : Int32) := Int32.toInt_inj.mp (c.trans (by decide))
    refine g_tsIn 36 hC (0 : Int32) c dX0_elementOf_4 (by decide) (by decide) rfl (by decide) ?_
    have hF := hF.2.1 c
    refine g_aload_n 37 hC dX0_elementOf_36 rfl 0 rfl rfl ?_
    refine g_cast 40 hC q336 hF.1 dX0_elementOf_37 rfl ?_
    have hF := hF.2
    refine g_iload_n 41 hC dX0_elementOf_40 rfl 1 rfl rfl ?_
    refine g_baldX 42 hC hF (Nat.le_of_ble_eq_true rfl) (Nat.le_of_ble_eq_true rfl) dX0_elementOf_41 rfl (fun x_6 hF => ?_) (fun q_5 hu hF => ?_)
    · have hF := hF
      refine g_i2l 43 hC dX0_elementOf_42 rfl ?_
      exact g_lreturn hC ⟨_, rfl, hF⟩ dX0_elementOf_43 hu.1 hu.2
    · have hF := hF
      exact g_out hC hT (fun _ h => absurd h List.not_mem_nil) hF hu
  · have c : x_2 = (1 : Int32) := Int32.toInt_inj.mp (c.trans (by decide))
    refine g_tsIn 44 hC (1 : Int32) c dX0_elementOf_4 (by decide) (by decide) rfl (by decide) ?_
    have hF := hF.2.2.1 c
    refine g_aload_n 45 hC dX0_elementOf_44 rfl 0 rfl rfl ?_
    refine g_cast 48 hC q337 hF.1 dX0_elementOf_45 rfl ?_
    have hF := hF.2
    refine g_iload_n 49 hC dX0_elementOf_48 rfl 1 rfl rfl ?_
    refine g_saldX 50 hC hF (Nat.le_of_ble_eq_true rfl) (Nat.le_of_ble_eq_true rfl) dX0_elementOf_49 rfl (fun x_8 hF => ?_) (fun q_7 hu hF => ?_)
    · have hF := hF
      refine g_i2l 51 hC dX0_elementOf_50 rfl ?_
      exact g_lreturn hC ⟨_, rfl, hF⟩ dX0_elementOf_51 hu.1 hu.2
    · have hF := hF
      exact g_out hC hT (fun _ h => absurd h List.not_mem_nil) hF hu
  · have c : x_2 = (2 : Int32) := Int32.toInt_inj.mp (c.trans (by decide))
    refine g_tsIn 52 hC (2 : Int32) c dX0_elementOf_4 (by decide) (by decide) rfl (by decide) ?_
    have hF := hF.2.2.2.1 c
    refine g_aload_n 53 hC dX0_elementOf_52 rfl 0 rfl rfl ?_
    refine g_cast 56 hC q338 hF.1 dX0_elementOf_53 rfl ?_
    have hF := hF.2
    refine g_iload_n 57 hC dX0_elementOf_56 rfl 1 rfl rfl ?_
    refine g_ialdX 58 hC hF (Nat.le_of_ble_eq_true rfl) (Nat.le_of_ble_eq_true rfl) dX0_elementOf_57 rfl (fun x_10 hF => ?_) (fun q_9 hu hF => ?_)
    · have hF := hF
      refine g_i2l 59 hC dX0_elementOf_58 rfl ?_
      exact g_lreturn hC ⟨_, rfl, hF⟩ dX0_elementOf_59 hu.1 hu.2
    · have hF := hF
      exact g_out hC hT (fun _ h => absurd h List.not_mem_nil) hF hu
  · have c : x_2 = (3 : Int32) := Int32.toInt_inj.mp (c.trans (by decide))
    refine g_tsIn 60 hC (3 : Int32) c dX0_elementOf_4 (by decide) (by decide) rfl (by decide) ?_
    have hF := hF.2.2.2.2 c
    refine g_aload_n 61 hC dX0_elementOf_60 rfl 0 rfl rfl ?_
    refine g_cast 64 hC q339 hF.1 dX0_elementOf_61 rfl ?_
    have hF := hF.2
    refine g_iload_n 65 hC dX0_elementOf_64 rfl 1 rfl rfl ?_
    refine g_laldX 66 hC hF (Nat.le_of_ble_eq_true rfl) (Nat.le_of_ble_eq_true rfl) dX0_elementOf_65 rfl (fun j_12 hF => ?_) (fun q_11 hu hF => ?_)
    · have hF := hF
      exact g_lreturn hC ⟨_, rfl, hF⟩ dX0_elementOf_66 hu.1 hu.2
    · have hF := hF
      exact g_out hC hT (fun _ h => absurd h List.not_mem_nil) hF hu
abbrev rm_X0_puts (Lc Ls : Nat) : Room := { frames := 8, cells := Lc, slots := Ls, locals := 10256 }
def F_X0_puts (Lc Ls : Nat) (M : gM) (a0 : Nat) (x1 : Int32) (j2 : Int64) (Q : gM → Prop) (X : String → Nat → gM → Prop) : Prop :=
  F_X0_sortOf M a0 fun x_2 M_1 =>
  (((x_2.toInt < 0 ∨ 3 < x_2.toInt) →
    cY M_1 a0 "[Z" ∧
    ((j2 = (0 : Int64) →
      zI M_1 0 0 Lc Ls .boolean a0 x1 (0 : Int32) (fun M_4 =>
        Q M_4) (fun q_3 =>
        X "java/lang/ArrayIndexOutOfBoundsException" q_3 M_1)) ∧
      (¬ j2 = (0 : Int64) →
      zI M_1 0 0 Lc Ls .boolean a0 x1 (1 : Int32) (fun M_6 =>
        Q M_6) (fun q_5 =>
        X "java/lang/ArrayIndexOutOfBoundsException" q_5 M_1)))) ∧
    (x_2 = (0 : Int32) →
    cY M_1 a0 "[B" ∧
    zI M_1 0 0 Lc Ls .byte a0 x1 j2.toInt32.toInt8.toInt32 (fun M_8 =>
      Q M_8) (fun q_7 =>
      X "java/lang/ArrayIndexOutOfBoundsException" q_7 M_1)) ∧
    (x_2 = (1 : Int32) →
    cY M_1 a0 "[S" ∧
    zI M_1 0 0 Lc Ls .short a0 x1 j2.toInt32.toInt16.toInt32 (fun M_10 =>
      Q M_10) (fun q_9 =>
      X "java/lang/ArrayIndexOutOfBoundsException" q_9 M_1)) ∧
    (x_2 = (2 : Int32) →
    cY M_1 a0 "[I" ∧
    zI M_1 0 0 Lc Ls .int a0 x1 j2.toInt32 (fun M_12 =>
      Q M_12) (fun q_11 =>
      X "java/lang/ArrayIndexOutOfBoundsException" q_11 M_1)) ∧
    (x_2 = (3 : Int32) →
    cY M_1 a0 "[J" ∧
    zJ M_1 0 0 Lc Ls a0 x1 j2 (fun M_14 =>
      Q M_14) (fun q_13 =>
      X "java/lang/ArrayIndexOutOfBoundsException" q_13 M_1)))
theorem met_X0_puts {M : gM} {a0 : Nat} {x1 : Int32} {j2 : Int64} {Q : gM → Prop} {X : String → Nat → gM → Prop} {Lc Ls : Nat} (hF : F_X0_puts Lc Ls M a0 x1 j2 Q X) : gMx yX0_puts (ws_ yX0_puts cX0_puts 4 none) (rm_X0_puts Lc Ls) M [.ref a0, .int x1, .long j2] (gQv Q) X := by
  refine gMetX (bytes := cX0_puts) (maxL := 4) (ret := none) rfl rfl (by decide) (Nat.le_of_ble_eq_true rfl) (lv := [(0, .ref a0), (1, .int x1), (2, .long j2)]) rfl (fun G hC hT hin => ?_)
  have hu : 0 ≤ Lc ∧ 0 ≤ Ls := ⟨Nat.zero_le _, Nat.zero_le _⟩
  unfold F_X0_puts at hF
  refine g_aload_n 1 hC dX0_puts_0 rfl 0 rfl rfl ?_
  refine g_cS (rest := []) wl_X0_72 hd_X0_sortOf 4 hC (met_X0_sortOf hF) rfl ⟨Nat.le_of_ble_eq_true rfl, Nat.le_of_ble_eq_true rfl⟩ hu rfl (Nat.le_of_ble_eq_true rfl) dX0_puts_1 rfl (g_ty_i 0 0 (Nat.le_refl _) (Nat.le_refl _) (fun x_2 M_1 hF => ?_))
  rcases (by omega : ((x_2.toInt < 0 ∨ 3 < x_2.toInt) ∨ x_2.toInt = 0 ∨ x_2.toInt = 1 ∨ x_2.toInt = 2 ∨ x_2.toInt = 3)) with c | c | c | c | c
  · refine g_tsOut 81 hC dX0_puts_4 c (by decide) ?_
    have hF := hF.1 c
    refine g_aload_n 82 hC dX0_puts_81 rfl 0 rfl rfl ?_
    refine g_cast 85 hC q340 hF.1 dX0_puts_82 rfl ?_
    have hF := hF.2
    refine g_iload_n 86 hC dX0_puts_85 rfl 1 rfl rfl ?_
    refine g_lload_n 87 hC dX0_puts_86 rfl 2 rfl rfl ?_
    refine g_lconst 88 hC (0 : Int64) dX0_puts_87 (by decide) rfl ?_
    refine g_lcmp_eq 92 96 hC dX0_puts_88 rfl dX0_puts_89 (by decide) rfl (fun c => ?_) (fun c => ?_)
    · have hF := hF.1 c
      refine g_iconst 97 hC (0 : Int32) dX0_puts_96 (by decide) rfl ?_
      refine g_zastX 98 hC hF (Nat.le_of_ble_eq_true rfl) (Nat.le_of_ble_eq_true rfl) dX0_puts_97 rfl (fun M_4 hF => ?_) (fun q_3 hu hF => ?_)
      · have hF := hF
        exact g_return hC ⟨rfl, hF⟩ dX0_puts_98 hu.1 hu.2
      · have hF := hF
        exact g_out hC hT (fun _ h => absurd h List.not_mem_nil) hF hu
    · have hF := hF.2 c
      refine g_iconst 93 hC (1 : Int32) dX0_puts_92 (by decide) rfl ?_
      refine g_goto 97 hC dX0_puts_93 (by decide) ?_
      refine g_zastX 98 hC hF (Nat.le_of_ble_eq_true rfl) (Nat.le_of_ble_eq_true rfl) dX0_puts_97 rfl (fun M_6 hF => ?_) (fun q_5 hu hF => ?_)
      · have hF := hF
        exact g_return hC ⟨rfl, hF⟩ dX0_puts_98 hu.1 hu.2
      · have hF := hF
        exact g_out hC hT (fun _ h => absurd h List.not_mem_nil) hF hu
  · have c : x_2 = (0 : Int32) := Int32.toInt_inj.mp (c.trans (by decide))
    refine g_tsIn 36 hC (0 : Int32) c dX0_puts_4 (by decide) (by decide) rfl (by decide) ?_
    have hF := hF.2.1 c
    refine g_aload_n 37 hC dX0_puts_36 rfl 0 rfl rfl ?_
    refine g_cast 40 hC q336 hF.1 dX0_puts_37 rfl ?_
    have hF := hF.2
    refine g_iload_n 41 hC dX0_puts_40 rfl 1 rfl rfl ?_
    refine g_lload_n 42 hC dX0_puts_41 rfl 2 rfl rfl ?_
    refine g_l2i 43 hC dX0_puts_42 rfl ?_
    refine g_i2b 44 hC dX0_puts_43 rfl ?_
    refine g_bastX 45 hC hF (Nat.le_of_ble_eq_true rfl) (Nat.le_of_ble_eq_true rfl) dX0_puts_44 rfl (fun M_8 hF => ?_) (fun q_7 hu hF => ?_)
    · have hF := hF
      refine g_goto 98 hC dX0_puts_45 (by decide) ?_
      exact g_return hC ⟨rfl, hF⟩ dX0_puts_98 hu.1 hu.2
    · have hF := hF
      exact g_out hC hT (fun _ h => absurd h List.not_mem_nil) hF hu
  · have c : x_2 = (1 : Int32) := Int32.toInt_inj.mp (c.trans (by decide))
    refine g_tsIn 48 hC (1 : Int32) c dX0_puts_4 (by decide) (by decide) rfl (by decide) ?_
    have hF := hF.2.2.1 c
    refine g_aload_n 49 hC dX0_puts_48 rfl 0 rfl rfl ?_
    refine g_cast 52 hC q337 hF.1 dX0_puts_49 rfl ?_
    have hF := hF.2
    refine g_iload_n 53 hC dX0_puts_52 rfl 1 rfl rfl ?_
    refine g_lload_n 54 hC dX0_puts_53 rfl 2 rfl rfl ?_
    refine g_l2i 55 hC dX0_puts_54 rfl ?_
    refine g_i2s 56 hC dX0_puts_55 rfl ?_
    refine g_sastX 57 hC hF (Nat.le_of_ble_eq_true rfl) (Nat.le_of_ble_eq_true rfl) dX0_puts_56 rfl (fun M_10 hF => ?_) (fun q_9 hu hF => ?_)
    · have hF := hF
      refine g_goto 98 hC dX0_puts_57 (by decide) ?_
      exact g_return hC ⟨rfl, hF⟩ dX0_puts_98 hu.1 hu.2
    · have hF := hF
      exact g_out hC hT (fun _ h => absurd h List.not_mem_nil) hF hu
  · have c : x_2 = (2 : Int32) := Int32.toInt_inj.mp (c.trans (by decide))
    refine g_tsIn 60 hC (2 : Int32) c dX0_puts_4 (by decide) (by decide) rfl (by decide) ?_
    have hF := hF.2.2.2.1 c
    refine g_aload_n 61 hC dX0_puts_60 rfl 0 rfl rfl ?_
    refine g_cast 64 hC q338 hF.1 dX0_puts_61 rfl ?_
    have hF := hF.2
    refine g_iload_n 65 hC dX0_puts_64 rfl 1 rfl rfl ?_
    refine g_lload_n 66 hC dX0_puts_65 rfl 2 rfl rfl ?_
    refine g_l2i 67 hC dX0_puts_66 rfl ?_
    refine g_iastX 68 hC hF (Nat.le_of_ble_eq_true rfl) (Nat.le_of_ble_eq_true rfl) dX0_puts_67 rfl (fun M_12 hF => ?_) (fun q_11 hu hF => ?_)
    · have hF := hF
      refine g_goto 98 hC dX0_puts_68 (by decide) ?_
      exact g_return hC ⟨rfl, hF⟩ dX0_puts_98 hu.1 hu.2
    · have hF := hF
      exact g_out hC hT (fun _ h => absurd h List.not_mem_nil) hF hu
  · have c : x_2 = (3 : Int32) := Int32.toInt_inj.mp (c.trans (by decide))
    refine g_tsIn 71 hC (3 : Int32) c dX0_puts_4 (by decide) (by decide) rfl (by decide) ?_
    have hF := hF.2.2.2.2 c
    refine g_aload_n 72 hC dX0_puts_71 rfl 0 rfl rfl ?_
    refine g_cast 75 hC q339 hF.1 dX0_puts_72 rfl ?_
    have hF := hF.2
    refine g_iload_n 76 hC dX0_puts_75 rfl 1 rfl rfl ?_
    refine g_lload_n 77 hC dX0_puts_76 rfl 2 rfl rfl ?_
    refine g_lastX 78 hC hF (Nat.le_of_ble_eq_true rfl) (Nat.le_of_ble_eq_true rfl) dX0_puts_77 rfl (fun M_14 hF => ?_) (fun q_13 hu hF => ?_)
    · have hF := hF
      refine g_goto 98 hC dX0_puts_78 (by decide) ?_
      exact g_return hC ⟨rfl, hF⟩ dX0_puts_98 hu.1 hu.2
    · have hF := hF
      exact g_out hC hT (fun _ h => absurd h List.not_mem_nil) hF hu
abbrev rm_X0_rowOf (Lc Ls : Nat) : Room := { frames := 8, cells := Lc, slots := Ls, locals := 10256 }
def F_X0_rowOf (Lc Ls : Nat) (M : gM) (x0 : Int32) (x1 : Int32) (Q : Nat → gM → Prop) (X : String → Nat → gM → Prop) : Prop :=
  (((x0.toInt < 0 ∨ 3 < x0.toInt) →
    nX M 0 0 Lc Ls .boolean x1 (fun a_1 M_2 =>
      Q a_1 M_2) (fun q_3 =>
      X "java/lang/NegativeArraySizeException" q_3 M)) ∧
    (x0 = (0 : Int32) →
    nX M 0 0 Lc Ls .byte x1 (fun a_4 M_5 =>
      Q a_4 M_5) (fun q_6 =>
      X "java/lang/NegativeArraySizeException" q_6 M)) ∧
    (x0 = (1 : Int32) →
    nX M 0 0 Lc Ls .short x1 (fun a_7 M_8 =>
      Q a_7 M_8) (fun q_9 =>
      X "java/lang/NegativeArraySizeException" q_9 M)) ∧
    (x0 = (2 : Int32) →
    nX M 0 0 Lc Ls .int x1 (fun a_10 M_11 =>
      Q a_10 M_11) (fun q_12 =>
      X "java/lang/NegativeArraySizeException" q_12 M)) ∧
    (x0 = (3 : Int32) →
    nX M 0 0 Lc Ls .long x1 (fun a_13 M_14 =>
      Q a_13 M_14) (fun q_15 =>
      X "java/lang/NegativeArraySizeException" q_15 M)))
theorem met_X0_rowOf {M : gM} {x0 : Int32} {x1 : Int32} {Q : Nat → gM → Prop} {X : String → Nat → gM → Prop} {Lc Ls : Nat} (hF : F_X0_rowOf Lc Ls M x0 x1 Q X) : gMx yX0_rowOf (ws_ yX0_rowOf cX0_rowOf 2 (some (.object "java/lang/Object"))) (rm_X0_rowOf Lc Ls) M [.int x0, .int x1] (gQa Q) X := by
  refine gMetX (bytes := cX0_rowOf) (maxL := 2) (ret := (some (.object "java/lang/Object"))) rfl rfl (by decide) (Nat.le_of_ble_eq_true rfl) (lv := [(0, .int x0), (1, .int x1)]) rfl (fun G hC hT hin => ?_)
  have hu : 0 ≤ Lc ∧ 0 ≤ Ls := ⟨Nat.zero_le _, Nat.zero_le _⟩
  unfold F_X0_rowOf at hF
  refine g_iload_n 1 hC dX0_rowOf_0 rfl 0 rfl rfl ?_
  rcases (by omega : ((x0.toInt < 0 ∨ 3 < x0.toInt) ∨ x0.toInt = 0 ∨ x0.toInt = 1 ∨ x0.toInt = 2 ∨ x0.toInt = 3)) with c | c | c | c | c
  · refine g_tsOut 48 hC dX0_rowOf_1 c (by decide) ?_
    have hF := hF.1 c
    refine g_iload_n 49 hC dX0_rowOf_48 rfl 1 rfl rfl ?_
    refine g_newaX 51 hC (ty := .boolean) rfl (by decide) (fun _ _ h => h) (by decide) (by decide) q274 hF (Nat.le_of_ble_eq_true rfl) (Nat.le_of_ble_eq_true rfl) dX0_rowOf_49 rfl (fun a_1 M_2 hu hF => ?_) (fun q_3 hu hF => ?_)
    · have hF := hF
      exact g_areturn (v := some a_1) hC (Or.inl ⟨_, rfl⟩) ⟨_, rfl, hF⟩ dX0_rowOf_51 hu.1 hu.2
    · have hF := hF
      exact g_out hC hT (fun _ h => absurd h List.not_mem_nil) hF hu
  · have c : x0 = (0 : Int32) := Int32.toInt_inj.mp (c.trans (by decide))
    refine g_tsIn 32 hC (0 : Int32) c dX0_rowOf_1 (by decide) (by decide) rfl (by decide) ?_
    have hF := hF.2.1 c
    refine g_iload_n 33 hC dX0_rowOf_32 rfl 1 rfl rfl ?_
    refine g_newaX 35 hC (ty := .byte) rfl (by decide) (fun _ _ h => h) (by decide) (by decide) q254 hF (Nat.le_of_ble_eq_true rfl) (Nat.le_of_ble_eq_true rfl) dX0_rowOf_33 rfl (fun a_4 M_5 hu hF => ?_) (fun q_6 hu hF => ?_)
    · have hF := hF
      exact g_areturn (v := some a_4) hC (Or.inl ⟨_, rfl⟩) ⟨_, rfl, hF⟩ dX0_rowOf_35 hu.1 hu.2
    · have hF := hF
      exact g_out hC hT (fun _ h => absurd h List.not_mem_nil) hF hu
  · have c : x0 = (1 : Int32) := Int32.toInt_inj.mp (c.trans (by decide))
    refine g_tsIn 36 hC (1 : Int32) c dX0_rowOf_1 (by decide) (by decide) rfl (by decide) ?_
    have hF := hF.2.2.1 c
    refine g_iload_n 37 hC dX0_rowOf_36 rfl 1 rfl rfl ?_
    refine g_newaX 39 hC (ty := .short) rfl (by decide) (fun _ _ h => h) (by decide) (by decide) q272 hF (Nat.le_of_ble_eq_true rfl) (Nat.le_of_ble_eq_true rfl) dX0_rowOf_37 rfl (fun a_7 M_8 hu hF => ?_) (fun q_9 hu hF => ?_)
    · have hF := hF
      exact g_areturn (v := some a_7) hC (Or.inl ⟨_, rfl⟩) ⟨_, rfl, hF⟩ dX0_rowOf_39 hu.1 hu.2
    · have hF := hF
      exact g_out hC hT (fun _ h => absurd h List.not_mem_nil) hF hu
  · have c : x0 = (2 : Int32) := Int32.toInt_inj.mp (c.trans (by decide))
    refine g_tsIn 40 hC (2 : Int32) c dX0_rowOf_1 (by decide) (by decide) rfl (by decide) ?_
    have hF := hF.2.2.2.1 c
    refine g_iload_n 41 hC dX0_rowOf_40 rfl 1 rfl rfl ?_
    refine g_newaX 43 hC (ty := .int) rfl (by decide) (fun _ _ h => h) (by decide) (by decide) q147 hF (Nat.le_of_ble_eq_true rfl) (Nat.le_of_ble_eq_true rfl) dX0_rowOf_41 rfl (fun a_10 M_11 hu hF => ?_) (fun q_12 hu hF => ?_)
    · have hF := hF
      exact g_areturn (v := some a_10) hC (Or.inl ⟨_, rfl⟩) ⟨_, rfl, hF⟩ dX0_rowOf_43 hu.1 hu.2
    · have hF := hF
      exact g_out hC hT (fun _ h => absurd h List.not_mem_nil) hF hu
  · have c : x0 = (3 : Int32) := Int32.toInt_inj.mp (c.trans (by decide))
    refine g_tsIn 44 hC (3 : Int32) c dX0_rowOf_1 (by decide) (by decide) rfl (by decide) ?_
    have hF := hF.2.2.2.2 c
    refine g_iload_n 45 hC dX0_rowOf_44 rfl 1 rfl rfl ?_
    refine g_newaX 47 hC (ty := .long) rfl (by decide) (fun _ _ h => h) (by decide) (by decide) q273 hF (Nat.le_of_ble_eq_true rfl) (Nat.le_of_ble_eq_true rfl) dX0_rowOf_45 rfl (fun a_13 M_14 hu hF => ?_) (fun q_15 hu hF => ?_)
    · have hF := hF
      exact g_areturn (v := some a_13) hC (Or.inl ⟨_, rfl⟩) ⟨_, rfl, hF⟩ dX0_rowOf_47 hu.1 hu.2
    · have hF := hF
      exact g_out hC hT (fun _ h => absurd h List.not_mem_nil) hF hu
abbrev rm_X5_init : Room := { frames := 1, cells := 0, slots := 0, locals := 24 }
def F_X5_init  (M : gM) (a0 : Nat) (Q : gM → Prop)  : Prop :=
  Q M
theorem met_X5_init {M : gM} {a0 : Nat} {Q : gM → Prop} (hF : F_X5_init M a0 Q) : gMt yX5_init (ws_ yX5_init cX5_init 1 none) rm_X5_init M [.ref a0] (gQv Q) := by
  refine gMet (bytes := cX5_init) (maxL := 1) (ret := none) rfl rfl (by decide) (Nat.le_of_ble_eq_true rfl) (lv := [(0, .ref a0)]) rfl (fun G hC hin => ?_)
  unfold F_X5_init at hF
  refine g_aload_n 1 hC dX5_init_0 rfl 0 rfl rfl ?_
  refine g_objInit 4 hC q436 q109 q110 (Nat.le_of_ble_eq_true rfl) (Nat.le_of_ble_eq_true rfl) dX5_init_1 rfl ?_
  exact g_return hC ⟨rfl, hF⟩ dX5_init_4 (Nat.zero_le _) (Nat.zero_le _)
theorem hd_X5_init : yX5_init.cls ≠ "java/lang/invoke/MethodHandle" ∧ yX5_init.cls ≠ "java/lang/invoke/VarHandle" ∧ (parseMethodDescriptor yX5_init.desc).map (fun d => d.parameters.length) = some 0 := by decide +kernel
abbrev rm_X6_init : Room := { frames := 2, cells := 0, slots := 0, locals := 44 }
def F_X6_init  (M : gM) (a0 : Nat) (x1 : Int32) (Q : gM → Prop)  : Prop :=
  F_X5_init M a0 fun M_1 =>
  pI M_1 6 a0 0 x1 fun M_3 =>
  Q M_3
theorem met_X6_init {M : gM} {a0 : Nat} {x1 : Int32} {Q : gM → Prop} (hF : F_X6_init M a0 x1 Q) : gMt yX6_init (ws_ yX6_init cX6_init 2 none) rm_X6_init M [.ref a0, .int x1] (gQv Q) := by
  refine gMet (bytes := cX6_init) (maxL := 2) (ret := none) rfl rfl (by decide) (Nat.le_of_ble_eq_true rfl) (lv := [(0, .ref a0), (1, .int x1)]) rfl (fun G hC hin => ?_)
  unfold F_X6_init at hF
  refine g_aload_n 1 hC dX6_init_0 rfl 0 rfl rfl ?_
  refine g_cIN (rest := []) q433 q435 q84 q434 rfl hd_X5_init 4 hC (met_X5_init hF) rfl ⟨Nat.le_of_ble_eq_true rfl, Nat.le_of_ble_eq_true rfl⟩ ⟨Nat.zero_le _, Nat.zero_le _⟩ rfl (Nat.le_of_ble_eq_true rfl) dX6_init_1 rfl (g_ty_v 0 0 (Nat.le_refl _) (Nat.le_refl _) (fun M_1 hF => ?_))
  refine g_aload_n 5 hC dX6_init_4 rfl 0 rfl rfl ?_
  refine g_iload_n 6 hC dX6_init_5 rfl 1 rfl rfl ?_
  refine g_putFI (C := RX6) (T := TX6) (N := 1) (ci := 6) (k := 0) (ty := .int) in_X6 tyX6 tyX6_ok nmX6 rfl (by decide) q437 rfl rfl rfl (fun _ _ _ => rfl) rfl rfl 9 hC hin hF dX6_init_6 rfl (fun M_3 hF => ?_)
  exact g_return hC ⟨rfl, hF⟩ dX6_init_9 (Nat.zero_le _) (Nat.zero_le _)
abbrev rm_X6_init_X8 : Room := { frames := 2, cells := 0, slots := 0, locals := 44 }
def F_X6_init_X8  (M : gM) (a0 : Nat) (x1 : Int32) (Q : gM → Prop)  : Prop :=
  F_X5_init M a0 fun M_1 =>
  pI M_1 8 a0 0 x1 fun M_3 =>
  Q M_3
theorem met_X6_init_X8 {M : gM} {a0 : Nat} {x1 : Int32} {Q : gM → Prop} (hF : F_X6_init_X8 M a0 x1 Q) : gMt yX6_init (ws_ yX6_init cX6_init 2 none) rm_X6_init_X8 M [.ref a0, .int x1] (gQv Q) := by
  refine gMet (bytes := cX6_init) (maxL := 2) (ret := none) rfl rfl (by decide) (Nat.le_of_ble_eq_true rfl) (lv := [(0, .ref a0), (1, .int x1)]) rfl (fun G hC hin => ?_)
  unfold F_X6_init_X8 at hF
  refine g_aload_n 1 hC dX6_init_0 rfl 0 rfl rfl ?_
  refine g_cIN (rest := []) q433 q435 q84 q434 rfl hd_X5_init 4 hC (met_X5_init hF) rfl ⟨Nat.le_of_ble_eq_true rfl, Nat.le_of_ble_eq_true rfl⟩ ⟨Nat.zero_le _, Nat.zero_le _⟩ rfl (Nat.le_of_ble_eq_true rfl) dX6_init_1 rfl (g_ty_v 0 0 (Nat.le_refl _) (Nat.le_refl _) (fun M_1 hF => ?_))
  refine g_aload_n 5 hC dX6_init_4 rfl 0 rfl rfl ?_
  refine g_iload_n 6 hC dX6_init_5 rfl 1 rfl rfl ?_
  refine g_putFI (C := RX8) (T := TX8) (N := 2) (ci := 8) (k := 0) (ty := .int) in_X8 tyX8 tyX8_ok nmX8 rfl (by decide) q437 rfl rfl rfl (fun _ _ _ => rfl) rfl rfl 9 hC hin hF dX6_init_6 rfl (fun M_3 hF => ?_)
  exact g_return hC ⟨rfl, hF⟩ dX6_init_9 (Nat.zero_le _) (Nat.zero_le _)
abbrev rm_X7_init : Room := { frames := 2, cells := 0, slots := 0, locals := 44 }
def F_X7_init  (M : gM) (a0 : Nat) (x1 : Int32) (Q : gM → Prop)  : Prop :=
  F_X5_init M a0 fun M_1 =>
  pI M_1 7 a0 0 x1 fun M_3 =>
  Q M_3
theorem met_X7_init {M : gM} {a0 : Nat} {x1 : Int32} {Q : gM → Prop} (hF : F_X7_init M a0 x1 Q) : gMt yX7_init (ws_ yX7_init cX7_init 2 none) rm_X7_init M [.ref a0, .int x1] (gQv Q) := by
  refine gMet (bytes := cX7_init) (maxL := 2) (ret := none) rfl rfl (by decide) (Nat.le_of_ble_eq_true rfl) (lv := [(0, .ref a0), (1, .int x1)]) rfl (fun G hC hin => ?_)
  unfold F_X7_init at hF
  refine g_aload_n 1 hC dX7_init_0 rfl 0 rfl rfl ?_
  refine g_cIN (rest := []) q447 q435 q84 q434 rfl hd_X5_init 4 hC (met_X5_init hF) rfl ⟨Nat.le_of_ble_eq_true rfl, Nat.le_of_ble_eq_true rfl⟩ ⟨Nat.zero_le _, Nat.zero_le _⟩ rfl (Nat.le_of_ble_eq_true rfl) dX7_init_1 rfl (g_ty_v 0 0 (Nat.le_refl _) (Nat.le_refl _) (fun M_1 hF => ?_))
  refine g_aload_n 5 hC dX7_init_4 rfl 0 rfl rfl ?_
  refine g_iload_n 6 hC dX7_init_5 rfl 1 rfl rfl ?_
  refine g_putFI (C := RX7) (T := TX7) (N := 1) (ci := 7) (k := 0) (ty := .int) in_X7 tyX7 tyX7_ok nmX7 rfl (by decide) q448 rfl rfl rfl (fun _ _ _ => rfl) rfl rfl 9 hC hin hF dX7_init_6 rfl (fun M_3 hF => ?_)
  exact g_return hC ⟨rfl, hF⟩ dX7_init_9 (Nat.zero_le _) (Nat.zero_le _)
theorem hd_X6_init : yX6_init.cls ≠ "java/lang/invoke/MethodHandle" ∧ yX6_init.cls ≠ "java/lang/invoke/VarHandle" ∧ (parseMethodDescriptor yX6_init.desc).map (fun d => d.parameters.length) = some 1 := by decide +kernel
theorem hd_X7_init : yX7_init.cls ≠ "java/lang/invoke/MethodHandle" ∧ yX7_init.cls ≠ "java/lang/invoke/VarHandle" ∧ (parseMethodDescriptor yX7_init.desc).map (fun d => d.parameters.length) = some 1 := by decide +kernel
abbrev rm_X8_init (Lc Ls : Nat) : Room := { frames := 3, cells := Lc, slots := Ls, locals := 65 }
def F_X8_init (Lc Ls : Nat) (M : gM) (a0 : Nat) (x1 : Int32) (x2 : Int32) (Q : gM → Prop)  : Prop :=
  F_X6_init_X8 M a0 x1 fun M_1 =>
  nO M_1 0 0 Lc Ls 7 1 fun a_3 M_4 =>
  F_X7_init M_4 a_3 x2 fun M_5 =>
  pR M_5 8 a0 1 (some a_3) fun M_7 =>
  Q M_7
theorem met_X8_init {M : gM} {a0 : Nat} {x1 : Int32} {x2 : Int32} {Q : gM → Prop} {Lc Ls : Nat} (hF : F_X8_init Lc Ls M a0 x1 x2 Q) : gMt yX8_init (ws_ yX8_init cX8_init 3 none) (rm_X8_init Lc Ls) M [.ref a0, .int x1, .int x2] (gQv Q) := by
  refine gMet (bytes := cX8_init) (maxL := 3) (ret := none) rfl rfl (by decide) (Nat.le_of_ble_eq_true rfl) (lv := [(0, .ref a0), (1, .int x1), (2, .int x2)]) rfl (fun G hC hin => ?_)
  have hu : 0 ≤ Lc ∧ 0 ≤ Ls := ⟨Nat.zero_le _, Nat.zero_le _⟩
  unfold F_X8_init at hF
  refine g_aload_n 1 hC dX8_init_0 rfl 0 rfl rfl ?_
  refine g_iload_n 2 hC dX8_init_1 rfl 1 rfl rfl ?_
  refine g_cI (rest := []) q432 q85 q457 q431 rfl hd_X6_init 5 hC (met_X6_init_X8 hF) rfl ⟨Nat.le_of_ble_eq_true rfl, Nat.le_of_ble_eq_true rfl⟩ hu rfl (Nat.le_of_ble_eq_true rfl) dX8_init_2 rfl (g_ty_v 0 0 (Nat.le_refl _) (Nat.le_refl _) (fun M_1 hF => ?_))
  refine g_aload_n 6 hC dX8_init_5 rfl 0 rfl rfl ?_
  have hu := hF.1
  refine g_new (C := RX7) (T := TX7) (N := 1) (ci := 7) in_X7 tyX7_ok (by decide) rfl q458 q443 q86 9 hC hF dX8_init_6 rfl (fun a_3 M_4 hF => ?_)
  refine g_dup 10 hC dX8_init_9 rfl rfl ?_
  refine g_iload_n 11 hC dX8_init_10 rfl 2 rfl rfl ?_
  refine g_cI (rest := [_, _]) q446 q86 q459 q445 rfl hd_X7_init 14 hC (met_X7_init hF) rfl ⟨Nat.le_of_ble_eq_true rfl, Nat.le_of_ble_eq_true rfl⟩ hu rfl (Nat.le_of_ble_eq_true rfl) dX8_init_11 rfl (g_ty_v (0 + 1) (0 + 1) (Nat.le_refl _) (Nat.le_refl _) (fun M_5 hF => ?_))
  refine g_putFR (C := RX8) (T := TX8) (N := 2) (ci := 8) (k := 1) (ty := (.object "SendTheBox$Daily")) in_X8 tyX8 tyX8_ok nmX8 rfl (by decide) q460 rfl rfl rfl (fun _ _ _ => rfl) (g_narR _ _ (by decide)) (g_fitR _ _ (by decide)) 17 hC hin hF dX8_init_14 rfl (fun M_7 hF => ?_)
  exact g_return hC ⟨rfl, hF⟩ dX8_init_17 hu.1 hu.2
abbrev rm_X9_init : Room := { frames := 2, cells := 0, slots := 0, locals := 44 }
def F_X9_init  (M : gM) (a0 : Nat) (Q : gM → Prop)  : Prop :=
  F_X5_init M a0 fun M_1 =>
  Q M_1
theorem met_X9_init {M : gM} {a0 : Nat} {Q : gM → Prop} (hF : F_X9_init M a0 Q) : gMt yX9_init (ws_ yX9_init cX9_init 1 none) rm_X9_init M [.ref a0] (gQv Q) := by
  refine gMet (bytes := cX9_init) (maxL := 1) (ret := none) rfl rfl (by decide) (Nat.le_of_ble_eq_true rfl) (lv := [(0, .ref a0)]) rfl (fun G hC hin => ?_)
  unfold F_X9_init at hF
  refine g_aload_n 1 hC dX9_init_0 rfl 0 rfl rfl ?_
  refine g_cIN (rest := []) q470 q435 q84 q434 rfl hd_X5_init 4 hC (met_X5_init hF) rfl ⟨Nat.le_of_ble_eq_true rfl, Nat.le_of_ble_eq_true rfl⟩ ⟨Nat.zero_le _, Nat.zero_le _⟩ rfl (Nat.le_of_ble_eq_true rfl) dX9_init_1 rfl (g_ty_v 0 0 (Nat.le_refl _) (Nat.le_refl _) (fun M_1 hF => ?_))
  exact g_return hC ⟨rfl, hF⟩ dX9_init_4 (Nat.zero_le _) (Nat.zero_le _)
theorem hd_X0_sizeOf : yX0_sizeOf.cls ≠ "java/lang/invoke/MethodHandle" ∧ yX0_sizeOf.cls ≠ "java/lang/invoke/VarHandle" ∧ (parseMethodDescriptor yX0_sizeOf.desc).map (fun d => d.parameters.length) = some 1 := by decide +kernel
abbrev rm_X10_init : Room := { frames := 2, cells := 0, slots := 0, locals := 44 }
def F_X10_init  (M : gM) (a0 : Nat) (a1 : Nat) (Q : gM → Prop)  : Prop :=
  F_X5_init M a0 fun M_1 =>
  pR M_1 10 a0 0 (some a1) fun M_3 =>
  F_X0_sizeOf M_3 a1 fun x_5 M_4 =>
  pI M_4 10 a0 1 x_5 fun M_6 =>
  Q M_6
theorem met_X10_init {M : gM} {a0 : Nat} {a1 : Nat} {Q : gM → Prop} (hF : F_X10_init M a0 a1 Q) : gMt yX10_init (ws_ yX10_init cX10_init 2 none) rm_X10_init M [.ref a0, .ref a1] (gQv Q) := by
  refine gMet (bytes := cX10_init) (maxL := 2) (ret := none) rfl rfl (by decide) (Nat.le_of_ble_eq_true rfl) (lv := [(0, .ref a0), (1, .ref a1)]) rfl (fun G hC hin => ?_)
  unfold F_X10_init at hF
  refine g_aload_n 1 hC dX10_init_0 rfl 0 rfl rfl ?_
  refine g_cIN (rest := []) q502 q435 q84 q434 rfl hd_X5_init 4 hC (met_X5_init hF) rfl ⟨Nat.le_of_ble_eq_true rfl, Nat.le_of_ble_eq_true rfl⟩ ⟨Nat.zero_le _, Nat.zero_le _⟩ rfl (Nat.le_of_ble_eq_true rfl) dX10_init_1 rfl (g_ty_v 0 0 (Nat.le_refl _) (Nat.le_refl _) (fun M_1 hF => ?_))
  refine g_aload_n 5 hC dX10_init_4 rfl 0 rfl rfl ?_
  refine g_aload_n 6 hC dX10_init_5 rfl 1 rfl rfl ?_
  refine g_putFR (C := RX10) (T := TX10) (N := 2) (ci := 10) (k := 0) (ty := (.object "java/lang/Object")) in_X10 tyX10 tyX10_ok nmX10 rfl (by decide) q506 rfl rfl rfl (fun _ _ _ => rfl) (g_narR _ _ (by decide)) (g_fitR _ _ (by decide)) 9 hC hin hF dX10_init_6 rfl (fun M_3 hF => ?_)
  refine g_aload_n 10 hC dX10_init_9 rfl 0 rfl rfl ?_
  refine g_aload_n 11 hC dX10_init_10 rfl 1 rfl rfl ?_
  refine g_cSN (rest := [_]) q503 q505 q69 q504 hd_X0_sizeOf 14 hC (met_X0_sizeOf hF) rfl ⟨Nat.le_of_ble_eq_true rfl, Nat.le_of_ble_eq_true rfl⟩ ⟨Nat.zero_le _, Nat.zero_le _⟩ rfl (Nat.le_of_ble_eq_true rfl) dX10_init_11 rfl (g_ty_i 0 0 (Nat.le_refl _) (Nat.le_refl _) (fun x_5 M_4 hF => ?_))
  refine g_putFI (C := RX10) (T := TX10) (N := 2) (ci := 10) (k := 1) (ty := .int) in_X10 tyX10 tyX10_ok nmX10 rfl (by decide) q507 rfl rfl rfl (fun _ _ _ => rfl) rfl rfl 17 hC hin hF dX10_init_14 rfl (fun M_6 hF => ?_)
  exact g_return hC ⟨rfl, hF⟩ dX10_init_17 (Nat.zero_le _) (Nat.zero_le _)
abbrev rm_X6_kind : Room := { frames := 0, cells := 0, slots := 0, locals := 0 }
def F_X6_kind  (M : gM) (a0 : Nat) (Q : Int32 → gM → Prop)  : Prop :=
  Q (1 : Int32) M
theorem met_X6_kind {M : gM} {a0 : Nat} {Q : Int32 → gM → Prop} (hF : F_X6_kind M a0 Q) : gMt yX6_kind (ws_ yX6_kind cX6_kind 1 (some .int)) rm_X6_kind M [.ref a0] (gQi Q) := by
  refine gMet (bytes := cX6_kind) (maxL := 1) (ret := (some .int)) rfl rfl (by decide) (Nat.le_of_ble_eq_true rfl) (lv := [(0, .ref a0)]) rfl (fun G hC hin => ?_)
  unfold F_X6_kind at hF
  refine g_iconst 1 hC (1 : Int32) dX6_kind_0 (by decide) rfl ?_
  exact g_ireturn hC ⟨_, rfl, hF⟩ dX6_kind_1 (Nat.zero_le _) (Nat.zero_le _)
abbrev rm_X7_kind : Room := { frames := 0, cells := 0, slots := 0, locals := 0 }
def F_X7_kind  (M : gM) (a0 : Nat) (Q : Int32 → gM → Prop)  : Prop :=
  Q (2 : Int32) M
theorem met_X7_kind {M : gM} {a0 : Nat} {Q : Int32 → gM → Prop} (hF : F_X7_kind M a0 Q) : gMt yX7_kind (ws_ yX7_kind cX7_kind 1 (some .int)) rm_X7_kind M [.ref a0] (gQi Q) := by
  refine gMet (bytes := cX7_kind) (maxL := 1) (ret := (some .int)) rfl rfl (by decide) (Nat.le_of_ble_eq_true rfl) (lv := [(0, .ref a0)]) rfl (fun G hC hin => ?_)
  unfold F_X7_kind at hF
  refine g_iconst 1 hC (2 : Int32) dX7_kind_0 (by decide) rfl ?_
  exact g_ireturn hC ⟨_, rfl, hF⟩ dX7_kind_1 (Nat.zero_le _) (Nat.zero_le _)
abbrev rm_X8_kind : Room := { frames := 0, cells := 0, slots := 0, locals := 0 }
def F_X8_kind  (M : gM) (a0 : Nat) (Q : Int32 → gM → Prop)  : Prop :=
  Q (3 : Int32) M
theorem met_X8_kind {M : gM} {a0 : Nat} {Q : Int32 → gM → Prop} (hF : F_X8_kind M a0 Q) : gMt yX8_kind (ws_ yX8_kind cX8_kind 1 (some .int)) rm_X8_kind M [.ref a0] (gQi Q) := by
  refine gMet (bytes := cX8_kind) (maxL := 1) (ret := (some .int)) rfl rfl (by decide) (Nat.le_of_ble_eq_true rfl) (lv := [(0, .ref a0)]) rfl (fun G hC hin => ?_)
  unfold F_X8_kind at hF
  refine g_iconst 1 hC (3 : Int32) dX8_kind_0 (by decide) rfl ?_
  exact g_ireturn hC ⟨_, rfl, hF⟩ dX8_kind_1 (Nat.zero_le _) (Nat.zero_le _)
abbrev rm_X9_kind : Room := { frames := 0, cells := 0, slots := 0, locals := 0 }
def F_X9_kind  (M : gM) (a0 : Nat) (Q : Int32 → gM → Prop)  : Prop :=
  Q (4 : Int32) M
theorem met_X9_kind {M : gM} {a0 : Nat} {Q : Int32 → gM → Prop} (hF : F_X9_kind M a0 Q) : gMt yX9_kind (ws_ yX9_kind cX9_kind 1 (some .int)) rm_X9_kind M [.ref a0] (gQi Q) := by
  refine gMet (bytes := cX9_kind) (maxL := 1) (ret := (some .int)) rfl rfl (by decide) (Nat.le_of_ble_eq_true rfl) (lv := [(0, .ref a0)]) rfl (fun G hC hin => ?_)
  unfold F_X9_kind at hF
  refine g_iconst 1 hC (4 : Int32) dX9_kind_0 (by decide) rfl ?_
  exact g_ireturn hC ⟨_, rfl, hF⟩ dX9_kind_1 (Nat.zero_le _) (Nat.zero_le _)
abbrev rm_X10_kind : Room := { frames := 0, cells := 0, slots := 0, locals := 0 }
def F_X10_kind  (M : gM) (a0 : Nat) (Q : Int32 → gM → Prop)  : Prop :=
  Q (5 : Int32) M
theorem met_X10_kind {M : gM} {a0 : Nat} {Q : Int32 → gM → Prop} (hF : F_X10_kind M a0 Q) : gMt yX10_kind (ws_ yX10_kind cX10_kind 1 (some .int)) rm_X10_kind M [.ref a0] (gQi Q) := by
  refine gMet (bytes := cX10_kind) (maxL := 1) (ret := (some .int)) rfl rfl (by decide) (Nat.le_of_ble_eq_true rfl) (lv := [(0, .ref a0)]) rfl (fun G hC hin => ?_)
  unfold F_X10_kind at hF
  refine g_iconst 1 hC (5 : Int32) dX10_kind_0 (by decide) rfl ?_
  exact g_ireturn hC ⟨_, rfl, hF⟩ dX10_kind_1 (Nat.zero_le _) (Nat.zero_le _)
theorem gf_X7_7_7I {G : gG} {cc : ByteArray} {nL : Nat} {ret : Option FieldType} {Qf : Option Value → gM → Prop} {rm : Room} {cells slots : Nat} {M : gM} {lv : List (Nat × Value)} {pc : Nat} {st : List Value} {a : Nat} (n : Nat) (hC : gCx G cc nL RX7 ret Qf rm) {κ : Int32 → Prop} (hF : gI M 7 a 0 κ) (hdg : decode cc pc = .ok (.getfield 7, 3)) (hn : pc + 3 = n) (kk : ∀ x, κ x → gAt G cells slots M lv n (.int x :: st)) : gAt G cells slots M lv pc (.ref a :: st) :=
  g_getI (C := RX7) (T := TX7) (N := 1) in_X7 rfl (by decide) q448 (fun _ _ _ => rfl) n hC hF hdg hn kk
abbrev rm_X7_says : Room := { frames := 0, cells := 0, slots := 0, locals := 0 }
def F_X7_says  (M : gM) (a0 : Nat) (Q : Int32 → gM → Prop)  : Prop :=
  gI M 7 a0 0 fun x_1 =>
  Q x_1 M
theorem met_X7_says {M : gM} {a0 : Nat} {Q : Int32 → gM → Prop} (hF : F_X7_says M a0 Q) : gMt yX7_says (ws_ yX7_says cX7_says 1 (some .int)) rm_X7_says M [.ref a0] (gQi Q) := by
  refine gMet (bytes := cX7_says) (maxL := 1) (ret := (some .int)) rfl rfl (by decide) (Nat.le_of_ble_eq_true rfl) (lv := [(0, .ref a0)]) rfl (fun G hC hin => ?_)
  unfold F_X7_says at hF
  refine g_aload_n 1 hC dX7_says_0 rfl 0 rfl rfl ?_
  refine gf_X7_7_7I 4 hC hF dX7_says_1 rfl (fun x_1 hF => ?_)
  exact g_ireturn hC ⟨_, rfl, hF⟩ dX7_says_4 (Nat.zero_le _) (Nat.zero_le _)
theorem gf_X8_10_8N {G : gG} {cc : ByteArray} {nL : Nat} {ret : Option FieldType} {Qf : Option Value → gM → Prop} {rm : Room} {cells slots : Nat} {M : gM} {lv : List (Nat × Value)} {pc : Nat} {st : List Value} {a : Nat} (n : Nat) (hC : gCx G cc nL RX8 ret Qf rm) {κ : Nat → Prop} (hF : gN M 8 a 1 κ) (hdg : decode cc pc = .ok (.getfield 10, 3)) (hn : pc + 3 = n) (kk : ∀ x, κ x → gAt G cells slots M lv n (.ref x :: st)) : gAt G cells slots M lv pc (.ref a :: st) :=
  g_getN (C := RX8) (T := TX8) (N := 2) in_X8 rfl (by decide) q460 (fun _ _ _ => rfl) n hC hF hdg hn kk
theorem hd_X7_says : yX7_says.cls = RX7 ∧ yX7_says.cls ≠ "java/lang/invoke/MethodHandle" ∧ yX7_says.cls ≠ "java/lang/invoke/VarHandle" ∧ (parseMethodDescriptor yX7_says.desc).map (fun d => d.parameters.length) = some 0 := by decide +kernel
theorem wl_X8_16 : GoodIn lw_all (wsV RX8 16 RX7 yX7_says (ws_ yX7_says cX7_says 1 (some .int))) := lw_V q543 q536 q537 q86 q538
abbrev rm_X8_says : Room := { frames := 1, cells := 0, slots := 0, locals := 20 }
def F_X8_says  (M : gM) (a0 : Nat) (Q : Int32 → gM → Prop)  : Prop :=
  gN M 8 a0 1 fun a_1 =>
  rc M 7 a_1 ∧ F_X7_says M a_1 fun x_3 M_2 =>
  Q x_3 M_2
theorem met_X8_says {M : gM} {a0 : Nat} {Q : Int32 → gM → Prop} (hF : F_X8_says M a0 Q) : gMt yX8_says (ws_ yX8_says cX8_says 1 (some .int)) rm_X8_says M [.ref a0] (gQi Q) := by
  refine gMet (bytes := cX8_says) (maxL := 1) (ret := (some .int)) rfl rfl (by decide) (Nat.le_of_ble_eq_true rfl) (lv := [(0, .ref a0)]) rfl (fun G hC hin => ?_)
  unfold F_X8_says at hF
  refine g_aload_n 1 hC dX8_says_0 rfl 0 rfl rfl ?_
  refine gf_X8_10_8N 4 hC hF dX8_says_1 rfl (fun a_1 hF => ?_)
  refine g_cV (rest := []) wl_X8_16 hd_X7_says (ci := 7) rfl 7 hC hF.1 (met_X7_says hF.2) rfl ⟨Nat.le_of_ble_eq_true rfl, Nat.le_of_ble_eq_true rfl⟩ ⟨Nat.zero_le _, Nat.zero_le _⟩ rfl (Nat.le_of_ble_eq_true rfl) dX8_says_4 rfl (g_ty_i 0 0 (Nat.le_refl _) (Nat.le_refl _) (fun x_3 M_2 hF => ?_))
  exact g_ireturn hC ⟨_, rfl, hF⟩ dX8_says_7 (Nat.zero_le _) (Nat.zero_le _)
abbrev rm_X9_says : Room := { frames := 0, cells := 0, slots := 0, locals := 0 }
def F_X9_says  (M : gM) (a0 : Nat) (Q : Int32 → gM → Prop)  : Prop :=
  Q (1 : Int32) M
theorem met_X9_says {M : gM} {a0 : Nat} {Q : Int32 → gM → Prop} (hF : F_X9_says M a0 Q) : gMt yX9_says (ws_ yX9_says cX9_says 1 (some .int)) rm_X9_says M [.ref a0] (gQi Q) := by
  refine gMet (bytes := cX9_says) (maxL := 1) (ret := (some .int)) rfl rfl (by decide) (Nat.le_of_ble_eq_true rfl) (lv := [(0, .ref a0)]) rfl (fun G hC hin => ?_)
  unfold F_X9_says at hF
  refine g_iconst 1 hC (1 : Int32) dX9_says_0 (by decide) rfl ?_
  exact g_ireturn hC ⟨_, rfl, hF⟩ dX9_says_1 (Nat.zero_le _) (Nat.zero_le _)
theorem gf_X10_19_10I {G : gG} {cc : ByteArray} {nL : Nat} {ret : Option FieldType} {Qf : Option Value → gM → Prop} {rm : Room} {cells slots : Nat} {M : gM} {lv : List (Nat × Value)} {pc : Nat} {st : List Value} {a : Nat} (n : Nat) (hC : gCx G cc nL RX10 ret Qf rm) {κ : Int32 → Prop} (hF : gI M 10 a 1 κ) (hdg : decode cc pc = .ok (.getfield 19, 3)) (hn : pc + 3 = n) (kk : ∀ x, κ x → gAt G cells slots M lv n (.int x :: st)) : gAt G cells slots M lv pc (.ref a :: st) :=
  g_getI (C := RX10) (T := TX10) (N := 2) in_X10 rfl (by decide) q507 (fun _ _ _ => rfl) n hC hF hdg hn kk
abbrev rm_X10_says : Room := { frames := 0, cells := 0, slots := 0, locals := 0 }
def F_X10_says  (M : gM) (a0 : Nat) (Q : Int32 → gM → Prop)  : Prop :=
  gI M 10 a0 1 fun x_1 =>
  Q x_1 M
theorem met_X10_says {M : gM} {a0 : Nat} {Q : Int32 → gM → Prop} (hF : F_X10_says M a0 Q) : gMt yX10_says (ws_ yX10_says cX10_says 1 (some .int)) rm_X10_says M [.ref a0] (gQi Q) := by
  refine gMet (bytes := cX10_says) (maxL := 1) (ret := (some .int)) rfl rfl (by decide) (Nat.le_of_ble_eq_true rfl) (lv := [(0, .ref a0)]) rfl (fun G hC hin => ?_)
  unfold F_X10_says at hF
  refine g_aload_n 1 hC dX10_says_0 rfl 0 rfl rfl ?_
  refine gf_X10_19_10I 4 hC hF dX10_says_1 rfl (fun x_1 hF => ?_)
  exact g_ireturn hC ⟨_, rfl, hF⟩ dX10_says_4 (Nat.zero_le _) (Nat.zero_le _)
theorem wl_X6_13 : GoodIn lw_all (wsV RX6 13 RX12 yX12_space (ws_ yX12_space cX12_space 4 (some .int))) := lw_V q1093 q981 q982 q92 q983
theorem gf_X6_7_6I {G : gG} {cc : ByteArray} {nL : Nat} {ret : Option FieldType} {Qf : Option Value → gM → Prop} {rm : Room} {cells slots : Nat} {M : gM} {lv : List (Nat × Value)} {pc : Nat} {st : List Value} {a : Nat} (n : Nat) (hC : gCx G cc nL RX6 ret Qf rm) {κ : Int32 → Prop} (hF : gI M 6 a 0 κ) (hdg : decode cc pc = .ok (.getfield 7, 3)) (hn : pc + 3 = n) (kk : ∀ x, κ x → gAt G cells slots M lv n (.int x :: st)) : gAt G cells slots M lv pc (.ref a :: st) :=
  g_getI (C := RX6) (T := TX6) (N := 1) in_X6 rfl (by decide) q437 (fun _ _ _ => rfl) n hC hF hdg hn kk
abbrev rm_X6_sends : Room := { frames := 2, cells := 0, slots := 0, locals := 44 }
def F_X6_sends  (M : gM) (a0 : Nat) (a1 : Nat) (x2 : Int32) (x3 : Int32) (Q : Int32 → gM → Prop)  : Prop :=
  rc M 12 a1 ∧ F_X12_space M a1 x2 fun x_2 M_1 =>
  gI M_1 6 a0 0 fun x_3 =>
  ((x_2 < x_3 →
    Q (0 : Int32) M_1) ∧
    (¬ x_2 < x_3 →
    Q (1 : Int32) M_1))
theorem met_X6_sends {M : gM} {a0 : Nat} {a1 : Nat} {x2 : Int32} {x3 : Int32} {Q : Int32 → gM → Prop} (hF : F_X6_sends M a0 a1 x2 x3 Q) : gMt yX6_sends (ws_ yX6_sends cX6_sends 4 (some .boolean)) rm_X6_sends M [.ref a0, .ref a1, .int x2, .int x3] (gQi Q) := by
  refine gMet (bytes := cX6_sends) (maxL := 4) (ret := (some .boolean)) rfl rfl (by decide) (Nat.le_of_ble_eq_true rfl) (lv := [(0, .ref a0), (1, .ref a1), (2, .int x2), (3, .int x3)]) rfl (fun G hC hin => ?_)
  unfold F_X6_sends at hF
  refine g_aload_n 1 hC dX6_sends_0 rfl 1 rfl rfl ?_
  refine g_iload_n 2 hC dX6_sends_1 rfl 2 rfl rfl ?_
  refine g_cV (rest := []) wl_X6_13 hd_X12_space (ci := 12) rfl 5 hC hF.1 (met_X12_space hF.2) rfl ⟨Nat.le_of_ble_eq_true rfl, Nat.le_of_ble_eq_true rfl⟩ ⟨Nat.zero_le _, Nat.zero_le _⟩ rfl (Nat.le_of_ble_eq_true rfl) dX6_sends_2 rfl (g_ty_i 0 0 (Nat.le_refl _) (Nat.le_refl _) (fun x_2 M_1 hF => ?_))
  refine g_aload_n 6 hC dX6_sends_5 rfl 0 rfl rfl ?_
  refine gf_X6_7_6I 9 hC hF dX6_sends_6 rfl (fun x_3 hF => ?_)
  refine g_icmp_lt 12 16 hC dX6_sends_9 (by decide) rfl (fun c => ?_) (fun c => ?_)
  · have hF := hF.1 c
    refine g_iconst 17 hC (0 : Int32) dX6_sends_16 (by decide) rfl ?_
    exact g_zreturn hC ⟨_, rfl, hF⟩ (Or.inl rfl) dX6_sends_17 (Nat.zero_le _) (Nat.zero_le _)
  · have hF := hF.2 c
    refine g_iconst 13 hC (1 : Int32) dX6_sends_12 (by decide) rfl ?_
    refine g_goto 17 hC dX6_sends_13 (by decide) ?_
    exact g_zreturn hC ⟨_, rfl, hF⟩ (Or.inr rfl) dX6_sends_17 (Nat.zero_le _) (Nat.zero_le _)
theorem gf_X6_7_8I {G : gG} {cc : ByteArray} {nL : Nat} {ret : Option FieldType} {Qf : Option Value → gM → Prop} {rm : Room} {cells slots : Nat} {M : gM} {lv : List (Nat × Value)} {pc : Nat} {st : List Value} {a : Nat} (n : Nat) (hC : gCx G cc nL RX6 ret Qf rm) {κ : Int32 → Prop} (hF : gI M 8 a 0 κ) (hdg : decode cc pc = .ok (.getfield 7, 3)) (hn : pc + 3 = n) (kk : ∀ x, κ x → gAt G cells slots M lv n (.int x :: st)) : gAt G cells slots M lv pc (.ref a :: st) :=
  g_getI (C := RX8) (T := TX8) (N := 2) in_X8 rfl (by decide) q437 (fun _ _ _ => rfl) n hC hF hdg hn kk
abbrev rm_X6_sends_X8 : Room := { frames := 2, cells := 0, slots := 0, locals := 44 }
def F_X6_sends_X8  (M : gM) (a0 : Nat) (a1 : Nat) (x2 : Int32) (x3 : Int32) (Q : Int32 → gM → Prop)  : Prop :=
  rc M 12 a1 ∧ F_X12_space M a1 x2 fun x_2 M_1 =>
  gI M_1 8 a0 0 fun x_3 =>
  ((x_2 < x_3 →
    Q (0 : Int32) M_1) ∧
    (¬ x_2 < x_3 →
    Q (1 : Int32) M_1))
theorem met_X6_sends_X8 {M : gM} {a0 : Nat} {a1 : Nat} {x2 : Int32} {x3 : Int32} {Q : Int32 → gM → Prop} (hF : F_X6_sends_X8 M a0 a1 x2 x3 Q) : gMt yX6_sends (ws_ yX6_sends cX6_sends 4 (some .boolean)) rm_X6_sends_X8 M [.ref a0, .ref a1, .int x2, .int x3] (gQi Q) := by
  refine gMet (bytes := cX6_sends) (maxL := 4) (ret := (some .boolean)) rfl rfl (by decide) (Nat.le_of_ble_eq_true rfl) (lv := [(0, .ref a0), (1, .ref a1), (2, .int x2), (3, .int x3)]) rfl (fun G hC hin => ?_)
  unfold F_X6_sends_X8 at hF
  refine g_aload_n 1 hC dX6_sends_0 rfl 1 rfl rfl ?_
  refine g_iload_n 2 hC dX6_sends_1 rfl 2 rfl rfl ?_
  refine g_cV (rest := []) wl_X6_13 hd_X12_space (ci := 12) rfl 5 hC hF.1 (met_X12_space hF.2) rfl ⟨Nat.le_of_ble_eq_true rfl, Nat.le_of_ble_eq_true rfl⟩ ⟨Nat.zero_le _, Nat.zero_le _⟩ rfl (Nat.le_of_ble_eq_true rfl) dX6_sends_2 rfl (g_ty_i 0 0 (Nat.le_refl _) (Nat.le_refl _) (fun x_2 M_1 hF => ?_))
  refine g_aload_n 6 hC dX6_sends_5 rfl 0 rfl rfl ?_
  refine gf_X6_7_8I 9 hC hF dX6_sends_6 rfl (fun x_3 hF => ?_)
  refine g_icmp_lt 12 16 hC dX6_sends_9 (by decide) rfl (fun c => ?_) (fun c => ?_)
  · have hF := hF.1 c
    refine g_iconst 17 hC (0 : Int32) dX6_sends_16 (by decide) rfl ?_
    exact g_zreturn hC ⟨_, rfl, hF⟩ (Or.inl rfl) dX6_sends_17 (Nat.zero_le _) (Nat.zero_le _)
  · have hF := hF.2 c
    refine g_iconst 13 hC (1 : Int32) dX6_sends_12 (by decide) rfl ?_
    refine g_goto 17 hC dX6_sends_13 (by decide) ?_
    exact g_zreturn hC ⟨_, rfl, hF⟩ (Or.inr rfl) dX6_sends_17 (Nat.zero_le _) (Nat.zero_le _)
abbrev rm_X7_sends : Room := { frames := 0, cells := 0, slots := 0, locals := 0 }
def F_X7_sends  (M : gM) (a0 : Nat) (a1 : Nat) (x2 : Int32) (x3 : Int32) (Q : Int32 → gM → Prop)  : Prop :=
  gI M 7 a0 0 fun x_1 =>
  dz x_1 <|
  ((¬ (x3 - x3 / x_1 * x_1) = 0 →
    Q (0 : Int32) M) ∧
    ((x3 - x3 / x_1 * x_1) = 0 →
    Q (1 : Int32) M))
theorem met_X7_sends {M : gM} {a0 : Nat} {a1 : Nat} {x2 : Int32} {x3 : Int32} {Q : Int32 → gM → Prop} (hF : F_X7_sends M a0 a1 x2 x3 Q) : gMt yX7_sends (ws_ yX7_sends cX7_sends 4 (some .boolean)) rm_X7_sends M [.ref a0, .ref a1, .int x2, .int x3] (gQi Q) := by
  refine gMet (bytes := cX7_sends) (maxL := 4) (ret := (some .boolean)) rfl rfl (by decide) (Nat.le_of_ble_eq_true rfl) (lv := [(0, .ref a0), (1, .ref a1), (2, .int x2), (3, .int x3)]) rfl (fun G hC hin => ?_)
  unfold F_X7_sends at hF
  refine g_iload_n 1 hC dX7_sends_0 rfl 3 rfl rfl ?_
  refine g_aload_n 2 hC dX7_sends_1 rfl 0 rfl rfl ?_
  refine gf_X7_7_7I 5 hC hF dX7_sends_2 rfl (fun x_1 hF => ?_)
  refine g_irem 6 hC hF.1 dX7_sends_5 rfl ?_
  have hF := hF.2
  refine g_if_ne 9 13 hC dX7_sends_6 (by decide) rfl (fun c => ?_) (fun c => ?_)
  · have hF := hF.1 c
    refine g_iconst 14 hC (0 : Int32) dX7_sends_13 (by decide) rfl ?_
    exact g_zreturn hC ⟨_, rfl, hF⟩ (Or.inl rfl) dX7_sends_14 (Nat.zero_le _) (Nat.zero_le _)
  · have hF := hF.2 c
    refine g_iconst 10 hC (1 : Int32) dX7_sends_9 (by decide) rfl ?_
    refine g_goto 14 hC dX7_sends_10 (by decide) ?_
    exact g_zreturn hC ⟨_, rfl, hF⟩ (Or.inr rfl) dX7_sends_14 (Nat.zero_le _) (Nat.zero_le _)
theorem hd_X6_sends : yX6_sends.cls = RX6 ∧ yX6_sends.cls ≠ "java/lang/invoke/MethodHandle" ∧ yX6_sends.cls ≠ "java/lang/invoke/VarHandle" ∧ (parseMethodDescriptor yX6_sends.desc).map (fun d => d.parameters.length) = some 3 := by decide +kernel
theorem wl_X8_21 : GoodIn lw_all (va_wsSU RX8 21 yX6_sends (ws_ yX6_sends cX6_sends 4 (some .boolean))) := lw_app (fun w hw => by
  simp only [List.mem_cons, List.not_mem_nil, or_false] at hw
  rcases hw with e | e | e | e | e
  · rw [e]; exact q1090
  · rw [e]; exact q1953
  · rw [e]; exact q464
  · rw [e]; exact q1091
  · rw [e]; exact q85) (lw_meth q1092)
theorem hs_X6_sends : yX6_sends.name ≠ "<init>" ∧ (parseMethodDescriptor yX6_sends.desc).map (fun d => d.parameters.length) = some 3 := by decide +kernel
theorem hd_X7_sends : yX7_sends.cls = RX7 ∧ yX7_sends.cls ≠ "java/lang/invoke/MethodHandle" ∧ yX7_sends.cls ≠ "java/lang/invoke/VarHandle" ∧ (parseMethodDescriptor yX7_sends.desc).map (fun d => d.parameters.length) = some 3 := by decide +kernel
theorem wl_X8_25 : GoodIn lw_all (wsV RX8 25 RX7 yX7_sends (ws_ yX7_sends cX7_sends 4 (some .boolean))) := lw_V q1094 q1095 q1096 q86 q1097
abbrev rm_X8_sends : Room := { frames := 3, cells := 0, slots := 0, locals := 67 }
def F_X8_sends  (M : gM) (a0 : Nat) (a1 : Nat) (x2 : Int32) (x3 : Int32) (Q : Int32 → gM → Prop)  : Prop :=
  rc M 8 a0 ∧ F_X6_sends_X8 M a0 a1 x2 x3 fun x_2 M_1 =>
  ((¬ x_2 = 0 →
    Q (1 : Int32) M_1) ∧
    (x_2 = 0 →
    gN M_1 8 a0 1 fun a_3 =>
    rc M_1 7 a_3 ∧ F_X7_sends M_1 a_3 a1 x2 x3 fun x_5 M_4 =>
    ((x_5 = 0 →
      Q (0 : Int32) M_4) ∧
      (¬ x_5 = 0 →
      Q (1 : Int32) M_4))))
theorem met_X8_sends {M : gM} {a0 : Nat} {a1 : Nat} {x2 : Int32} {x3 : Int32} {Q : Int32 → gM → Prop} (hF : F_X8_sends M a0 a1 x2 x3 Q) : gMt yX8_sends (ws_ yX8_sends cX8_sends 4 (some .boolean)) rm_X8_sends M [.ref a0, .ref a1, .int x2, .int x3] (gQi Q) := by
  refine gMet (bytes := cX8_sends) (maxL := 4) (ret := (some .boolean)) rfl rfl (by decide) (Nat.le_of_ble_eq_true rfl) (lv := [(0, .ref a0), (1, .ref a1), (2, .int x2), (3, .int x3)]) rfl (fun G hC hin => ?_)
  unfold F_X8_sends at hF
  refine g_aload_n 1 hC dX8_sends_0 rfl 0 rfl rfl ?_
  refine g_aload_n 2 hC dX8_sends_1 rfl 1 rfl rfl ?_
  refine g_iload_n 3 hC dX8_sends_2 rfl 2 rfl rfl ?_
  refine g_iload_n 4 hC dX8_sends_3 rfl 3 rfl rfl ?_
  refine g_cSU (rest := []) wl_X8_21 hs_X6_sends (ci := 8) rfl 7 hC hF.1 (met_X6_sends_X8 hF.2) rfl ⟨Nat.le_of_ble_eq_true rfl, Nat.le_of_ble_eq_true rfl⟩ ⟨Nat.zero_le _, Nat.zero_le _⟩ rfl (Nat.le_of_ble_eq_true rfl) dX8_sends_4 rfl (g_ty_i 0 0 (Nat.le_refl _) (Nat.le_refl _) (fun x_2 M_1 hF => ?_))
  refine g_if_ne 10 23 hC dX8_sends_7 (by decide) rfl (fun c => ?_) (fun c => ?_)
  · have hF := hF.1 c
    refine g_iconst 24 hC (1 : Int32) dX8_sends_23 (by decide) rfl ?_
    refine g_goto 28 hC dX8_sends_24 (by decide) ?_
    exact g_zreturn hC ⟨_, rfl, hF⟩ (Or.inr rfl) dX8_sends_28 (Nat.zero_le _) (Nat.zero_le _)
  · have hF := hF.2 c
    refine g_aload_n 11 hC dX8_sends_10 rfl 0 rfl rfl ?_
    refine gf_X8_10_8N 14 hC hF dX8_sends_11 rfl (fun a_3 hF => ?_)
    refine g_aload_n 15 hC dX8_sends_14 rfl 1 rfl rfl ?_
    refine g_iload_n 16 hC dX8_sends_15 rfl 2 rfl rfl ?_
    refine g_iload_n 17 hC dX8_sends_16 rfl 3 rfl rfl ?_
    refine g_cV (rest := []) wl_X8_25 hd_X7_sends (ci := 7) rfl 20 hC hF.1 (met_X7_sends hF.2) rfl ⟨Nat.le_of_ble_eq_true rfl, Nat.le_of_ble_eq_true rfl⟩ ⟨Nat.zero_le _, Nat.zero_le _⟩ rfl (Nat.le_of_ble_eq_true rfl) dX8_sends_17 rfl (g_ty_i 0 0 (Nat.le_refl _) (Nat.le_refl _) (fun x_5 M_4 hF => ?_))
    refine g_if_eq 23 27 hC dX8_sends_20 (by decide) rfl (fun c => ?_) (fun c => ?_)
    · have hF := hF.1 c
      refine g_iconst 28 hC (0 : Int32) dX8_sends_27 (by decide) rfl ?_
      exact g_zreturn hC ⟨_, rfl, hF⟩ (Or.inl rfl) dX8_sends_28 (Nat.zero_le _) (Nat.zero_le _)
    · have hF := hF.2 c
      refine g_iconst 24 hC (1 : Int32) dX8_sends_23 (by decide) rfl ?_
      refine g_goto 28 hC dX8_sends_24 (by decide) ?_
      exact g_zreturn hC ⟨_, rfl, hF⟩ (Or.inr rfl) dX8_sends_28 (Nat.zero_le _) (Nat.zero_le _)
theorem hd_X12_best : yX12_best.cls = RX12 ∧ yX12_best.cls ≠ "java/lang/invoke/MethodHandle" ∧ yX12_best.cls ≠ "java/lang/invoke/VarHandle" ∧ (parseMethodDescriptor yX12_best.desc).map (fun d => d.parameters.length) = some 2 := by decide +kernel
theorem wl_X9_7 : GoodIn lw_all (wsV RX9 7 RX12 yX12_best (ws_ yX12_best cX12_best 3 (some .int))) := lw_V q1075 q1049 q1050 q92 q1051
abbrev rm_X9_sends (Lc Ls : Nat) : Room := { frames := 7, cells := Lc, slots := Ls, locals := 158 }
def F_X9_sends (Lc Ls : Nat) (M : gM) (a0 : Nat) (a1 : Nat) (x2 : Int32) (x3 : Int32) (Q : Int32 → gM → Prop)  : Prop :=
  ∃ c_3 s_4, (0 + c_3 ≤ Lc ∧ 0 + s_4 ≤ Ls) ∧
  rc M 12 a1 ∧ F_X12_best c_3 s_4 M a1 x3 x2 fun x_2 M_1 =>
  ((x_2 = 0 →
    Q (0 : Int32) M_1) ∧
    (¬ x_2 = 0 →
    Q (1 : Int32) M_1))
theorem met_X9_sends {M : gM} {a0 : Nat} {a1 : Nat} {x2 : Int32} {x3 : Int32} {Q : Int32 → gM → Prop} {Lc Ls : Nat} (hF : F_X9_sends Lc Ls M a0 a1 x2 x3 Q) : gMt yX9_sends (ws_ yX9_sends cX9_sends 4 (some .boolean)) (rm_X9_sends Lc Ls) M [.ref a0, .ref a1, .int x2, .int x3] (gQi Q) := by
  refine gMet (bytes := cX9_sends) (maxL := 4) (ret := (some .boolean)) rfl rfl (by decide) (Nat.le_of_ble_eq_true rfl) (lv := [(0, .ref a0), (1, .ref a1), (2, .int x2), (3, .int x3)]) rfl (fun G hC hin => ?_)
  have hu : 0 ≤ Lc ∧ 0 ≤ Ls := ⟨Nat.zero_le _, Nat.zero_le _⟩
  unfold F_X9_sends at hF
  refine g_aload_n 1 hC dX9_sends_0 rfl 1 rfl rfl ?_
  refine g_iload_n 2 hC dX9_sends_1 rfl 3 rfl rfl ?_
  refine g_iload_n 3 hC dX9_sends_2 rfl 2 rfl rfl ?_
  obtain ⟨c_3, s_4, hu, hF⟩ := hF
  refine g_cV (rest := []) wl_X9_7 hd_X12_best (ci := 12) rfl 6 hC hF.1 (met_X12_best hF.2) rfl ⟨Nat.le_of_ble_eq_true rfl, Nat.le_of_ble_eq_true rfl⟩ hu rfl (Nat.le_of_ble_eq_true rfl) dX9_sends_3 rfl (g_ty_i (0 + c_3) (0 + s_4) (Nat.le_refl _) (Nat.le_refl _) (fun x_2 M_1 hF => ?_))
  refine g_if_eq 9 13 hC dX9_sends_6 (by decide) rfl (fun c => ?_) (fun c => ?_)
  · have hF := hF.1 c
    refine g_iconst 14 hC (0 : Int32) dX9_sends_13 (by decide) rfl ?_
    exact g_zreturn hC ⟨_, rfl, hF⟩ (Or.inl rfl) dX9_sends_14 hu.1 hu.2
  · have hF := hF.2 c
    refine g_iconst 10 hC (1 : Int32) dX9_sends_9 (by decide) rfl ?_
    refine g_goto 14 hC dX9_sends_10 (by decide) ?_
    exact g_zreturn hC ⟨_, rfl, hF⟩ (Or.inr rfl) dX9_sends_14 hu.1 hu.2
theorem gf_X10_7_10N {G : gG} {cc : ByteArray} {nL : Nat} {ret : Option FieldType} {Qf : Option Value → gM → Prop} {rm : Room} {cells slots : Nat} {M : gM} {lv : List (Nat × Value)} {pc : Nat} {st : List Value} {a : Nat} (n : Nat) (hC : gCx G cc nL RX10 ret Qf rm) {κ : Nat → Prop} (hF : gN M 10 a 0 κ) (hdg : decode cc pc = .ok (.getfield 7, 3)) (hn : pc + 3 = n) (kk : ∀ x, κ x → gAt G cells slots M lv n (.ref x :: st)) : gAt G cells slots M lv pc (.ref a :: st) :=
  g_getN (C := RX10) (T := TX10) (N := 2) in_X10 rfl (by decide) q506 (fun _ _ _ => rfl) n hC hF hdg hn kk
theorem hd_X0_elementOf : yX0_elementOf.cls ≠ "java/lang/invoke/MethodHandle" ∧ yX0_elementOf.cls ≠ "java/lang/invoke/VarHandle" ∧ (parseMethodDescriptor yX0_elementOf.desc).map (fun d => d.parameters.length) = some 2 := by decide +kernel
abbrev rm_X10_sends (Lc Ls : Nat) : Room := { frames := 9, cells := Lc, slots := Ls, locals := 10277 }
def F_X10_sends (Lc Ls : Nat) (M : gM) (a0 : Nat) (a1 : Nat) (x2 : Int32) (x3 : Int32) (Q : Int32 → gM → Prop)  : Prop :=
  gI M 10 a0 1 fun x_1 =>
  ((x_1 ≤ x2 →
    Q (0 : Int32) M) ∧
    (¬ x_1 ≤ x2 →
    gN M 10 a0 0 fun a_2 =>
    ∃ c_5 s_6, (0 + c_5 ≤ Lc ∧ 0 + s_6 ≤ Ls) ∧
    F_X0_elementOf c_5 s_6 M a_2 x2 (fun j_4 M_3 =>
    ((j_4 = (0 : Int64) →
        Q (0 : Int32) M_3) ∧
        (¬ j_4 = (0 : Int64) →
        Q (1 : Int32) M_3))) (fun E_ q_7 M_8 =>
      (E_ = "java/lang/ArrayIndexOutOfBoundsException" ∧
      False))))
theorem met_X10_sends {M : gM} {a0 : Nat} {a1 : Nat} {x2 : Int32} {x3 : Int32} {Q : Int32 → gM → Prop} {Lc Ls : Nat} (hF : F_X10_sends Lc Ls M a0 a1 x2 x3 Q) : gMt yX10_sends (ws_ yX10_sends cX10_sends 4 (some .boolean)) (rm_X10_sends Lc Ls) M [.ref a0, .ref a1, .int x2, .int x3] (gQi Q) := by
  refine gMet (bytes := cX10_sends) (maxL := 4) (ret := (some .boolean)) rfl rfl (by decide) (Nat.le_of_ble_eq_true rfl) (lv := [(0, .ref a0), (1, .ref a1), (2, .int x2), (3, .int x3)]) rfl (fun G hC hin => ?_)
  have hu : 0 ≤ Lc ∧ 0 ≤ Ls := ⟨Nat.zero_le _, Nat.zero_le _⟩
  unfold F_X10_sends at hF
  refine g_iload_n 1 hC dX10_sends_0 rfl 2 rfl rfl ?_
  refine g_aload_n 2 hC dX10_sends_1 rfl 0 rfl rfl ?_
  refine gf_X10_19_10I 5 hC hF dX10_sends_2 rfl (fun x_1 hF => ?_)
  refine g_icmp_ge 8 25 hC dX10_sends_5 (by decide) rfl (fun c => ?_) (fun c => ?_)
  · have hF := hF.1 c
    refine g_iconst 26 hC (0 : Int32) dX10_sends_25 (by decide) rfl ?_
    exact g_zreturn hC ⟨_, rfl, hF⟩ (Or.inl rfl) dX10_sends_26 hu.1 hu.2
  · have hF := hF.2 c
    refine g_aload_n 9 hC dX10_sends_8 rfl 0 rfl rfl ?_
    refine gf_X10_7_10N 12 hC hF dX10_sends_9 rfl (fun a_2 hF => ?_)
    refine g_iload_n 13 hC dX10_sends_12 rfl 2 rfl rfl ?_
    obtain ⟨c_5, s_6, hu, hF⟩ := hF
    refine g_xSN (rest := []) q1103 q394 q69 q393 hd_X0_elementOf 16 hC (met_X0_elementOf hF) rfl ⟨Nat.le_of_ble_eq_true rfl, Nat.le_of_ble_eq_true rfl⟩ hu rfl (Nat.le_of_ble_eq_true rfl) dX10_sends_13 rfl (g_ty_j (0 + c_5) (0 + s_6) (Nat.le_refl _) (Nat.le_refl _) (fun j_4 M_3 hF => ?_)) (g_tx (0 + c_5) (0 + s_6) (Nat.le_refl _) (Nat.le_refl _) (fun E_ q_7 M_8 hF => ?_))
    · have hF := hF
      refine g_lconst 17 hC (0 : Int64) dX10_sends_16 (by decide) rfl ?_
      refine g_lcmp_eq 21 25 hC dX10_sends_17 rfl dX10_sends_18 (by decide) rfl (fun c => ?_) (fun c => ?_)
      · have hF := hF.1 c
        refine g_iconst 26 hC (0 : Int32) dX10_sends_25 (by decide) rfl ?_
        exact g_zreturn hC ⟨_, rfl, hF⟩ (Or.inl rfl) dX10_sends_26 hu.1 hu.2
      · have hF := hF.2 c
        refine g_iconst 22 hC (1 : Int32) dX10_sends_21 (by decide) rfl ?_
        refine g_goto 26 hC dX10_sends_22 (by decide) ?_
        exact g_zreturn hC ⟨_, rfl, hF⟩ (Or.inr rfl) dX10_sends_26 hu.1 hu.2
    · have hF := hF
      obtain ⟨hE_, hF⟩ := hF
      rw [hE_]
      exact hF.elim
def FD_Rule_sends (c1 s1 : Nat) (M : gM) (a : Nat) (y0 : Nat) (y1 : Int32) (y2 : Int32) (κ : Int32 → gM → Prop) : Prop :=
  (rc M 6 a ∧ F_X6_sends M a y0 y1 y2 κ) ∨
  (rc M 7 a ∧ F_X7_sends M a y0 y1 y2 κ) ∨
  (rc M 8 a ∧ F_X8_sends M a y0 y1 y2 κ) ∨
  (rc M 9 a ∧ F_X9_sends c1 s1 M a y0 y1 y2 κ) ∨
  (rc M 10 a ∧ F_X10_sends c1 s1 M a y0 y1 y2 κ)
theorem wd_X5_7_X6 : GoodIn lw_all (va_wsU RX5 7 RX6 "SendTheBox$Rule" ⟨"SendTheBox$Rule", "sends", "(LSendTheBox$House;II)Z"⟩ yX6_sends (ws_ yX6_sends cX6_sends 4 (some .boolean))) := lw_app (fun w hw => by
  simp only [List.mem_cons, List.not_mem_nil, or_false] at hw
  rcases hw with e | e | e | e | e
  · rw [e]; exact q1081
  · rw [e]; exact q1083
  · rw [e]; exact q1099
  · rw [e]; exact q1091
  · rw [e]; exact q85) (lw_meth q1092)
theorem wd_X5_7_X7 : GoodIn lw_all (va_wsU RX5 7 RX7 "SendTheBox$Rule" ⟨"SendTheBox$Rule", "sends", "(LSendTheBox$House;II)Z"⟩ yX7_sends (ws_ yX7_sends cX7_sends 4 (some .boolean))) := lw_app (fun w hw => by
  simp only [List.mem_cons, List.not_mem_nil, or_false] at hw
  rcases hw with e | e | e | e | e
  · rw [e]; exact q1081
  · rw [e]; exact q1083
  · rw [e]; exact q1098
  · rw [e]; exact q1095
  · rw [e]; exact q86) (lw_meth q1097)
theorem wd_X5_7_X8 : GoodIn lw_all (va_wsU RX5 7 RX8 "SendTheBox$Rule" ⟨"SendTheBox$Rule", "sends", "(LSendTheBox$House;II)Z"⟩ yX8_sends (ws_ yX8_sends cX8_sends 4 (some .boolean))) := lw_app (fun w hw => by
  simp only [List.mem_cons, List.not_mem_nil, or_false] at hw
  rcases hw with e | e | e | e | e
  · rw [e]; exact q1081
  · rw [e]; exact q1083
  · rw [e]; exact q1087
  · rw [e]; exact q1088
  · rw [e]; exact q87) (lw_meth q1089)
theorem wd_X5_7_X9 : GoodIn lw_all (va_wsU RX5 7 RX9 "SendTheBox$Rule" ⟨"SendTheBox$Rule", "sends", "(LSendTheBox$House;II)Z"⟩ yX9_sends (ws_ yX9_sends cX9_sends 4 (some .boolean))) := lw_app (fun w hw => by
  simp only [List.mem_cons, List.not_mem_nil, or_false] at hw
  rcases hw with e | e | e | e | e
  · rw [e]; exact q1081
  · rw [e]; exact q1083
  · rw [e]; exact q1084
  · rw [e]; exact q1085
  · rw [e]; exact q88) (lw_meth q1086)
theorem wd_X5_7_X10 : GoodIn lw_all (va_wsU RX5 7 RX10 "SendTheBox$Rule" ⟨"SendTheBox$Rule", "sends", "(LSendTheBox$House;II)Z"⟩ yX10_sends (ws_ yX10_sends cX10_sends 4 (some .boolean))) := lw_app (fun w hw => by
  simp only [List.mem_cons, List.not_mem_nil, or_false] at hw
  rcases hw with e | e | e | e | e
  · rw [e]; exact q1081
  · rw [e]; exact q1083
  · rw [e]; exact q1100
  · rw [e]; exact q1101
  · rw [e]; exact q89) (lw_meth q1102)
theorem hx_X5_7 : "SendTheBox$Rule" ≠ "java/lang/invoke/MethodHandle" ∧ "SendTheBox$Rule" ≠ "java/lang/invoke/VarHandle" ∧ (parseMethodDescriptor "(LSendTheBox$House;II)Z").map (fun d => d.parameters.length) = some 3 := by decide +kernel
theorem gd_X5_7 {G : gG} {cc : ByteArray} {nL : Nat} {ret : Option FieldType} {Qf : Option Value → gM → Prop} {rm : Room} {cells slots : Nat} {M : gM} {lv : List (Nat × Value)} {pc : Nat} {a : Nat} {y0 : Nat} {y1 : Int32} {y2 : Int32} {st0 : List Value} {c1 s1 : Nat} {κ : Int32 → gM → Prop} (rest : List Value) (n : Nat) (hC : gCx G cc nL RX5 ret Qf rm) (hF : FD_Rule_sends c1 s1 M a y0 y1 y2 κ) (hR : 10 ≤ rm.frames ∧ 10300 ≤ rm.locals) (hf : cells + c1 ≤ rm.cells ∧ slots + s1 ≤ rm.slots) (hst : st0 = ([.ref y0, .int y1, .int y2] : List Value).reverse ++ .ref a :: rest) (hroom : (rest.map fun v => v.category).sum ≤ 8) (hdg : decode cc pc = .ok (.invokevirtual 7, 3)) (hn : pc + 3 = n) (kk : ∀ r M1, κ r M1 → gAt G (cells + c1) (slots + s1) M1 lv n (.int r :: rest)) : gAt G cells slots M lv pc st0 := by
  rcases hF with hF | hF | hF | hF | hF
  · exact g_cA (x := ⟨"SendTheBox$Rule", "sends", "(LSendTheBox$House;II)Z"⟩) wd_X5_7_X6 q1082 hx_X5_7 (ci := 6) rfl n hC hF.1 (met_X6_sends hF.2) rfl ⟨Nat.le_trans (Nat.le_of_ble_eq_true rfl) hR.1, Nat.le_trans (Nat.le_of_ble_eq_true rfl) hR.2⟩ ⟨Nat.le_trans (Nat.le_add_right _ _) hf.1, Nat.le_trans (Nat.le_add_right _ _) hf.2⟩ hst hroom hdg hn (g_ty_i (cells + c1) (slots + s1) (Nat.le_add_right _ _) (Nat.le_add_right _ _) kk)
  · exact g_cA (x := ⟨"SendTheBox$Rule", "sends", "(LSendTheBox$House;II)Z"⟩) wd_X5_7_X7 q1082 hx_X5_7 (ci := 7) rfl n hC hF.1 (met_X7_sends hF.2) rfl ⟨Nat.le_trans (Nat.le_of_ble_eq_true rfl) hR.1, Nat.le_trans (Nat.le_of_ble_eq_true rfl) hR.2⟩ ⟨Nat.le_trans (Nat.le_add_right _ _) hf.1, Nat.le_trans (Nat.le_add_right _ _) hf.2⟩ hst hroom hdg hn (g_ty_i (cells + c1) (slots + s1) (Nat.le_add_right _ _) (Nat.le_add_right _ _) kk)
  · exact g_cA (x := ⟨"SendTheBox$Rule", "sends", "(LSendTheBox$House;II)Z"⟩) wd_X5_7_X8 q1082 hx_X5_7 (ci := 8) rfl n hC hF.1 (met_X8_sends hF.2) rfl ⟨Nat.le_trans (Nat.le_of_ble_eq_true rfl) hR.1, Nat.le_trans (Nat.le_of_ble_eq_true rfl) hR.2⟩ ⟨Nat.le_trans (Nat.le_add_right _ _) hf.1, Nat.le_trans (Nat.le_add_right _ _) hf.2⟩ hst hroom hdg hn (g_ty_i (cells + c1) (slots + s1) (Nat.le_add_right _ _) (Nat.le_add_right _ _) kk)
  · exact g_cA (x := ⟨"SendTheBox$Rule", "sends", "(LSendTheBox$House;II)Z"⟩) wd_X5_7_X9 q1082 hx_X5_7 (ci := 9) rfl n hC hF.1 (met_X9_sends hF.2) rfl ⟨Nat.le_trans (Nat.le_of_ble_eq_true rfl) hR.1, Nat.le_trans (Nat.le_of_ble_eq_true rfl) hR.2⟩ hf hst hroom hdg hn (g_ty_i (cells + c1) (slots + s1) (Nat.le_refl _) (Nat.le_refl _) kk)
  · exact g_cA (x := ⟨"SendTheBox$Rule", "sends", "(LSendTheBox$House;II)Z"⟩) wd_X5_7_X10 q1082 hx_X5_7 (ci := 10) rfl n hC hF.1 (met_X10_sends hF.2) rfl ⟨Nat.le_trans (Nat.le_of_ble_eq_true rfl) hR.1, Nat.le_trans (Nat.le_of_ble_eq_true rfl) hR.2⟩ hf hst hroom hdg hn (g_ty_i (cells + c1) (slots + s1) (Nat.le_refl _) (Nat.le_refl _) kk)
theorem hd_X12_fill : yX12_fill.cls = RX12 ∧ yX12_fill.cls ≠ "java/lang/invoke/MethodHandle" ∧ yX12_fill.cls ≠ "java/lang/invoke/VarHandle" ∧ (parseMethodDescriptor yX12_fill.desc).map (fun d => d.parameters.length) = some 1 := by decide +kernel
theorem wl_X5_13 : GoodIn lw_all (wsV RX5 13 RX12 yX12_fill (ws_ yX12_fill cX12_fill 8 (some .int))) := lw_V q1104 q1057 q1058 q92 q1059
abbrev rm_X5_load (Lc Ls : Nat) : Room := { frames := 10, cells := Lc, slots := Ls, locals := 10300 }
def F_X5_load (Lc Ls : Nat) (M : gM) (a0 : Nat) (a1 : Nat) (x2 : Int32) (x3 : Int32) (Q : Int32 → gM → Prop)  : Prop :=
  ∃ c_3 s_4, (0 + c_3 ≤ Lc ∧ 0 + s_4 ≤ Ls) ∧
  FD_Rule_sends c_3 s_4 M a0 a1 x2 x3 fun x_2 M_1 =>
  ((x_2 = 0 →
    Q (0 : Int32) M_1) ∧
    (¬ x_2 = 0 →
    rc M_1 12 a1 ∧ F_X12_fill M_1 a1 x2 fun x_6 M_5 =>
    Q x_6 M_5))
theorem met_X5_load {M : gM} {a0 : Nat} {a1 : Nat} {x2 : Int32} {x3 : Int32} {Q : Int32 → gM → Prop} {Lc Ls : Nat} (hF : F_X5_load Lc Ls M a0 a1 x2 x3 Q) : gMt yX5_load (ws_ yX5_load cX5_load 4 (some .int)) (rm_X5_load Lc Ls) M [.ref a0, .ref a1, .int x2, .int x3] (gQi Q) := by
  refine gMet (bytes := cX5_load) (maxL := 4) (ret := (some .int)) rfl rfl (by decide) (Nat.le_of_ble_eq_true rfl) (lv := [(0, .ref a0), (1, .ref a1), (2, .int x2), (3, .int x3)]) rfl (fun G hC hin => ?_)
  have hu : 0 ≤ Lc ∧ 0 ≤ Ls := ⟨Nat.zero_le _, Nat.zero_le _⟩
  unfold F_X5_load at hF
  refine g_aload_n 1 hC dX5_load_0 rfl 0 rfl rfl ?_
  refine g_aload_n 2 hC dX5_load_1 rfl 1 rfl rfl ?_
  refine g_iload_n 3 hC dX5_load_2 rfl 2 rfl rfl ?_
  refine g_iload_n 4 hC dX5_load_3 rfl 3 rfl rfl ?_
  obtain ⟨c_3, s_4, hu, hF⟩ := hF
  refine gd_X5_7 [] 7 hC hF ⟨Nat.le_of_ble_eq_true rfl, Nat.le_of_ble_eq_true rfl⟩ hu rfl (Nat.le_of_ble_eq_true rfl) dX5_load_4 rfl (fun x_2 M_1 hF => ?_)
  refine g_if_eq 10 18 hC dX5_load_7 (by decide) rfl (fun c => ?_) (fun c => ?_)
  · have hF := hF.1 c
    refine g_iconst 19 hC (0 : Int32) dX5_load_18 (by decide) rfl ?_
    exact g_ireturn hC ⟨_, rfl, hF⟩ dX5_load_19 hu.1 hu.2
  · have hF := hF.2 c
    refine g_aload_n 11 hC dX5_load_10 rfl 1 rfl rfl ?_
    refine g_iload_n 12 hC dX5_load_11 rfl 2 rfl rfl ?_
    refine g_cV (rest := []) wl_X5_13 hd_X12_fill (ci := 12) rfl 15 hC hF.1 (met_X12_fill hF.2) rfl ⟨Nat.le_of_ble_eq_true rfl, Nat.le_of_ble_eq_true rfl⟩ hu rfl (Nat.le_of_ble_eq_true rfl) dX5_load_12 rfl (g_ty_i (0 + c_3) (0 + s_4) (Nat.le_refl _) (Nat.le_refl _) (fun x_6 M_5 hF => ?_))
    refine g_goto 19 hC dX5_load_15 (by decide) ?_
    exact g_ireturn hC ⟨_, rfl, hF⟩ dX5_load_19 hu.1 hu.2
abbrev rm_X9_load (Lc Ls : Nat) : Room := { frames := 7, cells := Lc, slots := Ls, locals := 158 }
def F_X9_load (Lc Ls : Nat) (M : gM) (a0 : Nat) (a1 : Nat) (x2 : Int32) (x3 : Int32) (Q : Int32 → gM → Prop)  : Prop :=
  ∃ c_3 s_4, (0 + c_3 ≤ Lc ∧ 0 + s_4 ≤ Ls) ∧
  rc M 12 a1 ∧ F_X12_best c_3 s_4 M a1 x3 x2 fun x_2 M_1 =>
  Q x_2 M_1
theorem met_X9_load {M : gM} {a0 : Nat} {a1 : Nat} {x2 : Int32} {x3 : Int32} {Q : Int32 → gM → Prop} {Lc Ls : Nat} (hF : F_X9_load Lc Ls M a0 a1 x2 x3 Q) : gMt yX9_load (ws_ yX9_load cX9_load 4 (some .int)) (rm_X9_load Lc Ls) M [.ref a0, .ref a1, .int x2, .int x3] (gQi Q) := by
  refine gMet (bytes := cX9_load) (maxL := 4) (ret := (some .int)) rfl rfl (by decide) (Nat.le_of_ble_eq_true rfl) (lv := [(0, .ref a0), (1, .ref a1), (2, .int x2), (3, .int x3)]) rfl (fun G hC hin => ?_)
  have hu : 0 ≤ Lc ∧ 0 ≤ Ls := ⟨Nat.zero_le _, Nat.zero_le _⟩
  unfold F_X9_load at hF
  refine g_aload_n 1 hC dX9_load_0 rfl 1 rfl rfl ?_
  refine g_iload_n 2 hC dX9_load_1 rfl 3 rfl rfl ?_
  refine g_iload_n 3 hC dX9_load_2 rfl 2 rfl rfl ?_
  obtain ⟨c_3, s_4, hu, hF⟩ := hF
  refine g_cV (rest := []) wl_X9_7 hd_X12_best (ci := 12) rfl 6 hC hF.1 (met_X12_best hF.2) rfl ⟨Nat.le_of_ble_eq_true rfl, Nat.le_of_ble_eq_true rfl⟩ hu rfl (Nat.le_of_ble_eq_true rfl) dX9_load_3 rfl (g_ty_i (0 + c_3) (0 + s_4) (Nat.le_refl _) (Nat.le_refl _) (fun x_2 M_1 hF => ?_))
  exact g_ireturn hC ⟨_, rfl, hF⟩ dX9_load_6 hu.1 hu.2
def FD_Chooser_load (c1 s1 : Nat) (M : gM) (a : Nat) (y0 : Nat) (y1 : Int32) (y2 : Int32) (κ : Int32 → gM → Prop) : Prop :=
  (rc M 6 a ∧ F_X5_load c1 s1 M a y0 y1 y2 κ) ∨
  (rc M 7 a ∧ F_X5_load c1 s1 M a y0 y1 y2 κ) ∨
  (rc M 8 a ∧ F_X5_load c1 s1 M a y0 y1 y2 κ) ∨
  (rc M 9 a ∧ F_X9_load c1 s1 M a y0 y1 y2 κ) ∨
  (rc M 10 a ∧ F_X5_load c1 s1 M a y0 y1 y2 κ)
theorem wd_X12_150_X6 : GoodIn lw_all (va_wsF RX12 150 RX6 ⟨"SendTheBox$Chooser", "load", "(LSendTheBox$House;II)I"⟩ yX5_load (ws_ yX5_load cX5_load 4 (some .int))) := lw_app (fun w hw => by
  simp only [List.mem_cons, List.not_mem_nil, or_false] at hw
  rcases hw with e | e | e | e
  · rw [e]; exact q1118
  · rw [e]; exact q1133
  · rw [e]; exact q1070
  · rw [e]; exact q84) (lw_meth q1080)
theorem wd_X12_150_X7 : GoodIn lw_all (va_wsF RX12 150 RX7 ⟨"SendTheBox$Chooser", "load", "(LSendTheBox$House;II)I"⟩ yX5_load (ws_ yX5_load cX5_load 4 (some .int))) := lw_app (fun w hw => by
  simp only [List.mem_cons, List.not_mem_nil, or_false] at hw
  rcases hw with e | e | e | e
  · rw [e]; exact q1118
  · rw [e]; exact q1130
  · rw [e]; exact q1070
  · rw [e]; exact q84) (lw_meth q1080)
theorem wd_X12_150_X8 : GoodIn lw_all (va_wsF RX12 150 RX8 ⟨"SendTheBox$Chooser", "load", "(LSendTheBox$House;II)I"⟩ yX5_load (ws_ yX5_load cX5_load 4 (some .int))) := lw_app (fun w hw => by
  simp only [List.mem_cons, List.not_mem_nil, or_false] at hw
  rcases hw with e | e | e | e
  · rw [e]; exact q1118
  · rw [e]; exact q1126
  · rw [e]; exact q1070
  · rw [e]; exact q84) (lw_meth q1080)
theorem wd_X12_150_X9 : GoodIn lw_all (va_wsF RX12 150 RX9 ⟨"SendTheBox$Chooser", "load", "(LSendTheBox$House;II)I"⟩ yX9_load (ws_ yX9_load cX9_load 4 (some .int))) := lw_app (fun w hw => by
  simp only [List.mem_cons, List.not_mem_nil, or_false] at hw
  rcases hw with e | e | e | e
  · rw [e]; exact q1118
  · rw [e]; exact q1122
  · rw [e]; exact q1073
  · rw [e]; exact q88) (lw_meth q1074)
theorem wd_X12_150_X10 : GoodIn lw_all (va_wsF RX12 150 RX10 ⟨"SendTheBox$Chooser", "load", "(LSendTheBox$House;II)I"⟩ yX5_load (ws_ yX5_load cX5_load 4 (some .int))) := lw_app (fun w hw => by
  simp only [List.mem_cons, List.not_mem_nil, or_false] at hw
  rcases hw with e | e | e | e
  · rw [e]; exact q1118
  · rw [e]; exact q1136
  · rw [e]; exact q1070
  · rw [e]; exact q84) (lw_meth q1080)
theorem hx_X12_150 : "SendTheBox$Chooser" ≠ "java/lang/invoke/MethodHandle" ∧ "SendTheBox$Chooser" ≠ "java/lang/invoke/VarHandle" ∧ (parseMethodDescriptor "(LSendTheBox$House;II)I").map (fun d => d.parameters.length) = some 3 := by decide +kernel
theorem gd_X12_150 {G : gG} {cc : ByteArray} {nL : Nat} {ret : Option FieldType} {Qf : Option Value → gM → Prop} {rm : Room} {cells slots : Nat} {M : gM} {lv : List (Nat × Value)} {pc : Nat} {a : Nat} {y0 : Nat} {y1 : Int32} {y2 : Int32} {st0 : List Value} {c1 s1 : Nat} {κ : Int32 → gM → Prop} (rest : List Value) (n : Nat) (hC : gCx G cc nL RX12 ret Qf rm) (hF : FD_Chooser_load c1 s1 M a y0 y1 y2 κ) (hR : 11 ≤ rm.frames ∧ 10323 ≤ rm.locals) (hf : cells + c1 ≤ rm.cells ∧ slots + s1 ≤ rm.slots) (hst : st0 = ([.ref y0, .int y1, .int y2] : List Value).reverse ++ .ref a :: rest) (hroom : (rest.map fun v => v.category).sum ≤ 8) (hdg : decode cc pc = .ok (.invokeinterface 150 4, 5)) (hn : pc + 5 = n) (kk : ∀ r M1, κ r M1 → gAt G (cells + c1) (slots + s1) M1 lv n (.int r :: rest)) : gAt G cells slots M lv pc st0 := by
  rcases hF with hF | hF | hF | hF | hF
  · exact g_cF (x := ⟨"SendTheBox$Chooser", "load", "(LSendTheBox$House;II)I"⟩) wd_X12_150_X6 q1120 q1119 q1128 q1134 q1132 hx_X12_150 (ci := 6) rfl n hC hF.1 (met_X5_load hF.2) rfl ⟨Nat.le_trans (Nat.le_of_ble_eq_true rfl) hR.1, Nat.le_trans (Nat.le_of_ble_eq_true rfl) hR.2⟩ hf hst hroom hdg hn (g_ty_i (cells + c1) (slots + s1) (Nat.le_refl _) (Nat.le_refl _) kk)
  · exact g_cF (x := ⟨"SendTheBox$Chooser", "load", "(LSendTheBox$House;II)I"⟩) wd_X12_150_X7 q1120 q1119 q1128 q1131 q1129 hx_X12_150 (ci := 7) rfl n hC hF.1 (met_X5_load hF.2) rfl ⟨Nat.le_trans (Nat.le_of_ble_eq_true rfl) hR.1, Nat.le_trans (Nat.le_of_ble_eq_true rfl) hR.2⟩ hf hst hroom hdg hn (g_ty_i (cells + c1) (slots + s1) (Nat.le_refl _) (Nat.le_refl _) kk)
  · exact g_cF (x := ⟨"SendTheBox$Chooser", "load", "(LSendTheBox$House;II)I"⟩) wd_X12_150_X8 q1120 q1119 q1128 q1127 q1125 hx_X12_150 (ci := 8) rfl n hC hF.1 (met_X5_load hF.2) rfl ⟨Nat.le_trans (Nat.le_of_ble_eq_true rfl) hR.1, Nat.le_trans (Nat.le_of_ble_eq_true rfl) hR.2⟩ hf hst hroom hdg hn (g_ty_i (cells + c1) (slots + s1) (Nat.le_refl _) (Nat.le_refl _) kk)
  · exact g_cF (x := ⟨"SendTheBox$Chooser", "load", "(LSendTheBox$House;II)I"⟩) wd_X12_150_X9 q1120 q1119 q1124 q1123 q1121 hx_X12_150 (ci := 9) rfl n hC hF.1 (met_X9_load hF.2) rfl ⟨Nat.le_trans (Nat.le_of_ble_eq_true rfl) hR.1, Nat.le_trans (Nat.le_of_ble_eq_true rfl) hR.2⟩ hf hst hroom hdg hn (g_ty_i (cells + c1) (slots + s1) (Nat.le_refl _) (Nat.le_refl _) kk)
  · exact g_cF (x := ⟨"SendTheBox$Chooser", "load", "(LSendTheBox$House;II)I"⟩) wd_X12_150_X10 q1120 q1119 q1128 q1137 q1135 hx_X12_150 (ci := 10) rfl n hC hF.1 (met_X5_load hF.2) rfl ⟨Nat.le_trans (Nat.le_of_ble_eq_true rfl) hR.1, Nat.le_trans (Nat.le_of_ble_eq_true rfl) hR.2⟩ hf hst hroom hdg hn (g_ty_i (cells + c1) (slots + s1) (Nat.le_refl _) (Nat.le_refl _) kk)
abbrev rm_X12_mean (Lc Ls : Nat) : Room := { frames := 11, cells := Lc, slots := Ls, locals := 10323 }
def F_X12_mean_b52 (Q : Int64 → gM → Prop)  (Lc Ls : Nat) (K43 : Int32 → Nat → Nat → gM → Prop) (a0 : Nat) (a1 : Nat) (x2 : Int32) (x3 : Int32) (a4 : Nat) (x5 : Int32) : Nat → Int32 → Nat → Nat → gM → Prop
  | 0, _, _, _, _ => False
  | n + 1, x6, u, v, M =>
    rc M 12 a0 ∧ F_X12_states M a0 fun x_2 M_1 =>
    ((x_2 ≤ x6 →
      K43 (x5 + (1 : Int32)) u v M_1) ∧
      (¬ x_2 ≤ x6 →
      ∃ c_5 s_6, (u + c_5 ≤ Lc ∧ v + s_6 ≤ Ls) ∧
      FD_Chooser_load c_5 s_6 M_1 a1 a0 x6 x5 fun x_4 M_3 =>
      rc M_3 12 a0 ∧ F_X12_sending M_3 a0 x6 x_4 x5 a4 fun j_8 M_7 =>
      uJ M_7 a4 (((125 : Int32) * x5) + x6) j_8 fun M_9 =>
      (F_X12_mean_b52 Q Lc Ls K43 a0 a1 x2 x3 a4 x5 n) (x6 + (1 : Int32)) (u + c_5) (v + s_6) M_9))
theorem w_X12_mean_b52 {G : gG} {Q : Int64 → gM → Prop} {Lc Ls : Nat} (hC : gCx G cX12_mean 7 RX12 (some .long) (gQj Q) (rm_X12_mean Lc Ls)) (K43 : Int32 → Nat → Nat → gM → Prop) (a0 : Nat) (a1 : Nat) (x2 : Int32) (x3 : Int32) (a4 : Nat) (x5 : Int32) (hK43 : ∀ x5' u' v' (_ : u' ≤ Lc ∧ v' ≤ Ls) M', K43 x5' u' v' M' → gAt G u' v' M' [(0, .ref a0), (1, .ref a1), (2, .int x2), (3, .int x3), (4, .ref a4), (5, .int x5')] 43 []) : ∀ (n : Nat) (x6 : Int32) (u v : Nat) (hu : u ≤ Lc ∧ v ≤ Ls) (M : gM), F_X12_mean_b52 Q Lc Ls K43 a0 a1 x2 x3 a4 x5 n x6 u v M → gAt G u v M [(0, .ref a0), (1, .ref a1), (2, .int x2), (3, .int x3), (4, .ref a4), (5, .int x5), (6, .int x6)] 52 [] := by
  intro n
  induction n with
  | zero =>
    intro x6 u v hu M hF
    exact hF.elim
  | succ n ih =>
    intro x6 u v hu M hF
    have hK52 := ih
    unfold F_X12_mean_b52 at hF
    refine g_iload 54 hC dX12_mean_52 rfl 6 rfl ?_
    refine g_aload_n 55 hC dX12_mean_54 rfl 0 rfl rfl ?_
    refine g_cV (rest := [_]) wl_X12_117 hd_X12_states (ci := 12) rfl 58 hC hF.1 (met_X12_states hF.2) rfl ⟨Nat.le_of_ble_eq_true rfl, Nat.le_of_ble_eq_true rfl⟩ hu rfl (Nat.le_of_ble_eq_true rfl) dX12_mean_55 rfl (g_ty_i u v (Nat.le_refl _) (Nat.le_refl _) (fun x_2 M_1 hF => ?_))
    refine g_icmp_ge 61 99 hC dX12_mean_58 (by decide) rfl (fun c => ?_) (fun c => ?_)
    · have hF := hF.1 c
      refine g_iinc 102 hC (x5 + (1 : Int32)) (lv' := [(5, .int _), (0, .ref _), (1, .ref _), (2, .int _), (3, .int _), (4, .ref _), (6, .int _)]) dX12_mean_99 rfl 5 rfl rfl (by decide) rfl ?_
      refine g_goto 43 hC dX12_mean_102 (by decide) ?_
      refine g_sub [1, 2, 3, 4, 5, 0] rfl ?_
      exact hK43 _ _ _ hu _ hF
    · have hF := hF.2 c
      refine g_aload 63 hC dX12_mean_61 rfl 4 rfl ?_
      refine g_bipush 65 hC (125 : Int32) dX12_mean_63 (by decide) rfl ?_
      refine g_iload 67 hC dX12_mean_65 rfl 5 rfl ?_
      refine g_imul 68 hC dX12_mean_67 rfl ?_
      refine g_iload 70 hC dX12_mean_68 rfl 6 rfl ?_
      refine g_iadd 71 hC dX12_mean_70 rfl ?_
      refine g_aload_n 72 hC dX12_mean_71 rfl 0 rfl rfl ?_
      refine g_iload 74 hC dX12_mean_72 rfl 6 rfl ?_
      refine g_aload_n 75 hC dX12_mean_74 rfl 1 rfl rfl ?_
      refine g_aload_n 76 hC dX12_mean_75 rfl 0 rfl rfl ?_
      refine g_iload 78 hC dX12_mean_76 rfl 6 rfl ?_
      refine g_iload 80 hC dX12_mean_78 rfl 5 rfl ?_
      obtain ⟨c_5, s_6, hu, hF⟩ := hF
      refine gd_X12_150 [_, _, _, _] 85 hC hF ⟨Nat.le_of_ble_eq_true rfl, Nat.le_of_ble_eq_true rfl⟩ hu rfl (Nat.le_of_ble_eq_true rfl) dX12_mean_80 rfl (fun x_4 M_3 hF => ?_)
      refine g_iload 87 hC dX12_mean_85 rfl 5 rfl ?_
      refine g_aload 89 hC dX12_mean_87 rfl 4 rfl ?_
      refine g_cV (rest := [_, _]) wl_X12_141 hd_X12_sending (ci := 12) rfl 92 hC hF.1 (met_X12_sending hF.2) rfl ⟨Nat.le_of_ble_eq_true rfl, Nat.le_of_ble_eq_true rfl⟩ hu rfl (Nat.le_of_ble_eq_true rfl) dX12_mean_89 rfl (g_ty_j (u + c_5) (v + s_6) (Nat.le_refl _) (Nat.le_refl _) (fun j_8 M_7 hF => ?_))
      refine g_last 93 hC hF dX12_mean_92 rfl (fun M_9 hF => ?_)
      refine g_iinc 96 hC (x6 + (1 : Int32)) (lv' := [(6, .int _), (0, .ref _), (1, .ref _), (2, .int _), (3, .int _), (4, .ref _), (5, .int _)]) dX12_mean_93 rfl 6 rfl rfl (by decide) rfl ?_
      refine g_goto 52 hC dX12_mean_96 (by decide) ?_
      refine g_sub [1, 2, 3, 4, 5, 6, 0] rfl ?_
      exact hK52 _ _ _ hu _ hF
def F_X12_mean_b43 (Q : Int64 → gM → Prop)  (Lc Ls : Nat)  (a0 : Nat) (a1 : Nat) (x2 : Int32) (x3 : Int32) (a4 : Nat) : Nat → Int32 → Nat → Nat → gM → Prop
  | 0, _, _, _, _ => False
  | n + 1, x5, u, v, M =>
    ((x2 < x5 →
      aJ M a4 (((125 : Int32) * x2) + x3) fun j_1 =>
      Q j_1 M) ∧
      (¬ x2 < x5 →
      ∃ n_2, F_X12_mean_b52 Q Lc Ls (F_X12_mean_b43 Q Lc Ls a0 a1 x2 x3 a4 n) a0 a1 x2 x3 a4 x5 n_2 (0 : Int32) u v M))
theorem w_X12_mean_b43 {G : gG} {Q : Int64 → gM → Prop} {Lc Ls : Nat} (hC : gCx G cX12_mean 7 RX12 (some .long) (gQj Q) (rm_X12_mean Lc Ls))  (a0 : Nat) (a1 : Nat) (x2 : Int32) (x3 : Int32) (a4 : Nat)  : ∀ (n : Nat) (x5 : Int32) (u v : Nat) (hu : u ≤ Lc ∧ v ≤ Ls) (M : gM), F_X12_mean_b43 Q Lc Ls a0 a1 x2 x3 a4 n x5 u v M → gAt G u v M [(0, .ref a0), (1, .ref a1), (2, .int x2), (3, .int x3), (4, .ref a4), (5, .int x5)] 43 [] := by
  intro n
  induction n with
  | zero =>
    intro x5 u v hu M hF
    exact hF.elim
  | succ n ih =>
    intro x5 u v hu M hF
    have hK43 := ih
    unfold F_X12_mean_b43 at hF
    refine g_iload 45 hC dX12_mean_43 rfl 5 rfl ?_
    refine g_iload_n 46 hC dX12_mean_45 rfl 2 rfl rfl ?_
    refine g_icmp_gt 49 105 hC dX12_mean_46 (by decide) rfl (fun c => ?_) (fun c => ?_)
    · have hF := hF.1 c
      refine g_aload 107 hC dX12_mean_105 rfl 4 rfl ?_
      refine g_bipush 109 hC (125 : Int32) dX12_mean_107 (by decide) rfl ?_
      refine g_iload_n 110 hC dX12_mean_109 rfl 2 rfl rfl ?_
      refine g_imul 111 hC dX12_mean_110 rfl ?_
      refine g_iload_n 112 hC dX12_mean_111 rfl 3 rfl rfl ?_
      refine g_iadd 113 hC dX12_mean_112 rfl ?_
      refine g_lald 114 hC hF dX12_mean_113 rfl (fun j_1 hF => ?_)
      exact g_lreturn hC ⟨_, rfl, hF⟩ dX12_mean_114 hu.1 hu.2
    · have hF := hF.2 c
      refine g_iconst 50 hC (0 : Int32) dX12_mean_49 (by decide) rfl ?_
      refine g_istore 52 hC (lv' := [(6, .int _), (0, .ref _), (1, .ref _), (2, .int _), (3, .int _), (4, .ref _), (5, .int _)]) dX12_mean_50 rfl (by decide) rfl ?_
      refine g_sub [1, 2, 3, 4, 5, 6, 0] rfl ?_
      obtain ⟨n_2, hF⟩ := hF
      exact w_X12_mean_b52 hC _ _ _ _ _ _ _ hK43 n_2 _ _ _ hu _ hF
def F_X12_mean_b13 (Q : Int64 → gM → Prop)  (Lc Ls : Nat)  (a0 : Nat) (a1 : Nat) (x2 : Int32) (x3 : Int32) (a4 : Nat) : Nat → Int32 → Nat → Nat → gM → Prop
  | 0, _, _, _, _ => False
  | n + 1, x5, u, v, M =>
    rc M 12 a0 ∧ F_X12_states M a0 fun x_2 M_1 =>
    ((x_2 ≤ x5 →
      ∃ n_3, F_X12_mean_b43 Q Lc Ls a0 a1 x2 x3 a4 n_3 (1 : Int32) u v M_1) ∧
      (¬ x_2 ≤ x5 →
      rc M_1 12 a0 ∧ F_X12_leaving M_1 a0 x5 fun x_5 M_4 =>
      uJ M_4 a4 x5 x_5.toInt64 fun M_6 =>
      (F_X12_mean_b13 Q Lc Ls a0 a1 x2 x3 a4 n) (x5 + (1 : Int32)) u v M_6))
theorem w_X12_mean_b13 {G : gG} {Q : Int64 → gM → Prop} {Lc Ls : Nat} (hC : gCx G cX12_mean 7 RX12 (some .long) (gQj Q) (rm_X12_mean Lc Ls))  (a0 : Nat) (a1 : Nat) (x2 : Int32) (x3 : Int32) (a4 : Nat)  : ∀ (n : Nat) (x5 : Int32) (u v : Nat) (hu : u ≤ Lc ∧ v ≤ Ls) (M : gM), F_X12_mean_b13 Q Lc Ls a0 a1 x2 x3 a4 n x5 u v M → gAt G u v M [(0, .ref a0), (1, .ref a1), (2, .int x2), (3, .int x3), (4, .ref a4), (5, .int x5)] 13 [] := by
  intro n
  induction n with
  | zero =>
    intro x5 u v hu M hF
    exact hF.elim
  | succ n ih =>
    intro x5 u v hu M hF
    have hK13 := ih
    unfold F_X12_mean_b13 at hF
    refine g_iload 15 hC dX12_mean_13 rfl 5 rfl ?_
    refine g_aload_n 16 hC dX12_mean_15 rfl 0 rfl rfl ?_
    refine g_cV (rest := [_]) wl_X12_117 hd_X12_states (ci := 12) rfl 19 hC hF.1 (met_X12_states hF.2) rfl ⟨Nat.le_of_ble_eq_true rfl, Nat.le_of_ble_eq_true rfl⟩ hu rfl (Nat.le_of_ble_eq_true rfl) dX12_mean_16 rfl (g_ty_i u v (Nat.le_refl _) (Nat.le_refl _) (fun x_2 M_1 hF => ?_))
    refine g_icmp_ge 22 40 hC dX12_mean_19 (by decide) rfl (fun c => ?_) (fun c => ?_)
    · have hF := hF.1 c
      refine g_iconst 41 hC (1 : Int32) dX12_mean_40 (by decide) rfl ?_
      refine g_istore 43 hC (lv' := [(5, .int _), (0, .ref _), (1, .ref _), (2, .int _), (3, .int _), (4, .ref _)]) dX12_mean_41 rfl (by decide) rfl ?_
      refine g_sub [1, 2, 3, 4, 5, 0] rfl ?_
      obtain ⟨n_3, hF⟩ := hF
      exact w_X12_mean_b43 hC _ _ _ _ _ n_3 _ _ _ hu _ hF
    · have hF := hF.2 c
      refine g_aload 24 hC dX12_mean_22 rfl 4 rfl ?_
      refine g_iload 26 hC dX12_mean_24 rfl 5 rfl ?_
      refine g_aload_n 27 hC dX12_mean_26 rfl 0 rfl rfl ?_
      refine g_iload 29 hC dX12_mean_27 rfl 5 rfl ?_
      refine g_cV (rest := [_, _]) wl_X12_121 hd_X12_leaving (ci := 12) rfl 32 hC hF.1 (met_X12_leaving hF.2) rfl ⟨Nat.le_of_ble_eq_true rfl, Nat.le_of_ble_eq_true rfl⟩ hu rfl (Nat.le_of_ble_eq_true rfl) dX12_mean_29 rfl (g_ty_i u v (Nat.le_refl _) (Nat.le_refl _) (fun x_5 M_4 hF => ?_))
      refine g_i2l 33 hC dX12_mean_32 rfl ?_
      refine g_last 34 hC hF dX12_mean_33 rfl (fun M_6 hF => ?_)
      refine g_iinc 37 hC (x5 + (1 : Int32)) (lv' := [(5, .int _), (0, .ref _), (1, .ref _), (2, .int _), (3, .int _), (4, .ref _)]) dX12_mean_34 rfl 5 rfl rfl (by decide) rfl ?_
      refine g_goto 13 hC dX12_mean_37 (by decide) ?_
      refine g_sub [1, 2, 3, 4, 5, 0] rfl ?_
      exact hK13 _ _ _ hu _ hF
def F_X12_mean (Lc Ls : Nat) (M : gM) (a0 : Nat) (a1 : Nat) (x2 : Int32) (x3 : Int32) (Q : Int64 → gM → Prop)  : Prop :=
  ∃ c_3 s_4, (0 + c_3 ≤ Lc ∧ 0 + s_4 ≤ Ls) ∧
  rc M 12 a0 ∧ F_X12_makesRoom c_3 s_4 M a0 fun M_1 =>
  gN M_1 12 a0 13 fun a_5 =>
  ∃ n_6, F_X12_mean_b13 Q Lc Ls a0 a1 x2 x3 a_5 n_6 (0 : Int32) (0 + c_3) (0 + s_4) M_1
theorem met_X12_mean {M : gM} {a0 : Nat} {a1 : Nat} {x2 : Int32} {x3 : Int32} {Q : Int64 → gM → Prop} {Lc Ls : Nat} (hF : F_X12_mean Lc Ls M a0 a1 x2 x3 Q) : gMt yX12_mean (ws_ yX12_mean cX12_mean 7 (some .long)) (rm_X12_mean Lc Ls) M [.ref a0, .ref a1, .int x2, .int x3] (gQj Q) := by
  refine gMet (bytes := cX12_mean) (maxL := 7) (ret := (some .long)) rfl rfl (by decide) (Nat.le_of_ble_eq_true rfl) (lv := [(0, .ref a0), (1, .ref a1), (2, .int x2), (3, .int x3)]) rfl (fun G hC hin => ?_)
  have hu : 0 ≤ Lc ∧ 0 ≤ Ls := ⟨Nat.zero_le _, Nat.zero_le _⟩
  unfold F_X12_mean at hF
  refine g_aload_n 1 hC dX12_mean_0 rfl 0 rfl rfl ?_
  obtain ⟨c_3, s_4, hu, hF⟩ := hF
  refine g_cV (rest := []) wl_X12_108 hd_X12_makesRoom (ci := 12) rfl 4 hC hF.1 (met_X12_makesRoom hF.2) rfl ⟨Nat.le_of_ble_eq_true rfl, Nat.le_of_ble_eq_true rfl⟩ hu rfl (Nat.le_of_ble_eq_true rfl) dX12_mean_1 rfl (g_ty_v (0 + c_3) (0 + s_4) (Nat.le_refl _) (Nat.le_refl _) (fun M_1 hF => ?_))
  refine g_aload_n 5 hC dX12_mean_4 rfl 0 rfl rfl ?_
  refine gf_X12_56_12N 8 hC hF dX12_mean_5 rfl (fun a_5 hF => ?_)
  refine g_astore 10 hC (lv' := [(4, .ref _), (0, .ref _), (1, .ref _), (2, .int _), (3, .int _)]) dX12_mean_8 rfl (by decide) rfl ?_
  refine g_iconst 11 hC (0 : Int32) dX12_mean_10 (by decide) rfl ?_
  refine g_istore 13 hC (lv' := [(5, .int _), (4, .ref _), (0, .ref _), (1, .ref _), (2, .int _), (3, .int _)]) dX12_mean_11 rfl (by decide) rfl ?_
  refine g_sub [2, 3, 4, 5, 1, 0] rfl ?_
  obtain ⟨n_6, hF⟩ := hF
  exact w_X12_mean_b13 hC _ _ _ _ _ n_6 _ _ _ hu _ hF
theorem hd_X12_spreads : yX12_spreads.cls = RX12 ∧ yX12_spreads.cls ≠ "java/lang/invoke/MethodHandle" ∧ yX12_spreads.cls ≠ "java/lang/invoke/VarHandle" ∧ (parseMethodDescriptor yX12_spreads.desc).map (fun d => d.parameters.length) = some 3 := by decide +kernel
theorem wl_X12_156 : GoodIn lw_all (wsV RX12 156 RX12 yX12_spreads (ws_ yX12_spreads cX12_spreads 11 none)) := lw_V q1184 q1186 qs24 q92 q1187
theorem hd_J15_fill : yJ15_fill.cls ≠ "java/lang/invoke/MethodHandle" ∧ yJ15_fill.cls ≠ "java/lang/invoke/VarHandle" ∧ (parseMethodDescriptor yJ15_fill.desc).map (fun d => d.parameters.length) = some 2 := by decide +kernel
theorem wl_X12_144 : GoodIn lw_all (va_wsS RX12 144 yJ15_fill (ws_ yJ15_fill cJ15_fill 5 none)) := lw_S q1181 q1182 q98 q1183
theorem gf_X12_63_12N {G : gG} {cc : ByteArray} {nL : Nat} {ret : Option FieldType} {Qf : Option Value → gM → Prop} {rm : Room} {cells slots : Nat} {M : gM} {lv : List (Nat × Value)} {pc : Nat} {st : List Value} {a : Nat} (n : Nat) (hC : gCx G cc nL RX12 ret Qf rm) {κ : Nat → Prop} (hF : gN M 12 a 15 κ) (hdg : decode cc pc = .ok (.getfield 63, 3)) (hn : pc + 3 = n) (kk : ∀ x, κ x → gAt G cells slots M lv n (.ref x :: st)) : gAt G cells slots M lv pc (.ref a :: st) :=
  g_getN (C := RX12) (T := TX12) (N := 17) in_X12 rfl (by decide) q618 (fun _ _ _ => rfl) n hC hF hdg hn kk
theorem gf_X12_66_12N {G : gG} {cc : ByteArray} {nL : Nat} {ret : Option FieldType} {Qf : Option Value → gM → Prop} {rm : Room} {cells slots : Nat} {M : gM} {lv : List (Nat × Value)} {pc : Nat} {st : List Value} {a : Nat} (n : Nat) (hC : gCx G cc nL RX12 ret Qf rm) {κ : Nat → Prop} (hF : gN M 12 a 16 κ) (hdg : decode cc pc = .ok (.getfield 66, 3)) (hn : pc + 3 = n) (kk : ∀ x, κ x → gAt G cells slots M lv n (.ref x :: st)) : gAt G cells slots M lv pc (.ref a :: st) :=
  g_getN (C := RX12) (T := TX12) (N := 17) in_X12 rfl (by decide) q619 (fun _ _ _ => rfl) n hC hF hdg hn kk
abbrev rm_X12_chances (Lc Ls : Nat) : Room := { frames := 11, cells := Lc, slots := Ls, locals := 10323 }
def F_X12_chances_b120 (Q : Nat → gM → Prop)  (Lc Ls : Nat) (K30 : Nat → Nat → Int32 → Nat → Nat → gM → Prop) (K45 : Int32 → Nat → Nat → gM → Prop) (a0 : Nat) (a1 : Nat) (x2 : Int32) (a3 : Nat) (a4 : Nat) (x5 : Int32) (x6 : Int32)  (u v : Nat) (M : gM) : Prop :=
  K45 (x6 + (1 : Int32)) u v M
theorem w_X12_chances_b120 {G : gG} {Q : Nat → gM → Prop} {Lc Ls : Nat} (hC : gCx G cX12_chances 8 RX12 (some (.array .long)) (gQa Q) (rm_X12_chances Lc Ls)) (K30 : Nat → Nat → Int32 → Nat → Nat → gM → Prop) (K45 : Int32 → Nat → Nat → gM → Prop) (a0 : Nat) (a1 : Nat) (x2 : Int32) (a3 : Nat) (a4 : Nat) (x5 : Int32) (x6 : Int32)  (hK30 : ∀ a3' a4' x5' u' v' (_ : u' ≤ Lc ∧ v' ≤ Ls) M', K30 a3' a4' x5' u' v' M' → gAt G u' v' M' [(0, .ref a0), (1, .ref a1), (2, .int x2), (3, .ref a3'), (4, .ref a4'), (5, .int x5')] 30 []) (hK45 : ∀ x6' u' v' (_ : u' ≤ Lc ∧ v' ≤ Ls) M', K45 x6' u' v' M' → gAt G u' v' M' [(0, .ref a0), (1, .ref a1), (2, .int x2), (3, .ref a3), (4, .ref a4), (5, .int x5), (6, .int x6')] 45 []) (u v : Nat) (hu : u ≤ Lc ∧ v ≤ Ls) (M : gM) (hF : F_X12_chances_b120 Q Lc Ls K30 K45 a0 a1 x2 a3 a4 x5 x6 u v M) : gAt G u v M [(0, .ref a0), (1, .ref a1), (2, .int x2), (3, .ref a3), (4, .ref a4), (5, .int x5), (6, .int x6)] 120 [] := by
  unfold F_X12_chances_b120 at hF
  refine g_iinc 123 hC (x6 + (1 : Int32)) (lv' := [(6, .int _), (0, .ref _), (1, .ref _), (2, .int _), (3, .ref _), (4, .ref _), (5, .int _)]) dX12_chances_120 rfl 6 rfl rfl (by decide) rfl ?_
  refine g_goto 45 hC dX12_chances_123 (by decide) ?_
  refine g_sub [1, 2, 3, 4, 5, 6, 0] rfl ?_
  exact hK45 _ _ _ hu _ hF
def F_X12_chances_b45 (Q : Nat → gM → Prop)  (Lc Ls : Nat) (K30 : Nat → Nat → Int32 → Nat → Nat → gM → Prop) (a0 : Nat) (a1 : Nat) (x2 : Int32) (a3 : Nat) (a4 : Nat) (x5 : Int32) : Nat → Int32 → Nat → Nat → gM → Prop
  | 0, _, _, _, _ => False
  | n + 1, x6, u, v, M =>
    rc M 12 a0 ∧ F_X12_states M a0 fun x_2 M_1 =>
    ((x_2 ≤ x6 →
      K30 a4 a3 (x5 + (-1 : Int32)) u v M_1) ∧
      (¬ x_2 ≤ x6 →
      aJ M_1 a3 x6 fun j_3 =>
      ((¬ j_3 = (0 : Int64) →
        ∃ c_6 s_7, (u + c_6 ≤ Lc ∧ v + s_7 ≤ Ls) ∧
        FD_Chooser_load c_6 s_7 M_1 a1 a0 x6 x5 fun x_5 M_4 =>
        gI M_4 12 a0 3 fun x_8 =>
        aJ M_4 a3 x6 fun j_9 =>
        rc M_4 12 a0 ∧ F_X12_spreads M_4 a0 a4 x6 (x_8.toInt64 * j_9) fun M_10 =>
        gI M_10 12 a0 3 fun x_12 =>
        aJ M_10 a3 x6 fun j_13 =>
        rc M_10 12 a0 ∧ F_X12_spreads M_10 a0 a4 (x6 - x_5) (((4 : Int32) - x_12).toInt64 * j_13) fun M_14 =>
        F_X12_chances_b120 Q Lc Ls K30 (F_X12_chances_b45 Q Lc Ls K30 a0 a1 x2 a3 a4 x5 n) a0 a1 x2 a3 a4 x5 x6 (u + c_6) (v + s_7) M_14) ∧
        (j_3 = (0 : Int64) →
        F_X12_chances_b120 Q Lc Ls K30 (F_X12_chances_b45 Q Lc Ls K30 a0 a1 x2 a3 a4 x5 n) a0 a1 x2 a3 a4 x5 x6 u v M_1))))
theorem w_X12_chances_b45 {G : gG} {Q : Nat → gM → Prop} {Lc Ls : Nat} (hC : gCx G cX12_chances 8 RX12 (some (.array .long)) (gQa Q) (rm_X12_chances Lc Ls)) (K30 : Nat → Nat → Int32 → Nat → Nat → gM → Prop) (a0 : Nat) (a1 : Nat) (x2 : Int32) (a3 : Nat) (a4 : Nat) (x5 : Int32) (hK30 : ∀ a3' a4' x5' u' v' (_ : u' ≤ Lc ∧ v' ≤ Ls) M', K30 a3' a4' x5' u' v' M' → gAt G u' v' M' [(0, .ref a0), (1, .ref a1), (2, .int x2), (3, .ref a3'), (4, .ref a4'), (5, .int x5')] 30 []) : ∀ (n : Nat) (x6 : Int32) (u v : Nat) (hu : u ≤ Lc ∧ v ≤ Ls) (M : gM), F_X12_chances_b45 Q Lc Ls K30 a0 a1 x2 a3 a4 x5 n x6 u v M → gAt G u v M [(0, .ref a0), (1, .ref a1), (2, .int x2), (3, .ref a3), (4, .ref a4), (5, .int x5), (6, .int x6)] 45 [] := by
  intro n
  induction n with
  | zero =>
    intro x6 u v hu M hF
    exact hF.elim
  | succ n ih =>
    intro x6 u v hu M hF
    have hK45 := ih
    unfold F_X12_chances_b45 at hF
    refine g_iload 47 hC dX12_chances_45 rfl 6 rfl ?_
    refine g_aload_n 48 hC dX12_chances_47 rfl 0 rfl rfl ?_
    refine g_cV (rest := [_]) wl_X12_117 hd_X12_states (ci := 12) rfl 51 hC hF.1 (met_X12_states hF.2) rfl ⟨Nat.le_of_ble_eq_true rfl, Nat.le_of_ble_eq_true rfl⟩ hu rfl (Nat.le_of_ble_eq_true rfl) dX12_chances_48 rfl (g_ty_i u v (Nat.le_refl _) (Nat.le_refl _) (fun x_2 M_1 hF => ?_))
    refine g_icmp_ge 54 126 hC dX12_chances_51 (by decide) rfl (fun c => ?_) (fun c => ?_)
    · have hF := hF.1 c
      refine g_aload_n 127 hC dX12_chances_126 rfl 3 rfl rfl ?_
      refine g_astore 129 hC (lv' := [(6, .ref _), (0, .ref _), (1, .ref _), (2, .int _), (3, .ref _), (4, .ref _), (5, .int _)]) dX12_chances_127 rfl (by decide) rfl ?_
      refine g_aload 131 hC dX12_chances_129 rfl 5 rfl ?_
      refine g_astore_n 132 hC (lv' := [(3, .ref _), (6, .ref _), (0, .ref _), (1, .ref _), (2, .int _), (4, .ref _), (5, .int _)]) dX12_chances_131 rfl rfl (by decide) rfl ?_
      refine g_aload 134 hC dX12_chances_132 rfl 1 rfl ?_
      refine g_astore 136 hC (lv' := [(4, .ref _), (3, .ref _), (6, .ref _), (0, .ref _), (1, .ref _), (2, .int _), (5, .int _)]) dX12_chances_134 rfl (by decide) rfl ?_
      refine g_iinc 139 hC (x5 + (-1 : Int32)) (lv' := [(5, .int _), (4, .ref _), (3, .ref _), (6, .ref _), (0, .ref _), (1, .ref _), (2, .int _)]) dX12_chances_136 rfl 6 rfl rfl (by decide) rfl ?_
      refine g_goto 30 hC dX12_chances_139 (by decide) ?_
      refine g_sub [4, 5, 6, 2, 1, 0] rfl ?_
      exact hK30 _ _ _ _ _ hu _ hF
    · have hF := hF.2 c
      refine g_aload_n 55 hC dX12_chances_54 rfl 3 rfl rfl ?_
      refine g_iload 57 hC dX12_chances_55 rfl 6 rfl ?_
      refine g_lald 58 hC hF dX12_chances_57 rfl (fun j_3 hF => ?_)
      refine g_lconst 59 hC (0 : Int64) dX12_chances_58 (by decide) rfl ?_
      refine g_lcmp_ne 63 66 hC dX12_chances_59 rfl dX12_chances_60 (by decide) rfl (fun c => ?_) (fun c => ?_)
      · have hF := hF.1 c
        refine g_aload_n 67 hC dX12_chances_66 rfl 1 rfl rfl ?_
        refine g_aload_n 68 hC dX12_chances_67 rfl 0 rfl rfl ?_
        refine g_iload 70 hC dX12_chances_68 rfl 6 rfl ?_
        refine g_iload 72 hC dX12_chances_70 rfl 5 rfl ?_
        obtain ⟨c_6, s_7, hu, hF⟩ := hF
        refine gd_X12_150 [] 77 hC hF ⟨Nat.le_of_ble_eq_true rfl, Nat.le_of_ble_eq_true rfl⟩ hu rfl (Nat.le_of_ble_eq_true rfl) dX12_chances_72 rfl (fun x_5 M_4 hF => ?_)
        refine g_istore 79 hC (lv' := [(7, .int _), (0, .ref _), (1, .ref _), (2, .int _), (3, .ref _), (4, .ref _), (5, .int _), (6, .int _)]) dX12_chances_77 rfl (by decide) rfl ?_
        refine g_aload_n 80 hC dX12_chances_79 rfl 1 rfl rfl ?_
        refine g_aload 82 hC dX12_chances_80 rfl 5 rfl ?_
        refine g_iload 84 hC dX12_chances_82 rfl 7 rfl ?_
        refine g_aload_n 85 hC dX12_chances_84 rfl 1 rfl rfl ?_
        refine gf_X12_38_12I 88 hC hF dX12_chances_85 rfl (fun x_8 hF => ?_)
        refine g_i2l 89 hC dX12_chances_88 rfl ?_
        refine g_aload_n 90 hC dX12_chances_89 rfl 4 rfl rfl ?_
        refine g_iload 92 hC dX12_chances_90 rfl 7 rfl ?_
        refine g_lald 93 hC hF dX12_chances_92 rfl (fun j_9 hF => ?_)
        refine g_lmul 94 hC dX12_chances_93 rfl ?_
        refine g_cV (rest := []) wl_X12_156 hd_X12_spreads (ci := 12) rfl 97 hC hF.1 (met_X12_spreads hF.2) rfl ⟨Nat.le_of_ble_eq_true rfl, Nat.le_of_ble_eq_true rfl⟩ hu rfl (Nat.le_of_ble_eq_true rfl) dX12_chances_94 rfl (g_ty_v (u + c_6) (v + s_7) (Nat.le_refl _) (Nat.le_refl _) (fun M_10 hF => ?_))
        refine g_aload_n 98 hC dX12_chances_97 rfl 1 rfl rfl ?_
        refine g_aload 100 hC dX12_chances_98 rfl 5 rfl ?_
        refine g_iload 102 hC dX12_chances_100 rfl 7 rfl ?_
        refine g_iload 104 hC dX12_chances_102 rfl 0 rfl ?_
        refine g_isub 105 hC dX12_chances_104 rfl ?_
        refine g_iconst 106 hC (4 : Int32) dX12_chances_105 (by decide) rfl ?_
        refine g_aload_n 107 hC dX12_chances_106 rfl 1 rfl rfl ?_
        refine gf_X12_38_12I 110 hC hF dX12_chances_107 rfl (fun x_12 hF => ?_)
        refine g_isub 111 hC dX12_chances_110 rfl ?_
        refine g_i2l 112 hC dX12_chances_111 rfl ?_
        refine g_aload_n 113 hC dX12_chances_112 rfl 4 rfl rfl ?_
        refine g_iload 115 hC dX12_chances_113 rfl 7 rfl ?_
        refine g_lald 116 hC hF dX12_chances_115 rfl (fun j_13 hF => ?_)
        refine g_lmul 117 hC dX12_chances_116 rfl ?_
        refine g_cV (rest := []) wl_X12_156 hd_X12_spreads (ci := 12) rfl 120 hC hF.1 (met_X12_spreads hF.2) rfl ⟨Nat.le_of_ble_eq_true rfl, Nat.le_of_ble_eq_true rfl⟩ hu rfl (Nat.le_of_ble_eq_true rfl) dX12_chances_117 rfl (g_ty_v (u + c_6) (v + s_7) (Nat.le_refl _) (Nat.le_refl _) (fun M_14 hF => ?_))
        refine g_sub [1, 2, 3, 4, 5, 6, 7] rfl ?_
        exact w_X12_chances_b120 hC _ _ _ _ _ _ _ _ _ hK30 hK45 _ _ hu _ hF
      · have hF := hF.2 c
        refine g_goto 120 hC dX12_chances_63 (by decide) ?_
        exact w_X12_chances_b120 hC _ _ _ _ _ _ _ _ _ hK30 hK45 _ _ hu _ hF
def F_X12_chances_b30 (Q : Nat → gM → Prop)  (Lc Ls : Nat)  (a0 : Nat) (a1 : Nat) (x2 : Int32) : Nat → Nat → Nat → Int32 → Nat → Nat → gM → Prop
  | 0, _, _, _, _, _, _ => False
  | n + 1, a3, a4, x5, u, v, M =>
    ((x5 ≤ x2 →
      Q a3 M) ∧
      (¬ x5 ≤ x2 →
      F_J15_fill M a4 (0 : Int64) fun M_1 =>
      ∃ n_3, F_X12_chances_b45 Q Lc Ls (F_X12_chances_b30 Q Lc Ls a0 a1 x2 n) a0 a1 x2 a3 a4 x5 n_3 (0 : Int32) u v M_1))
theorem w_X12_chances_b30 {G : gG} {Q : Nat → gM → Prop} {Lc Ls : Nat} (hC : gCx G cX12_chances 8 RX12 (some (.array .long)) (gQa Q) (rm_X12_chances Lc Ls))  (a0 : Nat) (a1 : Nat) (x2 : Int32)  : ∀ (n : Nat) (a3 : Nat) (a4 : Nat) (x5 : Int32) (u v : Nat) (hu : u ≤ Lc ∧ v ≤ Ls) (M : gM), F_X12_chances_b30 Q Lc Ls a0 a1 x2 n a3 a4 x5 u v M → gAt G u v M [(0, .ref a0), (1, .ref a1), (2, .int x2), (3, .ref a3), (4, .ref a4), (5, .int x5)] 30 [] := by
  intro n
  induction n with
  | zero =>
    intro a3 a4 x5 u v hu M hF
    exact hF.elim
  | succ n ih =>
    intro a3 a4 x5 u v hu M hF
    have hK30 := ih
    unfold F_X12_chances_b30 at hF
    refine g_iload 32 hC dX12_chances_30 rfl 5 rfl ?_
    refine g_iload_n 33 hC dX12_chances_32 rfl 2 rfl rfl ?_
    refine g_icmp_le 36 142 hC dX12_chances_33 (by decide) rfl (fun c => ?_) (fun c => ?_)
    · have hF := hF.1 c
      refine g_aload_n 143 hC dX12_chances_142 rfl 3 rfl rfl ?_
      exact g_areturn (v := some a3) hC (Or.inr ⟨_, rfl⟩) ⟨_, rfl, hF⟩ dX12_chances_143 hu.1 hu.2
    · have hF := hF.2 c
      refine g_aload 38 hC dX12_chances_36 rfl 4 rfl ?_
      refine g_lconst 39 hC (0 : Int64) dX12_chances_38 (by decide) rfl ?_
      refine g_cS (rest := []) wl_X12_144 hd_J15_fill 42 hC (met_J15_fill hF) rfl ⟨Nat.le_of_ble_eq_true rfl, Nat.le_of_ble_eq_true rfl⟩ hu rfl (Nat.le_of_ble_eq_true rfl) dX12_chances_39 rfl (g_ty_v u v (Nat.le_refl _) (Nat.le_refl _) (fun M_1 hF => ?_))
      refine g_iconst 43 hC (0 : Int32) dX12_chances_42 (by decide) rfl ?_
      refine g_istore 45 hC (lv' := [(6, .int _), (0, .ref _), (1, .ref _), (2, .int _), (3, .ref _), (4, .ref _), (5, .int _)]) dX12_chances_43 rfl (by decide) rfl ?_
      refine g_sub [1, 2, 3, 4, 5, 6, 0] rfl ?_
      obtain ⟨n_3, hF⟩ := hF
      exact w_X12_chances_b45 hC _ _ _ _ _ _ _ hK30 n_3 _ _ _ hu _ hF
def F_X12_chances (Lc Ls : Nat) (M : gM) (a0 : Nat) (a1 : Nat) (x2 : Int32) (Q : Nat → gM → Prop)  : Prop :=
  ∃ c_3 s_4, (0 + c_3 ≤ Lc ∧ 0 + s_4 ≤ Ls) ∧
  rc M 12 a0 ∧ F_X12_makesRoom c_3 s_4 M a0 fun M_1 =>
  gN M_1 12 a0 15 fun a_5 =>
  gN M_1 12 a0 16 fun a_6 =>
  F_J15_fill M_1 a_5 (0 : Int64) fun M_7 =>
  uJ M_7 a_5 (0 : Int32) (1 : Int64) fun M_9 =>
  gI M_9 12 a0 0 fun x_10 =>
  ∃ n_11, F_X12_chances_b30 Q Lc Ls a0 a1 x2 n_11 a_5 a_6 x_10 (0 + c_3) (0 + s_4) M_9
theorem met_X12_chances {M : gM} {a0 : Nat} {a1 : Nat} {x2 : Int32} {Q : Nat → gM → Prop} {Lc Ls : Nat} (hF : F_X12_chances Lc Ls M a0 a1 x2 Q) : gMt yX12_chances (ws_ yX12_chances cX12_chances 8 (some (.array .long))) (rm_X12_chances Lc Ls) M [.ref a0, .ref a1, .int x2] (gQa Q) := by
  refine gMet (bytes := cX12_chances) (maxL := 8) (ret := (some (.array .long))) rfl rfl (by decide) (Nat.le_of_ble_eq_true rfl) (lv := [(0, .ref a0), (1, .ref a1), (2, .int x2)]) rfl (fun G hC hin => ?_)
  have hu : 0 ≤ Lc ∧ 0 ≤ Ls := ⟨Nat.zero_le _, Nat.zero_le _⟩
  unfold F_X12_chances at hF
  refine g_aload_n 1 hC dX12_chances_0 rfl 0 rfl rfl ?_
  obtain ⟨c_3, s_4, hu, hF⟩ := hF
  refine g_cV (rest := []) wl_X12_108 hd_X12_makesRoom (ci := 12) rfl 4 hC hF.1 (met_X12_makesRoom hF.2) rfl ⟨Nat.le_of_ble_eq_true rfl, Nat.le_of_ble_eq_true rfl⟩ hu rfl (Nat.le_of_ble_eq_true rfl) dX12_chances_1 rfl (g_ty_v (0 + c_3) (0 + s_4) (Nat.le_refl _) (Nat.le_refl _) (fun M_1 hF => ?_))
  refine g_aload_n 5 hC dX12_chances_4 rfl 0 rfl rfl ?_
  refine gf_X12_63_12N 8 hC hF dX12_chances_5 rfl (fun a_5 hF => ?_)
  refine g_astore_n 9 hC (lv' := [(3, .ref _), (0, .ref _), (1, .ref _), (2, .int _)]) dX12_chances_8 rfl rfl (by decide) rfl ?_
  refine g_aload_n 10 hC dX12_chances_9 rfl 1 rfl rfl ?_
  refine gf_X12_66_12N 13 hC hF dX12_chances_10 rfl (fun a_6 hF => ?_)
  refine g_astore 15 hC (lv' := [(4, .ref _), (3, .ref _), (0, .ref _), (1, .ref _), (2, .int _)]) dX12_chances_13 rfl (by decide) rfl ?_
  refine g_aload_n 16 hC dX12_chances_15 rfl 1 rfl rfl ?_
  refine g_lconst 17 hC (0 : Int64) dX12_chances_16 (by decide) rfl ?_
  refine g_cS (rest := []) wl_X12_144 hd_J15_fill 20 hC (met_J15_fill hF) rfl ⟨Nat.le_of_ble_eq_true rfl, Nat.le_of_ble_eq_true rfl⟩ hu rfl (Nat.le_of_ble_eq_true rfl) dX12_chances_17 rfl (g_ty_v (0 + c_3) (0 + s_4) (Nat.le_refl _) (Nat.le_refl _) (fun M_7 hF => ?_))
  refine g_aload_n 21 hC dX12_chances_20 rfl 1 rfl rfl ?_
  refine g_iconst 22 hC (0 : Int32) dX12_chances_21 (by decide) rfl ?_
  refine g_lconst 23 hC (1 : Int64) dX12_chances_22 (by decide) rfl ?_
  refine g_last 24 hC hF dX12_chances_23 rfl (fun M_9 hF => ?_)
  refine g_aload_n 25 hC dX12_chances_24 rfl 2 rfl rfl ?_
  refine gf_X12_9_12I 28 hC hF dX12_chances_25 rfl (fun x_10 hF => ?_)
  refine g_istore 30 hC (lv' := [(5, .int _), (4, .ref _), (3, .ref _), (0, .ref _), (1, .ref _), (2, .int _)]) dX12_chances_28 rfl (by decide) rfl ?_
  refine g_sub [3, 4, 5, 2, 1, 0] rfl ?_
  obtain ⟨n_11, hF⟩ := hF
  exact w_X12_chances_b30 hC _ _ _ n_11 _ _ _ _ _ hu _ hF
theorem hd_X12_chances : yX12_chances.cls = RX12 ∧ yX12_chances.cls ≠ "java/lang/invoke/MethodHandle" ∧ yX12_chances.cls ≠ "java/lang/invoke/VarHandle" ∧ (parseMethodDescriptor yX12_chances.desc).map (fun d => d.parameters.length) = some 2 := by decide +kernel
theorem wl_X12_160 : GoodIn lw_all (wsV RX12 160 RX12 yX12_chances (ws_ yX12_chances cX12_chances 8 (some (.array .long)))) := lw_V q1200 q1178 q1179 q92 q1180
abbrev rm_X12_sums (Lc Ls : Nat) : Room := { frames := 12, cells := Lc, slots := Ls, locals := 10350 }
def F_X12_sums_b110 (Q : Int64 → gM → Prop)  (Lc Ls : Nat) (K8 : Int64 → Int32 → Nat → Nat → gM → Prop) (K28 : Int64 → Int32 → Nat → Nat → gM → Prop) (a0 : Nat) (a1 : Nat) (x2 : Int32) (j3 : Int64) (x5 : Int32) (a6 : Nat) (j7 : Int64) (x9 : Int32) (j11 : Int64) (t0 : Int64) (u v : Nat) (M : gM) : Prop :=
  aJ M a6 x9 fun j_1 =>
  gI M 12 a0 3 fun x_2 =>
  gI M 12 a0 3 fun x_3 =>
  K28 (j7 + (j_1 * ((x_2.toInt64 * j11) + (((4 : Int32) - x_3).toInt64 * t0)))) (x9 + (1 : Int32)) u v M
theorem w_X12_sums_b110 {G : gG} {Q : Int64 → gM → Prop} {Lc Ls : Nat} (hC : gCx G cX12_sums 15 RX12 (some .long) (gQj Q) (rm_X12_sums Lc Ls)) (K8 : Int64 → Int32 → Nat → Nat → gM → Prop) (K28 : Int64 → Int32 → Nat → Nat → gM → Prop) (a0 : Nat) (a1 : Nat) (x2 : Int32) (j3 : Int64) (x5 : Int32) (a6 : Nat) (j7 : Int64) (x9 : Int32) (j11 : Int64) (t0 : Int64) (hK8 : ∀ j3' x5' u' v' (_ : u' ≤ Lc ∧ v' ≤ Ls) M', K8 j3' x5' u' v' M' → gAt G u' v' M' [(0, .ref a0), (1, .ref a1), (2, .int x2), (3, .long j3'), (5, .int x5')] 8 []) (hK28 : ∀ j7' x9' u' v' (_ : u' ≤ Lc ∧ v' ≤ Ls) M', K28 j7' x9' u' v' M' → gAt G u' v' M' [(0, .ref a0), (1, .ref a1), (2, .int x2), (3, .long j3), (5, .int x5), (6, .ref a6), (7, .long j7'), (9, .int x9')] 28 []) (u v : Nat) (hu : u ≤ Lc ∧ v ≤ Ls) (M : gM) (hF : F_X12_sums_b110 Q Lc Ls K8 K28 a0 a1 x2 j3 x5 a6 j7 x9 j11 t0 u v M) : gAt G u v M [(0, .ref a0), (1, .ref a1), (2, .int x2), (3, .long j3), (5, .int x5), (6, .ref a6), (7, .long j7), (9, .int x9), (11, .long j11)] 110 [.long t0] := by
  unfold F_X12_sums_b110 at hF
  refine g_lstore 112 hC (lv' := [(13, .long _), (0, .ref _), (1, .ref _), (2, .int _), (3, .long _), (5, .int _), (6, .ref _), (7, .long _), (9, .int _), (11, .long _)]) dX12_sums_110 rfl (by decide) rfl ?_
  refine g_lload 114 hC dX12_sums_112 rfl 7 rfl ?_
  refine g_aload 116 hC dX12_sums_114 rfl 6 rfl ?_
  refine g_iload 118 hC dX12_sums_116 rfl 8 rfl ?_
  refine g_lald 119 hC hF dX12_sums_118 rfl (fun j_1 hF => ?_)
  refine g_aload_n 120 hC dX12_sums_119 rfl 1 rfl rfl ?_
  refine gf_X12_38_12I 123 hC hF dX12_sums_120 rfl (fun x_2 hF => ?_)
  refine g_i2l 124 hC dX12_sums_123 rfl ?_
  refine g_lload 126 hC dX12_sums_124 rfl 9 rfl ?_
  refine g_lmul 127 hC dX12_sums_126 rfl ?_
  refine g_iconst 128 hC (4 : Int32) dX12_sums_127 (by decide) rfl ?_
  refine g_aload_n 129 hC dX12_sums_128 rfl 1 rfl rfl ?_
  refine gf_X12_38_12I 132 hC hF dX12_sums_129 rfl (fun x_3 hF => ?_)
  refine g_isub 133 hC dX12_sums_132 rfl ?_
  refine g_i2l 134 hC dX12_sums_133 rfl ?_
  refine g_lload 136 hC dX12_sums_134 rfl 0 rfl ?_
  refine g_lmul 137 hC dX12_sums_136 rfl ?_
  refine g_ladd 138 hC dX12_sums_137 rfl ?_
  refine g_lmul 139 hC dX12_sums_138 rfl ?_
  refine g_ladd 140 hC dX12_sums_139 rfl ?_
  refine g_lstore 142 hC (lv' := [(7, .long _), (13, .long _), (0, .ref _), (1, .ref _), (2, .int _), (3, .long _), (5, .int _), (6, .ref _), (9, .int _), (11, .long _)]) dX12_sums_140 rfl (by decide) rfl ?_
  refine g_iinc 145 hC (x9 + (1 : Int32)) (lv' := [(9, .int _), (7, .long _), (13, .long _), (0, .ref _), (1, .ref _), (2, .int _), (3, .long _), (5, .int _), (6, .ref _), (11, .long _)]) dX12_sums_142 rfl 8 rfl rfl (by decide) rfl ?_
  refine g_goto 28 hC dX12_sums_145 (by decide) ?_
  refine g_sub [3, 4, 5, 6, 7, 8, 1, 0] rfl ?_
  exact hK28 _ _ _ _ hu _ hF
def F_X12_sums_b80 (Q : Int64 → gM → Prop)  (Lc Ls : Nat) (K8 : Int64 → Int32 → Nat → Nat → gM → Prop) (K28 : Int64 → Int32 → Nat → Nat → gM → Prop) (a0 : Nat) (a1 : Nat) (x2 : Int32) (j3 : Int64) (x5 : Int32) (a6 : Nat) (j7 : Int64) (x9 : Int32) (x10 : Int32) (t0 : Int64) (u v : Nat) (M : gM) : Prop :=
  ((¬ x2 = (-1 : Int32) →
    F_X0_standing M (x9 - x10) x2 fun x_2 M_1 =>
    F_X12_sums_b110 Q Lc Ls K8 K28 a0 a1 x2 j3 x5 a6 j7 x9 t0 x_2.toInt64 u v M_1) ∧
    (x2 = (-1 : Int32) →
    ((¬ x10 = 0 →
      F_X12_sums_b110 Q Lc Ls K8 K28 a0 a1 x2 j3 x5 a6 j7 x9 t0 (1 : Int64) u v M) ∧
      (x10 = 0 →
      F_X12_sums_b110 Q Lc Ls K8 K28 a0 a1 x2 j3 x5 a6 j7 x9 t0 (0 : Int64) u v M))))
theorem w_X12_sums_b80 {G : gG} {Q : Int64 → gM → Prop} {Lc Ls : Nat} (hC : gCx G cX12_sums 15 RX12 (some .long) (gQj Q) (rm_X12_sums Lc Ls)) (K8 : Int64 → Int32 → Nat → Nat → gM → Prop) (K28 : Int64 → Int32 → Nat → Nat → gM → Prop) (a0 : Nat) (a1 : Nat) (x2 : Int32) (j3 : Int64) (x5 : Int32) (a6 : Nat) (j7 : Int64) (x9 : Int32) (x10 : Int32) (t0 : Int64) (hK8 : ∀ j3' x5' u' v' (_ : u' ≤ Lc ∧ v' ≤ Ls) M', K8 j3' x5' u' v' M' → gAt G u' v' M' [(0, .ref a0), (1, .ref a1), (2, .int x2), (3, .long j3'), (5, .int x5')] 8 []) (hK28 : ∀ j7' x9' u' v' (_ : u' ≤ Lc ∧ v' ≤ Ls) M', K28 j7' x9' u' v' M' → gAt G u' v' M' [(0, .ref a0), (1, .ref a1), (2, .int x2), (3, .long j3), (5, .int x5), (6, .ref a6), (7, .long j7'), (9, .int x9')] 28 []) (u v : Nat) (hu : u ≤ Lc ∧ v ≤ Ls) (M : gM) (hF : F_X12_sums_b80 Q Lc Ls K8 K28 a0 a1 x2 j3 x5 a6 j7 x9 x10 t0 u v M) : gAt G u v M [(0, .ref a0), (1, .ref a1), (2, .int x2), (3, .long j3), (5, .int x5), (6, .ref a6), (7, .long j7), (9, .int x9), (10, .int x10)] 80 [.long t0] := by
  unfold F_X12_sums_b80 at hF
  refine g_lstore 82 hC (lv' := [(11, .long _), (0, .ref _), (1, .ref _), (2, .int _), (3, .long _), (5, .int _), (6, .ref _), (7, .long _), (9, .int _), (10, .int _)]) dX12_sums_80 rfl (by decide) rfl ?_
  refine g_iload_n 83 hC dX12_sums_82 rfl 3 rfl rfl ?_
  refine g_iconst 84 hC (-1 : Int32) dX12_sums_83 (by decide) rfl ?_
  refine g_icmp_ne 87 100 hC dX12_sums_84 (by decide) rfl (fun c => ?_) (fun c => ?_)
  · have hF := hF.1 c
    refine g_iload 102 hC dX12_sums_100 rfl 8 rfl ?_
    refine g_iload 104 hC dX12_sums_102 rfl 9 rfl ?_
    refine g_isub 105 hC dX12_sums_104 rfl ?_
    refine g_iload_n 106 hC dX12_sums_105 rfl 3 rfl rfl ?_
    refine g_cSN (rest := []) q984 q965 q69 q964 hd_X0_standing 109 hC (met_X0_standing hF) rfl ⟨Nat.le_of_ble_eq_true rfl, Nat.le_of_ble_eq_true rfl⟩ hu rfl (Nat.le_of_ble_eq_true rfl) dX12_sums_106 rfl (g_ty_i u v (Nat.le_refl _) (Nat.le_refl _) (fun x_2 M_1 hF => ?_))
    refine g_i2l 110 hC dX12_sums_109 rfl ?_
    refine g_sub [1, 2, 3, 4, 5, 6, 7, 8, 0] rfl ?_
    exact w_X12_sums_b110 hC _ _ _ _ _ _ _ _ _ _ _ _ hK8 hK28 _ _ hu _ hF
  · have hF := hF.2 c
    refine g_iload 89 hC dX12_sums_87 rfl 9 rfl ?_
    refine g_if_ne 92 96 hC dX12_sums_89 (by decide) rfl (fun c => ?_) (fun c => ?_)
    · have hF := hF.1 c
      refine g_lconst 97 hC (1 : Int64) dX12_sums_96 (by decide) rfl ?_
      refine g_goto 110 hC dX12_sums_97 (by decide) ?_
      refine g_sub [1, 2, 3, 4, 5, 6, 7, 8, 0] rfl ?_
      exact w_X12_sums_b110 hC _ _ _ _ _ _ _ _ _ _ _ _ hK8 hK28 _ _ hu _ hF
    · have hF := hF.2 c
      refine g_lconst 93 hC (0 : Int64) dX12_sums_92 (by decide) rfl ?_
      refine g_goto 110 hC dX12_sums_93 (by decide) ?_
      refine g_sub [1, 2, 3, 4, 5, 6, 7, 8, 0] rfl ?_
      exact w_X12_sums_b110 hC _ _ _ _ _ _ _ _ _ _ _ _ hK8 hK28 _ _ hu _ hF
def F_X12_sums_b62 (Q : Int64 → gM → Prop)  (Lc Ls : Nat) (K8 : Int64 → Int32 → Nat → Nat → gM → Prop) (K28 : Int64 → Int32 → Nat → Nat → gM → Prop) (a0 : Nat) (a1 : Nat) (x2 : Int32) (j3 : Int64) (x5 : Int32) (a6 : Nat) (j7 : Int64) (x9 : Int32) (t0 : Int32) (u v : Nat) (M : gM) : Prop :=
  ((¬ x2 = (-1 : Int32) →
    F_X0_standing M x9 x2 fun x_2 M_1 =>
    F_X12_sums_b80 Q Lc Ls K8 K28 a0 a1 x2 j3 x5 a6 j7 x9 t0 x_2.toInt64 u v M_1) ∧
    (x2 = (-1 : Int32) →
    F_X12_sums_b80 Q Lc Ls K8 K28 a0 a1 x2 j3 x5 a6 j7 x9 t0 (0 : Int64) u v M))
theorem w_X12_sums_b62 {G : gG} {Q : Int64 → gM → Prop} {Lc Ls : Nat} (hC : gCx G cX12_sums 15 RX12 (some .long) (gQj Q) (rm_X12_sums Lc Ls)) (K8 : Int64 → Int32 → Nat → Nat → gM → Prop) (K28 : Int64 → Int32 → Nat → Nat → gM → Prop) (a0 : Nat) (a1 : Nat) (x2 : Int32) (j3 : Int64) (x5 : Int32) (a6 : Nat) (j7 : Int64) (x9 : Int32) (t0 : Int32) (hK8 : ∀ j3' x5' u' v' (_ : u' ≤ Lc ∧ v' ≤ Ls) M', K8 j3' x5' u' v' M' → gAt G u' v' M' [(0, .ref a0), (1, .ref a1), (2, .int x2), (3, .long j3'), (5, .int x5')] 8 []) (hK28 : ∀ j7' x9' u' v' (_ : u' ≤ Lc ∧ v' ≤ Ls) M', K28 j7' x9' u' v' M' → gAt G u' v' M' [(0, .ref a0), (1, .ref a1), (2, .int x2), (3, .long j3), (5, .int x5), (6, .ref a6), (7, .long j7'), (9, .int x9')] 28 []) (u v : Nat) (hu : u ≤ Lc ∧ v ≤ Ls) (M : gM) (hF : F_X12_sums_b62 Q Lc Ls K8 K28 a0 a1 x2 j3 x5 a6 j7 x9 t0 u v M) : gAt G u v M [(0, .ref a0), (1, .ref a1), (2, .int x2), (3, .long j3), (5, .int x5), (6, .ref a6), (7, .long j7), (9, .int x9)] 62 [.int t0] := by
  unfold F_X12_sums_b62 at hF
  refine g_istore 64 hC (lv' := [(10, .int _), (0, .ref _), (1, .ref _), (2, .int _), (3, .long _), (5, .int _), (6, .ref _), (7, .long _), (9, .int _)]) dX12_sums_62 rfl (by decide) rfl ?_
  refine g_iload_n 65 hC dX12_sums_64 rfl 3 rfl rfl ?_
  refine g_iconst 66 hC (-1 : Int32) dX12_sums_65 (by decide) rfl ?_
  refine g_icmp_ne 69 73 hC dX12_sums_66 (by decide) rfl (fun c => ?_) (fun c => ?_)
  · have hF := hF.1 c
    refine g_iload 75 hC dX12_sums_73 rfl 8 rfl ?_
    refine g_iload_n 76 hC dX12_sums_75 rfl 3 rfl rfl ?_
    refine g_cSN (rest := []) q984 q965 q69 q964 hd_X0_standing 79 hC (met_X0_standing hF) rfl ⟨Nat.le_of_ble_eq_true rfl, Nat.le_of_ble_eq_true rfl⟩ hu rfl (Nat.le_of_ble_eq_true rfl) dX12_sums_76 rfl (g_ty_i u v (Nat.le_refl _) (Nat.le_refl _) (fun x_2 M_1 hF => ?_))
    refine g_i2l 80 hC dX12_sums_79 rfl ?_
    refine g_sub [1, 2, 3, 4, 5, 6, 7, 8, 0] rfl ?_
    exact w_X12_sums_b80 hC _ _ _ _ _ _ _ _ _ _ _ _ hK8 hK28 _ _ hu _ hF
  · have hF := hF.2 c
    refine g_lconst 70 hC (0 : Int64) dX12_sums_69 (by decide) rfl ?_
    refine g_goto 80 hC dX12_sums_70 (by decide) ?_
    refine g_sub [1, 2, 3, 4, 5, 6, 7, 8, 0] rfl ?_
    exact w_X12_sums_b80 hC _ _ _ _ _ _ _ _ _ _ _ _ hK8 hK28 _ _ hu _ hF
def F_X12_sums_b28 (Q : Int64 → gM → Prop)  (Lc Ls : Nat) (K8 : Int64 → Int32 → Nat → Nat → gM → Prop) (a0 : Nat) (a1 : Nat) (x2 : Int32) (j3 : Int64) (x5 : Int32) (a6 : Nat) : Nat → Int64 → Int32 → Nat → Nat → gM → Prop
  | 0, _, _, _, _, _ => False
  | n + 1, j7, x9, u, v, M =>
    rc M 12 a0 ∧ F_X12_states M a0 fun x_2 M_1 =>
    ((x_2 ≤ x9 →
      gI M_1 12 a0 4 fun x_3 =>
      rc M_1 12 a0 ∧ F_X12_scale M_1 a0 (x5 - (1 : Int32)) fun j_5 M_4 =>
      K8 (j3 + ((j7 <<< (((2 : Int32) * x_3).toInt64 &&& 63)) * j_5)) (x5 + (-1 : Int32)) u v M_4) ∧
      (¬ x_2 ≤ x9 →
      aJ M_1 a6 x9 fun j_6 =>
      ((¬ j_6 = (0 : Int64) →
        ∃ c_9 s_10, (u + c_9 ≤ Lc ∧ v + s_10 ≤ Ls) ∧
        FD_Chooser_load c_9 s_10 M_1 a1 a0 x9 x5 fun x_8 M_7 =>
        F_X12_sums_b62 Q Lc Ls K8 (F_X12_sums_b28 Q Lc Ls K8 a0 a1 x2 j3 x5 a6 n) a0 a1 x2 j3 x5 a6 j7 x9 x_8 (u + c_9) (v + s_10) M_7) ∧
        (j_6 = (0 : Int64) →
        F_X12_sums_b62 Q Lc Ls K8 (F_X12_sums_b28 Q Lc Ls K8 a0 a1 x2 j3 x5 a6 n) a0 a1 x2 j3 x5 a6 j7 x9 (0 : Int32) u v M_1))))
theorem w_X12_sums_b28 {G : gG} {Q : Int64 → gM → Prop} {Lc Ls : Nat} (hC : gCx G cX12_sums 15 RX12 (some .long) (gQj Q) (rm_X12_sums Lc Ls)) (K8 : Int64 → Int32 → Nat → Nat → gM → Prop) (a0 : Nat) (a1 : Nat) (x2 : Int32) (j3 : Int64) (x5 : Int32) (a6 : Nat) (hK8 : ∀ j3' x5' u' v' (_ : u' ≤ Lc ∧ v' ≤ Ls) M', K8 j3' x5' u' v' M' → gAt G u' v' M' [(0, .ref a0), (1, .ref a1), (2, .int x2), (3, .long j3'), (5, .int x5')] 8 []) : ∀ (n : Nat) (j7 : Int64) (x9 : Int32) (u v : Nat) (hu : u ≤ Lc ∧ v ≤ Ls) (M : gM), F_X12_sums_b28 Q Lc Ls K8 a0 a1 x2 j3 x5 a6 n j7 x9 u v M → gAt G u v M [(0, .ref a0), (1, .ref a1), (2, .int x2), (3, .long j3), (5, .int x5), (6, .ref a6), (7, .long j7), (9, .int x9)] 28 [] := by
  intro n
  induction n with
  | zero =>
    intro j7 x9 u v hu M hF
    exact hF.elim
  | succ n ih =>
    intro j7 x9 u v hu M hF
    have hK28 := ih
    unfold F_X12_sums_b28 at hF
    refine g_iload 30 hC dX12_sums_28 rfl 7 rfl ?_
    refine g_aload_n 31 hC dX12_sums_30 rfl 0 rfl rfl ?_
    refine g_cV (rest := [_]) wl_X12_117 hd_X12_states (ci := 12) rfl 34 hC hF.1 (met_X12_states hF.2) rfl ⟨Nat.le_of_ble_eq_true rfl, Nat.le_of_ble_eq_true rfl⟩ hu rfl (Nat.le_of_ble_eq_true rfl) dX12_sums_31 rfl (g_ty_i u v (Nat.le_refl _) (Nat.le_refl _) (fun x_2 M_1 hF => ?_))
    refine g_icmp_ge 37 148 hC dX12_sums_34 (by decide) rfl (fun c => ?_) (fun c => ?_)
    · have hF := hF.1 c
      refine g_lload_n 149 hC dX12_sums_148 rfl 3 rfl rfl ?_
      refine g_lload 151 hC dX12_sums_149 rfl 6 rfl ?_
      refine g_iconst 152 hC (2 : Int32) dX12_sums_151 (by decide) rfl ?_
      refine g_aload_n 153 hC dX12_sums_152 rfl 0 rfl rfl ?_
      refine gf_X12_41_12I 156 hC hF dX12_sums_153 rfl (fun x_3 hF => ?_)
      refine g_imul 157 hC dX12_sums_156 rfl ?_
      refine g_lshl 158 hC dX12_sums_157 rfl ?_
      refine g_aload_n 159 hC dX12_sums_158 rfl 0 rfl rfl ?_
      refine g_iload 161 hC dX12_sums_159 rfl 4 rfl ?_
      refine g_iconst 162 hC (1 : Int32) dX12_sums_161 (by decide) rfl ?_
      refine g_isub 163 hC dX12_sums_162 rfl ?_
      refine g_cV (rest := [_, _]) wl_X12_92 hd_X12_scale (ci := 12) rfl 166 hC hF.1 (met_X12_scale hF.2) rfl ⟨Nat.le_of_ble_eq_true rfl, Nat.le_of_ble_eq_true rfl⟩ hu rfl (Nat.le_of_ble_eq_true rfl) dX12_sums_163 rfl (g_ty_j u v (Nat.le_refl _) (Nat.le_refl _) (fun j_5 M_4 hF => ?_))
      refine g_lmul 167 hC dX12_sums_166 rfl ?_
      refine g_ladd 168 hC dX12_sums_167 rfl ?_
      refine g_lstore_n 169 hC (lv' := [(3, .long _), (0, .ref _), (1, .ref _), (2, .int _), (5, .int _), (6, .ref _), (7, .long _), (9, .int _)]) dX12_sums_168 rfl rfl (by decide) rfl ?_
      refine g_iinc 172 hC (x5 + (-1 : Int32)) (lv' := [(5, .int _), (3, .long _), (0, .ref _), (1, .ref _), (2, .int _), (6, .ref _), (7, .long _), (9, .int _)]) dX12_sums_169 rfl 4 rfl rfl (by decide) rfl ?_
      refine g_goto 8 hC dX12_sums_172 (by decide) ?_
      refine g_sub [2, 3, 4, 1, 0] rfl ?_
      exact hK8 _ _ _ _ hu _ hF
    · have hF := hF.2 c
      refine g_aload 39 hC dX12_sums_37 rfl 5 rfl ?_
      refine g_iload 41 hC dX12_sums_39 rfl 7 rfl ?_
      refine g_lald 42 hC hF dX12_sums_41 rfl (fun j_6 hF => ?_)
      refine g_lconst 43 hC (0 : Int64) dX12_sums_42 (by decide) rfl ?_
      refine g_lcmp_ne 47 51 hC dX12_sums_43 rfl dX12_sums_44 (by decide) rfl (fun c => ?_) (fun c => ?_)
      · have hF := hF.1 c
        refine g_aload_n 52 hC dX12_sums_51 rfl 1 rfl rfl ?_
        refine g_aload_n 53 hC dX12_sums_52 rfl 0 rfl rfl ?_
        refine g_iload 55 hC dX12_sums_53 rfl 7 rfl ?_
        refine g_iload 57 hC dX12_sums_55 rfl 4 rfl ?_
        obtain ⟨c_9, s_10, hu, hF⟩ := hF
        refine gd_X12_150 [] 62 hC hF ⟨Nat.le_of_ble_eq_true rfl, Nat.le_of_ble_eq_true rfl⟩ hu rfl (Nat.le_of_ble_eq_true rfl) dX12_sums_57 rfl (fun x_8 M_7 hF => ?_)
        exact w_X12_sums_b62 hC _ _ _ _ _ _ _ _ _ _ _ hK8 hK28 _ _ hu _ hF
      · have hF := hF.2 c
        refine g_iconst 48 hC (0 : Int32) dX12_sums_47 (by decide) rfl ?_
        refine g_goto 62 hC dX12_sums_48 (by decide) ?_
        exact w_X12_sums_b62 hC _ _ _ _ _ _ _ _ _ _ _ hK8 hK28 _ _ hu _ hF
def F_X12_sums_b8 (Q : Int64 → gM → Prop)  (Lc Ls : Nat)  (a0 : Nat) (a1 : Nat) (x2 : Int32) : Nat → Int64 → Int32 → Nat → Nat → gM → Prop
  | 0, _, _, _, _, _ => False
  | n + 1, j3, x5, u, v, M =>
    ((x5 ≤ 0 →
      Q j3 M) ∧
      (¬ x5 ≤ 0 →
      ∃ c_3 s_4, (u + c_3 ≤ Lc ∧ v + s_4 ≤ Ls) ∧
      rc M 12 a0 ∧ F_X12_chances c_3 s_4 M a0 a1 x5 fun a_2 M_1 =>
      ∃ n_5, F_X12_sums_b28 Q Lc Ls (F_X12_sums_b8 Q Lc Ls a0 a1 x2 n) a0 a1 x2 j3 x5 a_2 n_5 (0 : Int64) (0 : Int32) (u + c_3) (v + s_4) M_1))
theorem w_X12_sums_b8 {G : gG} {Q : Int64 → gM → Prop} {Lc Ls : Nat} (hC : gCx G cX12_sums 15 RX12 (some .long) (gQj Q) (rm_X12_sums Lc Ls))  (a0 : Nat) (a1 : Nat) (x2 : Int32)  : ∀ (n : Nat) (j3 : Int64) (x5 : Int32) (u v : Nat) (hu : u ≤ Lc ∧ v ≤ Ls) (M : gM), F_X12_sums_b8 Q Lc Ls a0 a1 x2 n j3 x5 u v M → gAt G u v M [(0, .ref a0), (1, .ref a1), (2, .int x2), (3, .long j3), (5, .int x5)] 8 [] := by
  intro n
  induction n with
  | zero =>
    intro j3 x5 u v hu M hF
    exact hF.elim
  | succ n ih =>
    intro j3 x5 u v hu M hF
    have hK8 := ih
    unfold F_X12_sums_b8 at hF
    refine g_iload 10 hC dX12_sums_8 rfl 4 rfl ?_
    refine g_if_le 13 175 hC dX12_sums_10 (by decide) rfl (fun c => ?_) (fun c => ?_)
    · have hF := hF.1 c
      refine g_lload_n 176 hC dX12_sums_175 rfl 3 rfl rfl ?_
      exact g_lreturn hC ⟨_, rfl, hF⟩ dX12_sums_176 hu.1 hu.2
    · have hF := hF.2 c
      refine g_aload_n 14 hC dX12_sums_13 rfl 0 rfl rfl ?_
      refine g_aload_n 15 hC dX12_sums_14 rfl 1 rfl rfl ?_
      refine g_iload 17 hC dX12_sums_15 rfl 4 rfl ?_
      obtain ⟨c_3, s_4, hu, hF⟩ := hF
      refine g_cV (rest := []) wl_X12_160 hd_X12_chances (ci := 12) rfl 20 hC hF.1 (met_X12_chances hF.2) rfl ⟨Nat.le_of_ble_eq_true rfl, Nat.le_of_ble_eq_true rfl⟩ hu rfl (Nat.le_of_ble_eq_true rfl) dX12_sums_17 rfl (g_ty_a (u + c_3) (v + s_4) (Nat.le_refl _) (Nat.le_refl _) (fun a_2 M_1 hF => ?_))
      refine g_astore 22 hC (lv' := [(6, .ref _), (0, .ref _), (1, .ref _), (2, .int _), (3, .long _), (5, .int _)]) dX12_sums_20 rfl (by decide) rfl ?_
      refine g_lconst 23 hC (0 : Int64) dX12_sums_22 (by decide) rfl ?_
      refine g_lstore 25 hC (lv' := [(7, .long _), (6, .ref _), (0, .ref _), (1, .ref _), (2, .int _), (3, .long _), (5, .int _)]) dX12_sums_23 rfl (by decide) rfl ?_
      refine g_iconst 26 hC (0 : Int32) dX12_sums_25 (by decide) rfl ?_
      refine g_istore 28 hC (lv' := [(9, .int _), (7, .long _), (6, .ref _), (0, .ref _), (1, .ref _), (2, .int _), (3, .long _), (5, .int _)]) dX12_sums_26 rfl (by decide) rfl ?_
      refine g_sub [3, 4, 5, 6, 7, 2, 1, 0] rfl ?_
      obtain ⟨n_5, hF⟩ := hF
      exact w_X12_sums_b28 hC _ _ _ _ _ _ _ hK8 n_5 _ _ _ _ hu _ hF
def F_X12_sums (Lc Ls : Nat) (M : gM) (a0 : Nat) (a1 : Nat) (x2 : Int32) (Q : Int64 → gM → Prop)  : Prop :=
  gI M 12 a0 0 fun x_1 =>
  ∃ n_2, F_X12_sums_b8 Q Lc Ls a0 a1 x2 n_2 (0 : Int64) x_1 0 0 M
theorem met_X12_sums {M : gM} {a0 : Nat} {a1 : Nat} {x2 : Int32} {Q : Int64 → gM → Prop} {Lc Ls : Nat} (hF : F_X12_sums Lc Ls M a0 a1 x2 Q) : gMt yX12_sums (ws_ yX12_sums cX12_sums 15 (some .long)) (rm_X12_sums Lc Ls) M [.ref a0, .ref a1, .int x2] (gQj Q) := by
  refine gMet (bytes := cX12_sums) (maxL := 15) (ret := (some .long)) rfl rfl (by decide) (Nat.le_of_ble_eq_true rfl) (lv := [(0, .ref a0), (1, .ref a1), (2, .int x2)]) rfl (fun G hC hin => ?_)
  have hu : 0 ≤ Lc ∧ 0 ≤ Ls := ⟨Nat.zero_le _, Nat.zero_le _⟩
  unfold F_X12_sums at hF
  refine g_lconst 1 hC (0 : Int64) dX12_sums_0 (by decide) rfl ?_
  refine g_lstore_n 2 hC (lv' := [(3, .long _), (0, .ref _), (1, .ref _), (2, .int _)]) dX12_sums_1 rfl rfl (by decide) rfl ?_
  refine g_aload_n 3 hC dX12_sums_2 rfl 1 rfl rfl ?_
  refine gf_X12_9_12I 6 hC hF dX12_sums_3 rfl (fun x_1 hF => ?_)
  refine g_istore 8 hC (lv' := [(5, .int _), (3, .long _), (0, .ref _), (1, .ref _), (2, .int _)]) dX12_sums_6 rfl (by decide) rfl ?_
  refine g_sub [2, 3, 4, 1, 0] rfl ?_
  obtain ⟨n_2, hF⟩ := hF
  exact w_X12_sums_b8 hC _ _ _ n_2 _ _ _ _ hu _ hF
abbrev rm_X1_init (Lc Ls : Nat) : Room := { frames := 1, cells := Lc, slots := Ls, locals := 24 }
def F_X1_init (Lc Ls : Nat) (M : gM) (a0 : Nat) (Q : gM → Prop)  : Prop :=
  nA M 0 0 Lc Ls (.object "SendTheBox$House") (6 : Int32) 6 fun a_1 M_2 =>
  pR M_2 1 a0 0 (some a_1) fun M_3 =>
  pI M_3 1 a0 2 (1 : Int32) fun M_4 =>
  Q M_4
theorem met_X1_init {M : gM} {a0 : Nat} {Q : gM → Prop} {Lc Ls : Nat} (hF : F_X1_init Lc Ls M a0 Q) : gMt yX1_init (ws_ yX1_init cX1_init 1 none) (rm_X1_init Lc Ls) M [.ref a0] (gQv Q) := by
  refine gMet (bytes := cX1_init) (maxL := 1) (ret := none) rfl rfl (by decide) (Nat.le_of_ble_eq_true rfl) (lv := [(0, .ref a0)]) rfl (fun G hC hin => ?_)
  have hu : 0 ≤ Lc ∧ 0 ≤ Ls := ⟨Nat.zero_le _, Nat.zero_le _⟩
  unfold F_X1_init at hF
  refine g_aload_n 1 hC dX1_init_0 rfl 0 rfl rfl ?_
  refine g_objInit 4 hC q116 q109 q110 (Nat.le_of_ble_eq_true rfl) (Nat.le_of_ble_eq_true rfl) dX1_init_1 rfl ?_
  refine g_aload_n 5 hC dX1_init_4 rfl 0 rfl rfl ?_
  refine g_bipush 7 hC (6 : Int32) dX1_init_5 (by decide) rfl ?_
  have hu := hF.2.1
  refine g_anew 10 hC (by decide) q117 q118 hF dX1_init_7 rfl (fun a_1 M_2 hF => ?_)
  refine g_putFR (C := RX1) (T := TX1) (N := 4) (ci := 1) (k := 0) (ty := (.array (.object "SendTheBox$House"))) in_X1 tyX1 tyX1_ok nmX1 rfl (by decide) q119 rfl rfl rfl (fun _ _ _ => rfl) (g_narR _ _ (by decide)) (g_fitR _ _ (by decide)) 13 hC hin hF dX1_init_10 rfl (fun M_3 hF => ?_)
  refine g_aload_n 14 hC dX1_init_13 rfl 0 rfl rfl ?_
  refine g_iconst 15 hC (1 : Int32) dX1_init_14 (by decide) rfl ?_
  refine g_putI (C := RX1) (T := TX1) (N := 4) (ci := 1) (k := 2) (ty := .int) in_X1 tyX1 tyX1_ok nmX1 rfl (by decide) q123 rfl rfl (fun _ _ _ => rfl) rfl rfl 18 hC hF dX1_init_15 rfl (fun M_4 hF => ?_)
  exact g_return hC ⟨rfl, hF⟩ dX1_init_18 hu.1 hu.2
theorem gf_X1_17_1I {G : gG} {cc : ByteArray} {nL : Nat} {ret : Option FieldType} {Qf : Option Value → gM → Prop} {rm : Room} {cells slots : Nat} {M : gM} {lv : List (Nat × Value)} {pc : Nat} {st : List Value} {a : Nat} (n : Nat) (hC : gCx G cc nL RX1 ret Qf rm) {κ : Int32 → Prop} (hF : gI M 1 a 2 κ) (hdg : decode cc pc = .ok (.getfield 17, 3)) (hn : pc + 3 = n) (kk : ∀ x, κ x → gAt G cells slots M lv n (.int x :: st)) : gAt G cells slots M lv pc (.ref a :: st) :=
  g_getI (C := RX1) (T := TX1) (N := 4) in_X1 rfl (by decide) q123 (fun _ _ _ => rfl) n hC hF hdg hn kk
abbrev rm_X1_draw : Room := { frames := 0, cells := 0, slots := 0, locals := 0 }
def F_X1_draw  (M : gM) (a0 : Nat) (x1 : Int32) (Q : Int32 → gM → Prop)  : Prop :=
  gI M 1 a0 2 fun x_1 =>
  pI M 1 a0 2 ((x_1 * (1103515245 : Int32)) + (12345 : Int32)) fun M_2 =>
  gI M_2 1 a0 2 fun x_3 =>
  dz x1 <|
  Q ((x_3.toUInt32 >>> ((16 : Int32).toUInt32 &&& Int32.toUInt32 31)).toInt32 - (x_3.toUInt32 >>> ((16 : Int32).toUInt32 &&& Int32.toUInt32 31)).toInt32 / x1 * x1) M_2
theorem met_X1_draw {M : gM} {a0 : Nat} {x1 : Int32} {Q : Int32 → gM → Prop} (hF : F_X1_draw M a0 x1 Q) : gMt yX1_draw (ws_ yX1_draw cX1_draw 2 (some .int)) rm_X1_draw M [.ref a0, .int x1] (gQi Q) := by
  refine gMet (bytes := cX1_draw) (maxL := 2) (ret := (some .int)) rfl rfl (by decide) (Nat.le_of_ble_eq_true rfl) (lv := [(0, .ref a0), (1, .int x1)]) rfl (fun G hC hin => ?_)
  unfold F_X1_draw at hF
  refine g_aload_n 1 hC dX1_draw_0 rfl 0 rfl rfl ?_
  refine g_aload_n 2 hC dX1_draw_1 rfl 0 rfl rfl ?_
  refine gf_X1_17_1I 5 hC hF dX1_draw_2 rfl (fun x_1 hF => ?_)
  refine g_ldc 7 hC q1331 dX1_draw_5 rfl ?_
  refine g_imul 8 hC dX1_draw_7 rfl ?_
  refine g_sipush 11 hC (12345 : Int32) dX1_draw_8 (by decide) rfl ?_
  refine g_iadd 12 hC dX1_draw_11 rfl ?_
  refine g_putI (C := RX1) (T := TX1) (N := 4) (ci := 1) (k := 2) (ty := .int) in_X1 tyX1 tyX1_ok nmX1 rfl (by decide) q123 rfl rfl (fun _ _ _ => rfl) rfl rfl 15 hC hF dX1_draw_12 rfl (fun M_2 hF => ?_)
  refine g_aload_n 16 hC dX1_draw_15 rfl 0 rfl rfl ?_
  refine gf_X1_17_1I 19 hC hF dX1_draw_16 rfl (fun x_3 hF => ?_)
  refine g_bipush 21 hC (16 : Int32) dX1_draw_19 (by decide) rfl ?_
  refine g_iushr 22 hC dX1_draw_21 rfl ?_
  refine g_iload_n 23 hC dX1_draw_22 rfl 1 rfl rfl ?_
  refine g_irem 24 hC hF.1 dX1_draw_23 rfl ?_
  have hF := hF.2
  exact g_ireturn hC ⟨_, rfl, hF⟩ dX1_draw_24 (Nat.zero_le _) (Nat.zero_le _)
theorem gf_X14_19_12I {G : gG} {cc : ByteArray} {nL : Nat} {ret : Option FieldType} {Qf : Option Value → gM → Prop} {rm : Room} {cells slots : Nat} {M : gM} {lv : List (Nat × Value)} {pc : Nat} {st : List Value} {a : Nat} (n : Nat) (hC : gCx G cc nL RX14 ret Qf rm) {κ : Int32 → Prop} (hF : gI M 12 a 0 κ) (hdg : decode cc pc = .ok (.getfield 19, 3)) (hn : pc + 3 = n) (kk : ∀ x, κ x → gAt G cells slots M lv n (.int x :: st)) : gAt G cells slots M lv pc (.ref a :: st) :=
  g_getI (C := RX12) (T := TX12) (N := 17) in_X12 rfl (by decide) q578 (fun _ _ _ => rfl) n hC hF hdg hn kk
abbrev rm_X14_init : Room := { frames := 1, cells := 0, slots := 0, locals := 24 }
def F_X14_init  (M : gM) (a0 : Nat) (a1 : Nat) (a2 : Nat) (Q : gM → Prop)  : Prop :=
  pR M 14 a0 0 (some a1) fun M_1 =>
  pR M_1 14 a0 1 (some a2) fun M_2 =>
  gI M_2 12 a1 0 fun x_3 =>
  pI M_2 14 a0 2 x_3 fun M_4 =>
  Q M_4
theorem met_X14_init {M : gM} {a0 : Nat} {a1 : Nat} {a2 : Nat} {Q : gM → Prop} (hF : F_X14_init M a0 a1 a2 Q) : gMt yX14_init (ws_ yX14_init cX14_init 3 none) rm_X14_init M [.ref a0, .ref a1, .ref a2] (gQv Q) := by
  refine gMet (bytes := cX14_init) (maxL := 3) (ret := none) rfl rfl (by decide) (Nat.le_of_ble_eq_true rfl) (lv := [(0, .ref a0), (1, .ref a1), (2, .ref a2)]) rfl (fun G hC hin => ?_)
  unfold F_X14_init at hF
  refine g_aload_n 1 hC dX14_init_0 rfl 0 rfl rfl ?_
  refine g_objInit 4 hC q1287 q109 q110 (Nat.le_of_ble_eq_true rfl) (Nat.le_of_ble_eq_true rfl) dX14_init_1 rfl ?_
  refine g_aload_n 5 hC dX14_init_4 rfl 0 rfl rfl ?_
  refine g_aload_n 6 hC dX14_init_5 rfl 1 rfl rfl ?_
  refine g_putFR (C := RX14) (T := TX14) (N := 8) (ci := 14) (k := 0) (ty := (.object "SendTheBox$House")) in_X14 tyX14 tyX14_ok nmX14 rfl (by decide) q1288 rfl rfl rfl (fun _ _ _ => rfl) (g_narR _ _ (by decide)) (g_fitR _ _ (by decide)) 9 hC hin hF dX14_init_6 rfl (fun M_1 hF => ?_)
  refine g_aload_n 10 hC dX14_init_9 rfl 0 rfl rfl ?_
  refine g_aload_n 11 hC dX14_init_10 rfl 2 rfl rfl ?_
  refine g_putFR (C := RX14) (T := TX14) (N := 8) (ci := 14) (k := 1) (ty := (.object "SendTheBox$Rule")) in_X14 tyX14 tyX14_ok nmX14 rfl (by decide) q1289 rfl rfl rfl (fun _ _ _ => rfl) (g_narR _ _ (by decide)) (g_fitR _ _ (by decide)) 14 hC hin hF dX14_init_11 rfl (fun M_2 hF => ?_)
  refine g_aload_n 15 hC dX14_init_14 rfl 0 rfl rfl ?_
  refine g_aload_n 16 hC dX14_init_15 rfl 1 rfl rfl ?_
  refine gf_X14_19_12I 19 hC hF dX14_init_16 rfl (fun x_3 hF => ?_)
  refine g_putI (C := RX14) (T := TX14) (N := 8) (ci := 14) (k := 2) (ty := .int) in_X14 tyX14 tyX14_ok nmX14 rfl (by decide) q1290 rfl rfl (fun _ _ _ => rfl) rfl rfl 22 hC hF dX14_init_19 rfl (fun M_4 hF => ?_)
  exact g_return hC ⟨rfl, hF⟩ dX14_init_22 (Nat.zero_le _) (Nat.zero_le _)
theorem gf_X14_34_14I {G : gG} {cc : ByteArray} {nL : Nat} {ret : Option FieldType} {Qf : Option Value → gM → Prop} {rm : Room} {cells slots : Nat} {M : gM} {lv : List (Nat × Value)} {pc : Nat} {st : List Value} {a : Nat} (n : Nat) (hC : gCx G cc nL RX14 ret Qf rm) {κ : Int32 → Prop} (hF : gI M 14 a 4 κ) (hdg : decode cc pc = .ok (.getfield 34, 3)) (hn : pc + 3 = n) (kk : ∀ x, κ x → gAt G cells slots M lv n (.int x :: st)) : gAt G cells slots M lv pc (.ref a :: st) :=
  g_getI (C := RX14) (T := TX14) (N := 8) in_X14 rfl (by decide) q1294 (fun _ _ _ => rfl) n hC hF hdg hn kk
theorem gf_X14_9_14N {G : gG} {cc : ByteArray} {nL : Nat} {ret : Option FieldType} {Qf : Option Value → gM → Prop} {rm : Room} {cells slots : Nat} {M : gM} {lv : List (Nat × Value)} {pc : Nat} {st : List Value} {a : Nat} (n : Nat) (hC : gCx G cc nL RX14 ret Qf rm) {κ : Nat → Prop} (hF : gN M 14 a 0 κ) (hdg : decode cc pc = .ok (.getfield 9, 3)) (hn : pc + 3 = n) (kk : ∀ x, κ x → gAt G cells slots M lv n (.ref x :: st)) : gAt G cells slots M lv pc (.ref a :: st) :=
  g_getN (C := RX14) (T := TX14) (N := 8) in_X14 rfl (by decide) q1288 (fun _ _ _ => rfl) n hC hF hdg hn kk
theorem gf_X14_61_12I {G : gG} {cc : ByteArray} {nL : Nat} {ret : Option FieldType} {Qf : Option Value → gM → Prop} {rm : Room} {cells slots : Nat} {M : gM} {lv : List (Nat × Value)} {pc : Nat} {st : List Value} {a : Nat} (n : Nat) (hC : gCx G cc nL RX14 ret Qf rm) {κ : Int32 → Prop} (hF : gI M 12 a 1 κ) (hdg : decode cc pc = .ok (.getfield 61, 3)) (hn : pc + 3 = n) (kk : ∀ x, κ x → gAt G cells slots M lv n (.int x :: st)) : gAt G cells slots M lv pc (.ref a :: st) :=
  g_getI (C := RX12) (T := TX12) (N := 17) in_X12 rfl (by decide) q582 (fun _ _ _ => rfl) n hC hF hdg hn kk
theorem gf_X14_37_14I {G : gG} {cc : ByteArray} {nL : Nat} {ret : Option FieldType} {Qf : Option Value → gM → Prop} {rm : Room} {cells slots : Nat} {M : gM} {lv : List (Nat × Value)} {pc : Nat} {st : List Value} {a : Nat} (n : Nat) (hC : gCx G cc nL RX14 ret Qf rm) {κ : Int32 → Prop} (hF : gI M 14 a 5 κ) (hdg : decode cc pc = .ok (.getfield 37, 3)) (hn : pc + 3 = n) (kk : ∀ x, κ x → gAt G cells slots M lv n (.int x :: st)) : gAt G cells slots M lv pc (.ref a :: st) :=
  g_getI (C := RX14) (T := TX14) (N := 8) in_X14 rfl (by decide) q1296 (fun _ _ _ => rfl) n hC hF hdg hn kk
theorem gf_X14_40_14I {G : gG} {cc : ByteArray} {nL : Nat} {ret : Option FieldType} {Qf : Option Value → gM → Prop} {rm : Room} {cells slots : Nat} {M : gM} {lv : List (Nat × Value)} {pc : Nat} {st : List Value} {a : Nat} (n : Nat) (hC : gCx G cc nL RX14 ret Qf rm) {κ : Int32 → Prop} (hF : gI M 14 a 6 κ) (hdg : decode cc pc = .ok (.getfield 40, 3)) (hn : pc + 3 = n) (kk : ∀ x, κ x → gAt G cells slots M lv n (.int x :: st)) : gAt G cells slots M lv pc (.ref a :: st) :=
  g_getI (C := RX14) (T := TX14) (N := 8) in_X14 rfl (by decide) q1298 (fun _ _ _ => rfl) n hC hF hdg hn kk
theorem hd_X0_parcels : yX0_parcels.cls ≠ "java/lang/invoke/MethodHandle" ∧ yX0_parcels.cls ≠ "java/lang/invoke/VarHandle" ∧ (parseMethodDescriptor yX0_parcels.desc).map (fun d => d.parameters.length) = some 1 := by decide +kernel
theorem gf_X14_15_14N {G : gG} {cc : ByteArray} {nL : Nat} {ret : Option FieldType} {Qf : Option Value → gM → Prop} {rm : Room} {cells slots : Nat} {M : gM} {lv : List (Nat × Value)} {pc : Nat} {st : List Value} {a : Nat} (n : Nat) (hC : gCx G cc nL RX14 ret Qf rm) {κ : Nat → Prop} (hF : gN M 14 a 1 κ) (hdg : decode cc pc = .ok (.getfield 15, 3)) (hn : pc + 3 = n) (kk : ∀ x, κ x → gAt G cells slots M lv n (.ref x :: st)) : gAt G cells slots M lv pc (.ref a :: st) :=
  g_getN (C := RX14) (T := TX14) (N := 8) in_X14 rfl (by decide) q1289 (fun _ _ _ => rfl) n hC hF hdg hn kk
theorem gf_X14_31_14I {G : gG} {cc : ByteArray} {nL : Nat} {ret : Option FieldType} {Qf : Option Value → gM → Prop} {rm : Room} {cells slots : Nat} {M : gM} {lv : List (Nat × Value)} {pc : Nat} {st : List Value} {a : Nat} (n : Nat) (hC : gCx G cc nL RX14 ret Qf rm) {κ : Int32 → Prop} (hF : gI M 14 a 3 κ) (hdg : decode cc pc = .ok (.getfield 31, 3)) (hn : pc + 3 = n) (kk : ∀ x, κ x → gAt G cells slots M lv n (.int x :: st)) : gAt G cells slots M lv pc (.ref a :: st) :=
  g_getI (C := RX14) (T := TX14) (N := 8) in_X14 rfl (by decide) q1292 (fun _ _ _ => rfl) n hC hF hdg hn kk
theorem gf_X14_25_14I {G : gG} {cc : ByteArray} {nL : Nat} {ret : Option FieldType} {Qf : Option Value → gM → Prop} {rm : Room} {cells slots : Nat} {M : gM} {lv : List (Nat × Value)} {pc : Nat} {st : List Value} {a : Nat} (n : Nat) (hC : gCx G cc nL RX14 ret Qf rm) {κ : Int32 → Prop} (hF : gI M 14 a 2 κ) (hdg : decode cc pc = .ok (.getfield 25, 3)) (hn : pc + 3 = n) (kk : ∀ x, κ x → gAt G cells slots M lv n (.int x :: st)) : gAt G cells slots M lv pc (.ref a :: st) :=
  g_getI (C := RX14) (T := TX14) (N := 8) in_X14 rfl (by decide) q1290 (fun _ _ _ => rfl) n hC hF hdg hn kk
def FD_Rule_load (c1 s1 : Nat) (M : gM) (a : Nat) (y0 : Nat) (y1 : Int32) (y2 : Int32) (κ : Int32 → gM → Prop) : Prop :=
  (rc M 6 a ∧ F_X5_load c1 s1 M a y0 y1 y2 κ) ∨
  (rc M 7 a ∧ F_X5_load c1 s1 M a y0 y1 y2 κ) ∨
  (rc M 8 a ∧ F_X5_load c1 s1 M a y0 y1 y2 κ) ∨
  (rc M 9 a ∧ F_X9_load c1 s1 M a y0 y1 y2 κ) ∨
  (rc M 10 a ∧ F_X5_load c1 s1 M a y0 y1 y2 κ)
theorem wd_X14_55_X6 : GoodIn lw_all (va_wsU RX14 55 RX6 "SendTheBox$Rule" ⟨"SendTheBox$Rule", "load", "(LSendTheBox$House;II)I"⟩ yX5_load (ws_ yX5_load cX5_load 4 (some .int))) := lw_app (fun w hw => by
  simp only [List.mem_cons, List.not_mem_nil, or_false] at hw
  rcases hw with e | e | e | e | e
  · rw [e]; exact q1332
  · rw [e]; exact q1071
  · rw [e]; exact q1078
  · rw [e]; exact q1070
  · rw [e]; exact q84) (lw_meth q1080)
theorem wd_X14_55_X7 : GoodIn lw_all (va_wsU RX14 55 RX7 "SendTheBox$Rule" ⟨"SendTheBox$Rule", "load", "(LSendTheBox$House;II)I"⟩ yX5_load (ws_ yX5_load cX5_load 4 (some .int))) := lw_app (fun w hw => by
  simp only [List.mem_cons, List.not_mem_nil, or_false] at hw
  rcases hw with e | e | e | e | e
  · rw [e]; exact q1332
  · rw [e]; exact q1071
  · rw [e]; exact q1077
  · rw [e]; exact q1070
  · rw [e]; exact q84) (lw_meth q1080)
theorem wd_X14_55_X8 : GoodIn lw_all (va_wsU RX14 55 RX8 "SendTheBox$Rule" ⟨"SendTheBox$Rule", "load", "(LSendTheBox$House;II)I"⟩ yX5_load (ws_ yX5_load cX5_load 4 (some .int))) := lw_app (fun w hw => by
  simp only [List.mem_cons, List.not_mem_nil, or_false] at hw
  rcases hw with e | e | e | e | e
  · rw [e]; exact q1332
  · rw [e]; exact q1071
  · rw [e]; exact q1076
  · rw [e]; exact q1070
  · rw [e]; exact q84) (lw_meth q1080)
theorem wd_X14_55_X9 : GoodIn lw_all (va_wsO RX14 55 RX9 "SendTheBox$Rule" ⟨"SendTheBox$Rule", "load", "(LSendTheBox$House;II)I"⟩ yX9_load (ws_ yX9_load cX9_load 4 (some .int))) := lw_app (fun w hw => by
  simp only [List.mem_cons, List.not_mem_nil, or_false] at hw
  rcases hw with e | e | e | e | e | e
  · rw [e]; exact q1332
  · rw [e]; exact q1071
  · rw [e]; exact q1070
  · rw [e]; exact q1072
  · rw [e]; exact q1073
  · rw [e]; exact q88) (lw_meth q1074)
theorem wd_X14_55_X10 : GoodIn lw_all (va_wsU RX14 55 RX10 "SendTheBox$Rule" ⟨"SendTheBox$Rule", "load", "(LSendTheBox$House;II)I"⟩ yX5_load (ws_ yX5_load cX5_load 4 (some .int))) := lw_app (fun w hw => by
  simp only [List.mem_cons, List.not_mem_nil, or_false] at hw
  rcases hw with e | e | e | e | e
  · rw [e]; exact q1332
  · rw [e]; exact q1071
  · rw [e]; exact q1079
  · rw [e]; exact q1070
  · rw [e]; exact q84) (lw_meth q1080)
theorem hx_X14_55 : "SendTheBox$Rule" ≠ "java/lang/invoke/MethodHandle" ∧ "SendTheBox$Rule" ≠ "java/lang/invoke/VarHandle" ∧ (parseMethodDescriptor "(LSendTheBox$House;II)I").map (fun d => d.parameters.length) = some 3 := by decide +kernel
theorem gd_X14_55 {G : gG} {cc : ByteArray} {nL : Nat} {ret : Option FieldType} {Qf : Option Value → gM → Prop} {rm : Room} {cells slots : Nat} {M : gM} {lv : List (Nat × Value)} {pc : Nat} {a : Nat} {y0 : Nat} {y1 : Int32} {y2 : Int32} {st0 : List Value} {c1 s1 : Nat} {κ : Int32 → gM → Prop} (rest : List Value) (n : Nat) (hC : gCx G cc nL RX14 ret Qf rm) (hF : FD_Rule_load c1 s1 M a y0 y1 y2 κ) (hR : 11 ≤ rm.frames ∧ 10323 ≤ rm.locals) (hf : cells + c1 ≤ rm.cells ∧ slots + s1 ≤ rm.slots) (hst : st0 = ([.ref y0, .int y1, .int y2] : List Value).reverse ++ .ref a :: rest) (hroom : (rest.map fun v => v.category).sum ≤ 8) (hdg : decode cc pc = .ok (.invokevirtual 55, 3)) (hn : pc + 3 = n) (kk : ∀ r M1, κ r M1 → gAt G (cells + c1) (slots + s1) M1 lv n (.int r :: rest)) : gAt G cells slots M lv pc st0 := by
  rcases hF with hF | hF | hF | hF | hF
  · exact g_cU (x := ⟨"SendTheBox$Rule", "load", "(LSendTheBox$House;II)I"⟩) wd_X14_55_X6 rfl hx_X14_55 (ci := 6) rfl n hC hF.1 (met_X5_load hF.2) rfl ⟨Nat.le_trans (Nat.le_of_ble_eq_true rfl) hR.1, Nat.le_trans (Nat.le_of_ble_eq_true rfl) hR.2⟩ hf hst hroom hdg hn (g_ty_i (cells + c1) (slots + s1) (Nat.le_refl _) (Nat.le_refl _) kk)
  · exact g_cU (x := ⟨"SendTheBox$Rule", "load", "(LSendTheBox$House;II)I"⟩) wd_X14_55_X7 rfl hx_X14_55 (ci := 7) rfl n hC hF.1 (met_X5_load hF.2) rfl ⟨Nat.le_trans (Nat.le_of_ble_eq_true rfl) hR.1, Nat.le_trans (Nat.le_of_ble_eq_true rfl) hR.2⟩ hf hst hroom hdg hn (g_ty_i (cells + c1) (slots + s1) (Nat.le_refl _) (Nat.le_refl _) kk)
  · exact g_cU (x := ⟨"SendTheBox$Rule", "load", "(LSendTheBox$House;II)I"⟩) wd_X14_55_X8 rfl hx_X14_55 (ci := 8) rfl n hC hF.1 (met_X5_load hF.2) rfl ⟨Nat.le_trans (Nat.le_of_ble_eq_true rfl) hR.1, Nat.le_trans (Nat.le_of_ble_eq_true rfl) hR.2⟩ hf hst hroom hdg hn (g_ty_i (cells + c1) (slots + s1) (Nat.le_refl _) (Nat.le_refl _) kk)
  · exact g_cO (x := ⟨"SendTheBox$Rule", "load", "(LSendTheBox$House;II)I"⟩) wd_X14_55_X9 q1080 hx_X14_55 (ci := 9) rfl n hC hF.1 (met_X9_load hF.2) rfl ⟨Nat.le_trans (Nat.le_of_ble_eq_true rfl) hR.1, Nat.le_trans (Nat.le_of_ble_eq_true rfl) hR.2⟩ hf hst hroom hdg hn (g_ty_i (cells + c1) (slots + s1) (Nat.le_refl _) (Nat.le_refl _) kk)
  · exact g_cU (x := ⟨"SendTheBox$Rule", "load", "(LSendTheBox$House;II)I"⟩) wd_X14_55_X10 rfl hx_X14_55 (ci := 10) rfl n hC hF.1 (met_X5_load hF.2) rfl ⟨Nat.le_trans (Nat.le_of_ble_eq_true rfl) hR.1, Nat.le_trans (Nat.le_of_ble_eq_true rfl) hR.2⟩ hf hst hroom hdg hn (g_ty_i (cells + c1) (slots + s1) (Nat.le_refl _) (Nat.le_refl _) kk)
theorem gf_X14_70_12I {G : gG} {cc : ByteArray} {nL : Nat} {ret : Option FieldType} {Qf : Option Value → gM → Prop} {rm : Room} {cells slots : Nat} {M : gM} {lv : List (Nat × Value)} {pc : Nat} {st : List Value} {a : Nat} (n : Nat) (hC : gCx G cc nL RX14 ret Qf rm) {κ : Int32 → Prop} (hF : gI M 12 a 4 κ) (hdg : decode cc pc = .ok (.getfield 70, 3)) (hn : pc + 3 = n) (kk : ∀ x, κ x → gAt G cells slots M lv n (.int x :: st)) : gAt G cells slots M lv pc (.ref a :: st) :=
  g_getI (C := RX12) (T := TX12) (N := 17) in_X12 rfl (by decide) q593 (fun _ _ _ => rfl) n hC hF hdg hn kk
theorem wl_X14_87 : GoodIn lw_all (wsV RX14 87 RX12 yX12_leaving (ws_ yX12_leaving cX12_leaving 4 (some .int))) := lw_V q1339 q1019 q1020 q92 q1021
theorem hd_X1_draw : yX1_draw.cls = RX1 ∧ yX1_draw.cls ≠ "java/lang/invoke/MethodHandle" ∧ yX1_draw.cls ≠ "java/lang/invoke/VarHandle" ∧ (parseMethodDescriptor yX1_draw.desc).map (fun d => d.parameters.length) = some 1 := by decide +kernel
theorem wl_X14_46 : GoodIn lw_all (wsV RX14 46 RX1 yX1_draw (ws_ yX1_draw cX1_draw 2 (some .int))) := lw_V q1327 q1328 q1329 q70 q1330
theorem gf_X14_73_12N {G : gG} {cc : ByteArray} {nL : Nat} {ret : Option FieldType} {Qf : Option Value → gM → Prop} {rm : Room} {cells slots : Nat} {M : gM} {lv : List (Nat × Value)} {pc : Nat} {st : List Value} {a : Nat} (n : Nat) (hC : gCx G cc nL RX14 ret Qf rm) {κ : Nat → Prop} (hF : gN M 12 a 6 κ) (hdg : decode cc pc = .ok (.getfield 73, 3)) (hn : pc + 3 = n) (kk : ∀ x, κ x → gAt G cells slots M lv n (.ref x :: st)) : gAt G cells slots M lv pc (.ref a :: st) :=
  g_getN (C := RX12) (T := TX12) (N := 17) in_X12 rfl (by decide) q600 (fun _ _ _ => rfl) n hC hF hdg hn kk
theorem gf_X14_81_12N {G : gG} {cc : ByteArray} {nL : Nat} {ret : Option FieldType} {Qf : Option Value → gM → Prop} {rm : Room} {cells slots : Nat} {M : gM} {lv : List (Nat × Value)} {pc : Nat} {st : List Value} {a : Nat} (n : Nat) (hC : gCx G cc nL RX14 ret Qf rm) {κ : Nat → Prop} (hF : gN M 12 a 8 κ) (hdg : decode cc pc = .ok (.getfield 81, 3)) (hn : pc + 3 = n) (kk : ∀ x, κ x → gAt G cells slots M lv n (.ref x :: st)) : gAt G cells slots M lv pc (.ref a :: st) :=
  g_getN (C := RX12) (T := TX12) (N := 17) in_X12 rfl (by decide) q607 (fun _ _ _ => rfl) n hC hF hdg hn kk
theorem gf_X14_43_14I {G : gG} {cc : ByteArray} {nL : Nat} {ret : Option FieldType} {Qf : Option Value → gM → Prop} {rm : Room} {cells slots : Nat} {M : gM} {lv : List (Nat × Value)} {pc : Nat} {st : List Value} {a : Nat} (n : Nat) (hC : gCx G cc nL RX14 ret Qf rm) {κ : Int32 → Prop} (hF : gI M 14 a 7 κ) (hdg : decode cc pc = .ok (.getfield 43, 3)) (hn : pc + 3 = n) (kk : ∀ x, κ x → gAt G cells slots M lv n (.int x :: st)) : gAt G cells slots M lv pc (.ref a :: st) :=
  g_getI (C := RX14) (T := TX14) (N := 8) in_X14 rfl (by decide) q1300 (fun _ _ _ => rfl) n hC hF hdg hn kk
theorem wl_X14_67 : GoodIn lw_all (wsV RX14 67 RX12 yX12_holding (ws_ yX12_holding cX12_holding 4 (some .int))) := lw_V q1336 q1029 q1030 q92 q1031
theorem gf_X14_52_12I {G : gG} {cc : ByteArray} {nL : Nat} {ret : Option FieldType} {Qf : Option Value → gM → Prop} {rm : Room} {cells slots : Nat} {M : gM} {lv : List (Nat × Value)} {pc : Nat} {st : List Value} {a : Nat} (n : Nat) (hC : gCx G cc nL RX14 ret Qf rm) {κ : Int32 → Prop} (hF : gI M 12 a 3 κ) (hdg : decode cc pc = .ok (.getfield 52, 3)) (hn : pc + 3 = n) (kk : ∀ x, κ x → gAt G cells slots M lv n (.int x :: st)) : gAt G cells slots M lv pc (.ref a :: st) :=
  g_getI (C := RX12) (T := TX12) (N := 17) in_X12 rfl (by decide) q589 (fun _ _ _ => rfl) n hC hF hdg hn kk
abbrev rm_X14_lives (Lc Ls : Nat) : Room := { frames := 11, cells := Lc, slots := Ls, locals := 10323 }
def F_X14_lives_b248 (Q : Int32 → gM → Prop)  (Lc Ls : Nat)  (a0 : Nat) (x4 : Int32)  (u v : Nat) (M : gM) : Prop :=
  gI M 14 a0 4 fun x_1 =>
  pI M 14 a0 4 (x_1 + x4) fun M_2 =>
  Q x4 M_2
theorem w_X14_lives_b248 {G : gG} {Q : Int32 → gM → Prop} {Lc Ls : Nat} (hC : gCx G cX14_lives 6 RX14 (some .int) (gQi Q) (rm_X14_lives Lc Ls))  (a0 : Nat) (x4 : Int32)   (u v : Nat) (hu : u ≤ Lc ∧ v ≤ Ls) (M : gM) (hF : F_X14_lives_b248 Q Lc Ls a0 x4 u v M) : gAt G u v M [(0, .ref a0), (4, .int x4)] 248 [] := by
  unfold F_X14_lives_b248 at hF
  refine g_aload_n 249 hC dX14_lives_248 rfl 0 rfl rfl ?_
  refine g_dup 250 hC dX14_lives_249 rfl rfl ?_
  refine gf_X14_34_14I 253 hC hF dX14_lives_250 rfl (fun x_1 hF => ?_)
  refine g_iload 255 hC dX14_lives_253 rfl 1 rfl ?_
  refine g_iadd 256 hC dX14_lives_255 rfl ?_
  refine g_putI (C := RX14) (T := TX14) (N := 8) (ci := 14) (k := 4) (ty := .int) in_X14 tyX14 tyX14_ok nmX14 rfl (by decide) q1294 rfl rfl (fun _ _ _ => rfl) rfl rfl 259 hC hF dX14_lives_256 rfl (fun M_2 hF => ?_)
  refine g_iload 261 hC dX14_lives_259 rfl 1 rfl ?_
  exact g_ireturn hC ⟨_, rfl, hF⟩ dX14_lives_261 hu.1 hu.2
def F_X14_lives_b209 (Q : Int32 → gM → Prop)  (Lc Ls : Nat) (K120 : Int32 → Int32 → Nat → Nat → gM → Prop) (a0 : Nat) (a1 : Nat) (x4 : Int32) (x5 : Int32)  (u v : Nat) (M : gM) : Prop :=
  K120 x4 (x5 + (1 : Int32)) u v M
theorem w_X14_lives_b209 {G : gG} {Q : Int32 → gM → Prop} {Lc Ls : Nat} (hC : gCx G cX14_lives 6 RX14 (some .int) (gQi Q) (rm_X14_lives Lc Ls)) (K120 : Int32 → Int32 → Nat → Nat → gM → Prop) (a0 : Nat) (a1 : Nat) (x4 : Int32) (x5 : Int32)  (hK120 : ∀ x4' x5' u' v' (_ : u' ≤ Lc ∧ v' ≤ Ls) M', K120 x4' x5' u' v' M' → gAt G u' v' M' [(0, .ref a0), (1, .ref a1), (4, .int x4'), (5, .int x5')] 120 []) (u v : Nat) (hu : u ≤ Lc ∧ v ≤ Ls) (M : gM) (hF : F_X14_lives_b209 Q Lc Ls K120 a0 a1 x4 x5 u v M) : gAt G u v M [(0, .ref a0), (1, .ref a1), (4, .int x4), (5, .int x5)] 209 [] := by
  unfold F_X14_lives_b209 at hF
  refine g_iinc 212 hC (x5 + (1 : Int32)) (lv' := [(5, .int _), (0, .ref _), (1, .ref _), (4, .int _)]) dX14_lives_209 rfl 3 rfl rfl (by decide) rfl ?_
  refine g_goto 120 hC dX14_lives_212 (by decide) ?_
  refine g_sub [1, 2, 3, 0] rfl ?_
  exact hK120 _ _ _ _ hu _ hF
def F_X14_lives_b120 (Q : Int32 → gM → Prop)  (Lc Ls : Nat)  (a0 : Nat) (a1 : Nat) : Nat → Int32 → Int32 → Nat → Nat → gM → Prop
  | 0, _, _, _, _, _ => False
  | n + 1, x4, x5, u, v, M =>
    gN M 14 a0 0 fun a_1 =>
    gI M 12 a_1 4 fun x_2 =>
    ((x_2 ≤ x5 →
      gI M 14 a0 2 fun x_3 =>
      pI M 14 a0 2 (x_3 - (1 : Int32)) fun M_4 =>
      gI M_4 14 a0 2 fun x_5 =>
      ((¬ x_5 = 0 →
        F_X14_lives_b248 Q Lc Ls a0 x4 u v M_4) ∧
        (x_5 = 0 →
        gN M_4 14 a0 0 fun a_6 =>
        gI M_4 14 a0 3 fun x_7 =>
        rc M_4 12 a_6 ∧ F_X12_leaving M_4 a_6 x_7 fun x_9 M_8 =>
        F_X14_lives_b248 Q Lc Ls a0 (x4 + x_9) u v M_8))) ∧
      (¬ x_2 ≤ x5 →
      rc M 1 a1 ∧ F_X1_draw M a1 (4 : Int32) fun x_11 M_10 =>
      gN M_10 14 a0 0 fun a_12 =>
      gN M_10 12 a_12 6 fun a_13 =>
      aI M_10 .int a_13 x5 fun x_14 =>
      ((x_11 < x_14 →
        gI M_10 14 a0 3 fun x_15 =>
        F_X0_standing M_10 x_15 x5 fun x_17 M_16 =>
        ((¬ x_17 = (4 : Int32) →
          gI M_16 14 a0 3 fun x_18 =>
          aI M_16 .int (gl M_16 0) x5 fun x_19 =>
          pI M_16 14 a0 3 (x_18 + x_19) fun M_20 =>
          F_X14_lives_b209 Q Lc Ls (F_X14_lives_b120 Q Lc Ls a0 a1 n) a0 a1 x4 x5 u v M_20) ∧
          (x_17 = (4 : Int32) →
          gN M_16 14 a0 0 fun a_21 =>
          gN M_16 12 a_21 8 fun a_22 =>
          aI M_16 .int a_22 x5 fun x_23 =>
          gI M_16 14 a0 7 fun x_24 =>
          pI M_16 14 a0 7 (x_24 + (1 : Int32)) fun M_25 =>
          F_X14_lives_b209 Q Lc Ls (F_X14_lives_b120 Q Lc Ls a0 a1 n) a0 a1 (x4 + x_23) x5 u v M_25))) ∧
        (¬ x_11 < x_14 →
        F_X14_lives_b209 Q Lc Ls (F_X14_lives_b120 Q Lc Ls a0 a1 n) a0 a1 x4 x5 u v M_10))))
theorem w_X14_lives_b120 {G : gG} {Q : Int32 → gM → Prop} {Lc Ls : Nat} (hC : gCx G cX14_lives 6 RX14 (some .int) (gQi Q) (rm_X14_lives Lc Ls))  (a0 : Nat) (a1 : Nat)  : ∀ (n : Nat) (x4 : Int32) (x5 : Int32) (u v : Nat) (hu : u ≤ Lc ∧ v ≤ Ls) (M : gM), F_X14_lives_b120 Q Lc Ls a0 a1 n x4 x5 u v M → gAt G u v M [(0, .ref a0), (1, .ref a1), (4, .int x4), (5, .int x5)] 120 [] := by
  intro n
  induction n with
  | zero =>
    intro x4 x5 u v hu M hF
    exact hF.elim
  | succ n ih =>
    intro x4 x5 u v hu M hF
    have hK120 := ih
    unfold F_X14_lives_b120 at hF
    refine g_iload 122 hC dX14_lives_120 rfl 3 rfl ?_
    refine g_aload_n 123 hC dX14_lives_122 rfl 0 rfl rfl ?_
    refine gf_X14_9_14N 126 hC hF dX14_lives_123 rfl (fun a_1 hF => ?_)
    refine gf_X14_70_12I 129 hC hF dX14_lives_126 rfl (fun x_2 hF => ?_)
    refine g_icmp_ge 132 215 hC dX14_lives_129 (by decide) rfl (fun c => ?_) (fun c => ?_)
    · have hF := hF.1 c
      refine g_aload_n 216 hC dX14_lives_215 rfl 0 rfl rfl ?_
      refine g_dup 217 hC dX14_lives_216 rfl rfl ?_
      refine gf_X14_25_14I 220 hC hF dX14_lives_217 rfl (fun x_3 hF => ?_)
      refine g_iconst 221 hC (1 : Int32) dX14_lives_220 (by decide) rfl ?_
      refine g_isub 222 hC dX14_lives_221 rfl ?_
      refine g_putI (C := RX14) (T := TX14) (N := 8) (ci := 14) (k := 2) (ty := .int) in_X14 tyX14 tyX14_ok nmX14 rfl (by decide) q1290 rfl rfl (fun _ _ _ => rfl) rfl rfl 225 hC hF dX14_lives_222 rfl (fun M_4 hF => ?_)
      refine g_aload_n 226 hC dX14_lives_225 rfl 0 rfl rfl ?_
      refine gf_X14_25_14I 229 hC hF dX14_lives_226 rfl (fun x_5 hF => ?_)
      refine g_if_ne 232 248 hC dX14_lives_229 (by decide) rfl (fun c => ?_) (fun c => ?_)
      · have hF := hF.1 c
        refine g_sub [0, 2] rfl ?_
        exact w_X14_lives_b248 hC _ _ _ _ hu _ hF
      · have hF := hF.2 c
        refine g_iload 234 hC dX14_lives_232 rfl 2 rfl ?_
        refine g_aload_n 235 hC dX14_lives_234 rfl 0 rfl rfl ?_
        refine gf_X14_9_14N 238 hC hF dX14_lives_235 rfl (fun a_6 hF => ?_)
        refine g_aload_n 239 hC dX14_lives_238 rfl 0 rfl rfl ?_
        refine gf_X14_31_14I 242 hC hF dX14_lives_239 rfl (fun x_7 hF => ?_)
        refine g_cV (rest := [_]) wl_X14_87 hd_X12_leaving (ci := 12) rfl 245 hC hF.1 (met_X12_leaving hF.2) rfl ⟨Nat.le_of_ble_eq_true rfl, Nat.le_of_ble_eq_true rfl⟩ hu rfl (Nat.le_of_ble_eq_true rfl) dX14_lives_242 rfl (g_ty_i u v (Nat.le_refl _) (Nat.le_refl _) (fun x_9 M_8 hF => ?_))
        refine g_iadd 246 hC dX14_lives_245 rfl ?_
        refine g_istore 248 hC (lv' := [(4, .int _), (0, .ref _), (1, .ref _), (5, .int _)]) dX14_lives_246 rfl (by decide) rfl ?_
        refine g_sub [1, 0] rfl ?_
        exact w_X14_lives_b248 hC _ _ _ _ hu _ hF
    · have hF := hF.2 c
      refine g_aload_n 133 hC dX14_lives_132 rfl 1 rfl rfl ?_
      refine g_iconst 134 hC (4 : Int32) dX14_lives_133 (by decide) rfl ?_
      refine g_cV (rest := []) wl_X14_46 hd_X1_draw (ci := 1) rfl 137 hC hF.1 (met_X1_draw hF.2) rfl ⟨Nat.le_of_ble_eq_true rfl, Nat.le_of_ble_eq_true rfl⟩ hu rfl (Nat.le_of_ble_eq_true rfl) dX14_lives_134 rfl (g_ty_i u v (Nat.le_refl _) (Nat.le_refl _) (fun x_11 M_10 hF => ?_))
      refine g_aload_n 138 hC dX14_lives_137 rfl 0 rfl rfl ?_
      refine gf_X14_9_14N 141 hC hF dX14_lives_138 rfl (fun a_12 hF => ?_)
      refine gf_X14_73_12N 144 hC hF dX14_lives_141 rfl (fun a_13 hF => ?_)
      refine g_iload 146 hC dX14_lives_144 rfl 3 rfl ?_
      refine g_iald 147 hC hF dX14_lives_146 rfl (fun x_14 hF => ?_)
      refine g_icmp_lt 150 153 hC dX14_lives_147 (by decide) rfl (fun c => ?_) (fun c => ?_)
      · have hF := hF.1 c
        refine g_aload_n 154 hC dX14_lives_153 rfl 0 rfl rfl ?_
        refine gf_X14_31_14I 157 hC hF dX14_lives_154 rfl (fun x_15 hF => ?_)
        refine g_iload 159 hC dX14_lives_157 rfl 3 rfl ?_
        refine g_cSN (rest := []) q1337 q965 q69 q964 hd_X0_standing 162 hC (met_X0_standing hF) rfl ⟨Nat.le_of_ble_eq_true rfl, Nat.le_of_ble_eq_true rfl⟩ hu rfl (Nat.le_of_ble_eq_true rfl) dX14_lives_159 rfl (g_ty_i u v (Nat.le_refl _) (Nat.le_refl _) (fun x_17 M_16 hF => ?_))
        refine g_iconst 163 hC (4 : Int32) dX14_lives_162 (by decide) rfl ?_
        refine g_icmp_ne 166 194 hC dX14_lives_163 (by decide) rfl (fun c => ?_) (fun c => ?_)
        · have hF := hF.1 c
          refine g_aload_n 195 hC dX14_lives_194 rfl 0 rfl rfl ?_
          refine g_dup 196 hC dX14_lives_195 rfl rfl ?_
          refine gf_X14_31_14I 199 hC hF dX14_lives_196 rfl (fun x_18 hF => ?_)
          refine g_getsPN 202 hC q1338 dX14_lives_199 rfl ?_
          refine g_iload 204 hC dX14_lives_202 rfl 3 rfl ?_
          refine g_iald 205 hC hF dX14_lives_204 rfl (fun x_19 hF => ?_)
          refine g_iadd 206 hC dX14_lives_205 rfl ?_
          refine g_putI (C := RX14) (T := TX14) (N := 8) (ci := 14) (k := 3) (ty := .int) in_X14 tyX14 tyX14_ok nmX14 rfl (by decide) q1292 rfl rfl (fun _ _ _ => rfl) rfl rfl 209 hC hF dX14_lives_206 rfl (fun M_20 hF => ?_)
          exact w_X14_lives_b209 hC _ _ _ _ _ hK120 _ _ hu _ hF
        · have hF := hF.2 c
          refine g_iload 168 hC dX14_lives_166 rfl 2 rfl ?_
          refine g_aload_n 169 hC dX14_lives_168 rfl 0 rfl rfl ?_
          refine gf_X14_9_14N 172 hC hF dX14_lives_169 rfl (fun a_21 hF => ?_)
          refine gf_X14_81_12N 175 hC hF dX14_lives_172 rfl (fun a_22 hF => ?_)
          refine g_iload 177 hC dX14_lives_175 rfl 3 rfl ?_
          refine g_iald 178 hC hF dX14_lives_177 rfl (fun x_23 hF => ?_)
          refine g_iadd 179 hC dX14_lives_178 rfl ?_
          refine g_istore 181 hC (lv' := [(4, .int _), (0, .ref _), (1, .ref _), (5, .int _)]) dX14_lives_179 rfl (by decide) rfl ?_
          refine g_aload_n 182 hC dX14_lives_181 rfl 1 rfl rfl ?_
          refine g_dup 183 hC dX14_lives_182 rfl rfl ?_
          refine gf_X14_43_14I 186 hC hF dX14_lives_183 rfl (fun x_24 hF => ?_)
          refine g_iconst 187 hC (1 : Int32) dX14_lives_186 (by decide) rfl ?_
          refine g_iadd 188 hC dX14_lives_187 rfl ?_
          refine g_putI (C := RX14) (T := TX14) (N := 8) (ci := 14) (k := 7) (ty := .int) in_X14 tyX14 tyX14_ok nmX14 rfl (by decide) q1300 rfl rfl (fun _ _ _ => rfl) rfl rfl 191 hC hF dX14_lives_188 rfl (fun M_25 hF => ?_)
          refine g_goto 209 hC dX14_lives_191 (by decide) ?_
          refine g_sub [1, 2, 0, 3] rfl ?_
          exact w_X14_lives_b209 hC _ _ _ _ _ hK120 _ _ hu _ hF
      · have hF := hF.2 c
        refine g_goto 209 hC dX14_lives_150 (by decide) ?_
        exact w_X14_lives_b209 hC _ _ _ _ _ hK120 _ _ hu _ hF
def F_X14_lives_b91 (Q : Int32 → gM → Prop)  (Lc Ls : Nat)  (a0 : Nat) (a1 : Nat) (x3 : Int32) (x4 : Int32)  (u v : Nat) (M : gM) : Prop :=
  gI M 14 a0 3 fun x_1 =>
  pI M 14 a0 3 (x_1 - x3) fun M_2 =>
  gN M_2 14 a0 0 fun a_3 =>
  gI M_2 14 a0 3 fun x_4 =>
  rc M_2 12 a_3 ∧ F_X12_holding M_2 a_3 x_4 fun x_6 M_5 =>
  ∃ n_7, F_X14_lives_b120 Q Lc Ls a0 a1 n_7 (x4 + x_6) (0 : Int32) u v M_5
theorem w_X14_lives_b91 {G : gG} {Q : Int32 → gM → Prop} {Lc Ls : Nat} (hC : gCx G cX14_lives 6 RX14 (some .int) (gQi Q) (rm_X14_lives Lc Ls))  (a0 : Nat) (a1 : Nat) (x3 : Int32) (x4 : Int32)   (u v : Nat) (hu : u ≤ Lc ∧ v ≤ Ls) (M : gM) (hF : F_X14_lives_b91 Q Lc Ls a0 a1 x3 x4 u v M) : gAt G u v M [(0, .ref a0), (1, .ref a1), (3, .int x3), (4, .int x4)] 91 [] := by
  unfold F_X14_lives_b91 at hF
  refine g_aload_n 92 hC dX14_lives_91 rfl 0 rfl rfl ?_
  refine g_dup 93 hC dX14_lives_92 rfl rfl ?_
  refine gf_X14_31_14I 96 hC hF dX14_lives_93 rfl (fun x_1 hF => ?_)
  refine g_iload_n 97 hC dX14_lives_96 rfl 2 rfl rfl ?_
  refine g_isub 98 hC dX14_lives_97 rfl ?_
  refine g_putI (C := RX14) (T := TX14) (N := 8) (ci := 14) (k := 3) (ty := .int) in_X14 tyX14 tyX14_ok nmX14 rfl (by decide) q1292 rfl rfl (fun _ _ _ => rfl) rfl rfl 101 hC hF dX14_lives_98 rfl (fun M_2 hF => ?_)
  refine g_iload 103 hC dX14_lives_101 rfl 3 rfl ?_
  refine g_aload_n 104 hC dX14_lives_103 rfl 0 rfl rfl ?_
  refine gf_X14_9_14N 107 hC hF dX14_lives_104 rfl (fun a_3 hF => ?_)
  refine g_aload_n 108 hC dX14_lives_107 rfl 0 rfl rfl ?_
  refine gf_X14_31_14I 111 hC hF dX14_lives_108 rfl (fun x_4 hF => ?_)
  refine g_cV (rest := [_]) wl_X14_67 hd_X12_holding (ci := 12) rfl 114 hC hF.1 (met_X12_holding hF.2) rfl ⟨Nat.le_of_ble_eq_true rfl, Nat.le_of_ble_eq_true rfl⟩ hu rfl (Nat.le_of_ble_eq_true rfl) dX14_lives_111 rfl (g_ty_i u v (Nat.le_refl _) (Nat.le_refl _) (fun x_6 M_5 hF => ?_))
  refine g_iadd 115 hC dX14_lives_114 rfl ?_
  refine g_istore 117 hC (lv' := [(4, .int _), (0, .ref _), (1, .ref _), (3, .int _)]) dX14_lives_115 rfl (by decide) rfl ?_
  refine g_iconst 118 hC (0 : Int32) dX14_lives_117 (by decide) rfl ?_
  refine g_istore 120 hC (lv' := [(5, .int _), (4, .int _), (0, .ref _), (1, .ref _), (3, .int _)]) dX14_lives_118 rfl (by decide) rfl ?_
  refine g_sub [2, 3, 1, 0] rfl ?_
  obtain ⟨n_7, hF⟩ := hF
  exact w_X14_lives_b120 hC _ _ n_7 _ _ _ _ hu _ hF
def F_X14_lives_b48 (Q : Int32 → gM → Prop)  (Lc Ls : Nat)  (a0 : Nat) (a1 : Nat) (t0 : Int32) (u v : Nat) (M : gM) : Prop :=
  ((t0 = 0 →
    F_X14_lives_b91 Q Lc Ls a0 a1 t0 (0 : Int32) u v M) ∧
    (¬ t0 = 0 →
    gN M 14 a0 0 fun a_1 =>
    gI M 12 a_1 1 fun x_2 =>
    gI M 14 a0 5 fun x_3 =>
    pI M 14 a0 5 (x_3 + (1 : Int32)) fun M_4 =>
    gI M_4 14 a0 6 fun x_5 =>
    F_X0_parcels M_4 t0 fun x_7 M_6 =>
    pI M_6 14 a0 6 (x_5 + x_7) fun M_8 =>
    F_X14_lives_b91 Q Lc Ls a0 a1 t0 ((0 : Int32) + x_2) u v M_8))
theorem w_X14_lives_b48 {G : gG} {Q : Int32 → gM → Prop} {Lc Ls : Nat} (hC : gCx G cX14_lives 6 RX14 (some .int) (gQi Q) (rm_X14_lives Lc Ls))  (a0 : Nat) (a1 : Nat) (t0 : Int32)  (u v : Nat) (hu : u ≤ Lc ∧ v ≤ Ls) (M : gM) (hF : F_X14_lives_b48 Q Lc Ls a0 a1 t0 u v M) : gAt G u v M [(0, .ref a0), (1, .ref a1)] 48 [.int t0] := by
  unfold F_X14_lives_b48 at hF
  refine g_istore_n 49 hC (lv' := [(3, .int _), (0, .ref _), (1, .ref _)]) dX14_lives_48 rfl rfl (by decide) rfl ?_
  refine g_iconst 50 hC (0 : Int32) dX14_lives_49 (by decide) rfl ?_
  refine g_istore 52 hC (lv' := [(4, .int _), (3, .int _), (0, .ref _), (1, .ref _)]) dX14_lives_50 rfl (by decide) rfl ?_
  refine g_iload_n 53 hC dX14_lives_52 rfl 1 rfl rfl ?_
  refine g_if_eq 56 91 hC dX14_lives_53 (by decide) rfl (fun c => ?_) (fun c => ?_)
  · have hF := hF.1 c
    refine g_sub [2, 3, 1, 0] rfl ?_
    exact w_X14_lives_b91 hC _ _ _ _ _ _ hu _ hF
  · have hF := hF.2 c
    refine g_iload 58 hC dX14_lives_56 rfl 0 rfl ?_
    refine g_aload_n 59 hC dX14_lives_58 rfl 2 rfl rfl ?_
    refine gf_X14_9_14N 62 hC hF dX14_lives_59 rfl (fun a_1 hF => ?_)
    refine gf_X14_61_12I 65 hC hF dX14_lives_62 rfl (fun x_2 hF => ?_)
    refine g_iadd 66 hC dX14_lives_65 rfl ?_
    refine g_istore 68 hC (lv' := [(4, .int _), (3, .int _), (0, .ref _), (1, .ref _)]) dX14_lives_66 rfl (by decide) rfl ?_
    refine g_aload_n 69 hC dX14_lives_68 rfl 2 rfl rfl ?_
    refine g_dup 70 hC dX14_lives_69 rfl rfl ?_
    refine gf_X14_37_14I 73 hC hF dX14_lives_70 rfl (fun x_3 hF => ?_)
    refine g_iconst 74 hC (1 : Int32) dX14_lives_73 (by decide) rfl ?_
    refine g_iadd 75 hC dX14_lives_74 rfl ?_
    refine g_putI (C := RX14) (T := TX14) (N := 8) (ci := 14) (k := 5) (ty := .int) in_X14 tyX14 tyX14_ok nmX14 rfl (by decide) q1296 rfl rfl (fun _ _ _ => rfl) rfl rfl 78 hC hF dX14_lives_75 rfl (fun M_4 hF => ?_)
    refine g_aload_n 79 hC dX14_lives_78 rfl 2 rfl rfl ?_
    refine g_dup 80 hC dX14_lives_79 rfl rfl ?_
    refine gf_X14_40_14I 83 hC hF dX14_lives_80 rfl (fun x_5 hF => ?_)
    refine g_iload_n 84 hC dX14_lives_83 rfl 1 rfl rfl ?_
    refine g_cSN (rest := [_, _]) q1333 q1335 q69 q1334 hd_X0_parcels 87 hC (met_X0_parcels hF) rfl ⟨Nat.le_of_ble_eq_true rfl, Nat.le_of_ble_eq_true rfl⟩ hu rfl (Nat.le_of_ble_eq_true rfl) dX14_lives_84 rfl (g_ty_i u v (Nat.le_refl _) (Nat.le_refl _) (fun x_7 M_6 hF => ?_))
    refine g_iadd 88 hC dX14_lives_87 rfl ?_
    refine g_putI (C := RX14) (T := TX14) (N := 8) (ci := 14) (k := 6) (ty := .int) in_X14 tyX14 tyX14_ok nmX14 rfl (by decide) q1298 rfl rfl (fun _ _ _ => rfl) rfl rfl 91 hC hF dX14_lives_88 rfl (fun M_8 hF => ?_)
    refine g_sub [2, 3, 1, 0] rfl ?_
    exact w_X14_lives_b91 hC _ _ _ _ _ _ hu _ hF
def F_X14_lives_b20 (Q : Int32 → gM → Prop)  (Lc Ls : Nat)  (a0 : Nat) (a1 : Nat) (t0 : Int32) (u v : Nat) (M : gM) : Prop :=
  ((t0 = 0 →
    gN M 14 a0 1 fun a_1 =>
    gN M 14 a0 0 fun a_2 =>
    gI M 14 a0 3 fun x_3 =>
    gI M 14 a0 2 fun x_4 =>
    ∃ c_7 s_8, (u + c_7 ≤ Lc ∧ v + s_8 ≤ Ls) ∧
    FD_Rule_load c_7 s_8 M a_1 a_2 x_3 x_4 fun x_6 M_5 =>
    F_X14_lives_b48 Q Lc Ls a0 a1 x_6 (u + c_7) (v + s_8) M_5) ∧
    (¬ t0 = 0 →
    F_X14_lives_b48 Q Lc Ls a0 a1 (0 : Int32) u v M))
theorem w_X14_lives_b20 {G : gG} {Q : Int32 → gM → Prop} {Lc Ls : Nat} (hC : gCx G cX14_lives 6 RX14 (some .int) (gQi Q) (rm_X14_lives Lc Ls))  (a0 : Nat) (a1 : Nat) (t0 : Int32)  (u v : Nat) (hu : u ≤ Lc ∧ v ≤ Ls) (M : gM) (hF : F_X14_lives_b20 Q Lc Ls a0 a1 t0 u v M) : gAt G u v M [(0, .ref a0), (1, .ref a1)] 20 [.int t0] := by
  unfold F_X14_lives_b20 at hF
  refine g_istore_n 21 hC (lv' := [(2, .int _), (0, .ref _), (1, .ref _)]) dX14_lives_20 rfl rfl (by decide) rfl ?_
  refine g_iload_n 22 hC dX14_lives_21 rfl 0 rfl rfl ?_
  refine g_if_eq 25 29 hC dX14_lives_22 (by decide) rfl (fun c => ?_) (fun c => ?_)
  · have hF := hF.1 c
    refine g_aload_n 30 hC dX14_lives_29 rfl 1 rfl rfl ?_
    refine gf_X14_15_14N 33 hC hF dX14_lives_30 rfl (fun a_1 hF => ?_)
    refine g_aload_n 34 hC dX14_lives_33 rfl 1 rfl rfl ?_
    refine gf_X14_9_14N 37 hC hF dX14_lives_34 rfl (fun a_2 hF => ?_)
    refine g_aload_n 38 hC dX14_lives_37 rfl 1 rfl rfl ?_
    refine gf_X14_31_14I 41 hC hF dX14_lives_38 rfl (fun x_3 hF => ?_)
    refine g_aload_n 42 hC dX14_lives_41 rfl 1 rfl rfl ?_
    refine gf_X14_25_14I 45 hC hF dX14_lives_42 rfl (fun x_4 hF => ?_)
    obtain ⟨c_7, s_8, hu, hF⟩ := hF
    refine gd_X14_55 [] 48 hC hF ⟨Nat.le_of_ble_eq_true rfl, Nat.le_of_ble_eq_true rfl⟩ hu rfl (Nat.le_of_ble_eq_true rfl) dX14_lives_45 rfl (fun x_6 M_5 hF => ?_)
    refine g_sub [1, 2] rfl ?_
    exact w_X14_lives_b48 hC _ _ _ _ _ hu _ hF
  · have hF := hF.2 c
    refine g_iconst 26 hC (0 : Int32) dX14_lives_25 (by decide) rfl ?_
    refine g_goto 48 hC dX14_lives_26 (by decide) ?_
    refine g_sub [1, 2] rfl ?_
    exact w_X14_lives_b48 hC _ _ _ _ _ hu _ hF
def F_X14_lives (Lc Ls : Nat) (M : gM) (a0 : Nat) (a1 : Nat) (Q : Int32 → gM → Prop)  : Prop :=
  rc M 1 a1 ∧ F_X1_draw M a1 (4 : Int32) fun x_2 M_1 =>
  gN M_1 14 a0 0 fun a_3 =>
  gI M_1 12 a_3 3 fun x_4 =>
  ((x_4 ≤ x_2 →
    F_X14_lives_b20 Q Lc Ls a0 a1 (0 : Int32) 0 0 M_1) ∧
    (¬ x_4 ≤ x_2 →
    F_X14_lives_b20 Q Lc Ls a0 a1 (1 : Int32) 0 0 M_1))
theorem met_X14_lives {M : gM} {a0 : Nat} {a1 : Nat} {Q : Int32 → gM → Prop} {Lc Ls : Nat} (hF : F_X14_lives Lc Ls M a0 a1 Q) : gMt yX14_lives (ws_ yX14_lives cX14_lives 6 (some .int)) (rm_X14_lives Lc Ls) M [.ref a0, .ref a1] (gQi Q) := by
  refine gMet (bytes := cX14_lives) (maxL := 6) (ret := (some .int)) rfl rfl (by decide) (Nat.le_of_ble_eq_true rfl) (lv := [(0, .ref a0), (1, .ref a1)]) rfl (fun G hC hin => ?_)
  have hu : 0 ≤ Lc ∧ 0 ≤ Ls := ⟨Nat.zero_le _, Nat.zero_le _⟩
  unfold F_X14_lives at hF
  refine g_aload_n 1 hC dX14_lives_0 rfl 1 rfl rfl ?_
  refine g_iconst 2 hC (4 : Int32) dX14_lives_1 (by decide) rfl ?_
  refine g_cV (rest := []) wl_X14_46 hd_X1_draw (ci := 1) rfl 5 hC hF.1 (met_X1_draw hF.2) rfl ⟨Nat.le_of_ble_eq_true rfl, Nat.le_of_ble_eq_true rfl⟩ hu rfl (Nat.le_of_ble_eq_true rfl) dX14_lives_2 rfl (g_ty_i 0 0 (Nat.le_refl _) (Nat.le_refl _) (fun x_2 M_1 hF => ?_))
  refine g_aload_n 6 hC dX14_lives_5 rfl 0 rfl rfl ?_
  refine gf_X14_9_14N 9 hC hF dX14_lives_6 rfl (fun a_3 hF => ?_)
  refine gf_X14_52_12I 12 hC hF dX14_lives_9 rfl (fun x_4 hF => ?_)
  refine g_icmp_ge 15 19 hC dX14_lives_12 (by decide) rfl (fun c => ?_) (fun c => ?_)
  · have hF := hF.1 c
    refine g_iconst 20 hC (0 : Int32) dX14_lives_19 (by decide) rfl ?_
    exact w_X14_lives_b20 hC _ _ _ _ _ hu _ hF
  · have hF := hF.2 c
    refine g_iconst 16 hC (1 : Int32) dX14_lives_15 (by decide) rfl ?_
    refine g_goto 20 hC dX14_lives_16 (by decide) ?_
    exact w_X14_lives_b20 hC _ _ _ _ _ hu _ hF
theorem hd_X14_init : yX14_init.cls ≠ "java/lang/invoke/MethodHandle" ∧ yX14_init.cls ≠ "java/lang/invoke/VarHandle" ∧ (parseMethodDescriptor yX14_init.desc).map (fun d => d.parameters.length) = some 2 := by decide +kernel
abbrev rm_X14_copied (Lc Ls : Nat) : Room := { frames := 2, cells := Lc, slots := Ls, locals := 46 }
def F_X14_copied (Lc Ls : Nat) (M : gM) (a0 : Nat) (Q : Nat → gM → Prop)  : Prop :=
  nO M 0 0 Lc Ls 14 8 fun a_1 M_2 =>
  gN M_2 14 a0 0 fun a_3 =>
  gN M_2 14 a0 1 fun a_4 =>
  F_X14_init M_2 a_1 a_3 a_4 fun M_5 =>
  gI M_5 14 a0 2 fun x_7 =>
  pI M_5 14 a_1 2 x_7 fun M_8 =>
  gI M_8 14 a0 3 fun x_9 =>
  pI M_8 14 a_1 3 x_9 fun M_10 =>
  gI M_10 14 a0 4 fun x_11 =>
  pI M_10 14 a_1 4 x_11 fun M_12 =>
  gI M_12 14 a0 5 fun x_13 =>
  pI M_12 14 a_1 5 x_13 fun M_14 =>
  gI M_14 14 a0 6 fun x_15 =>
  pI M_14 14 a_1 6 x_15 fun M_16 =>
  gI M_16 14 a0 7 fun x_17 =>
  pI M_16 14 a_1 7 x_17 fun M_18 =>
  Q a_1 M_18
theorem met_X14_copied {M : gM} {a0 : Nat} {Q : Nat → gM → Prop} {Lc Ls : Nat} (hF : F_X14_copied Lc Ls M a0 Q) : gMt yX14_copied (ws_ yX14_copied cX14_copied 2 (some (.object "SendTheBox$Week"))) (rm_X14_copied Lc Ls) M [.ref a0] (gQa Q) := by
  refine gMet (bytes := cX14_copied) (maxL := 2) (ret := (some (.object "SendTheBox$Week"))) rfl rfl (by decide) (Nat.le_of_ble_eq_true rfl) (lv := [(0, .ref a0)]) rfl (fun G hC hin => ?_)
  have hu : 0 ≤ Lc ∧ 0 ≤ Ls := ⟨Nat.zero_le _, Nat.zero_le _⟩
  unfold F_X14_copied at hF
  have hu := hF.1
  refine g_new (C := RX14) (T := TX14) (N := 8) (ci := 14) in_X14 tyX14_ok (by decide) rfl q1363 q1282 q102 3 hC hF dX14_copied_0 rfl (fun a_1 M_2 hF => ?_)
  refine g_dup 4 hC dX14_copied_3 rfl rfl ?_
  refine g_aload_n 5 hC dX14_copied_4 rfl 0 rfl rfl ?_
  refine gf_X14_9_14N 8 hC hF dX14_copied_5 rfl (fun a_3 hF => ?_)
  refine g_aload_n 9 hC dX14_copied_8 rfl 0 rfl rfl ?_
  refine gf_X14_15_14N 12 hC hF dX14_copied_9 rfl (fun a_4 hF => ?_)
  refine g_cI (rest := [_]) q1286 q102 q1364 q1285 rfl hd_X14_init 15 hC (met_X14_init hF) rfl ⟨Nat.le_of_ble_eq_true rfl, Nat.le_of_ble_eq_true rfl⟩ hu rfl (Nat.le_of_ble_eq_true rfl) dX14_copied_12 rfl (g_ty_v (0 + 1) (0 + 8) (Nat.le_refl _) (Nat.le_refl _) (fun M_5 hF => ?_))
  refine g_astore_n 16 hC (lv' := [(1, .ref _), (0, .ref _)]) dX14_copied_15 rfl rfl (by decide) rfl ?_
  refine g_aload_n 17 hC dX14_copied_16 rfl 0 rfl rfl ?_
  refine g_aload_n 18 hC dX14_copied_17 rfl 1 rfl rfl ?_
  refine gf_X14_25_14I 21 hC hF dX14_copied_18 rfl (fun x_7 hF => ?_)
  refine g_putI (C := RX14) (T := TX14) (N := 8) (ci := 14) (k := 2) (ty := .int) in_X14 tyX14 tyX14_ok nmX14 rfl (by decide) q1290 rfl rfl (fun _ _ _ => rfl) rfl rfl 24 hC hF dX14_copied_21 rfl (fun M_8 hF => ?_)
  refine g_aload_n 25 hC dX14_copied_24 rfl 0 rfl rfl ?_
  refine g_aload_n 26 hC dX14_copied_25 rfl 1 rfl rfl ?_
  refine gf_X14_31_14I 29 hC hF dX14_copied_26 rfl (fun x_9 hF => ?_)
  refine g_putI (C := RX14) (T := TX14) (N := 8) (ci := 14) (k := 3) (ty := .int) in_X14 tyX14 tyX14_ok nmX14 rfl (by decide) q1292 rfl rfl (fun _ _ _ => rfl) rfl rfl 32 hC hF dX14_copied_29 rfl (fun M_10 hF => ?_)
  refine g_aload_n 33 hC dX14_copied_32 rfl 0 rfl rfl ?_
  refine g_aload_n 34 hC dX14_copied_33 rfl 1 rfl rfl ?_
  refine gf_X14_34_14I 37 hC hF dX14_copied_34 rfl (fun x_11 hF => ?_)
  refine g_putI (C := RX14) (T := TX14) (N := 8) (ci := 14) (k := 4) (ty := .int) in_X14 tyX14 tyX14_ok nmX14 rfl (by decide) q1294 rfl rfl (fun _ _ _ => rfl) rfl rfl 40 hC hF dX14_copied_37 rfl (fun M_12 hF => ?_)
  refine g_aload_n 41 hC dX14_copied_40 rfl 0 rfl rfl ?_
  refine g_aload_n 42 hC dX14_copied_41 rfl 1 rfl rfl ?_
  refine gf_X14_37_14I 45 hC hF dX14_copied_42 rfl (fun x_13 hF => ?_)
  refine g_putI (C := RX14) (T := TX14) (N := 8) (ci := 14) (k := 5) (ty := .int) in_X14 tyX14 tyX14_ok nmX14 rfl (by decide) q1296 rfl rfl (fun _ _ _ => rfl) rfl rfl 48 hC hF dX14_copied_45 rfl (fun M_14 hF => ?_)
  refine g_aload_n 49 hC dX14_copied_48 rfl 0 rfl rfl ?_
  refine g_aload_n 50 hC dX14_copied_49 rfl 1 rfl rfl ?_
  refine gf_X14_40_14I 53 hC hF dX14_copied_50 rfl (fun x_15 hF => ?_)
  refine g_putI (C := RX14) (T := TX14) (N := 8) (ci := 14) (k := 6) (ty := .int) in_X14 tyX14 tyX14_ok nmX14 rfl (by decide) q1298 rfl rfl (fun _ _ _ => rfl) rfl rfl 56 hC hF dX14_copied_53 rfl (fun M_16 hF => ?_)
  refine g_aload_n 57 hC dX14_copied_56 rfl 0 rfl rfl ?_
  refine g_aload_n 58 hC dX14_copied_57 rfl 1 rfl rfl ?_
  refine gf_X14_43_14I 61 hC hF dX14_copied_58 rfl (fun x_17 hF => ?_)
  refine g_putI (C := RX14) (T := TX14) (N := 8) (ci := 14) (k := 7) (ty := .int) in_X14 tyX14 tyX14_ok nmX14 rfl (by decide) q1300 rfl rfl (fun _ _ _ => rfl) rfl rfl 64 hC hF dX14_copied_61 rfl (fun M_18 hF => ?_)
  refine g_aload_n 65 hC dX14_copied_64 rfl 0 rfl rfl ?_
  exact g_areturn (v := some a_1) hC (Or.inl ⟨_, rfl⟩) ⟨_, rfl, hF⟩ dX14_copied_65 hu.1 hu.2
theorem gf_X1_22_1I {G : gG} {cc : ByteArray} {nL : Nat} {ret : Option FieldType} {Qf : Option Value → gM → Prop} {rm : Room} {cells slots : Nat} {M : gM} {lv : List (Nat × Value)} {pc : Nat} {st : List Value} {a : Nat} (n : Nat) (hC : gCx G cc nL RX1 ret Qf rm) {κ : Int32 → Prop} (hF : gI M 1 a 1 κ) (hdg : decode cc pc = .ok (.getfield 22, 3)) (hn : pc + 3 = n) (kk : ∀ x, κ x → gAt G cells slots M lv n (.int x :: st)) : gAt G cells slots M lv pc (.ref a :: st) :=
  g_getI (C := RX1) (T := TX1) (N := 4) in_X1 rfl (by decide) q121 (fun _ _ _ => rfl) n hC hF hdg hn kk
theorem gf_X1_29_1R {G : gG} {cc : ByteArray} {nL : Nat} {ret : Option FieldType} {Qf : Option Value → gM → Prop} {rm : Room} {cells slots : Nat} {M : gM} {lv : List (Nat × Value)} {pc : Nat} {st : List Value} {a : Nat} (n : Nat) (hC : gCx G cc nL RX1 ret Qf rm) {κ : Option Nat → Prop} (hF : gR M 1 a 3 κ) (hdg : decode cc pc = .ok (.getfield 29, 3)) (hn : pc + 3 = n) (kk : ∀ x, κ x → gAt G cells slots M lv n (va_rf x :: st)) : gAt G cells slots M lv pc (.ref a :: st) :=
  g_getR (C := RX1) (T := TX1) (N := 4) in_X1 rfl (by decide) q125 (fun _ _ _ => rfl) n hC hF hdg hn kk
theorem hd_X14_copied : yX14_copied.cls = RX14 ∧ yX14_copied.cls ≠ "java/lang/invoke/MethodHandle" ∧ yX14_copied.cls ≠ "java/lang/invoke/VarHandle" ∧ (parseMethodDescriptor yX14_copied.desc).map (fun d => d.parameters.length) = some 0 := by decide +kernel
theorem wl_X1_33 : GoodIn lw_all (wsV RX1 33 RX14 yX14_copied (ws_ yX14_copied cX14_copied 2 (some (.object "SendTheBox$Week")))) := lw_V q1359 q1360 q1361 q102 q1362
theorem gf_X1_11_1N {G : gG} {cc : ByteArray} {nL : Nat} {ret : Option FieldType} {Qf : Option Value → gM → Prop} {rm : Room} {cells slots : Nat} {M : gM} {lv : List (Nat × Value)} {pc : Nat} {st : List Value} {a : Nat} (n : Nat) (hC : gCx G cc nL RX1 ret Qf rm) {κ : Nat → Prop} (hF : gN M 1 a 0 κ) (hdg : decode cc pc = .ok (.getfield 11, 3)) (hn : pc + 3 = n) (kk : ∀ x, κ x → gAt G cells slots M lv n (.ref x :: st)) : gAt G cells slots M lv pc (.ref a :: st) :=
  g_getN (C := RX1) (T := TX1) (N := 4) in_X1 rfl (by decide) q119 (fun _ _ _ => rfl) n hC hF hdg hn kk
theorem wl_X1_25 : GoodIn lw_all (wsV RX1 25 RX12 yX12_copied (ws_ yX12_copied cX12_copied 3 (some (.object "SendTheBox$House")))) := lw_V q1358 q1257 q1258 q92 q1259
theorem hd_X1_init : yX1_init.cls ≠ "java/lang/invoke/MethodHandle" ∧ yX1_init.cls ≠ "java/lang/invoke/VarHandle" ∧ (parseMethodDescriptor yX1_init.desc).map (fun d => d.parameters.length) = some 0 := by decide +kernel
abbrev rm_X1_copied (Lc Ls : Nat) : Room := { frames := 3, cells := Lc, slots := Ls, locals := 67 }
def F_X1_copied_b10 (Q : Nat → gM → Prop)  (Lc Ls : Nat)  (a0 : Nat) (a1 : Nat) : Nat → Int32 → Nat → Nat → gM → Prop
  | 0, _, _, _, _ => False
  | n + 1, x2, u, v, M =>
    gI M 1 a0 1 fun x_1 =>
    ((x_1 ≤ x2 →
      gI M 1 a0 1 fun x_2 =>
      pI M 1 a1 1 x_2 fun M_3 =>
      gI M_3 1 a0 2 fun x_4 =>
      pI M_3 1 a1 2 x_4 fun M_5 =>
      gR M_5 1 a0 3 fun r_6 =>
      ((r_6 = none →
        pR M_5 1 a1 3 none fun M_8 =>
        Q a1 M_8) ∧
        (∀ b_7, r_6 = some b_7 →
        gR M_5 1 a0 3 fun r_9 =>
        dN r_9 fun b_10 =>
        ∃ c_13 s_14, (u + c_13 ≤ Lc ∧ v + s_14 ≤ Ls) ∧
        rc M_5 14 b_10 ∧ F_X14_copied c_13 s_14 M_5 b_10 fun a_12 M_11 =>
        pR M_11 1 a1 3 (some a_12) fun M_15 =>
        Q a1 M_15))) ∧
      (¬ x_1 ≤ x2 →
      gN M 1 a1 0 fun a_16 =>
      gN M 1 a0 0 fun a_17 =>
      aN M (.object "SendTheBox$House") a_17 x2 fun a_18 =>
      ∃ c_21 s_22, (u + c_21 ≤ Lc ∧ v + s_22 ≤ Ls) ∧
      rc M 12 a_18 ∧ F_X12_copied c_21 s_22 M a_18 fun a_20 M_19 =>
      uR M_19 (.object "SendTheBox$House") 12 a_16 x2 a_20 fun M_23 =>
      (F_X1_copied_b10 Q Lc Ls a0 a1 n) (x2 + (1 : Int32)) (u + c_21) (v + s_22) M_23))
theorem w_X1_copied_b10 {G : gG} {Q : Nat → gM → Prop} {Lc Ls : Nat} (hC : gCx G cX1_copied 3 RX1 (some (.object "SendTheBox$Kept")) (gQa Q) (rm_X1_copied Lc Ls))  (a0 : Nat) (a1 : Nat)  : ∀ (n : Nat) (x2 : Int32) (u v : Nat) (hu : u ≤ Lc ∧ v ≤ Ls) (M : gM), F_X1_copied_b10 Q Lc Ls a0 a1 n x2 u v M → gAt G u v M [(0, .ref a0), (1, .ref a1), (2, .int x2)] 10 [] := by
  intro n
  induction n with
  | zero =>
    intro x2 u v hu M hF
    exact hF.elim
  | succ n ih =>
    intro x2 u v hu M hF
    have hK10 := ih
    unfold F_X1_copied_b10 at hF
    refine g_iload_n 11 hC dX1_copied_10 rfl 2 rfl rfl ?_
    refine g_aload_n 12 hC dX1_copied_11 rfl 0 rfl rfl ?_
    refine gf_X1_22_1I 15 hC hF dX1_copied_12 rfl (fun x_1 hF => ?_)
    refine g_icmp_ge 18 39 hC dX1_copied_15 (by decide) rfl (fun c => ?_) (fun c => ?_)
    · have hF := hF.1 c
      refine g_aload_n 40 hC dX1_copied_39 rfl 1 rfl rfl ?_
      refine g_aload_n 41 hC dX1_copied_40 rfl 0 rfl rfl ?_
      refine gf_X1_22_1I 44 hC hF dX1_copied_41 rfl (fun x_2 hF => ?_)
      refine g_putI (C := RX1) (T := TX1) (N := 4) (ci := 1) (k := 1) (ty := .int) in_X1 tyX1 tyX1_ok nmX1 rfl (by decide) q121 rfl rfl (fun _ _ _ => rfl) rfl rfl 47 hC hF dX1_copied_44 rfl (fun M_3 hF => ?_)
      refine g_aload_n 48 hC dX1_copied_47 rfl 1 rfl rfl ?_
      refine g_aload_n 49 hC dX1_copied_48 rfl 0 rfl rfl ?_
      refine gf_X1_17_1I 52 hC hF dX1_copied_49 rfl (fun x_4 hF => ?_)
      refine g_putI (C := RX1) (T := TX1) (N := 4) (ci := 1) (k := 2) (ty := .int) in_X1 tyX1 tyX1_ok nmX1 rfl (by decide) q123 rfl rfl (fun _ _ _ => rfl) rfl rfl 55 hC hF dX1_copied_52 rfl (fun M_5 hF => ?_)
      refine g_aload_n 56 hC dX1_copied_55 rfl 1 rfl rfl ?_
      refine g_aload_n 57 hC dX1_copied_56 rfl 0 rfl rfl ?_
      refine gf_X1_29_1R 60 hC hF dX1_copied_57 rfl (fun r_6 hF => ?_)
      refine g_ifnonnull 63 67 hC dX1_copied_60 (by decide) rfl (fun b_7 c => ?_) (fun c => ?_)
      · have hF := hF.2 b_7 c
        try rw [c]
        refine g_aload_n 68 hC dX1_copied_67 rfl 0 rfl rfl ?_
        refine gf_X1_29_1R 71 hC hF dX1_copied_68 rfl (fun r_9 hF => ?_)
        obtain ⟨b_10, hr_, hF⟩ := hF
        try rw [hr_]
        obtain ⟨c_13, s_14, hu, hF⟩ := hF
        refine g_cV (rest := [_]) wl_X1_33 hd_X14_copied (ci := 14) rfl 74 hC hF.1 (met_X14_copied hF.2) rfl ⟨Nat.le_of_ble_eq_true rfl, Nat.le_of_ble_eq_true rfl⟩ hu rfl (Nat.le_of_ble_eq_true rfl) dX1_copied_71 rfl (g_ty_a (u + c_13) (v + s_14) (Nat.le_refl _) (Nat.le_refl _) (fun a_12 M_11 hF => ?_))
        refine g_putR (C := RX1) (T := TX1) (N := 4) (ci := 1) (k := 3) (ty := (.object "SendTheBox$Week")) in_X1 tyX1 tyX1_ok nmX1 rfl (by decide) q125 rfl rfl (fun _ _ _ => rfl) (g_narR _ _ (by decide)) (g_fitR _ _ (by decide)) 77 hC hF dX1_copied_74 rfl (fun M_15 hF => ?_)
        refine g_aload_n 78 hC dX1_copied_77 rfl 1 rfl rfl ?_
        exact g_areturn (v := some a1) hC (Or.inl ⟨_, rfl⟩) ⟨_, rfl, hF⟩ dX1_copied_78 hu.1 hu.2
      · have hF := hF.1 c
        try rw [c]
        refine g_null 64 hC dX1_copied_63 rfl ?_
        refine g_goto 74 hC dX1_copied_64 (by decide) ?_
        refine g_putR (C := RX1) (T := TX1) (N := 4) (ci := 1) (k := 3) (ty := (.object "SendTheBox$Week")) in_X1 tyX1 tyX1_ok nmX1 rfl (by decide) q125 rfl rfl (fun _ _ _ => rfl) (g_narR _ _ (by decide)) (g_fitR _ _ (by decide)) 77 hC hF dX1_copied_74 rfl (fun M_8 hF => ?_)
        refine g_aload_n 78 hC dX1_copied_77 rfl 1 rfl rfl ?_
        exact g_areturn (v := some a1) hC (Or.inl ⟨_, rfl⟩) ⟨_, rfl, hF⟩ dX1_copied_78 hu.1 hu.2
    · have hF := hF.2 c
      refine g_aload_n 19 hC dX1_copied_18 rfl 1 rfl rfl ?_
      refine gf_X1_11_1N 22 hC hF dX1_copied_19 rfl (fun a_16 hF => ?_)
      refine g_iload_n 23 hC dX1_copied_22 rfl 2 rfl rfl ?_
      refine g_aload_n 24 hC dX1_copied_23 rfl 0 rfl rfl ?_
      refine gf_X1_11_1N 27 hC hF dX1_copied_24 rfl (fun a_17 hF => ?_)
      refine g_iload_n 28 hC dX1_copied_27 rfl 2 rfl rfl ?_
      refine g_aaldN 29 hC hF (by decide) rfl (fun _ _ _ => rfl) dX1_copied_28 rfl (fun a_18 hF => ?_)
      obtain ⟨c_21, s_22, hu, hF⟩ := hF
      refine g_cV (rest := [_, _]) wl_X1_25 hd_X12_copied (ci := 12) rfl 32 hC hF.1 (met_X12_copied hF.2) rfl ⟨Nat.le_of_ble_eq_true rfl, Nat.le_of_ble_eq_true rfl⟩ hu rfl (Nat.le_of_ble_eq_true rfl) dX1_copied_29 rfl (g_ty_a (u + c_21) (v + s_22) (Nat.le_refl _) (Nat.le_refl _) (fun a_20 M_19 hF => ?_))
      refine g_aast (C := RX12) (by decide) rfl 33 hC hF dX1_copied_32 rfl (fun M_23 hF => ?_)
      refine g_iinc 36 hC (x2 + (1 : Int32)) (lv' := [(2, .int _), (0, .ref _), (1, .ref _)]) dX1_copied_33 rfl 2 rfl rfl (by decide) rfl ?_
      refine g_goto 10 hC dX1_copied_36 (by decide) ?_
      refine g_sub [1, 2, 0] rfl ?_
      exact hK10 _ _ _ hu _ hF
def F_X1_copied (Lc Ls : Nat) (M : gM) (a0 : Nat) (Q : Nat → gM → Prop)  : Prop :=
  nO M 0 0 Lc Ls 1 4 fun a_1 M_2 =>
  ∃ c_5 s_6, ((0 + 1) + c_5 ≤ Lc ∧ (0 + 4) + s_6 ≤ Ls) ∧
  F_X1_init c_5 s_6 M_2 a_1 fun M_3 =>
  ∃ n_7, F_X1_copied_b10 Q Lc Ls a0 a_1 n_7 (0 : Int32) ((0 + 1) + c_5) ((0 + 4) + s_6) M_3
theorem met_X1_copied {M : gM} {a0 : Nat} {Q : Nat → gM → Prop} {Lc Ls : Nat} (hF : F_X1_copied Lc Ls M a0 Q) : gMt yX1_copied (ws_ yX1_copied cX1_copied 3 (some (.object "SendTheBox$Kept"))) (rm_X1_copied Lc Ls) M [.ref a0] (gQa Q) := by
  refine gMet (bytes := cX1_copied) (maxL := 3) (ret := (some (.object "SendTheBox$Kept"))) rfl rfl (by decide) (Nat.le_of_ble_eq_true rfl) (lv := [(0, .ref a0)]) rfl (fun G hC hin => ?_)
  have hu : 0 ≤ Lc ∧ 0 ≤ Ls := ⟨Nat.zero_le _, Nat.zero_le _⟩
  unfold F_X1_copied at hF
  have hu := hF.1
  refine g_new (C := RX1) (T := TX1) (N := 4) (ci := 1) in_X1 tyX1_ok (by decide) rfl q1356 q112 q70 3 hC hF dX1_copied_0 rfl (fun a_1 M_2 hF => ?_)
  refine g_dup 4 hC dX1_copied_3 rfl rfl ?_
  obtain ⟨c_5, s_6, hu, hF⟩ := hF
  refine g_cI (rest := [_]) q115 q70 q1357 q114 rfl hd_X1_init 7 hC (met_X1_init hF) rfl ⟨Nat.le_of_ble_eq_true rfl, Nat.le_of_ble_eq_true rfl⟩ hu rfl (Nat.le_of_ble_eq_true rfl) dX1_copied_4 rfl (g_ty_v ((0 + 1) + c_5) ((0 + 4) + s_6) (Nat.le_refl _) (Nat.le_refl _) (fun M_3 hF => ?_))
  refine g_astore_n 8 hC (lv' := [(1, .ref _), (0, .ref _)]) dX1_copied_7 rfl rfl (by decide) rfl ?_
  refine g_iconst 9 hC (0 : Int32) dX1_copied_8 (by decide) rfl ?_
  refine g_istore_n 10 hC (lv' := [(2, .int _), (1, .ref _), (0, .ref _)]) dX1_copied_9 rfl rfl (by decide) rfl ?_
  refine g_sub [2, 1, 0] rfl ?_
  obtain ⟨n_7, hF⟩ := hF
  exact w_X1_copied_b10 hC _ _ n_7 _ _ _ hu _ hF
abbrev rm_X2_init : Room := { frames := 1, cells := 0, slots := 0, locals := 24 }
def F_X2_init  (M : gM) (a0 : Nat) (Q : gM → Prop)  : Prop :=
  Q M
theorem met_X2_init {M : gM} {a0 : Nat} {Q : gM → Prop} (hF : F_X2_init M a0 Q) : gMt yX2_init (ws_ yX2_init cX2_init 1 none) rm_X2_init M [.ref a0] (gQv Q) := by
  refine gMet (bytes := cX2_init) (maxL := 1) (ret := none) rfl rfl (by decide) (Nat.le_of_ble_eq_true rfl) (lv := [(0, .ref a0)]) rfl (fun G hC hin => ?_)
  unfold F_X2_init at hF
  refine g_aload_n 1 hC dX2_init_0 rfl 0 rfl rfl ?_
  refine g_objInit 4 hC q142 q109 q110 (Nat.le_of_ble_eq_true rfl) (Nat.le_of_ble_eq_true rfl) dX2_init_1 rfl ?_
  exact g_return hC ⟨rfl, hF⟩ dX2_init_4 (Nat.zero_le _) (Nat.zero_le _)