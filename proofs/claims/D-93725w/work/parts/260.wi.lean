set_option maxRecDepth 100000
set_option maxHeartbeats 1000000
abbrev rm_X3_init (Lc Ls : Nat) : Room := { frames := 1, cells := Lc, slots := Ls, locals := 24 }
def F_X3_init (Lc Ls : Nat) (M : gM) (a0 : Nat) (Q : gM → Prop)  : Prop :=
  nA M 0 0 Lc Ls .int (8 : Int32) 8 fun a_1 M_2 =>
  pR M_2 3 a0 0 (some a_1) fun M_3 =>
  nA M_3 (0 + 1) (0 + 8) Lc Ls .int (8 : Int32) 8 fun a_4 M_5 =>
  pR M_5 3 a0 1 (some a_4) fun M_6 =>
  nA M_6 ((0 + 1) + 1) ((0 + 8) + 8) Lc Ls .int (8 : Int32) 8 fun a_7 M_8 =>
  pR M_8 3 a0 2 (some a_7) fun M_9 =>
  nMN M_9 (((0 + 1) + 1) + 1) (((0 + 8) + 8) + 8) Lc Ls .long 8 125 fun a_10 M_11 =>
  pR M_11 3 a0 3 (some a_10) fun M_12 =>
  nA M_12 ((((0 + 1) + 1) + 1) + (1 + 8)) ((((0 + 8) + 8) + 8) + (8 + 8 * 125)) Lc Ls .long (125 : Int32) 125 fun a_13 M_14 =>
  pR M_14 3 a0 4 (some a_13) fun M_15 =>
  nA M_15 (((((0 + 1) + 1) + 1) + (1 + 8)) + 1) (((((0 + 8) + 8) + 8) + (8 + 8 * 125)) + 125) Lc Ls .int (10 : Int32) 10 fun a_16 M_17 =>
  pR M_17 3 a0 5 (some a_16) fun M_18 =>
  nA M_18 ((((((0 + 1) + 1) + 1) + (1 + 8)) + 1) + 1) ((((((0 + 8) + 8) + 8) + (8 + 8 * 125)) + 125) + 10) Lc Ls .int (10 : Int32) 10 fun a_19 M_20 =>
  pR M_20 3 a0 6 (some a_19) fun M_21 =>
  nMN M_21 (((((((0 + 1) + 1) + 1) + (1 + 8)) + 1) + 1) + 1) (((((((0 + 8) + 8) + 8) + (8 + 8 * 125)) + 125) + 10) + 10) Lc Ls .int 10 125 fun a_22 M_23 =>
  pR M_23 3 a0 7 (some a_22) fun M_24 =>
  nA M_24 ((((((((0 + 1) + 1) + 1) + (1 + 8)) + 1) + 1) + 1) + (1 + 10)) ((((((((0 + 8) + 8) + 8) + (8 + 8 * 125)) + 125) + 10) + 10) + (10 + 10 * 125)) Lc Ls .int (160 : Int32) 160 fun a_25 M_26 =>
  pR M_26 3 a0 8 (some a_25) fun M_27 =>
  nA M_27 (((((((((0 + 1) + 1) + 1) + (1 + 8)) + 1) + 1) + 1) + (1 + 10)) + 1) (((((((((0 + 8) + 8) + 8) + (8 + 8 * 125)) + 125) + 10) + 10) + (10 + 10 * 125)) + 160) Lc Ls .int (8 : Int32) 8 fun a_28 M_29 =>
  pR M_29 3 a0 10 (some a_28) fun M_30 =>
  nMN M_30 ((((((((((0 + 1) + 1) + 1) + (1 + 8)) + 1) + 1) + 1) + (1 + 10)) + 1) + 1) ((((((((((0 + 8) + 8) + 8) + (8 + 8 * 125)) + 125) + 10) + 10) + (10 + 10 * 125)) + 160) + 8) Lc Ls .int 8 20 fun a_31 M_32 =>
  pR M_32 3 a0 12 (some a_31) fun M_33 =>
  pI M_33 3 a0 13 (1 : Int32) fun M_34 =>
  nA M_34 (((((((((((0 + 1) + 1) + 1) + (1 + 8)) + 1) + 1) + 1) + (1 + 10)) + 1) + 1) + (1 + 8)) (((((((((((0 + 8) + 8) + 8) + (8 + 8 * 125)) + 125) + 10) + 10) + (10 + 10 * 125)) + 160) + 8) + (8 + 8 * 20)) Lc Ls .int (10 : Int32) 10 fun a_35 M_36 =>
  pR M_36 3 a0 22 (some a_35) fun M_37 =>
  nMN M_37 ((((((((((((0 + 1) + 1) + 1) + (1 + 8)) + 1) + 1) + 1) + (1 + 10)) + 1) + 1) + (1 + 8)) + 1) ((((((((((((0 + 8) + 8) + 8) + (8 + 8 * 125)) + 125) + 10) + 10) + (10 + 10 * 125)) + 160) + 8) + (8 + 8 * 20)) + 10) Lc Ls .long 7 125 fun a_38 M_39 =>
  pR M_39 3 a0 28 (some a_38) fun M_40 =>
  nMN M_40 (((((((((((((0 + 1) + 1) + 1) + (1 + 8)) + 1) + 1) + 1) + (1 + 10)) + 1) + 1) + (1 + 8)) + 1) + (1 + 7)) (((((((((((((0 + 8) + 8) + 8) + (8 + 8 * 125)) + 125) + 10) + 10) + (10 + 10 * 125)) + 160) + 8) + (8 + 8 * 20)) + 10) + (7 + 7 * 125)) Lc Ls .int 7 125 fun a_41 M_42 =>
  pR M_42 3 a0 29 (some a_41) fun M_43 =>
  nMN M_43 ((((((((((((((0 + 1) + 1) + 1) + (1 + 8)) + 1) + 1) + 1) + (1 + 10)) + 1) + 1) + (1 + 8)) + 1) + (1 + 7)) + (1 + 7)) ((((((((((((((0 + 8) + 8) + 8) + (8 + 8 * 125)) + 125) + 10) + 10) + (10 + 10 * 125)) + 160) + 8) + (8 + 8 * 20)) + 10) + (7 + 7 * 125)) + (7 + 7 * 125)) Lc Ls .long 7 125 fun a_44 M_45 =>
  pR M_45 3 a0 30 (some a_44) fun M_46 =>
  nA M_46 (((((((((((((((0 + 1) + 1) + 1) + (1 + 8)) + 1) + 1) + 1) + (1 + 10)) + 1) + 1) + (1 + 8)) + 1) + (1 + 7)) + (1 + 7)) + (1 + 7)) (((((((((((((((0 + 8) + 8) + 8) + (8 + 8 * 125)) + 125) + 10) + 10) + (10 + 10 * 125)) + 160) + 8) + (8 + 8 * 20)) + 10) + (7 + 7 * 125)) + (7 + 7 * 125)) + (7 + 7 * 125)) Lc Ls .long (8 : Int32) 8 fun a_47 M_48 =>
  pR M_48 3 a0 31 (some a_47) fun M_49 =>
  nMN M_49 ((((((((((((((((0 + 1) + 1) + 1) + (1 + 8)) + 1) + 1) + 1) + (1 + 10)) + 1) + 1) + (1 + 8)) + 1) + (1 + 7)) + (1 + 7)) + (1 + 7)) + 1) ((((((((((((((((0 + 8) + 8) + 8) + (8 + 8 * 125)) + 125) + 10) + 10) + (10 + 10 * 125)) + 160) + 8) + (8 + 8 * 20)) + 10) + (7 + 7 * 125)) + (7 + 7 * 125)) + (7 + 7 * 125)) + 8) Lc Ls .int 8 125 fun a_50 M_51 =>
  pR M_51 3 a0 32 (some a_50) fun M_52 =>
  nMN M_52 (((((((((((((((((0 + 1) + 1) + 1) + (1 + 8)) + 1) + 1) + 1) + (1 + 10)) + 1) + 1) + (1 + 8)) + 1) + (1 + 7)) + (1 + 7)) + (1 + 7)) + 1) + (1 + 8)) (((((((((((((((((0 + 8) + 8) + 8) + (8 + 8 * 125)) + 125) + 10) + 10) + (10 + 10 * 125)) + 160) + 8) + (8 + 8 * 20)) + 10) + (7 + 7 * 125)) + (7 + 7 * 125)) + (7 + 7 * 125)) + 8) + (8 + 8 * 125)) Lc Ls .int 8 125 fun a_53 M_54 =>
  pR M_54 3 a0 33 (some a_53) fun M_55 =>
  nA M_55 ((((((((((((((((((0 + 1) + 1) + 1) + (1 + 8)) + 1) + 1) + 1) + (1 + 10)) + 1) + 1) + (1 + 8)) + 1) + (1 + 7)) + (1 + 7)) + (1 + 7)) + 1) + (1 + 8)) + (1 + 8)) ((((((((((((((((((0 + 8) + 8) + 8) + (8 + 8 * 125)) + 125) + 10) + 10) + (10 + 10 * 125)) + 160) + 8) + (8 + 8 * 20)) + 10) + (7 + 7 * 125)) + (7 + 7 * 125)) + (7 + 7 * 125)) + 8) + (8 + 8 * 125)) + (8 + 8 * 125)) Lc Ls .int (125 : Int32) 125 fun a_56 M_57 =>
  pR M_57 3 a0 34 (some a_56) fun M_58 =>
  nA M_58 (((((((((((((((((((0 + 1) + 1) + 1) + (1 + 8)) + 1) + 1) + 1) + (1 + 10)) + 1) + 1) + (1 + 8)) + 1) + (1 + 7)) + (1 + 7)) + (1 + 7)) + 1) + (1 + 8)) + (1 + 8)) + 1) (((((((((((((((((((0 + 8) + 8) + 8) + (8 + 8 * 125)) + 125) + 10) + 10) + (10 + 10 * 125)) + 160) + 8) + (8 + 8 * 20)) + 10) + (7 + 7 * 125)) + (7 + 7 * 125)) + (7 + 7 * 125)) + 8) + (8 + 8 * 125)) + (8 + 8 * 125)) + 125) Lc Ls .int (125 : Int32) 125 fun a_59 M_60 =>
  pR M_60 3 a0 35 (some a_59) fun M_61 =>
  nA M_61 ((((((((((((((((((((0 + 1) + 1) + 1) + (1 + 8)) + 1) + 1) + 1) + (1 + 10)) + 1) + 1) + (1 + 8)) + 1) + (1 + 7)) + (1 + 7)) + (1 + 7)) + 1) + (1 + 8)) + (1 + 8)) + 1) + 1) ((((((((((((((((((((0 + 8) + 8) + 8) + (8 + 8 * 125)) + 125) + 10) + 10) + (10 + 10 * 125)) + 160) + 8) + (8 + 8 * 20)) + 10) + (7 + 7 * 125)) + (7 + 7 * 125)) + (7 + 7 * 125)) + 8) + (8 + 8 * 125)) + (8 + 8 * 125)) + 125) + 125) Lc Ls .int (125 : Int32) 125 fun a_62 M_63 =>
  pR M_63 3 a0 36 (some a_62) fun M_64 =>
  nA M_64 (((((((((((((((((((((0 + 1) + 1) + 1) + (1 + 8)) + 1) + 1) + 1) + (1 + 10)) + 1) + 1) + (1 + 8)) + 1) + (1 + 7)) + (1 + 7)) + (1 + 7)) + 1) + (1 + 8)) + (1 + 8)) + 1) + 1) + 1) (((((((((((((((((((((0 + 8) + 8) + 8) + (8 + 8 * 125)) + 125) + 10) + 10) + (10 + 10 * 125)) + 160) + 8) + (8 + 8 * 20)) + 10) + (7 + 7 * 125)) + (7 + 7 * 125)) + (7 + 7 * 125)) + 8) + (8 + 8 * 125)) + (8 + 8 * 125)) + 125) + 125) + 125) Lc Ls .long (125 : Int32) 125 fun a_65 M_66 =>
  pR M_66 3 a0 37 (some a_65) fun M_67 =>
  nMN M_67 ((((((((((((((((((((((0 + 1) + 1) + 1) + (1 + 8)) + 1) + 1) + 1) + (1 + 10)) + 1) + 1) + (1 + 8)) + 1) + (1 + 7)) + (1 + 7)) + (1 + 7)) + 1) + (1 + 8)) + (1 + 8)) + 1) + 1) + 1) + 1) ((((((((((((((((((((((0 + 8) + 8) + 8) + (8 + 8 * 125)) + 125) + 10) + 10) + (10 + 10 * 125)) + 160) + 8) + (8 + 8 * 20)) + 10) + (7 + 7 * 125)) + (7 + 7 * 125)) + (7 + 7 * 125)) + 8) + (8 + 8 * 125)) + (8 + 8 * 125)) + 125) + 125) + 125) + 125) Lc Ls .long 7 125 fun a_68 M_69 =>
  pR M_69 3 a0 38 (some a_68) fun M_70 =>
  pI M_70 3 a0 39 (-1 : Int32) fun M_71 =>
  Q M_71
theorem met_X3_init {M : gM} {a0 : Nat} {Q : gM → Prop} {Lc Ls : Nat} (hF : F_X3_init Lc Ls M a0 Q) : gMt yX3_init (ws_ yX3_init cX3_init 1 none) (rm_X3_init Lc Ls) M [.ref a0] (gQv Q) := by
  refine gMet (bytes := cX3_init) (maxL := 1) (ret := none) rfl rfl (by decide) (Nat.le_of_ble_eq_true rfl) (lv := [(0, .ref a0)]) rfl (fun G hC hin => ?_)
  have hu : 0 ≤ Lc ∧ 0 ≤ Ls := ⟨Nat.zero_le _, Nat.zero_le _⟩
  unfold F_X3_init at hF
  refine g_aload_n 1 hC dX3_init_0 rfl 0 rfl rfl ?_
  refine g_objInit 4 hC q1382 q109 q110 (Nat.le_of_ble_eq_true rfl) (Nat.le_of_ble_eq_true rfl) dX3_init_1 rfl ?_
  refine g_aload_n 5 hC dX3_init_4 rfl 0 rfl rfl ?_
  refine g_bipush 7 hC (8 : Int32) dX3_init_5 (by decide) rfl ?_
  have hu := hF.2.1
  refine g_newa 9 hC (ty := .int) rfl (by decide) (fun _ _ h => h) (by decide) (by decide) q147 hF dX3_init_7 rfl (fun a_1 M_2 hF => ?_)
  refine g_putFR (C := RX3) (T := TX3) (N := 46) (ci := 3) (k := 0) (ty := (.array .int)) in_X3 tyX3 tyX3_ok nmX3 rfl (by decide) q1387 rfl rfl rfl (fun _ _ _ => rfl) (g_narR _ _ (by decide)) (g_fitR _ _ (by decide)) 12 hC hin hF dX3_init_9 rfl (fun M_3 hF => ?_)
  refine g_aload_n 13 hC dX3_init_12 rfl 0 rfl rfl ?_
  refine g_bipush 15 hC (8 : Int32) dX3_init_13 (by decide) rfl ?_
  have hu := hF.2.1
  refine g_newa 17 hC (ty := .int) rfl (by decide) (fun _ _ h => h) (by decide) (by decide) q147 hF dX3_init_15 rfl (fun a_4 M_5 hF => ?_)
  refine g_putFR (C := RX3) (T := TX3) (N := 46) (ci := 3) (k := 1) (ty := (.array .int)) in_X3 tyX3 tyX3_ok nmX3 rfl (by decide) q1388 rfl rfl rfl (fun _ _ _ => rfl) (g_narR _ _ (by decide)) (g_fitR _ _ (by decide)) 20 hC hin hF dX3_init_17 rfl (fun M_6 hF => ?_)
  refine g_aload_n 21 hC dX3_init_20 rfl 0 rfl rfl ?_
  refine g_bipush 23 hC (8 : Int32) dX3_init_21 (by decide) rfl ?_
  have hu := hF.2.1
  refine g_newa 25 hC (ty := .int) rfl (by decide) (fun _ _ h => h) (by decide) (by decide) q147 hF dX3_init_23 rfl (fun a_7 M_8 hF => ?_)
  refine g_putFR (C := RX3) (T := TX3) (N := 46) (ci := 3) (k := 2) (ty := (.array .int)) in_X3 tyX3 tyX3_ok nmX3 rfl (by decide) q1389 rfl rfl rfl (fun _ _ _ => rfl) (g_narR _ _ (by decide)) (g_fitR _ _ (by decide)) 28 hC hin hF dX3_init_25 rfl (fun M_9 hF => ?_)
  refine g_aload_n 29 hC dX3_init_28 rfl 0 rfl rfl ?_
  refine g_bipush 31 hC (8 : Int32) dX3_init_29 (by decide) rfl ?_
  refine g_bipush 33 hC (125 : Int32) dX3_init_31 (by decide) rfl ?_
  have hu := hF.1
  refine g_mna 37 hC (ty := .long) (Or.inr rfl) (by decide +kernel) q1383 q1384 q273 ⟨by decide, rfl⟩ ⟨by decide, rfl⟩ ⟨by decide, by decide⟩ hF dX3_init_33 rfl (fun a_10 M_11 hF => ?_)
  refine g_putFR (C := RX3) (T := TX3) (N := 46) (ci := 3) (k := 3) (ty := (.array (.array .long))) in_X3 tyX3 tyX3_ok nmX3 rfl (by decide) q1390 rfl rfl rfl (fun _ _ _ => rfl) (g_narR _ _ (by decide)) (g_fitR _ _ (by decide)) 40 hC hin hF dX3_init_37 rfl (fun M_12 hF => ?_)
  refine g_aload_n 41 hC dX3_init_40 rfl 0 rfl rfl ?_
  refine g_bipush 43 hC (125 : Int32) dX3_init_41 (by decide) rfl ?_
  have hu := hF.2.1
  refine g_newa 45 hC (ty := .long) rfl (by decide) (fun _ _ h => h) (by decide) (by decide) q273 hF dX3_init_43 rfl (fun a_13 M_14 hF => ?_)
  refine g_putFR (C := RX3) (T := TX3) (N := 46) (ci := 3) (k := 4) (ty := (.array .long)) in_X3 tyX3 tyX3_ok nmX3 rfl (by decide) q1391 rfl rfl rfl (fun _ _ _ => rfl) (g_narR _ _ (by decide)) (g_fitR _ _ (by decide)) 48 hC hin hF dX3_init_45 rfl (fun M_15 hF => ?_)
  refine g_aload_n 49 hC dX3_init_48 rfl 0 rfl rfl ?_
  refine g_bipush 51 hC (10 : Int32) dX3_init_49 (by decide) rfl ?_
  have hu := hF.2.1
  refine g_newa 53 hC (ty := .int) rfl (by decide) (fun _ _ h => h) (by decide) (by decide) q147 hF dX3_init_51 rfl (fun a_16 M_17 hF => ?_)
  refine g_putFR (C := RX3) (T := TX3) (N := 46) (ci := 3) (k := 5) (ty := (.array .int)) in_X3 tyX3 tyX3_ok nmX3 rfl (by decide) q1392 rfl rfl rfl (fun _ _ _ => rfl) (g_narR _ _ (by decide)) (g_fitR _ _ (by decide)) 56 hC hin hF dX3_init_53 rfl (fun M_18 hF => ?_)
  refine g_aload_n 57 hC dX3_init_56 rfl 0 rfl rfl ?_
  refine g_bipush 59 hC (10 : Int32) dX3_init_57 (by decide) rfl ?_
  have hu := hF.2.1
  refine g_newa 61 hC (ty := .int) rfl (by decide) (fun _ _ h => h) (by decide) (by decide) q147 hF dX3_init_59 rfl (fun a_19 M_20 hF => ?_)
  refine g_putFR (C := RX3) (T := TX3) (N := 46) (ci := 3) (k := 6) (ty := (.array .int)) in_X3 tyX3 tyX3_ok nmX3 rfl (by decide) q1393 rfl rfl rfl (fun _ _ _ => rfl) (g_narR _ _ (by decide)) (g_fitR _ _ (by decide)) 64 hC hin hF dX3_init_61 rfl (fun M_21 hF => ?_)
  refine g_aload_n 65 hC dX3_init_64 rfl 0 rfl rfl ?_
  refine g_bipush 67 hC (10 : Int32) dX3_init_65 (by decide) rfl ?_
  refine g_bipush 69 hC (125 : Int32) dX3_init_67 (by decide) rfl ?_
  have hu := hF.1
  refine g_mna 73 hC (ty := .int) (Or.inl rfl) (by decide +kernel) q1385 q1386 q147 ⟨by decide, rfl⟩ ⟨by decide, rfl⟩ ⟨by decide, by decide⟩ hF dX3_init_69 rfl (fun a_22 M_23 hF => ?_)
  refine g_putFR (C := RX3) (T := TX3) (N := 46) (ci := 3) (k := 7) (ty := (.array (.array .int))) in_X3 tyX3 tyX3_ok nmX3 rfl (by decide) q1394 rfl rfl rfl (fun _ _ _ => rfl) (g_narR _ _ (by decide)) (g_fitR _ _ (by decide)) 76 hC hin hF dX3_init_73 rfl (fun M_24 hF => ?_)
  refine g_aload_n 77 hC dX3_init_76 rfl 0 rfl rfl ?_
  refine g_sipush 80 hC (160 : Int32) dX3_init_77 (by decide) rfl ?_
  have hu := hF.2.1
  refine g_newa 82 hC (ty := .int) rfl (by decide) (fun _ _ h => h) (by decide) (by decide) q147 hF dX3_init_80 rfl (fun a_25 M_26 hF => ?_)
  refine g_putFR (C := RX3) (T := TX3) (N := 46) (ci := 3) (k := 8) (ty := (.array .int)) in_X3 tyX3 tyX3_ok nmX3 rfl (by decide) q1395 rfl rfl rfl (fun _ _ _ => rfl) (g_narR _ _ (by decide)) (g_fitR _ _ (by decide)) 85 hC hin hF dX3_init_82 rfl (fun M_27 hF => ?_)
  refine g_aload_n 86 hC dX3_init_85 rfl 0 rfl rfl ?_
  refine g_bipush 88 hC (8 : Int32) dX3_init_86 (by decide) rfl ?_
  have hu := hF.2.1
  refine g_newa 90 hC (ty := .int) rfl (by decide) (fun _ _ h => h) (by decide) (by decide) q147 hF dX3_init_88 rfl (fun a_28 M_29 hF => ?_)
  refine g_putFR (C := RX3) (T := TX3) (N := 46) (ci := 3) (k := 10) (ty := (.array .int)) in_X3 tyX3 tyX3_ok nmX3 rfl (by decide) q1397 rfl rfl rfl (fun _ _ _ => rfl) (g_narR _ _ (by decide)) (g_fitR _ _ (by decide)) 93 hC hin hF dX3_init_90 rfl (fun M_30 hF => ?_)
  refine g_aload_n 94 hC dX3_init_93 rfl 0 rfl rfl ?_
  refine g_bipush 96 hC (8 : Int32) dX3_init_94 (by decide) rfl ?_
  refine g_bipush 98 hC (20 : Int32) dX3_init_96 (by decide) rfl ?_
  have hu := hF.1
  refine g_mna 102 hC (ty := .int) (Or.inl rfl) (by decide +kernel) q1385 q1386 q147 ⟨by decide, rfl⟩ ⟨by decide, rfl⟩ ⟨by decide, by decide⟩ hF dX3_init_98 rfl (fun a_31 M_32 hF => ?_)
  refine g_putFR (C := RX3) (T := TX3) (N := 46) (ci := 3) (k := 12) (ty := (.array (.array .int))) in_X3 tyX3 tyX3_ok nmX3 rfl (by decide) q1399 rfl rfl rfl (fun _ _ _ => rfl) (g_narR _ _ (by decide)) (g_fitR _ _ (by decide)) 105 hC hin hF dX3_init_102 rfl (fun M_33 hF => ?_)
  refine g_aload_n 106 hC dX3_init_105 rfl 0 rfl rfl ?_
  refine g_iconst 107 hC (1 : Int32) dX3_init_106 (by decide) rfl ?_
  refine g_putI (C := RX3) (T := TX3) (N := 46) (ci := 3) (k := 13) (ty := .int) in_X3 tyX3 tyX3_ok nmX3 rfl (by decide) q1400 rfl rfl (fun _ _ _ => rfl) rfl rfl 110 hC hF dX3_init_107 rfl (fun M_34 hF => ?_)
  refine g_aload_n 111 hC dX3_init_110 rfl 0 rfl rfl ?_
  refine g_bipush 113 hC (10 : Int32) dX3_init_111 (by decide) rfl ?_
  have hu := hF.2.1
  refine g_newa 115 hC (ty := .int) rfl (by decide) (fun _ _ h => h) (by decide) (by decide) q147 hF dX3_init_113 rfl (fun a_35 M_36 hF => ?_)
  refine g_putFR (C := RX3) (T := TX3) (N := 46) (ci := 3) (k := 22) (ty := (.array .int)) in_X3 tyX3 tyX3_ok nmX3 rfl (by decide) q1409 rfl rfl rfl (fun _ _ _ => rfl) (g_narR _ _ (by decide)) (g_fitR _ _ (by decide)) 118 hC hin hF dX3_init_115 rfl (fun M_37 hF => ?_)
  refine g_aload_n 119 hC dX3_init_118 rfl 0 rfl rfl ?_
  refine g_bipush 121 hC (7 : Int32) dX3_init_119 (by decide) rfl ?_
  refine g_bipush 123 hC (125 : Int32) dX3_init_121 (by decide) rfl ?_
  have hu := hF.1
  refine g_mna 127 hC (ty := .long) (Or.inr rfl) (by decide +kernel) q1383 q1384 q273 ⟨by decide, rfl⟩ ⟨by decide, rfl⟩ ⟨by decide, by decide⟩ hF dX3_init_123 rfl (fun a_38 M_39 hF => ?_)
  refine g_putFR (C := RX3) (T := TX3) (N := 46) (ci := 3) (k := 28) (ty := (.array (.array .long))) in_X3 tyX3 tyX3_ok nmX3 rfl (by decide) q1415 rfl rfl rfl (fun _ _ _ => rfl) (g_narR _ _ (by decide)) (g_fitR _ _ (by decide)) 130 hC hin hF dX3_init_127 rfl (fun M_40 hF => ?_)
  refine g_aload_n 131 hC dX3_init_130 rfl 0 rfl rfl ?_
  refine g_bipush 133 hC (7 : Int32) dX3_init_131 (by decide) rfl ?_
  refine g_bipush 135 hC (125 : Int32) dX3_init_133 (by decide) rfl ?_
  have hu := hF.1
  refine g_mna 139 hC (ty := .int) (Or.inl rfl) (by decide +kernel) q1385 q1386 q147 ⟨by decide, rfl⟩ ⟨by decide, rfl⟩ ⟨by decide, by decide⟩ hF dX3_init_135 rfl (fun a_41 M_42 hF => ?_)
  refine g_putFR (C := RX3) (T := TX3) (N := 46) (ci := 3) (k := 29) (ty := (.array (.array .int))) in_X3 tyX3 tyX3_ok nmX3 rfl (by decide) q1416 rfl rfl rfl (fun _ _ _ => rfl) (g_narR _ _ (by decide)) (g_fitR _ _ (by decide)) 142 hC hin hF dX3_init_139 rfl (fun M_43 hF => ?_)
  refine g_aload_n 143 hC dX3_init_142 rfl 0 rfl rfl ?_
  refine g_bipush 145 hC (7 : Int32) dX3_init_143 (by decide) rfl ?_
  refine g_bipush 147 hC (125 : Int32) dX3_init_145 (by decide) rfl ?_
  have hu := hF.1
  refine g_mna 151 hC (ty := .long) (Or.inr rfl) (by decide +kernel) q1383 q1384 q273 ⟨by decide, rfl⟩ ⟨by decide, rfl⟩ ⟨by decide, by decide⟩ hF dX3_init_147 rfl (fun a_44 M_45 hF => ?_)
  refine g_putFR (C := RX3) (T := TX3) (N := 46) (ci := 3) (k := 30) (ty := (.array (.array .long))) in_X3 tyX3 tyX3_ok nmX3 rfl (by decide) q1417 rfl rfl rfl (fun _ _ _ => rfl) (g_narR _ _ (by decide)) (g_fitR _ _ (by decide)) 154 hC hin hF dX3_init_151 rfl (fun M_46 hF => ?_)
  refine g_aload_n 155 hC dX3_init_154 rfl 0 rfl rfl ?_
  refine g_bipush 157 hC (8 : Int32) dX3_init_155 (by decide) rfl ?_
  have hu := hF.2.1
  refine g_newa 159 hC (ty := .long) rfl (by decide) (fun _ _ h => h) (by decide) (by decide) q273 hF dX3_init_157 rfl (fun a_47 M_48 hF => ?_)
  refine g_putFR (C := RX3) (T := TX3) (N := 46) (ci := 3) (k := 31) (ty := (.array .long)) in_X3 tyX3 tyX3_ok nmX3 rfl (by decide) q1418 rfl rfl rfl (fun _ _ _ => rfl) (g_narR _ _ (by decide)) (g_fitR _ _ (by decide)) 162 hC hin hF dX3_init_159 rfl (fun M_49 hF => ?_)
  refine g_aload_n 163 hC dX3_init_162 rfl 0 rfl rfl ?_
  refine g_bipush 165 hC (8 : Int32) dX3_init_163 (by decide) rfl ?_
  refine g_bipush 167 hC (125 : Int32) dX3_init_165 (by decide) rfl ?_
  have hu := hF.1
  refine g_mna 171 hC (ty := .int) (Or.inl rfl) (by decide +kernel) q1385 q1386 q147 ⟨by decide, rfl⟩ ⟨by decide, rfl⟩ ⟨by decide, by decide⟩ hF dX3_init_167 rfl (fun a_50 M_51 hF => ?_)
  refine g_putFR (C := RX3) (T := TX3) (N := 46) (ci := 3) (k := 32) (ty := (.array (.array .int))) in_X3 tyX3 tyX3_ok nmX3 rfl (by decide) q1419 rfl rfl rfl (fun _ _ _ => rfl) (g_narR _ _ (by decide)) (g_fitR _ _ (by decide)) 174 hC hin hF dX3_init_171 rfl (fun M_52 hF => ?_)
  refine g_aload_n 175 hC dX3_init_174 rfl 0 rfl rfl ?_
  refine g_bipush 177 hC (8 : Int32) dX3_init_175 (by decide) rfl ?_
  refine g_bipush 179 hC (125 : Int32) dX3_init_177 (by decide) rfl ?_
  have hu := hF.1
  refine g_mna 183 hC (ty := .int) (Or.inl rfl) (by decide +kernel) q1385 q1386 q147 ⟨by decide, rfl⟩ ⟨by decide, rfl⟩ ⟨by decide, by decide⟩ hF dX3_init_179 rfl (fun a_53 M_54 hF => ?_)
  refine g_putFR (C := RX3) (T := TX3) (N := 46) (ci := 3) (k := 33) (ty := (.array (.array .int))) in_X3 tyX3 tyX3_ok nmX3 rfl (by decide) q1420 rfl rfl rfl (fun _ _ _ => rfl) (g_narR _ _ (by decide)) (g_fitR _ _ (by decide)) 186 hC hin hF dX3_init_183 rfl (fun M_55 hF => ?_)
  refine g_aload_n 187 hC dX3_init_186 rfl 0 rfl rfl ?_
  refine g_bipush 189 hC (125 : Int32) dX3_init_187 (by decide) rfl ?_
  have hu := hF.2.1
  refine g_newa 191 hC (ty := .int) rfl (by decide) (fun _ _ h => h) (by decide) (by decide) q147 hF dX3_init_189 rfl (fun a_56 M_57 hF => ?_)
  refine g_putFR (C := RX3) (T := TX3) (N := 46) (ci := 3) (k := 34) (ty := (.array .int)) in_X3 tyX3 tyX3_ok nmX3 rfl (by decide) q1421 rfl rfl rfl (fun _ _ _ => rfl) (g_narR _ _ (by decide)) (g_fitR _ _ (by decide)) 194 hC hin hF dX3_init_191 rfl (fun M_58 hF => ?_)
  refine g_aload_n 195 hC dX3_init_194 rfl 0 rfl rfl ?_
  refine g_bipush 197 hC (125 : Int32) dX3_init_195 (by decide) rfl ?_
  have hu := hF.2.1
  refine g_newa 199 hC (ty := .int) rfl (by decide) (fun _ _ h => h) (by decide) (by decide) q147 hF dX3_init_197 rfl (fun a_59 M_60 hF => ?_)
  refine g_putFR (C := RX3) (T := TX3) (N := 46) (ci := 3) (k := 35) (ty := (.array .int)) in_X3 tyX3 tyX3_ok nmX3 rfl (by decide) q1422 rfl rfl rfl (fun _ _ _ => rfl) (g_narR _ _ (by decide)) (g_fitR _ _ (by decide)) 202 hC hin hF dX3_init_199 rfl (fun M_61 hF => ?_)
  refine g_aload_n 203 hC dX3_init_202 rfl 0 rfl rfl ?_
  refine g_bipush 205 hC (125 : Int32) dX3_init_203 (by decide) rfl ?_
  have hu := hF.2.1
  refine g_newa 207 hC (ty := .int) rfl (by decide) (fun _ _ h => h) (by decide) (by decide) q147 hF dX3_init_205 rfl (fun a_62 M_63 hF => ?_)
  refine g_putFR (C := RX3) (T := TX3) (N := 46) (ci := 3) (k := 36) (ty := (.array .int)) in_X3 tyX3 tyX3_ok nmX3 rfl (by decide) q1423 rfl rfl rfl (fun _ _ _ => rfl) (g_narR _ _ (by decide)) (g_fitR _ _ (by decide)) 210 hC hin hF dX3_init_207 rfl (fun M_64 hF => ?_)
  refine g_aload_n 211 hC dX3_init_210 rfl 0 rfl rfl ?_
  refine g_bipush 213 hC (125 : Int32) dX3_init_211 (by decide) rfl ?_
  have hu := hF.2.1
  refine g_newa 215 hC (ty := .long) rfl (by decide) (fun _ _ h => h) (by decide) (by decide) q273 hF dX3_init_213 rfl (fun a_65 M_66 hF => ?_)
  refine g_putFR (C := RX3) (T := TX3) (N := 46) (ci := 3) (k := 37) (ty := (.array .long)) in_X3 tyX3 tyX3_ok nmX3 rfl (by decide) q1424 rfl rfl rfl (fun _ _ _ => rfl) (g_narR _ _ (by decide)) (g_fitR _ _ (by decide)) 218 hC hin hF dX3_init_215 rfl (fun M_67 hF => ?_)
  refine g_aload_n 219 hC dX3_init_218 rfl 0 rfl rfl ?_
  refine g_bipush 221 hC (7 : Int32) dX3_init_219 (by decide) rfl ?_
  refine g_bipush 223 hC (125 : Int32) dX3_init_221 (by decide) rfl ?_
  have hu := hF.1
  refine g_mna 227 hC (ty := .long) (Or.inr rfl) (by decide +kernel) q1383 q1384 q273 ⟨by decide, rfl⟩ ⟨by decide, rfl⟩ ⟨by decide, by decide⟩ hF dX3_init_223 rfl (fun a_68 M_69 hF => ?_)
  refine g_putFR (C := RX3) (T := TX3) (N := 46) (ci := 3) (k := 38) (ty := (.array (.array .long))) in_X3 tyX3 tyX3_ok nmX3 rfl (by decide) q1425 rfl rfl rfl (fun _ _ _ => rfl) (g_narR _ _ (by decide)) (g_fitR _ _ (by decide)) 230 hC hin hF dX3_init_227 rfl (fun M_70 hF => ?_)
  refine g_aload_n 231 hC dX3_init_230 rfl 0 rfl rfl ?_
  refine g_iconst 232 hC (-1 : Int32) dX3_init_231 (by decide) rfl ?_
  refine g_putI (C := RX3) (T := TX3) (N := 46) (ci := 3) (k := 39) (ty := .int) in_X3 tyX3 tyX3_ok nmX3 rfl (by decide) q1426 rfl rfl (fun _ _ _ => rfl) rfl rfl 235 hC hF dX3_init_232 rfl (fun M_71 hF => ?_)
  exact g_return hC ⟨rfl, hF⟩ dX3_init_235 hu.1 hu.2
theorem hd_X3_init : yX3_init.cls ≠ "java/lang/invoke/MethodHandle" ∧ yX3_init.cls ≠ "java/lang/invoke/VarHandle" ∧ (parseMethodDescriptor yX3_init.desc).map (fun d => d.parameters.length) = some 0 := by decide +kernel
abbrev rm_X3_image (Lc Ls : Nat) : Room := { frames := 2, cells := Lc, slots := Ls, locals := 44 }
def F_X3_image_b18 (Q : Int32 → gM → Prop)  (Lc Ls : Nat)  (a0 : Nat)  (u v : Nat) (M : gM) : Prop :=
  gR M 3 a0 21 fun r_1 =>
  dN r_1 fun b_2 =>
  rc M 3 b_2 ∧ F_X3_takeFrom M b_2 a0 fun M_3 =>
  Q (1 : Int32) M_3
theorem w_X3_image_b18 {G : gG} {Q : Int32 → gM → Prop} {Lc Ls : Nat} (hC : gCx G cX3_image 1 RX3 (some .int) (gQi Q) (rm_X3_image Lc Ls))  (a0 : Nat)   (u v : Nat) (hu : u ≤ Lc ∧ v ≤ Ls) (M : gM) (hF : F_X3_image_b18 Q Lc Ls a0 u v M) : gAt G u v M [(0, .ref a0)] 18 [] := by
  unfold F_X3_image_b18 at hF
  refine g_aload_n 19 hC dX3_image_18 rfl 0 rfl rfl ?_
  refine gf_X3_372_3R 22 hC hF dX3_image_19 rfl (fun r_1 hF => ?_)
  refine g_aload_n 23 hC dX3_image_22 rfl 0 rfl rfl ?_
  obtain ⟨b_2, hr_, hF⟩ := hF
  try rw [hr_]
  refine g_cV (rest := []) wl_X3_377 hd_X3_takeFrom (ci := 3) rfl 26 hC hF.1 (met_X3_takeFrom hF.2) rfl ⟨Nat.le_of_ble_eq_true rfl, Nat.le_of_ble_eq_true rfl⟩ hu rfl (Nat.le_of_ble_eq_true rfl) dX3_image_23 rfl (g_ty_v u v (Nat.le_refl _) (Nat.le_refl _) (fun M_3 hF => ?_))
  refine g_iconst 27 hC (1 : Int32) dX3_image_26 (by decide) rfl ?_
  exact g_ireturn hC ⟨_, rfl, hF⟩ dX3_image_27 hu.1 hu.2
def F_X3_image (Lc Ls : Nat) (M : gM) (a0 : Nat) (Q : Int32 → gM → Prop)  : Prop :=
  gR M 3 a0 21 fun r_1 =>
  ((r_1 = none →
    nO M 0 0 Lc Ls 3 46 fun a_3 M_4 =>
    ∃ c_7 s_8, ((0 + 1) + c_7 ≤ Lc ∧ (0 + 46) + s_8 ≤ Ls) ∧
    F_X3_init c_7 s_8 M_4 a_3 fun M_5 =>
    pR M_5 3 a0 21 (some a_3) fun M_9 =>
    F_X3_image_b18 Q Lc Ls a0 ((0 + 1) + c_7) ((0 + 46) + s_8) M_9) ∧
    (∀ b_2, r_1 = some b_2 →
    F_X3_image_b18 Q Lc Ls a0 0 0 M))
theorem met_X3_image {M : gM} {a0 : Nat} {Q : Int32 → gM → Prop} {Lc Ls : Nat} (hF : F_X3_image Lc Ls M a0 Q) : gMt yX3_image (ws_ yX3_image cX3_image 1 (some .int)) (rm_X3_image Lc Ls) M [.ref a0] (gQi Q) := by
  refine gMet (bytes := cX3_image) (maxL := 1) (ret := (some .int)) rfl rfl (by decide) (Nat.le_of_ble_eq_true rfl) (lv := [(0, .ref a0)]) rfl (fun G hC hin => ?_)
  have hu : 0 ≤ Lc ∧ 0 ≤ Ls := ⟨Nat.zero_le _, Nat.zero_le _⟩
  unfold F_X3_image at hF
  refine g_aload_n 1 hC dX3_image_0 rfl 0 rfl rfl ?_
  refine gf_X3_372_3R 4 hC hF dX3_image_1 rfl (fun r_1 hF => ?_)
  refine g_ifnonnull 7 18 hC dX3_image_4 (by decide) rfl (fun b_2 c => ?_) (fun c => ?_)
  · have hF := hF.2 b_2 c
    try rw [c]
    exact w_X3_image_b18 hC _ _ _ hu _ hF
  · have hF := hF.1 c
    try rw [c]
    refine g_aload_n 8 hC dX3_image_7 rfl 0 rfl rfl ?_
    have hu := hF.1
    refine g_new (C := RX3) (T := TX3) (N := 46) (ci := 3) in_X3 tyX3_ok (by decide) rfl q1931 q1378 q72 11 hC hF dX3_image_8 rfl (fun a_3 M_4 hF => ?_)
    refine g_dup 12 hC dX3_image_11 rfl rfl ?_
    obtain ⟨c_7, s_8, hu, hF⟩ := hF
    refine g_cI (rest := [_, _]) q1381 q72 q1932 q1380 rfl hd_X3_init 15 hC (met_X3_init hF) rfl ⟨Nat.le_of_ble_eq_true rfl, Nat.le_of_ble_eq_true rfl⟩ hu rfl (Nat.le_of_ble_eq_true rfl) dX3_image_12 rfl (g_ty_v ((0 + 1) + c_7) ((0 + 46) + s_8) (Nat.le_refl _) (Nat.le_refl _) (fun M_5 hF => ?_))
    refine g_putR (C := RX3) (T := TX3) (N := 46) (ci := 3) (k := 21) (ty := (.object "SendTheBoxModel")) in_X3 tyX3 tyX3_ok nmX3 rfl (by decide) q1408 rfl rfl (fun _ _ _ => rfl) (g_narR _ _ (by decide)) (g_fitR _ _ (by decide)) 18 hC hF dX3_image_15 rfl (fun M_9 hF => ?_)
    exact w_X3_image_b18 hC _ _ _ hu _ hF