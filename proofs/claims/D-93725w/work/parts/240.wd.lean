set_option maxRecDepth 100000
set_option maxHeartbeats 1000000
abbrev rm_X11_init (Lc Ls : Nat) : Room := { frames := 2, cells := Lc, slots := Ls, locals := 44 }
def F_X11_init (Lc Ls : Nat) (M : gM) (a0 : Nat) (a1 : Nat) (x2 : Int32) (Q : gM → Prop)  : Prop :=
  nO M 0 0 Lc Ls 12 17 fun a_1 M_2 =>
  ∃ c_5 s_6, ((0 + 1) + c_5 ≤ Lc ∧ (0 + 17) + s_6 ≤ Ls) ∧
  F_X12_init c_5 s_6 M_2 a_1 fun M_3 =>
  pR M_3 11 a0 2 (some a_1) fun M_7 =>
  pR M_7 11 a0 0 (some a1) fun M_8 =>
  pI M_8 11 a0 1 x2 fun M_9 =>
  Q M_9
theorem met_X11_init {M : gM} {a0 : Nat} {a1 : Nat} {x2 : Int32} {Q : gM → Prop} {Lc Ls : Nat} (hF : F_X11_init Lc Ls M a0 a1 x2 Q) : gMt yX11_init (ws_ yX11_init cX11_init 3 none) (rm_X11_init Lc Ls) M [.ref a0, .ref a1, .int x2] (gQv Q) := by
  refine gMet (bytes := cX11_init) (maxL := 3) (ret := none) rfl rfl (by decide) (Nat.le_of_ble_eq_true rfl) (lv := [(0, .ref a0), (1, .ref a1), (2, .int x2)]) rfl (fun G hC hin => ?_)
  have hu : 0 ≤ Lc ∧ 0 ≤ Ls := ⟨Nat.zero_le _, Nat.zero_le _⟩
  unfold F_X11_init at hF
  refine g_aload_n 1 hC dX11_init_0 rfl 0 rfl rfl ?_
  refine g_objInit 4 hC q570 q109 q110 (Nat.le_of_ble_eq_true rfl) (Nat.le_of_ble_eq_true rfl) dX11_init_1 rfl ?_
  refine g_aload_n 5 hC dX11_init_4 rfl 0 rfl rfl ?_
  have hu := hF.1
  refine g_new (C := RX12) (T := TX12) (N := 17) (ci := 12) in_X12 tyX12_ok (by decide) rfl q571 q572 q92 8 hC hF dX11_init_5 rfl (fun a_1 M_2 hF => ?_)
  refine g_dup 9 hC dX11_init_8 rfl rfl ?_
  obtain ⟨c_5, s_6, hu, hF⟩ := hF
  refine g_cIN (rest := [_, _]) q573 q575 q92 q574 rfl hd_X12_init 12 hC (met_X12_init hF) rfl ⟨Nat.le_of_ble_eq_true rfl, Nat.le_of_ble_eq_true rfl⟩ hu rfl (Nat.le_of_ble_eq_true rfl) dX11_init_9 rfl (g_ty_v ((0 + 1) + c_5) ((0 + 17) + s_6) (Nat.le_refl _) (Nat.le_refl _) (fun M_3 hF => ?_))
  refine g_putFR (C := RX11) (T := TX11) (N := 7) (ci := 11) (k := 2) (ty := (.object "SendTheBox$House")) in_X11 tyX11 tyX11_ok nmX11 rfl (by decide) q657 rfl rfl rfl (fun _ _ _ => rfl) (g_narR _ _ (by decide)) (g_fitR _ _ (by decide)) 15 hC hin hF dX11_init_12 rfl (fun M_7 hF => ?_)
  refine g_aload_n 16 hC dX11_init_15 rfl 0 rfl rfl ?_
  refine g_aload_n 17 hC dX11_init_16 rfl 1 rfl rfl ?_
  refine g_putFR (C := RX11) (T := TX11) (N := 7) (ci := 11) (k := 0) (ty := (.array .int)) in_X11 tyX11 tyX11_ok nmX11 rfl (by decide) q655 rfl rfl rfl (fun _ _ _ => rfl) (g_narR _ _ (by decide)) (g_fitR _ _ (by decide)) 20 hC hin hF dX11_init_17 rfl (fun M_8 hF => ?_)
  refine g_aload_n 21 hC dX11_init_20 rfl 0 rfl rfl ?_
  refine g_iload_n 22 hC dX11_init_21 rfl 2 rfl rfl ?_
  refine g_putFI (C := RX11) (T := TX11) (N := 7) (ci := 11) (k := 1) (ty := .int) in_X11 tyX11 tyX11_ok nmX11 rfl (by decide) q656 rfl rfl rfl (fun _ _ _ => rfl) rfl rfl 25 hC hin hF dX11_init_22 rfl (fun M_9 hF => ?_)
  exact g_return hC ⟨rfl, hF⟩ dX11_init_25 hu.1 hu.2
theorem gf_X11_26_11I {G : gG} {cc : ByteArray} {nL : Nat} {ret : Option FieldType} {Qf : Option Value → gM → Prop} {rm : Room} {cells slots : Nat} {M : gM} {lv : List (Nat × Value)} {pc : Nat} {st : List Value} {a : Nat} (n : Nat) (hC : gCx G cc nL RX11 ret Qf rm) {κ : Int32 → Prop} (hF : gI M 11 a 3 κ) (hdg : decode cc pc = .ok (.getfield 26, 3)) (hn : pc + 3 = n) (kk : ∀ x, κ x → gAt G cells slots M lv n (.int x :: st)) : gAt G cells slots M lv pc (.ref a :: st) :=
  g_getI (C := RX11) (T := TX11) (N := 7) in_X11 rfl (by decide) q658 (fun _ _ _ => rfl) n hC hF hdg hn kk
theorem gf_X11_22_11I {G : gG} {cc : ByteArray} {nL : Nat} {ret : Option FieldType} {Qf : Option Value → gM → Prop} {rm : Room} {cells slots : Nat} {M : gM} {lv : List (Nat × Value)} {pc : Nat} {st : List Value} {a : Nat} (n : Nat) (hC : gCx G cc nL RX11 ret Qf rm) {κ : Int32 → Prop} (hF : gI M 11 a 1 κ) (hdg : decode cc pc = .ok (.getfield 22, 3)) (hn : pc + 3 = n) (kk : ∀ x, κ x → gAt G cells slots M lv n (.int x :: st)) : gAt G cells slots M lv pc (.ref a :: st) :=
  g_getI (C := RX11) (T := TX11) (N := 7) in_X11 rfl (by decide) q656 (fun _ _ _ => rfl) n hC hF hdg hn kk
theorem gf_X11_18_11N {G : gG} {cc : ByteArray} {nL : Nat} {ret : Option FieldType} {Qf : Option Value → gM → Prop} {rm : Room} {cells slots : Nat} {M : gM} {lv : List (Nat × Value)} {pc : Nat} {st : List Value} {a : Nat} (n : Nat) (hC : gCx G cc nL RX11 ret Qf rm) {κ : Nat → Prop} (hF : gN M 11 a 0 κ) (hdg : decode cc pc = .ok (.getfield 18, 3)) (hn : pc + 3 = n) (kk : ∀ x, κ x → gAt G cells slots M lv n (.ref x :: st)) : gAt G cells slots M lv pc (.ref a :: st) :=
  g_getN (C := RX11) (T := TX11) (N := 7) in_X11 rfl (by decide) q655 (fun _ _ _ => rfl) n hC hF hdg hn kk
abbrev rm_X11_isIn : Room := { frames := 0, cells := 0, slots := 0, locals := 0 }
def F_X11_isIn  (M : gM) (a0 : Nat) (x1 : Int32) (x2 : Int32) (Q : Int32 → gM → Prop)  : Prop :=
  gI M 11 a0 3 fun x_1 =>
  gI M 11 a0 1 fun x_2 =>
  ((x_2 ≤ x_1 →
    Q (0 : Int32) M) ∧
    (¬ x_2 ≤ x_1 →
    gN M 11 a0 0 fun a_3 =>
    gI M 11 a0 3 fun x_4 =>
    aI M .int a_3 x_4 fun x_5 =>
    ((x_5 < x1 →
      Q (0 : Int32) M) ∧
      (¬ x_5 < x1 →
      gN M 11 a0 0 fun a_6 =>
      gI M 11 a0 3 fun x_7 =>
      aI M .int a_6 x_7 fun x_8 =>
      ((x2 < x_8 →
        Q (0 : Int32) M) ∧
        (¬ x2 < x_8 →
        Q (1 : Int32) M))))))
theorem met_X11_isIn {M : gM} {a0 : Nat} {x1 : Int32} {x2 : Int32} {Q : Int32 → gM → Prop} (hF : F_X11_isIn M a0 x1 x2 Q) : gMt yX11_isIn (ws_ yX11_isIn cX11_isIn 3 (some .boolean)) rm_X11_isIn M [.ref a0, .int x1, .int x2] (gQi Q) := by
  refine gMet (bytes := cX11_isIn) (maxL := 3) (ret := (some .boolean)) rfl rfl (by decide) (Nat.le_of_ble_eq_true rfl) (lv := [(0, .ref a0), (1, .int x1), (2, .int x2)]) rfl (fun G hC hin => ?_)
  unfold F_X11_isIn at hF
  refine g_aload_n 1 hC dX11_isIn_0 rfl 0 rfl rfl ?_
  refine gf_X11_26_11I 4 hC hF dX11_isIn_1 rfl (fun x_1 hF => ?_)
  refine g_aload_n 5 hC dX11_isIn_4 rfl 0 rfl rfl ?_
  refine gf_X11_22_11I 8 hC hF dX11_isIn_5 rfl (fun x_2 hF => ?_)
  refine g_icmp_ge 11 41 hC dX11_isIn_8 (by decide) rfl (fun c => ?_) (fun c => ?_)
  · have hF := hF.1 c
    refine g_iconst 42 hC (0 : Int32) dX11_isIn_41 (by decide) rfl ?_
    exact g_zreturn hC ⟨_, rfl, hF⟩ (Or.inl rfl) dX11_isIn_42 (Nat.zero_le _) (Nat.zero_le _)
  · have hF := hF.2 c
    refine g_aload_n 12 hC dX11_isIn_11 rfl 0 rfl rfl ?_
    refine gf_X11_18_11N 15 hC hF dX11_isIn_12 rfl (fun a_3 hF => ?_)
    refine g_aload_n 16 hC dX11_isIn_15 rfl 0 rfl rfl ?_
    refine gf_X11_26_11I 19 hC hF dX11_isIn_16 rfl (fun x_4 hF => ?_)
    refine g_iald 20 hC hF dX11_isIn_19 rfl (fun x_5 hF => ?_)
    refine g_iload_n 21 hC dX11_isIn_20 rfl 1 rfl rfl ?_
    refine g_icmp_lt 24 41 hC dX11_isIn_21 (by decide) rfl (fun c => ?_) (fun c => ?_)
    · have hF := hF.1 c
      refine g_iconst 42 hC (0 : Int32) dX11_isIn_41 (by decide) rfl ?_
      exact g_zreturn hC ⟨_, rfl, hF⟩ (Or.inl rfl) dX11_isIn_42 (Nat.zero_le _) (Nat.zero_le _)
    · have hF := hF.2 c
      refine g_aload_n 25 hC dX11_isIn_24 rfl 0 rfl rfl ?_
      refine gf_X11_18_11N 28 hC hF dX11_isIn_25 rfl (fun a_6 hF => ?_)
      refine g_aload_n 29 hC dX11_isIn_28 rfl 0 rfl rfl ?_
      refine gf_X11_26_11I 32 hC hF dX11_isIn_29 rfl (fun x_7 hF => ?_)
      refine g_iald 33 hC hF dX11_isIn_32 rfl (fun x_8 hF => ?_)
      refine g_iload_n 34 hC dX11_isIn_33 rfl 2 rfl rfl ?_
      refine g_icmp_gt 37 41 hC dX11_isIn_34 (by decide) rfl (fun c => ?_) (fun c => ?_)
      · have hF := hF.1 c
        refine g_iconst 42 hC (0 : Int32) dX11_isIn_41 (by decide) rfl ?_
        exact g_zreturn hC ⟨_, rfl, hF⟩ (Or.inl rfl) dX11_isIn_42 (Nat.zero_le _) (Nat.zero_le _)
      · have hF := hF.2 c
        refine g_iconst 38 hC (1 : Int32) dX11_isIn_37 (by decide) rfl ?_
        refine g_goto 42 hC dX11_isIn_38 (by decide) ?_
        exact g_zreturn hC ⟨_, rfl, hF⟩ (Or.inr rfl) dX11_isIn_42 (Nat.zero_le _) (Nat.zero_le _)
theorem gf_X11_33_11I {G : gG} {cc : ByteArray} {nL : Nat} {ret : Option FieldType} {Qf : Option Value → gM → Prop} {rm : Room} {cells slots : Nat} {M : gM} {lv : List (Nat × Value)} {pc : Nat} {st : List Value} {a : Nat} (n : Nat) (hC : gCx G cc nL RX11 ret Qf rm) {κ : Int32 → Prop} (hF : gI M 11 a 4 κ) (hdg : decode cc pc = .ok (.getfield 33, 3)) (hn : pc + 3 = n) (kk : ∀ x, κ x → gAt G cells slots M lv n (.int x :: st)) : gAt G cells slots M lv pc (.ref a :: st) :=
  g_getI (C := RX11) (T := TX11) (N := 7) in_X11 rfl (by decide) q659 (fun _ _ _ => rfl) n hC hF hdg hn kk
theorem hd_X13_init : yX13_init.cls ≠ "java/lang/invoke/MethodHandle" ∧ yX13_init.cls ≠ "java/lang/invoke/VarHandle" ∧ (parseMethodDescriptor yX13_init.desc).map (fun d => d.parameters.length) = some 1 := by decide +kernel
abbrev rm_X11_wrong (Lc Ls : Nat) : Room := { frames := 4, cells := Lc, slots := Ls, locals := 93 }
def F_X11_wrong (Lc Ls : Nat) (M : gM) (a0 : Nat) (Q : Nat → gM → Prop)  : Prop :=
  nO M 0 0 Lc Ls 13 7 fun a_1 M_2 =>
  gI M_2 11 a0 4 fun x_3 =>
  F_X13_init M_2 a_1 x_3 fun M_4 =>
  Q a_1 M_4
theorem met_X11_wrong {M : gM} {a0 : Nat} {Q : Nat → gM → Prop} {Lc Ls : Nat} (hF : F_X11_wrong Lc Ls M a0 Q) : gMt yX11_wrong (ws_ yX11_wrong cX11_wrong 1 (some (.object "SendTheBox$Fault"))) (rm_X11_wrong Lc Ls) M [.ref a0] (gQa Q) := by
  refine gMet (bytes := cX11_wrong) (maxL := 1) (ret := (some (.object "SendTheBox$Fault"))) rfl rfl (by decide) (Nat.le_of_ble_eq_true rfl) (lv := [(0, .ref a0)]) rfl (fun G hC hin => ?_)
  have hu : 0 ≤ Lc ∧ 0 ≤ Ls := ⟨Nat.zero_le _, Nat.zero_le _⟩
  unfold F_X11_wrong at hF
  have hu := hF.1
  refine g_new (C := RX13) (T := TX13) (N := 7) (ci := 13) in_X13 tyX13_ok (by decide) rfl q871 q872 q101 3 hC hF dX11_wrong_0 rfl (fun a_1 M_2 hF => ?_)
  refine g_dup 4 hC dX11_wrong_3 rfl rfl ?_
  refine g_aload_n 5 hC dX11_wrong_4 rfl 0 rfl rfl ?_
  refine gf_X11_33_11I 8 hC hF dX11_wrong_5 rfl (fun x_3 hF => ?_)
  refine g_cI (rest := [_]) q882 q101 q880 q881 rfl hd_X13_init 11 hC (met_X13_init hF) rfl ⟨Nat.le_of_ble_eq_true rfl, Nat.le_of_ble_eq_true rfl⟩ hu rfl (Nat.le_of_ble_eq_true rfl) dX11_wrong_8 rfl (g_ty_v (0 + 1) (0 + 7) (Nat.le_refl _) (Nat.le_refl _) (fun M_4 hF => ?_))
  exact g_areturn (v := some a_1) hC (Or.inl ⟨_, rfl⟩) ⟨_, rfl, hF⟩ dX11_wrong_11 hu.1 hu.2
theorem hd_X11_isIn : yX11_isIn.cls = RX11 ∧ yX11_isIn.cls ≠ "java/lang/invoke/MethodHandle" ∧ yX11_isIn.cls ≠ "java/lang/invoke/VarHandle" ∧ (parseMethodDescriptor yX11_isIn.desc).map (fun d => d.parameters.length) = some 2 := by decide +kernel
theorem wl_X11_29 : GoodIn lw_all (wsV RX11 29 RX11 yX11_isIn (ws_ yX11_isIn cX11_isIn 3 (some .boolean))) := lw_V q685 q687 qs7 q91 q688
theorem hd_J11_init : yJ11_init.cls ≠ "java/lang/invoke/MethodHandle" ∧ yJ11_init.cls ≠ "java/lang/invoke/VarHandle" ∧ (parseMethodDescriptor yJ11_init.desc).map (fun d => d.parameters.length) = some 0 := by decide +kernel
theorem hd_J11_toString : yJ11_toString.cls = RJ11 ∧ yJ11_toString.cls ≠ "java/lang/invoke/MethodHandle" ∧ yJ11_toString.cls ≠ "java/lang/invoke/VarHandle" ∧ (parseMethodDescriptor yJ11_toString.desc).map (fun d => d.parameters.length) = some 0 := by decide +kernel
theorem wl_X11_50 : GoodIn lw_all (wsV RX11 50 RJ11 yJ11_toString (ws_ yJ11_toString cJ11_toString 1 (some (.object "java/lang/String")))) := lw_V q813 q814 q815 q94 q816
theorem hd_J11_append : yJ11_append.cls = RJ11 ∧ yJ11_append.cls ≠ "java/lang/invoke/MethodHandle" ∧ yJ11_append.cls ≠ "java/lang/invoke/VarHandle" ∧ (parseMethodDescriptor yJ11_append.desc).map (fun d => d.parameters.length) = some 1 := by decide +kernel
theorem wl_X11_46 : GoodIn lw_all (wsV RX11 46 RJ11 yJ11_append (ws_ yJ11_append cJ11_append 2 (some (.object "java/lang/StringBuilder")))) := lw_V q725 q726 q727 q94 q728
abbrev rm_X11_next (Lc Ls : Nat) : Room := { frames := 6, cells := Lc, slots := Ls, locals := 183 }
def F_X11_next_b61 (Q : gM → Prop) (X : String → Nat → gM → Prop) (Lc Ls : Nat)  (a0 : Nat) (a1 : Nat) : Nat → Nat → Nat → gM → Prop
  | 0, _, _, _ => False
  | n + 1, u, v, M =>
    rc M 11 a0 ∧ F_X11_isIn M a0 (97 : Int32) (122 : Int32) fun x_2 M_1 =>
    ((x_2 = 0 →
      ∃ c_5 s_6, (u + c_5 ≤ Lc ∧ v + s_6 ≤ Ls) ∧
      rc M_1 16 a1 ∧ F_J11_toString c_5 s_6 M_1 a1 fun a_4 M_3 =>
      pR M_3 11 a0 5 (some a_4) fun M_7 =>
      Q M_7) ∧
      (¬ x_2 = 0 →
      gN M_1 11 a0 0 fun a_8 =>
      gI M_1 11 a0 3 fun x_9 =>
      aI M_1 .int a_8 x_9 fun x_10 =>
      ∃ c_13 s_14, (u + c_13 ≤ Lc ∧ v + s_14 ≤ Ls) ∧
      rc M_1 16 a1 ∧ F_J11_append c_13 s_14 M_1 a1 ((x_10.toUInt32 % 65536).toInt32) fun a_12 M_11 =>
      gI M_11 11 a0 3 fun x_15 =>
      pI M_11 11 a0 3 (x_15 + (1 : Int32)) fun M_16 =>
      (F_X11_next_b61 Q X Lc Ls a0 a1 n) (u + c_13) (v + s_14) M_16))
theorem w_X11_next_b61 {G : gG} {Q : gM → Prop} {X : String → Nat → gM → Prop} {Lc Ls : Nat} (hC : gCx G cX11_next 2 RX11 none (gQv Q) (rm_X11_next Lc Ls)) (hT : gTx G X (rm_X11_next Lc Ls) [])  (a0 : Nat) (a1 : Nat)  : ∀ (n : Nat)  (u v : Nat) (hu : u ≤ Lc ∧ v ≤ Ls) (M : gM), F_X11_next_b61 Q X Lc Ls a0 a1 n u v M → gAt G u v M [(0, .ref a0), (1, .ref a1)] 61 [] := by
  intro n
  induction n with
  | zero =>
    intro u v hu M hF
    exact hF.elim
  | succ n ih =>
    intro u v hu M hF
    have hK61 := ih
    unfold F_X11_next_b61 at hF
    refine g_aload_n 62 hC dX11_next_61 rfl 0 rfl rfl ?_
    refine g_bipush 64 hC (97 : Int32) dX11_next_62 (by decide) rfl ?_
    refine g_bipush 66 hC (122 : Int32) dX11_next_64 (by decide) rfl ?_
    refine g_cV (rest := []) wl_X11_29 hd_X11_isIn (ci := 11) rfl 69 hC hF.1 (met_X11_isIn hF.2) rfl ⟨Nat.le_of_ble_eq_true rfl, Nat.le_of_ble_eq_true rfl⟩ hu rfl (Nat.le_of_ble_eq_true rfl) dX11_next_66 rfl (g_ty_i u v (Nat.le_refl _) (Nat.le_refl _) (fun x_2 M_1 hF => ?_))
    refine g_if_eq 72 100 hC dX11_next_69 (by decide) rfl (fun c => ?_) (fun c => ?_)
    · have hF := hF.1 c
      refine g_aload_n 101 hC dX11_next_100 rfl 0 rfl rfl ?_
      refine g_aload_n 102 hC dX11_next_101 rfl 1 rfl rfl ?_
      obtain ⟨c_5, s_6, hu, hF⟩ := hF
      refine g_cV (rest := [_]) wl_X11_50 hd_J11_toString (ci := 16) rfl 105 hC hF.1 (met_J11_toString hF.2) rfl ⟨Nat.le_of_ble_eq_true rfl, Nat.le_of_ble_eq_true rfl⟩ hu rfl (Nat.le_of_ble_eq_true rfl) dX11_next_102 rfl (g_ty_a (u + c_5) (v + s_6) (Nat.le_refl _) (Nat.le_refl _) (fun a_4 M_3 hF => ?_))
      refine g_putR (C := RX11) (T := TX11) (N := 7) (ci := 11) (k := 5) (ty := (.object "java/lang/String")) in_X11 tyX11 tyX11_ok nmX11 rfl (by decide) q660 rfl rfl (fun _ _ _ => rfl) (g_narR _ _ (by decide)) (g_fitR _ _ (by decide)) 108 hC hF dX11_next_105 rfl (fun M_7 hF => ?_)
      refine g_goto 250 hC dX11_next_108 (by decide) ?_
      exact g_return hC ⟨rfl, hF⟩ dX11_next_250 hu.1 hu.2
    · have hF := hF.2 c
      refine g_aload_n 73 hC dX11_next_72 rfl 1 rfl rfl ?_
      refine g_aload_n 74 hC dX11_next_73 rfl 0 rfl rfl ?_
      refine gf_X11_18_11N 77 hC hF dX11_next_74 rfl (fun a_8 hF => ?_)
      refine g_aload_n 78 hC dX11_next_77 rfl 0 rfl rfl ?_
      refine gf_X11_26_11I 81 hC hF dX11_next_78 rfl (fun x_9 hF => ?_)
      refine g_iald 82 hC hF dX11_next_81 rfl (fun x_10 hF => ?_)
      refine g_i2c 83 hC dX11_next_82 rfl ?_
      obtain ⟨c_13, s_14, hu, hF⟩ := hF
      refine g_cV (rest := []) wl_X11_46 hd_J11_append (ci := 16) rfl 86 hC hF.1 (met_J11_append hF.2) rfl ⟨Nat.le_of_ble_eq_true rfl, Nat.le_of_ble_eq_true rfl⟩ hu rfl (Nat.le_of_ble_eq_true rfl) dX11_next_83 rfl (g_ty_a (u + c_13) (v + s_14) (Nat.le_refl _) (Nat.le_refl _) (fun a_12 M_11 hF => ?_))
      refine g_pop 87 hC dX11_next_86 rfl rfl ?_
      refine g_aload_n 88 hC dX11_next_87 rfl 0 rfl rfl ?_
      refine g_dup 89 hC dX11_next_88 rfl rfl ?_
      refine gf_X11_26_11I 92 hC hF dX11_next_89 rfl (fun x_15 hF => ?_)
      refine g_iconst 93 hC (1 : Int32) dX11_next_92 (by decide) rfl ?_
      refine g_iadd 94 hC dX11_next_93 rfl ?_
      refine g_putI (C := RX11) (T := TX11) (N := 7) (ci := 11) (k := 3) (ty := .int) in_X11 tyX11 tyX11_ok nmX11 rfl (by decide) q658 rfl rfl (fun _ _ _ => rfl) rfl rfl 97 hC hF dX11_next_94 rfl (fun M_16 hF => ?_)
      refine g_goto 61 hC dX11_next_97 (by decide) ?_
      exact hK61 _ _ hu _ hF
def F_X11_next_b124 (Q : gM → Prop) (X : String → Nat → gM → Prop) (Lc Ls : Nat)  (a0 : Nat) : Nat → Int32 → Nat → Nat → gM → Prop
  | 0, _, _, _, _ => False
  | n + 1, x1, u, v, M =>
    rc M 11 a0 ∧ F_X11_isIn M a0 (48 : Int32) (57 : Int32) fun x_2 M_1 =>
    ((x_2 = 0 →
      gI M_1 11 a0 3 fun x_3 =>
      gI M_1 11 a0 4 fun x_4 =>
      (((x_3 - x_4) ≤ (2 : Int32) →
        pI M_1 11 a0 6 x1 fun M_5 =>
        Q M_5) ∧
        (¬ (x_3 - x_4) ≤ (2 : Int32) →
        pI M_1 11 a0 6 (100 : Int32) fun M_6 =>
        Q M_6))) ∧
      (¬ x_2 = 0 →
      gN M_1 11 a0 0 fun a_7 =>
      gI M_1 11 a0 3 fun x_8 =>
      aI M_1 .int a_7 x_8 fun x_9 =>
      gI M_1 11 a0 3 fun x_10 =>
      pI M_1 11 a0 3 (x_10 + (1 : Int32)) fun M_11 =>
      (F_X11_next_b124 Q X Lc Ls a0 n) (if ((((10 : Int32) * x1) + x_9) - (48 : Int32)) < (100 : Int32) then ((((10 : Int32) * x1) + x_9) - (48 : Int32)) else (100 : Int32)) u v M_11))
theorem w_X11_next_b124 {G : gG} {Q : gM → Prop} {X : String → Nat → gM → Prop} {Lc Ls : Nat} (hC : gCx G cX11_next 2 RX11 none (gQv Q) (rm_X11_next Lc Ls)) (hT : gTx G X (rm_X11_next Lc Ls) [])  (a0 : Nat)  : ∀ (n : Nat) (x1 : Int32) (u v : Nat) (hu : u ≤ Lc ∧ v ≤ Ls) (M : gM), F_X11_next_b124 Q X Lc Ls a0 n x1 u v M → gAt G u v M [(0, .ref a0), (1, .int x1)] 124 [] := by
  intro n
  induction n with
  | zero =>
    intro x1 u v hu M hF
    exact hF.elim
  | succ n ih =>
    intro x1 u v hu M hF
    have hK124 := ih
    unfold F_X11_next_b124 at hF
    refine g_aload_n 125 hC dX11_next_124 rfl 0 rfl rfl ?_
    refine g_bipush 127 hC (48 : Int32) dX11_next_125 (by decide) rfl ?_
    refine g_bipush 129 hC (57 : Int32) dX11_next_127 (by decide) rfl ?_
    refine g_cV (rest := []) wl_X11_29 hd_X11_isIn (ci := 11) rfl 132 hC hF.1 (met_X11_isIn hF.2) rfl ⟨Nat.le_of_ble_eq_true rfl, Nat.le_of_ble_eq_true rfl⟩ hu rfl (Nat.le_of_ble_eq_true rfl) dX11_next_129 rfl (g_ty_i u v (Nat.le_refl _) (Nat.le_refl _) (fun x_2 M_1 hF => ?_))
    refine g_if_eq 135 171 hC dX11_next_132 (by decide) rfl (fun c => ?_) (fun c => ?_)
    · have hF := hF.1 c
      refine g_aload_n 172 hC dX11_next_171 rfl 0 rfl rfl ?_
      refine g_aload_n 173 hC dX11_next_172 rfl 0 rfl rfl ?_
      refine gf_X11_26_11I 176 hC hF dX11_next_173 rfl (fun x_3 hF => ?_)
      refine g_aload_n 177 hC dX11_next_176 rfl 0 rfl rfl ?_
      refine gf_X11_33_11I 180 hC hF dX11_next_177 rfl (fun x_4 hF => ?_)
      refine g_isub 181 hC dX11_next_180 rfl ?_
      refine g_iconst 182 hC (2 : Int32) dX11_next_181 (by decide) rfl ?_
      refine g_icmp_le 185 190 hC dX11_next_182 (by decide) rfl (fun c => ?_) (fun c => ?_)
      · have hF := hF.1 c
        refine g_iload_n 191 hC dX11_next_190 rfl 1 rfl rfl ?_
        refine g_putI (C := RX11) (T := TX11) (N := 7) (ci := 11) (k := 6) (ty := .int) in_X11 tyX11 tyX11_ok nmX11 rfl (by decide) q661 rfl rfl (fun _ _ _ => rfl) rfl rfl 194 hC hF dX11_next_191 rfl (fun M_5 hF => ?_)
        refine g_goto 250 hC dX11_next_194 (by decide) ?_
        exact g_return hC ⟨rfl, hF⟩ dX11_next_250 hu.1 hu.2
      · have hF := hF.2 c
        refine g_bipush 187 hC (100 : Int32) dX11_next_185 (by decide) rfl ?_
        refine g_goto 191 hC dX11_next_187 (by decide) ?_
        refine g_putI (C := RX11) (T := TX11) (N := 7) (ci := 11) (k := 6) (ty := .int) in_X11 tyX11 tyX11_ok nmX11 rfl (by decide) q661 rfl rfl (fun _ _ _ => rfl) rfl rfl 194 hC hF dX11_next_191 rfl (fun M_6 hF => ?_)
        refine g_goto 250 hC dX11_next_194 (by decide) ?_
        exact g_return hC ⟨rfl, hF⟩ dX11_next_250 hu.1 hu.2
    · have hF := hF.2 c
      refine g_bipush 137 hC (100 : Int32) dX11_next_135 (by decide) rfl ?_
      refine g_bipush 139 hC (10 : Int32) dX11_next_137 (by decide) rfl ?_
      refine g_iload_n 140 hC dX11_next_139 rfl 1 rfl rfl ?_
      refine g_imul 141 hC dX11_next_140 rfl ?_
      refine g_aload_n 142 hC dX11_next_141 rfl 0 rfl rfl ?_
      refine gf_X11_18_11N 145 hC hF dX11_next_142 rfl (fun a_7 hF => ?_)
      refine g_aload_n 146 hC dX11_next_145 rfl 0 rfl rfl ?_
      refine gf_X11_26_11I 149 hC hF dX11_next_146 rfl (fun x_8 hF => ?_)
      refine g_iald 150 hC hF dX11_next_149 rfl (fun x_9 hF => ?_)
      refine g_iadd 151 hC dX11_next_150 rfl ?_
      refine g_bipush 153 hC (48 : Int32) dX11_next_151 (by decide) rfl ?_
      refine g_isub 154 hC dX11_next_153 rfl ?_
      refine g_min 157 hC q869 (Nat.le_of_ble_eq_true rfl) (Nat.le_of_ble_eq_true rfl) hu dX11_next_154 rfl ?_
      refine g_istore_n 158 hC (lv' := [(1, .int _), (0, .ref _)]) dX11_next_157 rfl rfl (by decide) rfl ?_
      refine g_aload_n 159 hC dX11_next_158 rfl 1 rfl rfl ?_
      refine g_dup 160 hC dX11_next_159 rfl rfl ?_
      refine gf_X11_26_11I 163 hC hF dX11_next_160 rfl (fun x_10 hF => ?_)
      refine g_iconst 164 hC (1 : Int32) dX11_next_163 (by decide) rfl ?_
      refine g_iadd 165 hC dX11_next_164 rfl ?_
      refine g_putI (C := RX11) (T := TX11) (N := 7) (ci := 11) (k := 3) (ty := .int) in_X11 tyX11 tyX11_ok nmX11 rfl (by decide) q658 rfl rfl (fun _ _ _ => rfl) rfl rfl 168 hC hF dX11_next_165 rfl (fun M_11 hF => ?_)
      refine g_goto 124 hC dX11_next_168 (by decide) ?_
      refine g_sub [1, 0] rfl ?_
      exact hK124 _ _ _ hu _ hF
def F_X11_next_b0 (Q : gM → Prop) (X : String → Nat → gM → Prop) (Lc Ls : Nat)  (a0 : Nat) : Nat → Nat → Nat → gM → Prop
  | 0, _, _, _ => False
  | n + 1, u, v, M =>
    rc M 11 a0 ∧ F_X11_isIn M a0 (32 : Int32) (32 : Int32) fun x_2 M_1 =>
    ((x_2 = 0 →
      gI M_1 11 a0 3 fun x_3 =>
      pI M_1 11 a0 4 x_3 fun M_4 =>
      pR M_4 11 a0 5 none fun M_5 =>
      pI M_5 11 a0 6 (-1 : Int32) fun M_6 =>
      rc M_6 11 a0 ∧ F_X11_isIn M_6 a0 (97 : Int32) (122 : Int32) fun x_8 M_7 =>
      ((x_8 = 0 →
        rc M_7 11 a0 ∧ F_X11_isIn M_7 a0 (48 : Int32) (57 : Int32) fun x_10 M_9 =>
        ((x_10 = 0 →
          rc M_9 11 a0 ∧ F_X11_isIn M_9 a0 (59 : Int32) (59 : Int32) fun x_12 M_11 =>
          ((x_12 = 0 →
            gI M_11 11 a0 3 fun x_13 =>
            gI M_11 11 a0 1 fun x_14 =>
            ((x_14 ≤ x_13 →
              Q M_11) ∧
              (¬ x_14 ≤ x_13 →
              nO M_11 u v Lc Ls 13 7 fun a_15 M_16 =>
              gI M_16 11 a0 4 fun x_17 =>
              F_X13_init M_16 a_15 x_17 fun M_18 =>
              (kd M_18 a_15 = some (true, .inl 13)) ∧
              X "SendTheBox$Fault" a_15 M_18))) ∧
            (¬ x_12 = 0 →
            pR M_11 11 a0 5 (some (gl M_11 1)) fun M_20 =>
            gI M_20 11 a0 3 fun x_21 =>
            pI M_20 11 a0 3 (x_21 + (1 : Int32)) fun M_22 =>
            Q M_22))) ∧
          (¬ x_10 = 0 →
          ∃ n_23, F_X11_next_b124 Q X Lc Ls a0 n_23 (0 : Int32) u v M_9))) ∧
        (¬ x_8 = 0 →
        nO M_7 u v Lc Ls 16 4 fun a_24 M_25 =>
        ∃ c_28 s_29, ((u + 1) + c_28 ≤ Lc ∧ (v + 4) + s_29 ≤ Ls) ∧
        F_J11_init c_28 s_29 M_25 a_24 fun M_26 =>
        ∃ n_30, F_X11_next_b61 Q X Lc Ls a0 a_24 n_30 ((u + 1) + c_28) ((v + 4) + s_29) M_26))) ∧
      (¬ x_2 = 0 →
      gI M_1 11 a0 3 fun x_31 =>
      pI M_1 11 a0 3 (x_31 + (1 : Int32)) fun M_32 =>
      (F_X11_next_b0 Q X Lc Ls a0 n) u v M_32))
theorem w_X11_next_b0 {G : gG} {Q : gM → Prop} {X : String → Nat → gM → Prop} {Lc Ls : Nat} (hC : gCx G cX11_next 2 RX11 none (gQv Q) (rm_X11_next Lc Ls)) (hT : gTx G X (rm_X11_next Lc Ls) [])  (a0 : Nat)  : ∀ (n : Nat)  (u v : Nat) (hu : u ≤ Lc ∧ v ≤ Ls) (M : gM), F_X11_next_b0 Q X Lc Ls a0 n u v M → gAt G u v M [(0, .ref a0)] 0 [] := by
  intro n
  induction n with
  | zero =>
    intro u v hu M hF
    exact hF.elim
  | succ n ih =>
    intro u v hu M hF
    have hK0 := ih
    unfold F_X11_next_b0 at hF
    refine g_aload_n 1 hC dX11_next_0 rfl 0 rfl rfl ?_
    refine g_bipush 3 hC (32 : Int32) dX11_next_1 (by decide) rfl ?_
    refine g_bipush 5 hC (32 : Int32) dX11_next_3 (by decide) rfl ?_
    refine g_cV (rest := []) wl_X11_29 hd_X11_isIn (ci := 11) rfl 8 hC hF.1 (met_X11_isIn hF.2) rfl ⟨Nat.le_of_ble_eq_true rfl, Nat.le_of_ble_eq_true rfl⟩ hu rfl (Nat.le_of_ble_eq_true rfl) dX11_next_5 rfl (g_ty_i u v (Nat.le_refl _) (Nat.le_refl _) (fun x_2 M_1 hF => ?_))
    refine g_if_eq 11 24 hC dX11_next_8 (by decide) rfl (fun c => ?_) (fun c => ?_)
    · have hF := hF.1 c
      refine g_aload_n 25 hC dX11_next_24 rfl 0 rfl rfl ?_
      refine g_aload_n 26 hC dX11_next_25 rfl 0 rfl rfl ?_
      refine gf_X11_26_11I 29 hC hF dX11_next_26 rfl (fun x_3 hF => ?_)
      refine g_putI (C := RX11) (T := TX11) (N := 7) (ci := 11) (k := 4) (ty := .int) in_X11 tyX11 tyX11_ok nmX11 rfl (by decide) q659 rfl rfl (fun _ _ _ => rfl) rfl rfl 32 hC hF dX11_next_29 rfl (fun M_4 hF => ?_)
      refine g_aload_n 33 hC dX11_next_32 rfl 0 rfl rfl ?_
      refine g_null 34 hC dX11_next_33 rfl ?_
      refine g_putR (C := RX11) (T := TX11) (N := 7) (ci := 11) (k := 5) (ty := (.object "java/lang/String")) in_X11 tyX11 tyX11_ok nmX11 rfl (by decide) q660 rfl rfl (fun _ _ _ => rfl) (g_narR _ _ (by decide)) (g_fitR _ _ (by decide)) 37 hC hF dX11_next_34 rfl (fun M_5 hF => ?_)
      refine g_aload_n 38 hC dX11_next_37 rfl 0 rfl rfl ?_
      refine g_iconst 39 hC (-1 : Int32) dX11_next_38 (by decide) rfl ?_
      refine g_putI (C := RX11) (T := TX11) (N := 7) (ci := 11) (k := 6) (ty := .int) in_X11 tyX11 tyX11_ok nmX11 rfl (by decide) q661 rfl rfl (fun _ _ _ => rfl) rfl rfl 42 hC hF dX11_next_39 rfl (fun M_6 hF => ?_)
      refine g_aload_n 43 hC dX11_next_42 rfl 0 rfl rfl ?_
      refine g_bipush 45 hC (97 : Int32) dX11_next_43 (by decide) rfl ?_
      refine g_bipush 47 hC (122 : Int32) dX11_next_45 (by decide) rfl ?_
      refine g_cV (rest := []) wl_X11_29 hd_X11_isIn (ci := 11) rfl 50 hC hF.1 (met_X11_isIn hF.2) rfl ⟨Nat.le_of_ble_eq_true rfl, Nat.le_of_ble_eq_true rfl⟩ hu rfl (Nat.le_of_ble_eq_true rfl) dX11_next_47 rfl (g_ty_i u v (Nat.le_refl _) (Nat.le_refl _) (fun x_8 M_7 hF => ?_))
      refine g_if_eq 53 111 hC dX11_next_50 (by decide) rfl (fun c => ?_) (fun c => ?_)
      · have hF := hF.1 c
        refine g_aload_n 112 hC dX11_next_111 rfl 0 rfl rfl ?_
        refine g_bipush 114 hC (48 : Int32) dX11_next_112 (by decide) rfl ?_
        refine g_bipush 116 hC (57 : Int32) dX11_next_114 (by decide) rfl ?_
        refine g_cV (rest := []) wl_X11_29 hd_X11_isIn (ci := 11) rfl 119 hC hF.1 (met_X11_isIn hF.2) rfl ⟨Nat.le_of_ble_eq_true rfl, Nat.le_of_ble_eq_true rfl⟩ hu rfl (Nat.le_of_ble_eq_true rfl) dX11_next_116 rfl (g_ty_i u v (Nat.le_refl _) (Nat.le_refl _) (fun x_10 M_9 hF => ?_))
        refine g_if_eq 122 197 hC dX11_next_119 (by decide) rfl (fun c => ?_) (fun c => ?_)
        · have hF := hF.1 c
          refine g_aload_n 198 hC dX11_next_197 rfl 0 rfl rfl ?_
          refine g_bipush 200 hC (59 : Int32) dX11_next_198 (by decide) rfl ?_
          refine g_bipush 202 hC (59 : Int32) dX11_next_200 (by decide) rfl ?_
          refine g_cV (rest := []) wl_X11_29 hd_X11_isIn (ci := 11) rfl 205 hC hF.1 (met_X11_isIn hF.2) rfl ⟨Nat.le_of_ble_eq_true rfl, Nat.le_of_ble_eq_true rfl⟩ hu rfl (Nat.le_of_ble_eq_true rfl) dX11_next_202 rfl (g_ty_i u v (Nat.le_refl _) (Nat.le_refl _) (fun x_12 M_11 hF => ?_))
          refine g_if_eq 208 227 hC dX11_next_205 (by decide) rfl (fun c => ?_) (fun c => ?_)
          · have hF := hF.1 c
            refine g_aload_n 228 hC dX11_next_227 rfl 0 rfl rfl ?_
            refine gf_X11_26_11I 231 hC hF dX11_next_228 rfl (fun x_13 hF => ?_)
            refine g_aload_n 232 hC dX11_next_231 rfl 0 rfl rfl ?_
            refine gf_X11_22_11I 235 hC hF dX11_next_232 rfl (fun x_14 hF => ?_)
            refine g_icmp_ge 238 250 hC dX11_next_235 (by decide) rfl (fun c => ?_) (fun c => ?_)
            · have hF := hF.1 c
              exact g_return hC ⟨rfl, hF⟩ dX11_next_250 hu.1 hu.2
            · have hF := hF.2 c
              have hu := hF.1
              refine g_new (C := RX13) (T := TX13) (N := 7) (ci := 13) in_X13 tyX13_ok (by decide) rfl q871 q872 q101 241 hC hF dX11_next_238 rfl (fun a_15 M_16 hF => ?_)
              refine g_dup 242 hC dX11_next_241 rfl rfl ?_
              refine g_aload_n 243 hC dX11_next_242 rfl 0 rfl rfl ?_
              refine gf_X11_33_11I 246 hC hF dX11_next_243 rfl (fun x_17 hF => ?_)
              refine g_cI (rest := [_]) q882 q101 q880 q881 rfl hd_X13_init 249 hC (met_X13_init hF) rfl ⟨Nat.le_of_ble_eq_true rfl, Nat.le_of_ble_eq_true rfl⟩ hu rfl (Nat.le_of_ble_eq_true rfl) dX11_next_246 rfl (g_ty_v (u + 1) (v + 7) (Nat.le_refl _) (Nat.le_refl _) (fun M_18 hF => ?_))
              refine g_athrow (ci := 13) rfl hC hF.1 dX11_next_249 ?_
              have hF := hF.2
              exact g_out hC hT (fun _ h => absurd h List.not_mem_nil) hF hu
          · have hF := hF.2 c
            refine g_aload_n 209 hC dX11_next_208 rfl 0 rfl rfl ?_
            refine g_ldcS 211 hC (j := 0) rfl dX11_next_209 rfl ?_
            refine g_putR (C := RX11) (T := TX11) (N := 7) (ci := 11) (k := 5) (ty := (.object "java/lang/String")) in_X11 tyX11 tyX11_ok nmX11 rfl (by decide) q660 rfl rfl (fun _ _ _ => rfl) (g_narR _ _ (by decide)) (g_fitR _ _ (by decide)) 214 hC hF dX11_next_211 rfl (fun M_20 hF => ?_)
            refine g_aload_n 215 hC dX11_next_214 rfl 0 rfl rfl ?_
            refine g_dup 216 hC dX11_next_215 rfl rfl ?_
            refine gf_X11_26_11I 219 hC hF dX11_next_216 rfl (fun x_21 hF => ?_)
            refine g_iconst 220 hC (1 : Int32) dX11_next_219 (by decide) rfl ?_
            refine g_iadd 221 hC dX11_next_220 rfl ?_
            refine g_putI (C := RX11) (T := TX11) (N := 7) (ci := 11) (k := 3) (ty := .int) in_X11 tyX11 tyX11_ok nmX11 rfl (by decide) q658 rfl rfl (fun _ _ _ => rfl) rfl rfl 224 hC hF dX11_next_221 rfl (fun M_22 hF => ?_)
            refine g_goto 250 hC dX11_next_224 (by decide) ?_
            exact g_return hC ⟨rfl, hF⟩ dX11_next_250 hu.1 hu.2
        · have hF := hF.2 c
          refine g_iconst 123 hC (0 : Int32) dX11_next_122 (by decide) rfl ?_
          refine g_istore_n 124 hC (lv' := [(1, .int _), (0, .ref _)]) dX11_next_123 rfl rfl (by decide) rfl ?_
          refine g_sub [1, 0] rfl ?_
          obtain ⟨n_23, hF⟩ := hF
          exact w_X11_next_b124 hC hT _ n_23 _ _ _ hu _ hF
      · have hF := hF.2 c
        have hu := hF.1
        refine g_new (C := RJ11) (T := TJ11) (N := 4) (ci := 16) in_J11 tyJ11_ok (by decide) rfl q689 q690 q94 56 hC hF dX11_next_53 rfl (fun a_24 M_25 hF => ?_)
        refine g_dup 57 hC dX11_next_56 rfl rfl ?_
        obtain ⟨c_28, s_29, hu, hF⟩ := hF
        refine g_cI (rest := [_]) q693 q94 q691 q692 rfl hd_J11_init 60 hC (met_J11_init hF) rfl ⟨Nat.le_of_ble_eq_true rfl, Nat.le_of_ble_eq_true rfl⟩ hu rfl (Nat.le_of_ble_eq_true rfl) dX11_next_57 rfl (g_ty_v ((u + 1) + c_28) ((v + 4) + s_29) (Nat.le_refl _) (Nat.le_refl _) (fun M_26 hF => ?_))
        refine g_astore_n 61 hC (lv' := [(1, .ref _), (0, .ref _)]) dX11_next_60 rfl rfl (by decide) rfl ?_
        refine g_sub [1, 0] rfl ?_
        obtain ⟨n_30, hF⟩ := hF
        exact w_X11_next_b61 hC hT _ _ n_30 _ _ hu _ hF
    · have hF := hF.2 c
      refine g_aload_n 12 hC dX11_next_11 rfl 0 rfl rfl ?_
      refine g_dup 13 hC dX11_next_12 rfl rfl ?_
      refine gf_X11_26_11I 16 hC hF dX11_next_13 rfl (fun x_31 hF => ?_)
      refine g_iconst 17 hC (1 : Int32) dX11_next_16 (by decide) rfl ?_
      refine g_iadd 18 hC dX11_next_17 rfl ?_
      refine g_putI (C := RX11) (T := TX11) (N := 7) (ci := 11) (k := 3) (ty := .int) in_X11 tyX11 tyX11_ok nmX11 rfl (by decide) q658 rfl rfl (fun _ _ _ => rfl) rfl rfl 21 hC hF dX11_next_18 rfl (fun M_32 hF => ?_)
      refine g_goto 0 hC dX11_next_21 (by decide) ?_
      exact hK0 _ _ hu _ hF
def F_X11_next (Lc Ls : Nat) (M : gM) (a0 : Nat) (Q : gM → Prop) (X : String → Nat → gM → Prop) : Prop :=
  ∃ n_1, F_X11_next_b0 Q X Lc Ls a0 n_1 0 0 M
theorem met_X11_next {M : gM} {a0 : Nat} {Q : gM → Prop} {X : String → Nat → gM → Prop} {Lc Ls : Nat} (hF : F_X11_next Lc Ls M a0 Q X) : gMx yX11_next (ws_ yX11_next cX11_next 2 none) (rm_X11_next Lc Ls) M [.ref a0] (gQv Q) X := by
  refine gMetX (bytes := cX11_next) (maxL := 2) (ret := none) rfl rfl (by decide) (Nat.le_of_ble_eq_true rfl) (lv := [(0, .ref a0)]) rfl (fun G hC hT hin => ?_)
  have hu : 0 ≤ Lc ∧ 0 ≤ Ls := ⟨Nat.zero_le _, Nat.zero_le _⟩
  unfold F_X11_next at hF
  obtain ⟨n_1, hF⟩ := hF
  exact w_X11_next_b0 hC hT _ n_1 _ _ hu _ hF
theorem gf_X11_36_11R {G : gG} {cc : ByteArray} {nL : Nat} {ret : Option FieldType} {Qf : Option Value → gM → Prop} {rm : Room} {cells slots : Nat} {M : gM} {lv : List (Nat × Value)} {pc : Nat} {st : List Value} {a : Nat} (n : Nat) (hC : gCx G cc nL RX11 ret Qf rm) {κ : Option Nat → Prop} (hF : gR M 11 a 5 κ) (hdg : decode cc pc = .ok (.getfield 36, 3)) (hn : pc + 3 = n) (kk : ∀ x, κ x → gAt G cells slots M lv n (va_rf x :: st)) : gAt G cells slots M lv pc (.ref a :: st) :=
  g_getR (C := RX11) (T := TX11) (N := 7) in_X11 rfl (by decide) q660 (fun _ _ _ => rfl) n hC hF hdg hn kk
theorem hd_J4_equals : yJ4_equals.cls = RJ4 ∧ yJ4_equals.cls ≠ "java/lang/invoke/MethodHandle" ∧ yJ4_equals.cls ≠ "java/lang/invoke/VarHandle" ∧ (parseMethodDescriptor yJ4_equals.desc).map (fun d => d.parameters.length) = some 1 := by decide +kernel
theorem wl_X11_67 : GoodIn lw_all (wsV RX11 67 RJ4 yJ4_equals (ws_ yJ4_equals cJ4_equals 3 (some .boolean))) := lw_V q899 q900 q901 q77 q902
theorem hd_X11_next : yX11_next.cls = RX11 ∧ yX11_next.cls ≠ "java/lang/invoke/MethodHandle" ∧ yX11_next.cls ≠ "java/lang/invoke/VarHandle" ∧ (parseMethodDescriptor yX11_next.desc).map (fun d => d.parameters.length) = some 0 := by decide +kernel
theorem wl_X11_73 : GoodIn lw_all (wsV RX11 73 RX11 yX11_next (ws_ yX11_next cX11_next 2 none)) := lw_V q681 q683 qs6 q91 q684
abbrev rm_X11_takes (Lc Ls : Nat) : Room := { frames := 7, cells := Lc, slots := Ls, locals := 204 }
def F_X11_takes (Lc Ls : Nat) (M : gM) (a0 : Nat) (a1 : Nat) (Q : Int32 → gM → Prop) (X : String → Nat → gM → Prop) : Prop :=
  gR M 11 a0 5 fun r_1 =>
  ((r_1 = none →
    Q (0 : Int32) M) ∧
    (∀ b_2, r_1 = some b_2 →
    gR M 11 a0 5 fun r_3 =>
    dN r_3 fun b_4 =>
    rc M 15 b_4 ∧ F_J4_equals M b_4 a1 fun x_6 M_5 =>
    ((¬ x_6 = 0 →
      ∃ c_9 s_10, (0 + c_9 ≤ Lc ∧ 0 + s_10 ≤ Ls) ∧
      rc M_5 11 a0 ∧ F_X11_next c_9 s_10 M_5 a0 (fun M_7 =>
      Q (1 : Int32) M_7) (fun E_ q_11 M_12 =>
        (E_ = "SendTheBox$Fault" ∧
        X "SendTheBox$Fault" q_11 M_12))) ∧
      (x_6 = 0 →
      Q (0 : Int32) M_5))))
theorem met_X11_takes {M : gM} {a0 : Nat} {a1 : Nat} {Q : Int32 → gM → Prop} {X : String → Nat → gM → Prop} {Lc Ls : Nat} (hF : F_X11_takes Lc Ls M a0 a1 Q X) : gMx yX11_takes (ws_ yX11_takes cX11_takes 2 (some .boolean)) (rm_X11_takes Lc Ls) M [.ref a0, .ref a1] (gQi Q) X := by
  refine gMetX (bytes := cX11_takes) (maxL := 2) (ret := (some .boolean)) rfl rfl (by decide) (Nat.le_of_ble_eq_true rfl) (lv := [(0, .ref a0), (1, .ref a1)]) rfl (fun G hC hT hin => ?_)
  have hu : 0 ≤ Lc ∧ 0 ≤ Ls := ⟨Nat.zero_le _, Nat.zero_le _⟩
  unfold F_X11_takes at hF
  refine g_aload_n 1 hC dX11_takes_0 rfl 0 rfl rfl ?_
  refine gf_X11_36_11R 4 hC hF dX11_takes_1 rfl (fun r_1 hF => ?_)
  refine g_ifnull 7 18 hC dX11_takes_4 (by decide) rfl (fun c => ?_) (fun b_2 c => ?_)
  · have hF := hF.1 c
    try rw [c]
    refine g_iconst 19 hC (0 : Int32) dX11_takes_18 (by decide) rfl ?_
    exact g_zreturn hC ⟨_, rfl, hF⟩ (Or.inl rfl) dX11_takes_19 hu.1 hu.2
  · have hF := hF.2 b_2 c
    try rw [c]
    refine g_aload_n 8 hC dX11_takes_7 rfl 0 rfl rfl ?_
    refine gf_X11_36_11R 11 hC hF dX11_takes_8 rfl (fun r_3 hF => ?_)
    refine g_aload_n 12 hC dX11_takes_11 rfl 1 rfl rfl ?_
    obtain ⟨b_4, hr_, hF⟩ := hF
    try rw [hr_]
    refine g_cV (rest := []) wl_X11_67 hd_J4_equals (ci := 15) rfl 15 hC hF.1 (met_J4_equals hF.2) rfl ⟨Nat.le_of_ble_eq_true rfl, Nat.le_of_ble_eq_true rfl⟩ hu rfl (Nat.le_of_ble_eq_true rfl) dX11_takes_12 rfl (g_ty_i 0 0 (Nat.le_refl _) (Nat.le_refl _) (fun x_6 M_5 hF => ?_))
    refine g_if_ne 18 20 hC dX11_takes_15 (by decide) rfl (fun c => ?_) (fun c => ?_)
    · have hF := hF.1 c
      refine g_aload_n 21 hC dX11_takes_20 rfl 0 rfl rfl ?_
      obtain ⟨c_9, s_10, hu, hF⟩ := hF
      refine g_xV (rest := []) wl_X11_73 hd_X11_next (ci := 11) rfl 24 hC hF.1 (met_X11_next hF.2) rfl ⟨Nat.le_of_ble_eq_true rfl, Nat.le_of_ble_eq_true rfl⟩ hu rfl (Nat.le_of_ble_eq_true rfl) dX11_takes_21 rfl (g_ty_v (0 + c_9) (0 + s_10) (Nat.le_refl _) (Nat.le_refl _) (fun M_7 hF => ?_)) (g_tx (0 + c_9) (0 + s_10) (Nat.le_refl _) (Nat.le_refl _) (fun E_ q_11 M_12 hF => ?_))
      · have hF := hF
        refine g_iconst 25 hC (1 : Int32) dX11_takes_24 (by decide) rfl ?_
        exact g_zreturn hC ⟨_, rfl, hF⟩ (Or.inr rfl) dX11_takes_25 hu.1 hu.2
      · have hF := hF
        obtain ⟨hE_, hF⟩ := hF
        rw [hE_]
        exact g_out hC hT (fun _ h => absurd h List.not_mem_nil) hF hu
    · have hF := hF.2 c
      refine g_iconst 19 hC (0 : Int32) dX11_takes_18 (by decide) rfl ?_
      exact g_zreturn hC ⟨_, rfl, hF⟩ (Or.inl rfl) dX11_takes_19 hu.1 hu.2
theorem hd_X11_wrong : yX11_wrong.cls = RX11 ∧ yX11_wrong.cls ≠ "java/lang/invoke/MethodHandle" ∧ yX11_wrong.cls ≠ "java/lang/invoke/VarHandle" ∧ (parseMethodDescriptor yX11_wrong.desc).map (fun d => d.parameters.length) = some 0 := by decide +kernel
theorem wl_X11_76 : GoodIn lw_all (wsV RX11 76 RX11 yX11_wrong (ws_ yX11_wrong cX11_wrong 1 (some (.object "SendTheBox$Fault")))) := lw_V q911 q913 qs11 q91 q914
theorem gf_X11_40_11I {G : gG} {cc : ByteArray} {nL : Nat} {ret : Option FieldType} {Qf : Option Value → gM → Prop} {rm : Room} {cells slots : Nat} {M : gM} {lv : List (Nat × Value)} {pc : Nat} {st : List Value} {a : Nat} (n : Nat) (hC : gCx G cc nL RX11 ret Qf rm) {κ : Int32 → Prop} (hF : gI M 11 a 6 κ) (hdg : decode cc pc = .ok (.getfield 40, 3)) (hn : pc + 3 = n) (kk : ∀ x, κ x → gAt G cells slots M lv n (.int x :: st)) : gAt G cells slots M lv pc (.ref a :: st) :=
  g_getI (C := RX11) (T := TX11) (N := 7) in_X11 rfl (by decide) q661 (fun _ _ _ => rfl) n hC hF hdg hn kk
abbrev rm_X11_number (Lc Ls : Nat) : Room := { frames := 7, cells := Lc, slots := Ls, locals := 204 }
def F_X11_number_b16 (Q : Int32 → gM → Prop) (X : String → Nat → gM → Prop) (Lc Ls : Nat)  (a0 : Nat)  (u v : Nat) (M : gM) : Prop :=
  ∃ c_3 s_4, (u + c_3 ≤ Lc ∧ v + s_4 ≤ Ls) ∧
  rc M 11 a0 ∧ F_X11_wrong c_3 s_4 M a0 fun a_2 M_1 =>
  (kd M_1 a_2 = some (true, .inl 13)) ∧
  X "SendTheBox$Fault" a_2 M_1
theorem w_X11_number_b16 {G : gG} {Q : Int32 → gM → Prop} {X : String → Nat → gM → Prop} {Lc Ls : Nat} (hC : gCx G cX11_number 4 RX11 (some .int) (gQi Q) (rm_X11_number Lc Ls)) (hT : gTx G X (rm_X11_number Lc Ls) [])  (a0 : Nat)   (u v : Nat) (hu : u ≤ Lc ∧ v ≤ Ls) (M : gM) (hF : F_X11_number_b16 Q X Lc Ls a0 u v M) : gAt G u v M [(0, .ref a0)] 16 [] := by
  unfold F_X11_number_b16 at hF
  refine g_aload_n 17 hC dX11_number_16 rfl 0 rfl rfl ?_
  obtain ⟨c_3, s_4, hu, hF⟩ := hF
  refine g_cV (rest := []) wl_X11_76 hd_X11_wrong (ci := 11) rfl 20 hC hF.1 (met_X11_wrong hF.2) rfl ⟨Nat.le_of_ble_eq_true rfl, Nat.le_of_ble_eq_true rfl⟩ hu rfl (Nat.le_of_ble_eq_true rfl) dX11_number_17 rfl (g_ty_a (u + c_3) (v + s_4) (Nat.le_refl _) (Nat.le_refl _) (fun a_2 M_1 hF => ?_))
  refine g_athrow (ci := 13) rfl hC hF.1 dX11_number_20 ?_
  have hF := hF.2
  exact g_out hC hT (fun _ h => absurd h List.not_mem_nil) hF hu
def F_X11_number (Lc Ls : Nat) (M : gM) (a0 : Nat) (x1 : Int32) (x2 : Int32) (Q : Int32 → gM → Prop) (X : String → Nat → gM → Prop) : Prop :=
  gI M 11 a0 6 fun x_1 =>
  ((x_1 < x1 →
    F_X11_number_b16 Q X Lc Ls a0 0 0 M) ∧
    (¬ x_1 < x1 →
    gI M 11 a0 6 fun x_2 =>
    ((x_2 ≤ x2 →
      gI M 11 a0 6 fun x_3 =>
      ∃ c_6 s_7, (0 + c_6 ≤ Lc ∧ 0 + s_7 ≤ Ls) ∧
      rc M 11 a0 ∧ F_X11_next c_6 s_7 M a0 (fun M_4 =>
      Q x_3 M_4) (fun E_ q_8 M_9 =>
        (E_ = "SendTheBox$Fault" ∧
        X "SendTheBox$Fault" q_8 M_9))) ∧
      (¬ x_2 ≤ x2 →
      F_X11_number_b16 Q X Lc Ls a0 0 0 M))))
theorem met_X11_number {M : gM} {a0 : Nat} {x1 : Int32} {x2 : Int32} {Q : Int32 → gM → Prop} {X : String → Nat → gM → Prop} {Lc Ls : Nat} (hF : F_X11_number Lc Ls M a0 x1 x2 Q X) : gMx yX11_number (ws_ yX11_number cX11_number 4 (some .int)) (rm_X11_number Lc Ls) M [.ref a0, .int x1, .int x2] (gQi Q) X := by
  refine gMetX (bytes := cX11_number) (maxL := 4) (ret := (some .int)) rfl rfl (by decide) (Nat.le_of_ble_eq_true rfl) (lv := [(0, .ref a0), (1, .int x1), (2, .int x2)]) rfl (fun G hC hT hin => ?_)
  have hu : 0 ≤ Lc ∧ 0 ≤ Ls := ⟨Nat.zero_le _, Nat.zero_le _⟩
  unfold F_X11_number at hF
  refine g_aload_n 1 hC dX11_number_0 rfl 0 rfl rfl ?_
  refine gf_X11_40_11I 4 hC hF dX11_number_1 rfl (fun x_1 hF => ?_)
  refine g_iload_n 5 hC dX11_number_4 rfl 1 rfl rfl ?_
  refine g_icmp_lt 8 16 hC dX11_number_5 (by decide) rfl (fun c => ?_) (fun c => ?_)
  · have hF := hF.1 c
    refine g_sub [0] rfl ?_
    exact w_X11_number_b16 hC hT _ _ _ hu _ hF
  · have hF := hF.2 c
    refine g_aload_n 9 hC dX11_number_8 rfl 0 rfl rfl ?_
    refine gf_X11_40_11I 12 hC hF dX11_number_9 rfl (fun x_2 hF => ?_)
    refine g_iload_n 13 hC dX11_number_12 rfl 2 rfl rfl ?_
    refine g_icmp_le 16 21 hC dX11_number_13 (by decide) rfl (fun c => ?_) (fun c => ?_)
    · have hF := hF.1 c
      refine g_aload_n 22 hC dX11_number_21 rfl 0 rfl rfl ?_
      refine gf_X11_40_11I 25 hC hF dX11_number_22 rfl (fun x_3 hF => ?_)
      refine g_istore_n 26 hC (lv' := [(3, .int _), (0, .ref _), (1, .int _), (2, .int _)]) dX11_number_25 rfl rfl (by decide) rfl ?_
      refine g_aload_n 27 hC dX11_number_26 rfl 1 rfl rfl ?_
      obtain ⟨c_6, s_7, hu, hF⟩ := hF
      refine g_xV (rest := []) wl_X11_73 hd_X11_next (ci := 11) rfl 30 hC hF.1 (met_X11_next hF.2) rfl ⟨Nat.le_of_ble_eq_true rfl, Nat.le_of_ble_eq_true rfl⟩ hu rfl (Nat.le_of_ble_eq_true rfl) dX11_number_27 rfl (g_ty_v (0 + c_6) (0 + s_7) (Nat.le_refl _) (Nat.le_refl _) (fun M_4 hF => ?_)) (g_tx (0 + c_6) (0 + s_7) (Nat.le_refl _) (Nat.le_refl _) (fun E_ q_8 M_9 hF => ?_))
      · have hF := hF
        refine g_iload_n 31 hC dX11_number_30 rfl 0 rfl rfl ?_
        exact g_ireturn hC ⟨_, rfl, hF⟩ dX11_number_31 hu.1 hu.2
      · have hF := hF
        obtain ⟨hE_, hF⟩ := hF
        rw [hE_]
        exact g_out hC hT (fun _ h => absurd h List.not_mem_nil) hF hu
    · have hF := hF.2 c
      refine g_sub [0] rfl ?_
      exact w_X11_number_b16 hC hT _ _ _ hu _ hF
theorem hd_X11_takes : yX11_takes.cls = RX11 ∧ yX11_takes.cls ≠ "java/lang/invoke/MethodHandle" ∧ yX11_takes.cls ≠ "java/lang/invoke/VarHandle" ∧ (parseMethodDescriptor yX11_takes.desc).map (fun d => d.parameters.length) = some 1 := by decide +kernel
theorem wl_X11_80 : GoodIn lw_all (wsV RX11 80 RX11 yX11_takes (ws_ yX11_takes cX11_takes 2 (some .boolean))) := lw_V q895 q897 qs9 q91 q898
abbrev rm_X11_wants (Lc Ls : Nat) : Room := { frames := 8, cells := Lc, slots := Ls, locals := 225 }
def F_X11_wants (Lc Ls : Nat) (M : gM) (a0 : Nat) (a1 : Nat) (Q : gM → Prop) (X : String → Nat → gM → Prop) : Prop :=
  ∃ c_3 s_4, (0 + c_3 ≤ Lc ∧ 0 + s_4 ≤ Ls) ∧
  rc M 11 a0 ∧ F_X11_takes c_3 s_4 M a0 a1 (fun x_2 M_1 =>
  ((¬ x_2 = 0 →
      Q M_1) ∧
      (x_2 = 0 →
      ∃ c_9 s_10, ((0 + c_3) + c_9 ≤ Lc ∧ (0 + s_4) + s_10 ≤ Ls) ∧
      rc M_1 11 a0 ∧ F_X11_wrong c_9 s_10 M_1 a0 fun a_8 M_7 =>
      (kd M_7 a_8 = some (true, .inl 13)) ∧
      X "SendTheBox$Fault" a_8 M_7))) (fun E_ q_5 M_6 =>
    (E_ = "SendTheBox$Fault" ∧
    X "SendTheBox$Fault" q_5 M_6))
theorem met_X11_wants {M : gM} {a0 : Nat} {a1 : Nat} {Q : gM → Prop} {X : String → Nat → gM → Prop} {Lc Ls : Nat} (hF : F_X11_wants Lc Ls M a0 a1 Q X) : gMx yX11_wants (ws_ yX11_wants cX11_wants 2 none) (rm_X11_wants Lc Ls) M [.ref a0, .ref a1] (gQv Q) X := by
  refine gMetX (bytes := cX11_wants) (maxL := 2) (ret := none) rfl rfl (by decide) (Nat.le_of_ble_eq_true rfl) (lv := [(0, .ref a0), (1, .ref a1)]) rfl (fun G hC hT hin => ?_)
  have hu : 0 ≤ Lc ∧ 0 ≤ Ls := ⟨Nat.zero_le _, Nat.zero_le _⟩
  unfold F_X11_wants at hF
  refine g_aload_n 1 hC dX11_wants_0 rfl 0 rfl rfl ?_
  refine g_aload_n 2 hC dX11_wants_1 rfl 1 rfl rfl ?_
  obtain ⟨c_3, s_4, hu, hF⟩ := hF
  refine g_xV (rest := []) wl_X11_80 hd_X11_takes (ci := 11) rfl 5 hC hF.1 (met_X11_takes hF.2) rfl ⟨Nat.le_of_ble_eq_true rfl, Nat.le_of_ble_eq_true rfl⟩ hu rfl (Nat.le_of_ble_eq_true rfl) dX11_wants_2 rfl (g_ty_i (0 + c_3) (0 + s_4) (Nat.le_refl _) (Nat.le_refl _) (fun x_2 M_1 hF => ?_)) (g_tx (0 + c_3) (0 + s_4) (Nat.le_refl _) (Nat.le_refl _) (fun E_ q_5 M_6 hF => ?_))
  · have hF := hF
    refine g_if_ne 8 13 hC dX11_wants_5 (by decide) rfl (fun c => ?_) (fun c => ?_)
    · have hF := hF.1 c
      exact g_return hC ⟨rfl, hF⟩ dX11_wants_13 hu.1 hu.2
    · have hF := hF.2 c
      refine g_aload_n 9 hC dX11_wants_8 rfl 0 rfl rfl ?_
      obtain ⟨c_9, s_10, hu, hF⟩ := hF
      refine g_cV (rest := []) wl_X11_76 hd_X11_wrong (ci := 11) rfl 12 hC hF.1 (met_X11_wrong hF.2) rfl ⟨Nat.le_of_ble_eq_true rfl, Nat.le_of_ble_eq_true rfl⟩ hu rfl (Nat.le_of_ble_eq_true rfl) dX11_wants_9 rfl (g_ty_a ((0 + c_3) + c_9) ((0 + s_4) + s_10) (Nat.le_refl _) (Nat.le_refl _) (fun a_8 M_7 hF => ?_))
      refine g_athrow (ci := 13) rfl hC hF.1 dX11_wants_12 ?_
      have hF := hF.2
      exact g_out hC hT (fun _ h => absurd h List.not_mem_nil) hF hu
  · have hF := hF
    obtain ⟨hE_, hF⟩ := hF
    rw [hE_]
    exact g_out hC hT (fun _ h => absurd h List.not_mem_nil) hF hu
theorem gf_X11_12_11N {G : gG} {cc : ByteArray} {nL : Nat} {ret : Option FieldType} {Qf : Option Value → gM → Prop} {rm : Room} {cells slots : Nat} {M : gM} {lv : List (Nat × Value)} {pc : Nat} {st : List Value} {a : Nat} (n : Nat) (hC : gCx G cc nL RX11 ret Qf rm) {κ : Nat → Prop} (hF : gN M 11 a 2 κ) (hdg : decode cc pc = .ok (.getfield 12, 3)) (hn : pc + 3 = n) (kk : ∀ x, κ x → gAt G cells slots M lv n (.ref x :: st)) : gAt G cells slots M lv pc (.ref a :: st) :=
  g_getN (C := RX11) (T := TX11) (N := 7) in_X11 rfl (by decide) q657 (fun _ _ _ => rfl) n hC hF hdg hn kk
theorem gf_X11_84_12I {G : gG} {cc : ByteArray} {nL : Nat} {ret : Option FieldType} {Qf : Option Value → gM → Prop} {rm : Room} {cells slots : Nat} {M : gM} {lv : List (Nat × Value)} {pc : Nat} {st : List Value} {a : Nat} (n : Nat) (hC : gCx G cc nL RX11 ret Qf rm) {κ : Int32 → Prop} (hF : gI M 12 a 4 κ) (hdg : decode cc pc = .ok (.getfield 84, 3)) (hn : pc + 3 = n) (kk : ∀ x, κ x → gAt G cells slots M lv n (.int x :: st)) : gAt G cells slots M lv pc (.ref a :: st) :=
  g_getI (C := RX12) (T := TX12) (N := 17) in_X12 rfl (by decide) q594 (fun _ _ _ => rfl) n hC hF hdg hn kk
theorem gf_X11_109_12N {G : gG} {cc : ByteArray} {nL : Nat} {ret : Option FieldType} {Qf : Option Value → gM → Prop} {rm : Room} {cells slots : Nat} {M : gM} {lv : List (Nat × Value)} {pc : Nat} {st : List Value} {a : Nat} (n : Nat) (hC : gCx G cc nL RX11 ret Qf rm) {κ : Nat → Prop} (hF : gN M 12 a 9 κ) (hdg : decode cc pc = .ok (.getfield 109, 3)) (hn : pc + 3 = n) (kk : ∀ x, κ x → gAt G cells slots M lv n (.ref x :: st)) : gAt G cells slots M lv pc (.ref a :: st) :=
  g_getN (C := RX12) (T := TX12) (N := 17) in_X12 rfl (by decide) q611 (fun _ _ _ => rfl) n hC hF hdg hn kk
theorem hd_X11_number : yX11_number.cls = RX11 ∧ yX11_number.cls ≠ "java/lang/invoke/MethodHandle" ∧ yX11_number.cls ≠ "java/lang/invoke/VarHandle" ∧ (parseMethodDescriptor yX11_number.desc).map (fun d => d.parameters.length) = some 2 := by decide +kernel
theorem wl_X11_95 : GoodIn lw_all (wsV RX11 95 RX11 yX11_number (ws_ yX11_number cX11_number 4 (some .int))) := lw_V q907 q909 qs10 q91 q910
theorem hd_X11_wants : yX11_wants.cls = RX11 ∧ yX11_wants.cls ≠ "java/lang/invoke/MethodHandle" ∧ yX11_wants.cls ≠ "java/lang/invoke/VarHandle" ∧ (parseMethodDescriptor yX11_wants.desc).map (fun d => d.parameters.length) = some 1 := by decide +kernel
theorem wl_X11_89 : GoodIn lw_all (wsV RX11 89 RX11 yX11_wants (ws_ yX11_wants cX11_wants 2 none)) := lw_V q918 q920 qs12 q91 q921
theorem gf_X11_93_12N {G : gG} {cc : ByteArray} {nL : Nat} {ret : Option FieldType} {Qf : Option Value → gM → Prop} {rm : Room} {cells slots : Nat} {M : gM} {lv : List (Nat × Value)} {pc : Nat} {st : List Value} {a : Nat} (n : Nat) (hC : gCx G cc nL RX11 ret Qf rm) {κ : Nat → Prop} (hF : gN M 12 a 5 κ) (hdg : decode cc pc = .ok (.getfield 93, 3)) (hn : pc + 3 = n) (kk : ∀ x, κ x → gAt G cells slots M lv n (.ref x :: st)) : gAt G cells slots M lv pc (.ref a :: st) :=
  g_getN (C := RX12) (T := TX12) (N := 17) in_X12 rfl (by decide) q597 (fun _ _ _ => rfl) n hC hF hdg hn kk
theorem gf_X11_99_12N {G : gG} {cc : ByteArray} {nL : Nat} {ret : Option FieldType} {Qf : Option Value → gM → Prop} {rm : Room} {cells slots : Nat} {M : gM} {lv : List (Nat × Value)} {pc : Nat} {st : List Value} {a : Nat} (n : Nat) (hC : gCx G cc nL RX11 ret Qf rm) {κ : Nat → Prop} (hF : gN M 12 a 6 κ) (hdg : decode cc pc = .ok (.getfield 99, 3)) (hn : pc + 3 = n) (kk : ∀ x, κ x → gAt G cells slots M lv n (.ref x :: st)) : gAt G cells slots M lv pc (.ref a :: st) :=
  g_getN (C := RX12) (T := TX12) (N := 17) in_X12 rfl (by decide) q601 (fun _ _ _ => rfl) n hC hF hdg hn kk
theorem gf_X11_103_12N {G : gG} {cc : ByteArray} {nL : Nat} {ret : Option FieldType} {Qf : Option Value → gM → Prop} {rm : Room} {cells slots : Nat} {M : gM} {lv : List (Nat × Value)} {pc : Nat} {st : List Value} {a : Nat} (n : Nat) (hC : gCx G cc nL RX11 ret Qf rm) {κ : Nat → Prop} (hF : gN M 12 a 7 κ) (hdg : decode cc pc = .ok (.getfield 103, 3)) (hn : pc + 3 = n) (kk : ∀ x, κ x → gAt G cells slots M lv n (.ref x :: st)) : gAt G cells slots M lv pc (.ref a :: st) :=
  g_getN (C := RX12) (T := TX12) (N := 17) in_X12 rfl (by decide) q604 (fun _ _ _ => rfl) n hC hF hdg hn kk
theorem gf_X11_105_12N {G : gG} {cc : ByteArray} {nL : Nat} {ret : Option FieldType} {Qf : Option Value → gM → Prop} {rm : Room} {cells slots : Nat} {M : gM} {lv : List (Nat × Value)} {pc : Nat} {st : List Value} {a : Nat} (n : Nat) (hC : gCx G cc nL RX11 ret Qf rm) {κ : Nat → Prop} (hF : gN M 12 a 8 κ) (hdg : decode cc pc = .ok (.getfield 105, 3)) (hn : pc + 3 = n) (kk : ∀ x, κ x → gAt G cells slots M lv n (.ref x :: st)) : gAt G cells slots M lv pc (.ref a :: st) :=
  g_getN (C := RX12) (T := TX12) (N := 17) in_X12 rfl (by decide) q608 (fun _ _ _ => rfl) n hC hF hdg hn kk
abbrev rm_X11_sort (Lc Ls : Nat) : Room := { frames := 9, cells := Lc, slots := Ls, locals := 246 }
def F_X11_sort_b144 (Q : gM → Prop) (X : String → Nat → gM → Prop) (Lc Ls : Nat)  (a0 : Nat) (t0 : Nat) (t1 : Int32) (t2 : Int32) (u v : Nat) (M : gM) : Prop :=
  uI M t0 t1 t2 fun M_1 =>
  gN M_1 11 a0 2 fun a_2 =>
  gI M_1 12 a_2 4 fun x_3 =>
  pI M_1 12 a_2 4 (x_3 + (1 : Int32)) fun M_4 =>
  Q M_4
theorem w_X11_sort_b144 {G : gG} {Q : gM → Prop} {X : String → Nat → gM → Prop} {Lc Ls : Nat} (hC : gCx G cX11_sort 2 RX11 none (gQv Q) (rm_X11_sort Lc Ls)) (hT : gTx G X (rm_X11_sort Lc Ls) [])  (a0 : Nat) (t0 : Nat) (t1 : Int32) (t2 : Int32)  (u v : Nat) (hu : u ≤ Lc ∧ v ≤ Ls) (M : gM) (hF : F_X11_sort_b144 Q X Lc Ls a0 t0 t1 t2 u v M) : gAt G u v M [(0, .ref a0)] 144 [.int t2, .int t1, .ref t0] := by
  unfold F_X11_sort_b144 at hF
  refine g_iast 145 hC hF dX11_sort_144 rfl (fun M_1 hF => ?_)
  refine g_aload_n 146 hC dX11_sort_145 rfl 0 rfl rfl ?_
  refine gf_X11_12_11N 149 hC hF dX11_sort_146 rfl (fun a_2 hF => ?_)
  refine g_dup 150 hC dX11_sort_149 rfl rfl ?_
  refine gf_X11_84_12I 153 hC hF dX11_sort_150 rfl (fun x_3 hF => ?_)
  refine g_iconst 154 hC (1 : Int32) dX11_sort_153 (by decide) rfl ?_
  refine g_iadd 155 hC dX11_sort_154 rfl ?_
  refine g_putI (C := RX12) (T := TX12) (N := 17) (ci := 12) (k := 4) (ty := .int) in_X12 tyX12 tyX12_ok nmX12 rfl (by decide) q594 rfl rfl (fun _ _ _ => rfl) rfl rfl 158 hC hF dX11_sort_155 rfl (fun M_4 hF => ?_)
  exact g_return hC ⟨rfl, hF⟩ dX11_sort_158 hu.1 hu.2
def F_X11_sort_b115 (Q : gM → Prop) (X : String → Nat → gM → Prop) (Lc Ls : Nat)  (a0 : Nat) (x1 : Int32) (t0 : Nat) (t1 : Int32) (t2 : Int32) (u v : Nat) (M : gM) : Prop :=
  uI M t0 t1 t2 fun M_1 =>
  gN M_1 11 a0 2 fun a_2 =>
  gN M_1 12 a_2 9 fun a_3 =>
  ∃ c_6 s_7, (u + c_6 ≤ Lc ∧ v + s_7 ≤ Ls) ∧
  rc M_1 11 a0 ∧ F_X11_takes c_6 s_7 M_1 a0 (gl M_1 6) (fun x_5 M_4 =>
  ((x_5 = 0 →
      F_X11_sort_b144 Q X Lc Ls a0 a_3 x1 (0 : Int32) (u + c_6) (v + s_7) M_4) ∧
      (¬ x_5 = 0 →
      ∃ c_12 s_13, ((u + c_6) + c_12 ≤ Lc ∧ (v + s_7) + s_13 ≤ Ls) ∧
      rc M_4 11 a0 ∧ F_X11_number c_12 s_13 M_4 a0 (0 : Int32) (99 : Int32) (fun x_11 M_10 =>
      F_X11_sort_b144 Q X Lc Ls a0 a_3 x1 x_11 ((u + c_6) + c_12) ((v + s_7) + s_13) M_10) (fun E_ q_14 M_15 =>
        (E_ = "SendTheBox$Fault" ∧
        X "SendTheBox$Fault" q_14 M_15))))) (fun E_ q_8 M_9 =>
    (E_ = "SendTheBox$Fault" ∧
    X "SendTheBox$Fault" q_8 M_9))
theorem w_X11_sort_b115 {G : gG} {Q : gM → Prop} {X : String → Nat → gM → Prop} {Lc Ls : Nat} (hC : gCx G cX11_sort 2 RX11 none (gQv Q) (rm_X11_sort Lc Ls)) (hT : gTx G X (rm_X11_sort Lc Ls) [])  (a0 : Nat) (x1 : Int32) (t0 : Nat) (t1 : Int32) (t2 : Int32)  (u v : Nat) (hu : u ≤ Lc ∧ v ≤ Ls) (M : gM) (hF : F_X11_sort_b115 Q X Lc Ls a0 x1 t0 t1 t2 u v M) : gAt G u v M [(0, .ref a0), (1, .int x1)] 115 [.int t2, .int t1, .ref t0] := by
  unfold F_X11_sort_b115 at hF
  refine g_iast 116 hC hF dX11_sort_115 rfl (fun M_1 hF => ?_)
  refine g_aload_n 117 hC dX11_sort_116 rfl 0 rfl rfl ?_
  refine gf_X11_12_11N 120 hC hF dX11_sort_117 rfl (fun a_2 hF => ?_)
  refine gf_X11_109_12N 123 hC hF dX11_sort_120 rfl (fun a_3 hF => ?_)
  refine g_iload_n 124 hC dX11_sort_123 rfl 1 rfl rfl ?_
  refine g_aload_n 125 hC dX11_sort_124 rfl 0 rfl rfl ?_
  refine g_ldcS 127 hC (j := 5) rfl dX11_sort_125 rfl ?_
  obtain ⟨c_6, s_7, hu, hF⟩ := hF
  refine g_xV (rest := [_, _]) wl_X11_80 hd_X11_takes (ci := 11) rfl 130 hC hF.1 (met_X11_takes hF.2) rfl ⟨Nat.le_of_ble_eq_true rfl, Nat.le_of_ble_eq_true rfl⟩ hu rfl (Nat.le_of_ble_eq_true rfl) dX11_sort_127 rfl (g_ty_i (u + c_6) (v + s_7) (Nat.le_refl _) (Nat.le_refl _) (fun x_5 M_4 hF => ?_)) (g_tx (u + c_6) (v + s_7) (Nat.le_refl _) (Nat.le_refl _) (fun E_ q_8 M_9 hF => ?_))
  · have hF := hF
    refine g_if_eq 133 143 hC dX11_sort_130 (by decide) rfl (fun c => ?_) (fun c => ?_)
    · have hF := hF.1 c
      refine g_iconst 144 hC (0 : Int32) dX11_sort_143 (by decide) rfl ?_
      refine g_sub [0] rfl ?_
      exact w_X11_sort_b144 hC hT _ _ _ _ _ _ hu _ hF
    · have hF := hF.2 c
      refine g_aload_n 134 hC dX11_sort_133 rfl 0 rfl rfl ?_
      refine g_iconst 135 hC (0 : Int32) dX11_sort_134 (by decide) rfl ?_
      refine g_bipush 137 hC (99 : Int32) dX11_sort_135 (by decide) rfl ?_
      obtain ⟨c_12, s_13, hu, hF⟩ := hF
      refine g_xV (rest := [_, _]) wl_X11_95 hd_X11_number (ci := 11) rfl 140 hC hF.1 (met_X11_number hF.2) rfl ⟨Nat.le_of_ble_eq_true rfl, Nat.le_of_ble_eq_true rfl⟩ hu rfl (Nat.le_of_ble_eq_true rfl) dX11_sort_137 rfl (g_ty_i ((u + c_6) + c_12) ((v + s_7) + s_13) (Nat.le_refl _) (Nat.le_refl _) (fun x_11 M_10 hF => ?_)) (g_tx ((u + c_6) + c_12) ((v + s_7) + s_13) (Nat.le_refl _) (Nat.le_refl _) (fun E_ q_14 M_15 hF => ?_))
      · have hF := hF
        refine g_goto 144 hC dX11_sort_140 (by decide) ?_
        refine g_sub [0] rfl ?_
        exact w_X11_sort_b144 hC hT _ _ _ _ _ _ hu _ hF
      · have hF := hF
        obtain ⟨hE_, hF⟩ := hF
        rw [hE_]
        exact g_out hC hT (fun _ h => absurd h List.not_mem_nil) hF hu
  · have hF := hF
    obtain ⟨hE_, hF⟩ := hF
    rw [hE_]
    exact g_out hC hT (fun _ h => absurd h List.not_mem_nil) hF hu
def F_X11_sort (Lc Ls : Nat) (M : gM) (a0 : Nat) (Q : gM → Prop) (X : String → Nat → gM → Prop) : Prop :=
  gN M 11 a0 2 fun a_1 =>
  gI M 12 a_1 4 fun x_2 =>
  ((¬ x_2 = (3 : Int32) →
    ∃ c_5 s_6, (0 + c_5 ≤ Lc ∧ 0 + s_6 ≤ Ls) ∧
    rc M 11 a0 ∧ F_X11_next c_5 s_6 M a0 (fun M_3 =>
    ∃ c_11 s_12, ((0 + c_5) + c_11 ≤ Lc ∧ (0 + s_6) + s_12 ≤ Ls) ∧
      rc M_3 11 a0 ∧ F_X11_wants c_11 s_12 M_3 a0 (gl M_3 2) (fun M_9 =>
      gN M_9 11 a0 2 fun a_15 =>
        gN M_9 12 a_15 5 fun a_16 =>
        ∃ c_19 s_20, (((0 + c_5) + c_11) + c_19 ≤ Lc ∧ ((0 + s_6) + s_12) + s_20 ≤ Ls) ∧
        rc M_9 11 a0 ∧ F_X11_number c_19 s_20 M_9 a0 (1 : Int32) (9 : Int32) (fun x_18 M_17 =>
        uI M_17 a_16 x_2 x_18 fun M_23 =>
          ∃ c_26 s_27, ((((0 + c_5) + c_11) + c_19) + c_26 ≤ Lc ∧ (((0 + s_6) + s_12) + s_20) + s_27 ≤ Ls) ∧
          rc M_23 11 a0 ∧ F_X11_wants c_26 s_27 M_23 a0 (gl M_23 3) (fun M_24 =>
          gN M_24 11 a0 2 fun a_30 =>
            gN M_24 12 a_30 6 fun a_31 =>
            ∃ c_34 s_35, (((((0 + c_5) + c_11) + c_19) + c_26) + c_34 ≤ Lc ∧ ((((0 + s_6) + s_12) + s_20) + s_27) + s_35 ≤ Ls) ∧
            rc M_24 11 a0 ∧ F_X11_number c_34 s_35 M_24 a0 (0 : Int32) (4 : Int32) (fun x_33 M_32 =>
            uI M_32 a_31 x_2 x_33 fun M_38 =>
              ∃ c_41 s_42, ((((((0 + c_5) + c_11) + c_19) + c_26) + c_34) + c_41 ≤ Lc ∧ (((((0 + s_6) + s_12) + s_20) + s_27) + s_35) + s_42 ≤ Ls) ∧
              rc M_38 11 a0 ∧ F_X11_wants c_41 s_42 M_38 a0 (gl M_38 4) (fun M_39 =>
              gN M_39 11 a0 2 fun a_45 =>
                gN M_39 12 a_45 7 fun a_46 =>
                ∃ c_49 s_50, (((((((0 + c_5) + c_11) + c_19) + c_26) + c_34) + c_41) + c_49 ≤ Lc ∧ ((((((0 + s_6) + s_12) + s_20) + s_27) + s_35) + s_42) + s_50 ≤ Ls) ∧
                rc M_39 11 a0 ∧ F_X11_number c_49 s_50 M_39 a0 (0 : Int32) (9 : Int32) (fun x_48 M_47 =>
                uI M_47 a_46 x_2 x_48 fun M_53 =>
                  gN M_53 11 a0 2 fun a_54 =>
                  gN M_53 12 a_54 8 fun a_55 =>
                  ∃ c_58 s_59, ((((((((0 + c_5) + c_11) + c_19) + c_26) + c_34) + c_41) + c_49) + c_58 ≤ Lc ∧ (((((((0 + s_6) + s_12) + s_20) + s_27) + s_35) + s_42) + s_50) + s_59 ≤ Ls) ∧
                  rc M_53 11 a0 ∧ F_X11_takes c_58 s_59 M_53 a0 (gl M_53 5) (fun x_57 M_56 =>
                  ((x_57 = 0 →
                      F_X11_sort_b115 Q X Lc Ls a0 x_2 a_55 x_2 (0 : Int32) ((((((((0 + c_5) + c_11) + c_19) + c_26) + c_34) + c_41) + c_49) + c_58) ((((((((0 + s_6) + s_12) + s_20) + s_27) + s_35) + s_42) + s_50) + s_59) M_56) ∧
                      (¬ x_57 = 0 →
                      ∃ c_64 s_65, (((((((((0 + c_5) + c_11) + c_19) + c_26) + c_34) + c_41) + c_49) + c_58) + c_64 ≤ Lc ∧ ((((((((0 + s_6) + s_12) + s_20) + s_27) + s_35) + s_42) + s_50) + s_59) + s_65 ≤ Ls) ∧
                      rc M_56 11 a0 ∧ F_X11_number c_64 s_65 M_56 a0 (0 : Int32) (99 : Int32) (fun x_63 M_62 =>
                      F_X11_sort_b115 Q X Lc Ls a0 x_2 a_55 x_2 x_63 (((((((((0 + c_5) + c_11) + c_19) + c_26) + c_34) + c_41) + c_49) + c_58) + c_64) (((((((((0 + s_6) + s_12) + s_20) + s_27) + s_35) + s_42) + s_50) + s_59) + s_65) M_62) (fun E_ q_66 M_67 =>
                        (E_ = "SendTheBox$Fault" ∧
                        X "SendTheBox$Fault" q_66 M_67))))) (fun E_ q_60 M_61 =>
                    (E_ = "SendTheBox$Fault" ∧
                    X "SendTheBox$Fault" q_60 M_61))) (fun E_ q_51 M_52 =>
                  (E_ = "SendTheBox$Fault" ∧
                  X "SendTheBox$Fault" q_51 M_52))) (fun E_ q_43 M_44 =>
                (E_ = "SendTheBox$Fault" ∧
                X "SendTheBox$Fault" q_43 M_44))) (fun E_ q_36 M_37 =>
              (E_ = "SendTheBox$Fault" ∧
              X "SendTheBox$Fault" q_36 M_37))) (fun E_ q_28 M_29 =>
            (E_ = "SendTheBox$Fault" ∧
            X "SendTheBox$Fault" q_28 M_29))) (fun E_ q_21 M_22 =>
          (E_ = "SendTheBox$Fault" ∧
          X "SendTheBox$Fault" q_21 M_22))) (fun E_ q_13 M_14 =>
        (E_ = "SendTheBox$Fault" ∧
        X "SendTheBox$Fault" q_13 M_14))) (fun E_ q_7 M_8 =>
      (E_ = "SendTheBox$Fault" ∧
      X "SendTheBox$Fault" q_7 M_8))) ∧
    (x_2 = (3 : Int32) →
    ∃ c_70 s_71, (0 + c_70 ≤ Lc ∧ 0 + s_71 ≤ Ls) ∧
    rc M 11 a0 ∧ F_X11_wrong c_70 s_71 M a0 fun a_69 M_68 =>
    (kd M_68 a_69 = some (true, .inl 13)) ∧
    X "SendTheBox$Fault" a_69 M_68))
theorem met_X11_sort {M : gM} {a0 : Nat} {Q : gM → Prop} {X : String → Nat → gM → Prop} {Lc Ls : Nat} (hF : F_X11_sort Lc Ls M a0 Q X) : gMx yX11_sort (ws_ yX11_sort cX11_sort 2 none) (rm_X11_sort Lc Ls) M [.ref a0] (gQv Q) X := by
  refine gMetX (bytes := cX11_sort) (maxL := 2) (ret := none) rfl rfl (by decide) (Nat.le_of_ble_eq_true rfl) (lv := [(0, .ref a0)]) rfl (fun G hC hT hin => ?_)
  have hu : 0 ≤ Lc ∧ 0 ≤ Ls := ⟨Nat.zero_le _, Nat.zero_le _⟩
  unfold F_X11_sort at hF
  refine g_aload_n 1 hC dX11_sort_0 rfl 0 rfl rfl ?_
  refine gf_X11_12_11N 4 hC hF dX11_sort_1 rfl (fun a_1 hF => ?_)
  refine gf_X11_84_12I 7 hC hF dX11_sort_4 rfl (fun x_2 hF => ?_)
  refine g_istore_n 8 hC (lv' := [(1, .int _), (0, .ref _)]) dX11_sort_7 rfl rfl (by decide) rfl ?_
  refine g_iload_n 9 hC dX11_sort_8 rfl 0 rfl rfl ?_
  refine g_iconst 10 hC (3 : Int32) dX11_sort_9 (by decide) rfl ?_
  refine g_icmp_ne 13 18 hC dX11_sort_10 (by decide) rfl (fun c => ?_) (fun c => ?_)
  · have hF := hF.1 c
    refine g_aload_n 19 hC dX11_sort_18 rfl 1 rfl rfl ?_
    obtain ⟨c_5, s_6, hu, hF⟩ := hF
    refine g_xV (rest := []) wl_X11_73 hd_X11_next (ci := 11) rfl 22 hC hF.1 (met_X11_next hF.2) rfl ⟨Nat.le_of_ble_eq_true rfl, Nat.le_of_ble_eq_true rfl⟩ hu rfl (Nat.le_of_ble_eq_true rfl) dX11_sort_19 rfl (g_ty_v (0 + c_5) (0 + s_6) (Nat.le_refl _) (Nat.le_refl _) (fun M_3 hF => ?_)) (g_tx (0 + c_5) (0 + s_6) (Nat.le_refl _) (Nat.le_refl _) (fun E_ q_7 M_8 hF => ?_))
    · have hF := hF
      refine g_aload_n 23 hC dX11_sort_22 rfl 1 rfl rfl ?_
      refine g_ldcS 25 hC (j := 1) rfl dX11_sort_23 rfl ?_
      obtain ⟨c_11, s_12, hu, hF⟩ := hF
      refine g_xV (rest := []) wl_X11_89 hd_X11_wants (ci := 11) rfl 28 hC hF.1 (met_X11_wants hF.2) rfl ⟨Nat.le_of_ble_eq_true rfl, Nat.le_of_ble_eq_true rfl⟩ hu rfl (Nat.le_of_ble_eq_true rfl) dX11_sort_25 rfl (g_ty_v ((0 + c_5) + c_11) ((0 + s_6) + s_12) (Nat.le_refl _) (Nat.le_refl _) (fun M_9 hF => ?_)) (g_tx ((0 + c_5) + c_11) ((0 + s_6) + s_12) (Nat.le_refl _) (Nat.le_refl _) (fun E_ q_13 M_14 hF => ?_))
      · have hF := hF
        refine g_aload_n 29 hC dX11_sort_28 rfl 1 rfl rfl ?_
        refine gf_X11_12_11N 32 hC hF dX11_sort_29 rfl (fun a_15 hF => ?_)
        refine gf_X11_93_12N 35 hC hF dX11_sort_32 rfl (fun a_16 hF => ?_)
        refine g_iload_n 36 hC dX11_sort_35 rfl 0 rfl rfl ?_
        refine g_aload_n 37 hC dX11_sort_36 rfl 1 rfl rfl ?_
        refine g_iconst 38 hC (1 : Int32) dX11_sort_37 (by decide) rfl ?_
        refine g_bipush 40 hC (9 : Int32) dX11_sort_38 (by decide) rfl ?_
        obtain ⟨c_19, s_20, hu, hF⟩ := hF
        refine g_xV (rest := [_, _]) wl_X11_95 hd_X11_number (ci := 11) rfl 43 hC hF.1 (met_X11_number hF.2) rfl ⟨Nat.le_of_ble_eq_true rfl, Nat.le_of_ble_eq_true rfl⟩ hu rfl (Nat.le_of_ble_eq_true rfl) dX11_sort_40 rfl (g_ty_i (((0 + c_5) + c_11) + c_19) (((0 + s_6) + s_12) + s_20) (Nat.le_refl _) (Nat.le_refl _) (fun x_18 M_17 hF => ?_)) (g_tx (((0 + c_5) + c_11) + c_19) (((0 + s_6) + s_12) + s_20) (Nat.le_refl _) (Nat.le_refl _) (fun E_ q_21 M_22 hF => ?_))
        · have hF := hF
          refine g_iast 44 hC hF dX11_sort_43 rfl (fun M_23 hF => ?_)
          refine g_aload_n 45 hC dX11_sort_44 rfl 1 rfl rfl ?_
          refine g_ldcS 47 hC (j := 2) rfl dX11_sort_45 rfl ?_
          obtain ⟨c_26, s_27, hu, hF⟩ := hF
          refine g_xV (rest := []) wl_X11_89 hd_X11_wants (ci := 11) rfl 50 hC hF.1 (met_X11_wants hF.2) rfl ⟨Nat.le_of_ble_eq_true rfl, Nat.le_of_ble_eq_true rfl⟩ hu rfl (Nat.le_of_ble_eq_true rfl) dX11_sort_47 rfl (g_ty_v ((((0 + c_5) + c_11) + c_19) + c_26) ((((0 + s_6) + s_12) + s_20) + s_27) (Nat.le_refl _) (Nat.le_refl _) (fun M_24 hF => ?_)) (g_tx ((((0 + c_5) + c_11) + c_19) + c_26) ((((0 + s_6) + s_12) + s_20) + s_27) (Nat.le_refl _) (Nat.le_refl _) (fun E_ q_28 M_29 hF => ?_))
          · have hF := hF
            refine g_aload_n 51 hC dX11_sort_50 rfl 1 rfl rfl ?_
            refine gf_X11_12_11N 54 hC hF dX11_sort_51 rfl (fun a_30 hF => ?_)
            refine gf_X11_99_12N 57 hC hF dX11_sort_54 rfl (fun a_31 hF => ?_)
            refine g_iload_n 58 hC dX11_sort_57 rfl 0 rfl rfl ?_
            refine g_aload_n 59 hC dX11_sort_58 rfl 1 rfl rfl ?_
            refine g_iconst 60 hC (0 : Int32) dX11_sort_59 (by decide) rfl ?_
            refine g_iconst 61 hC (4 : Int32) dX11_sort_60 (by decide) rfl ?_
            obtain ⟨c_34, s_35, hu, hF⟩ := hF
            refine g_xV (rest := [_, _]) wl_X11_95 hd_X11_number (ci := 11) rfl 64 hC hF.1 (met_X11_number hF.2) rfl ⟨Nat.le_of_ble_eq_true rfl, Nat.le_of_ble_eq_true rfl⟩ hu rfl (Nat.le_of_ble_eq_true rfl) dX11_sort_61 rfl (g_ty_i (((((0 + c_5) + c_11) + c_19) + c_26) + c_34) (((((0 + s_6) + s_12) + s_20) + s_27) + s_35) (Nat.le_refl _) (Nat.le_refl _) (fun x_33 M_32 hF => ?_)) (g_tx (((((0 + c_5) + c_11) + c_19) + c_26) + c_34) (((((0 + s_6) + s_12) + s_20) + s_27) + s_35) (Nat.le_refl _) (Nat.le_refl _) (fun E_ q_36 M_37 hF => ?_))
            · have hF := hF
              refine g_iast 65 hC hF dX11_sort_64 rfl (fun M_38 hF => ?_)
              refine g_aload_n 66 hC dX11_sort_65 rfl 1 rfl rfl ?_
              refine g_ldcS 68 hC (j := 3) rfl dX11_sort_66 rfl ?_
              obtain ⟨c_41, s_42, hu, hF⟩ := hF
              refine g_xV (rest := []) wl_X11_89 hd_X11_wants (ci := 11) rfl 71 hC hF.1 (met_X11_wants hF.2) rfl ⟨Nat.le_of_ble_eq_true rfl, Nat.le_of_ble_eq_true rfl⟩ hu rfl (Nat.le_of_ble_eq_true rfl) dX11_sort_68 rfl (g_ty_v ((((((0 + c_5) + c_11) + c_19) + c_26) + c_34) + c_41) ((((((0 + s_6) + s_12) + s_20) + s_27) + s_35) + s_42) (Nat.le_refl _) (Nat.le_refl _) (fun M_39 hF => ?_)) (g_tx ((((((0 + c_5) + c_11) + c_19) + c_26) + c_34) + c_41) ((((((0 + s_6) + s_12) + s_20) + s_27) + s_35) + s_42) (Nat.le_refl _) (Nat.le_refl _) (fun E_ q_43 M_44 hF => ?_))
              · have hF := hF
                refine g_aload_n 72 hC dX11_sort_71 rfl 1 rfl rfl ?_
                refine gf_X11_12_11N 75 hC hF dX11_sort_72 rfl (fun a_45 hF => ?_)
                refine gf_X11_103_12N 78 hC hF dX11_sort_75 rfl (fun a_46 hF => ?_)
                refine g_iload_n 79 hC dX11_sort_78 rfl 0 rfl rfl ?_
                refine g_aload_n 80 hC dX11_sort_79 rfl 1 rfl rfl ?_
                refine g_iconst 81 hC (0 : Int32) dX11_sort_80 (by decide) rfl ?_
                refine g_bipush 83 hC (9 : Int32) dX11_sort_81 (by decide) rfl ?_
                obtain ⟨c_49, s_50, hu, hF⟩ := hF
                refine g_xV (rest := [_, _]) wl_X11_95 hd_X11_number (ci := 11) rfl 86 hC hF.1 (met_X11_number hF.2) rfl ⟨Nat.le_of_ble_eq_true rfl, Nat.le_of_ble_eq_true rfl⟩ hu rfl (Nat.le_of_ble_eq_true rfl) dX11_sort_83 rfl (g_ty_i (((((((0 + c_5) + c_11) + c_19) + c_26) + c_34) + c_41) + c_49) (((((((0 + s_6) + s_12) + s_20) + s_27) + s_35) + s_42) + s_50) (Nat.le_refl _) (Nat.le_refl _) (fun x_48 M_47 hF => ?_)) (g_tx (((((((0 + c_5) + c_11) + c_19) + c_26) + c_34) + c_41) + c_49) (((((((0 + s_6) + s_12) + s_20) + s_27) + s_35) + s_42) + s_50) (Nat.le_refl _) (Nat.le_refl _) (fun E_ q_51 M_52 hF => ?_))
                · have hF := hF
                  refine g_iast 87 hC hF dX11_sort_86 rfl (fun M_53 hF => ?_)
                  refine g_aload_n 88 hC dX11_sort_87 rfl 1 rfl rfl ?_
                  refine gf_X11_12_11N 91 hC hF dX11_sort_88 rfl (fun a_54 hF => ?_)
                  refine gf_X11_105_12N 94 hC hF dX11_sort_91 rfl (fun a_55 hF => ?_)
                  refine g_iload_n 95 hC dX11_sort_94 rfl 0 rfl rfl ?_
                  refine g_aload_n 96 hC dX11_sort_95 rfl 1 rfl rfl ?_
                  refine g_ldcS 98 hC (j := 4) rfl dX11_sort_96 rfl ?_
                  obtain ⟨c_58, s_59, hu, hF⟩ := hF
                  refine g_xV (rest := [_, _]) wl_X11_80 hd_X11_takes (ci := 11) rfl 101 hC hF.1 (met_X11_takes hF.2) rfl ⟨Nat.le_of_ble_eq_true rfl, Nat.le_of_ble_eq_true rfl⟩ hu rfl (Nat.le_of_ble_eq_true rfl) dX11_sort_98 rfl (g_ty_i ((((((((0 + c_5) + c_11) + c_19) + c_26) + c_34) + c_41) + c_49) + c_58) ((((((((0 + s_6) + s_12) + s_20) + s_27) + s_35) + s_42) + s_50) + s_59) (Nat.le_refl _) (Nat.le_refl _) (fun x_57 M_56 hF => ?_)) (g_tx ((((((((0 + c_5) + c_11) + c_19) + c_26) + c_34) + c_41) + c_49) + c_58) ((((((((0 + s_6) + s_12) + s_20) + s_27) + s_35) + s_42) + s_50) + s_59) (Nat.le_refl _) (Nat.le_refl _) (fun E_ q_60 M_61 hF => ?_))
                  · have hF := hF
                    refine g_if_eq 104 114 hC dX11_sort_101 (by decide) rfl (fun c => ?_) (fun c => ?_)
                    · have hF := hF.1 c
                      refine g_iconst 115 hC (0 : Int32) dX11_sort_114 (by decide) rfl ?_
                      refine g_sub [1, 0] rfl ?_
                      exact w_X11_sort_b115 hC hT _ _ _ _ _ _ _ hu _ hF
                    · have hF := hF.2 c
                      refine g_aload_n 105 hC dX11_sort_104 rfl 1 rfl rfl ?_
                      refine g_iconst 106 hC (0 : Int32) dX11_sort_105 (by decide) rfl ?_
                      refine g_bipush 108 hC (99 : Int32) dX11_sort_106 (by decide) rfl ?_
                      obtain ⟨c_64, s_65, hu, hF⟩ := hF
                      refine g_xV (rest := [_, _]) wl_X11_95 hd_X11_number (ci := 11) rfl 111 hC hF.1 (met_X11_number hF.2) rfl ⟨Nat.le_of_ble_eq_true rfl, Nat.le_of_ble_eq_true rfl⟩ hu rfl (Nat.le_of_ble_eq_true rfl) dX11_sort_108 rfl (g_ty_i (((((((((0 + c_5) + c_11) + c_19) + c_26) + c_34) + c_41) + c_49) + c_58) + c_64) (((((((((0 + s_6) + s_12) + s_20) + s_27) + s_35) + s_42) + s_50) + s_59) + s_65) (Nat.le_refl _) (Nat.le_refl _) (fun x_63 M_62 hF => ?_)) (g_tx (((((((((0 + c_5) + c_11) + c_19) + c_26) + c_34) + c_41) + c_49) + c_58) + c_64) (((((((((0 + s_6) + s_12) + s_20) + s_27) + s_35) + s_42) + s_50) + s_59) + s_65) (Nat.le_refl _) (Nat.le_refl _) (fun E_ q_66 M_67 hF => ?_))
                      · have hF := hF
                        refine g_goto 115 hC dX11_sort_111 (by decide) ?_
                        refine g_sub [1, 0] rfl ?_
                        exact w_X11_sort_b115 hC hT _ _ _ _ _ _ _ hu _ hF
                      · have hF := hF
                        obtain ⟨hE_, hF⟩ := hF
                        rw [hE_]
                        exact g_out hC hT (fun _ h => absurd h List.not_mem_nil) hF hu
                  · have hF := hF
                    obtain ⟨hE_, hF⟩ := hF
                    rw [hE_]
                    exact g_out hC hT (fun _ h => absurd h List.not_mem_nil) hF hu
                · have hF := hF
                  obtain ⟨hE_, hF⟩ := hF
                  rw [hE_]
                  exact g_out hC hT (fun _ h => absurd h List.not_mem_nil) hF hu
              · have hF := hF
                obtain ⟨hE_, hF⟩ := hF
                rw [hE_]
                exact g_out hC hT (fun _ h => absurd h List.not_mem_nil) hF hu
            · have hF := hF
              obtain ⟨hE_, hF⟩ := hF
              rw [hE_]
              exact g_out hC hT (fun _ h => absurd h List.not_mem_nil) hF hu
          · have hF := hF
            obtain ⟨hE_, hF⟩ := hF
            rw [hE_]
            exact g_out hC hT (fun _ h => absurd h List.not_mem_nil) hF hu
        · have hF := hF
          obtain ⟨hE_, hF⟩ := hF
          rw [hE_]
          exact g_out hC hT (fun _ h => absurd h List.not_mem_nil) hF hu
      · have hF := hF
        obtain ⟨hE_, hF⟩ := hF
        rw [hE_]
        exact g_out hC hT (fun _ h => absurd h List.not_mem_nil) hF hu
    · have hF := hF
      obtain ⟨hE_, hF⟩ := hF
      rw [hE_]
      exact g_out hC hT (fun _ h => absurd h List.not_mem_nil) hF hu
  · have hF := hF.2 c
    refine g_aload_n 14 hC dX11_sort_13 rfl 1 rfl rfl ?_
    obtain ⟨c_70, s_71, hu, hF⟩ := hF
    refine g_cV (rest := []) wl_X11_76 hd_X11_wrong (ci := 11) rfl 17 hC hF.1 (met_X11_wrong hF.2) rfl ⟨Nat.le_of_ble_eq_true rfl, Nat.le_of_ble_eq_true rfl⟩ hu rfl (Nat.le_of_ble_eq_true rfl) dX11_sort_14 rfl (g_ty_a (0 + c_70) (0 + s_71) (Nat.le_refl _) (Nat.le_refl _) (fun a_69 M_68 hF => ?_))
    refine g_athrow (ci := 13) rfl hC hF.1 dX11_sort_17 ?_
    have hF := hF.2
    exact g_out hC hT (fun _ h => absurd h List.not_mem_nil) hF hu
theorem hd_X11_sort : yX11_sort.cls = RX11 ∧ yX11_sort.cls ≠ "java/lang/invoke/MethodHandle" ∧ yX11_sort.cls ≠ "java/lang/invoke/VarHandle" ∧ (parseMethodDescriptor yX11_sort.desc).map (fun d => d.parameters.length) = some 0 := by decide +kernel
theorem wl_X11_129 : GoodIn lw_all (wsV RX11 129 RX11 yX11_sort (ws_ yX11_sort cX11_sort 2 none)) := lw_V q923 q925 qs13 q91 q926
abbrev rm_X11_part (Lc Ls : Nat) : Room := { frames := 10, cells := Lc, slots := Ls, locals := 267 }
def F_X11_part_b123 (Q : gM → Prop) (X : String → Nat → gM → Prop) (Lc Ls : Nat)  (a0 : Nat)  (u v : Nat) (M : gM) : Prop :=
  ∃ c_3 s_4, (u + c_3 ≤ Lc ∧ v + s_4 ≤ Ls) ∧
  rc M 11 a0 ∧ F_X11_wrong c_3 s_4 M a0 fun a_2 M_1 =>
  (kd M_1 a_2 = some (true, .inl 13)) ∧
  X "SendTheBox$Fault" a_2 M_1
theorem w_X11_part_b123 {G : gG} {Q : gM → Prop} {X : String → Nat → gM → Prop} {Lc Ls : Nat} (hC : gCx G cX11_part 1 RX11 none (gQv Q) (rm_X11_part Lc Ls)) (hT : gTx G X (rm_X11_part Lc Ls) [])  (a0 : Nat)   (u v : Nat) (hu : u ≤ Lc ∧ v ≤ Ls) (M : gM) (hF : F_X11_part_b123 Q X Lc Ls a0 u v M) : gAt G u v M [(0, .ref a0)] 123 [] := by
  unfold F_X11_part_b123 at hF
  refine g_aload_n 124 hC dX11_part_123 rfl 0 rfl rfl ?_
  obtain ⟨c_3, s_4, hu, hF⟩ := hF
  refine g_cV (rest := []) wl_X11_76 hd_X11_wrong (ci := 11) rfl 127 hC hF.1 (met_X11_wrong hF.2) rfl ⟨Nat.le_of_ble_eq_true rfl, Nat.le_of_ble_eq_true rfl⟩ hu rfl (Nat.le_of_ble_eq_true rfl) dX11_part_124 rfl (g_ty_a (u + c_3) (v + s_4) (Nat.le_refl _) (Nat.le_refl _) (fun a_2 M_1 hF => ?_))
  refine g_athrow (ci := 13) rfl hC hF.1 dX11_part_127 ?_
  have hF := hF.2
  exact g_out hC hT (fun _ h => absurd h List.not_mem_nil) hF hu
def F_X11_part (Lc Ls : Nat) (M : gM) (a0 : Nat) (Q : gM → Prop) (X : String → Nat → gM → Prop) : Prop :=
  ∃ c_3 s_4, (0 + c_3 ≤ Lc ∧ 0 + s_4 ≤ Ls) ∧
  rc M 11 a0 ∧ F_X11_takes c_3 s_4 M a0 (gl M 7) (fun x_2 M_1 =>
  ((x_2 = 0 →
      ∃ c_9 s_10, ((0 + c_3) + c_9 ≤ Lc ∧ (0 + s_4) + s_10 ≤ Ls) ∧
      rc M_1 11 a0 ∧ F_X11_takes c_9 s_10 M_1 a0 (gl M_1 8) (fun x_8 M_7 =>
      ((x_8 = 0 →
          ∃ c_15 s_16, (((0 + c_3) + c_9) + c_15 ≤ Lc ∧ ((0 + s_4) + s_10) + s_16 ≤ Ls) ∧
          rc M_7 11 a0 ∧ F_X11_takes c_15 s_16 M_7 a0 (gl M_7 9) (fun x_14 M_13 =>
          ((x_14 = 0 →
              gR M_13 11 a0 5 fun r_19 =>
              ((r_19 = none →
                F_X11_part_b123 Q X Lc Ls a0 (((0 + c_3) + c_9) + c_15) (((0 + s_4) + s_10) + s_16) M_13) ∧
                (∀ b_20, r_19 = some b_20 →
                gR M_13 11 a0 5 fun r_21 =>
                dN r_21 fun b_22 =>
                rc M_13 15 b_22 ∧ F_J4_equals M_13 b_22 (gl M_13 10) fun x_24 M_23 =>
                ((x_24 = 0 →
                  F_X11_part_b123 Q X Lc Ls a0 (((0 + c_3) + c_9) + c_15) (((0 + s_4) + s_10) + s_16) M_23) ∧
                  (¬ x_24 = 0 →
                  ∃ c_27 s_28, ((((0 + c_3) + c_9) + c_15) + c_27 ≤ Lc ∧ (((0 + s_4) + s_10) + s_16) + s_28 ≤ Ls) ∧
                  rc M_23 11 a0 ∧ F_X11_sort c_27 s_28 M_23 a0 (fun M_25 =>
                  Q M_25) (fun E_ q_29 M_30 =>
                    (E_ = "SendTheBox$Fault" ∧
                    X "SendTheBox$Fault" q_29 M_30))))))) ∧
              (¬ x_14 = 0 →
              gN M_13 11 a0 2 fun a_31 =>
              ∃ c_34 s_35, ((((0 + c_3) + c_9) + c_15) + c_34 ≤ Lc ∧ (((0 + s_4) + s_10) + s_16) + s_35 ≤ Ls) ∧
              rc M_13 11 a0 ∧ F_X11_number c_34 s_35 M_13 a0 (0 : Int32) (99 : Int32) (fun x_33 M_32 =>
              pI M_32 12 a_31 1 x_33 fun M_38 =>
                ∃ c_41 s_42, (((((0 + c_3) + c_9) + c_15) + c_34) + c_41 ≤ Lc ∧ ((((0 + s_4) + s_10) + s_16) + s_35) + s_42 ≤ Ls) ∧
                rc M_38 11 a0 ∧ F_X11_wants c_41 s_42 M_38 a0 (gl M_38 2) (fun M_39 =>
                gN M_39 11 a0 2 fun a_45 =>
                  ∃ c_48 s_49, ((((((0 + c_3) + c_9) + c_15) + c_34) + c_41) + c_48 ≤ Lc ∧ (((((0 + s_4) + s_10) + s_16) + s_35) + s_42) + s_49 ≤ Ls) ∧
                  rc M_39 11 a0 ∧ F_X11_number c_48 s_49 M_39 a0 (1 : Int32) (40 : Int32) (fun x_47 M_46 =>
                  pI M_46 12 a_45 2 x_47 fun M_52 =>
                    Q M_52) (fun E_ q_50 M_51 =>
                    (E_ = "SendTheBox$Fault" ∧
                    X "SendTheBox$Fault" q_50 M_51))) (fun E_ q_43 M_44 =>
                  (E_ = "SendTheBox$Fault" ∧
                  X "SendTheBox$Fault" q_43 M_44))) (fun E_ q_36 M_37 =>
                (E_ = "SendTheBox$Fault" ∧
                X "SendTheBox$Fault" q_36 M_37))))) (fun E_ q_17 M_18 =>
            (E_ = "SendTheBox$Fault" ∧
            X "SendTheBox$Fault" q_17 M_18))) ∧
          (¬ x_8 = 0 →
          gN M_7 11 a0 2 fun a_53 =>
          ∃ c_56 s_57, (((0 + c_3) + c_9) + c_56 ≤ Lc ∧ ((0 + s_4) + s_10) + s_57 ≤ Ls) ∧
          rc M_7 11 a0 ∧ F_X11_number c_56 s_57 M_7 a0 (0 : Int32) (3 : Int32) (fun x_55 M_54 =>
          pI M_54 12 a_53 3 x_55 fun M_60 =>
            Q M_60) (fun E_ q_58 M_59 =>
            (E_ = "SendTheBox$Fault" ∧
            X "SendTheBox$Fault" q_58 M_59))))) (fun E_ q_11 M_12 =>
        (E_ = "SendTheBox$Fault" ∧
        X "SendTheBox$Fault" q_11 M_12))) ∧
      (¬ x_2 = 0 →
      gN M_1 11 a0 2 fun a_61 =>
      ∃ c_64 s_65, ((0 + c_3) + c_64 ≤ Lc ∧ (0 + s_4) + s_65 ≤ Ls) ∧
      rc M_1 11 a0 ∧ F_X11_number c_64 s_65 M_1 a0 (1 : Int32) (6 : Int32) (fun x_63 M_62 =>
      pI M_62 12 a_61 0 x_63 fun M_68 =>
        Q M_68) (fun E_ q_66 M_67 =>
        (E_ = "SendTheBox$Fault" ∧
        X "SendTheBox$Fault" q_66 M_67))))) (fun E_ q_5 M_6 =>
    (E_ = "SendTheBox$Fault" ∧
    X "SendTheBox$Fault" q_5 M_6))
theorem met_X11_part {M : gM} {a0 : Nat} {Q : gM → Prop} {X : String → Nat → gM → Prop} {Lc Ls : Nat} (hF : F_X11_part Lc Ls M a0 Q X) : gMx yX11_part (ws_ yX11_part cX11_part 1 none) (rm_X11_part Lc Ls) M [.ref a0] (gQv Q) X := by
  refine gMetX (bytes := cX11_part) (maxL := 1) (ret := none) rfl rfl (by decide) (Nat.le_of_ble_eq_true rfl) (lv := [(0, .ref a0)]) rfl (fun G hC hT hin => ?_)
  have hu : 0 ≤ Lc ∧ 0 ≤ Ls := ⟨Nat.zero_le _, Nat.zero_le _⟩
  unfold F_X11_part at hF
  refine g_aload_n 1 hC dX11_part_0 rfl 0 rfl rfl ?_
  refine g_ldcS 3 hC (j := 6) rfl dX11_part_1 rfl ?_
  obtain ⟨c_3, s_4, hu, hF⟩ := hF
  refine g_xV (rest := []) wl_X11_80 hd_X11_takes (ci := 11) rfl 6 hC hF.1 (met_X11_takes hF.2) rfl ⟨Nat.le_of_ble_eq_true rfl, Nat.le_of_ble_eq_true rfl⟩ hu rfl (Nat.le_of_ble_eq_true rfl) dX11_part_3 rfl (g_ty_i (0 + c_3) (0 + s_4) (Nat.le_refl _) (Nat.le_refl _) (fun x_2 M_1 hF => ?_)) (g_tx (0 + c_3) (0 + s_4) (Nat.le_refl _) (Nat.le_refl _) (fun E_ q_5 M_6 hF => ?_))
  · have hF := hF
    refine g_if_eq 9 26 hC dX11_part_6 (by decide) rfl (fun c => ?_) (fun c => ?_)
    · have hF := hF.1 c
      refine g_aload_n 27 hC dX11_part_26 rfl 0 rfl rfl ?_
      refine g_ldcS 29 hC (j := 7) rfl dX11_part_27 rfl ?_
      obtain ⟨c_9, s_10, hu, hF⟩ := hF
      refine g_xV (rest := []) wl_X11_80 hd_X11_takes (ci := 11) rfl 32 hC hF.1 (met_X11_takes hF.2) rfl ⟨Nat.le_of_ble_eq_true rfl, Nat.le_of_ble_eq_true rfl⟩ hu rfl (Nat.le_of_ble_eq_true rfl) dX11_part_29 rfl (g_ty_i ((0 + c_3) + c_9) ((0 + s_4) + s_10) (Nat.le_refl _) (Nat.le_refl _) (fun x_8 M_7 hF => ?_)) (g_tx ((0 + c_3) + c_9) ((0 + s_4) + s_10) (Nat.le_refl _) (Nat.le_refl _) (fun E_ q_11 M_12 hF => ?_))
      · have hF := hF
        refine g_if_eq 35 51 hC dX11_part_32 (by decide) rfl (fun c => ?_) (fun c => ?_)
        · have hF := hF.1 c
          refine g_aload_n 52 hC dX11_part_51 rfl 0 rfl rfl ?_
          refine g_ldcS 54 hC (j := 8) rfl dX11_part_52 rfl ?_
          obtain ⟨c_15, s_16, hu, hF⟩ := hF
          refine g_xV (rest := []) wl_X11_80 hd_X11_takes (ci := 11) rfl 57 hC hF.1 (met_X11_takes hF.2) rfl ⟨Nat.le_of_ble_eq_true rfl, Nat.le_of_ble_eq_true rfl⟩ hu rfl (Nat.le_of_ble_eq_true rfl) dX11_part_54 rfl (g_ty_i (((0 + c_3) + c_9) + c_15) (((0 + s_4) + s_10) + s_16) (Nat.le_refl _) (Nat.le_refl _) (fun x_14 M_13 hF => ?_)) (g_tx (((0 + c_3) + c_9) + c_15) (((0 + s_4) + s_10) + s_16) (Nat.le_refl _) (Nat.le_refl _) (fun E_ q_17 M_18 hF => ?_))
          · have hF := hF
            refine g_if_eq 60 97 hC dX11_part_57 (by decide) rfl (fun c => ?_) (fun c => ?_)
            · have hF := hF.1 c
              refine g_aload_n 98 hC dX11_part_97 rfl 0 rfl rfl ?_
              refine gf_X11_36_11R 101 hC hF dX11_part_98 rfl (fun r_19 hF => ?_)
              refine g_ifnull 104 123 hC dX11_part_101 (by decide) rfl (fun c => ?_) (fun b_20 c => ?_)
              · have hF := hF.1 c
                try rw [c]
                exact w_X11_part_b123 hC hT _ _ _ hu _ hF
              · have hF := hF.2 b_20 c
                try rw [c]
                refine g_aload_n 105 hC dX11_part_104 rfl 0 rfl rfl ?_
                refine gf_X11_36_11R 108 hC hF dX11_part_105 rfl (fun r_21 hF => ?_)
                refine g_ldcS 110 hC (j := 9) rfl dX11_part_108 rfl ?_
                obtain ⟨b_22, hr_, hF⟩ := hF
                try rw [hr_]
                refine g_cV (rest := []) wl_X11_67 hd_J4_equals (ci := 15) rfl 113 hC hF.1 (met_J4_equals hF.2) rfl ⟨Nat.le_of_ble_eq_true rfl, Nat.le_of_ble_eq_true rfl⟩ hu rfl (Nat.le_of_ble_eq_true rfl) dX11_part_110 rfl (g_ty_i (((0 + c_3) + c_9) + c_15) (((0 + s_4) + s_10) + s_16) (Nat.le_refl _) (Nat.le_refl _) (fun x_24 M_23 hF => ?_))
                refine g_if_eq 116 123 hC dX11_part_113 (by decide) rfl (fun c => ?_) (fun c => ?_)
                · have hF := hF.1 c
                  exact w_X11_part_b123 hC hT _ _ _ hu _ hF
                · have hF := hF.2 c
                  refine g_aload_n 117 hC dX11_part_116 rfl 0 rfl rfl ?_
                  obtain ⟨c_27, s_28, hu, hF⟩ := hF
                  refine g_xV (rest := []) wl_X11_129 hd_X11_sort (ci := 11) rfl 120 hC hF.1 (met_X11_sort hF.2) rfl ⟨Nat.le_of_ble_eq_true rfl, Nat.le_of_ble_eq_true rfl⟩ hu rfl (Nat.le_of_ble_eq_true rfl) dX11_part_117 rfl (g_ty_v ((((0 + c_3) + c_9) + c_15) + c_27) ((((0 + s_4) + s_10) + s_16) + s_28) (Nat.le_refl _) (Nat.le_refl _) (fun M_25 hF => ?_)) (g_tx ((((0 + c_3) + c_9) + c_15) + c_27) ((((0 + s_4) + s_10) + s_16) + s_28) (Nat.le_refl _) (Nat.le_refl _) (fun E_ q_29 M_30 hF => ?_))
                  · have hF := hF
                    refine g_goto 128 hC dX11_part_120 (by decide) ?_
                    exact g_return hC ⟨rfl, hF⟩ dX11_part_128 hu.1 hu.2
                  · have hF := hF
                    obtain ⟨hE_, hF⟩ := hF
                    rw [hE_]
                    exact g_out hC hT (fun _ h => absurd h List.not_mem_nil) hF hu
            · have hF := hF.2 c
              refine g_aload_n 61 hC dX11_part_60 rfl 0 rfl rfl ?_
              refine gf_X11_12_11N 64 hC hF dX11_part_61 rfl (fun a_31 hF => ?_)
              refine g_aload_n 65 hC dX11_part_64 rfl 0 rfl rfl ?_
              refine g_iconst 66 hC (0 : Int32) dX11_part_65 (by decide) rfl ?_
              refine g_bipush 68 hC (99 : Int32) dX11_part_66 (by decide) rfl ?_
              obtain ⟨c_34, s_35, hu, hF⟩ := hF
              refine g_xV (rest := [_]) wl_X11_95 hd_X11_number (ci := 11) rfl 71 hC hF.1 (met_X11_number hF.2) rfl ⟨Nat.le_of_ble_eq_true rfl, Nat.le_of_ble_eq_true rfl⟩ hu rfl (Nat.le_of_ble_eq_true rfl) dX11_part_68 rfl (g_ty_i ((((0 + c_3) + c_9) + c_15) + c_34) ((((0 + s_4) + s_10) + s_16) + s_35) (Nat.le_refl _) (Nat.le_refl _) (fun x_33 M_32 hF => ?_)) (g_tx ((((0 + c_3) + c_9) + c_15) + c_34) ((((0 + s_4) + s_10) + s_16) + s_35) (Nat.le_refl _) (Nat.le_refl _) (fun E_ q_36 M_37 hF => ?_))
              · have hF := hF
                refine g_putI (C := RX12) (T := TX12) (N := 17) (ci := 12) (k := 1) (ty := .int) in_X12 tyX12 tyX12_ok nmX12 rfl (by decide) q583 rfl rfl (fun _ _ _ => rfl) rfl rfl 74 hC hF dX11_part_71 rfl (fun M_38 hF => ?_)
                refine g_aload_n 75 hC dX11_part_74 rfl 0 rfl rfl ?_
                refine g_ldcS 77 hC (j := 1) rfl dX11_part_75 rfl ?_
                obtain ⟨c_41, s_42, hu, hF⟩ := hF
                refine g_xV (rest := []) wl_X11_89 hd_X11_wants (ci := 11) rfl 80 hC hF.1 (met_X11_wants hF.2) rfl ⟨Nat.le_of_ble_eq_true rfl, Nat.le_of_ble_eq_true rfl⟩ hu rfl (Nat.le_of_ble_eq_true rfl) dX11_part_77 rfl (g_ty_v (((((0 + c_3) + c_9) + c_15) + c_34) + c_41) (((((0 + s_4) + s_10) + s_16) + s_35) + s_42) (Nat.le_refl _) (Nat.le_refl _) (fun M_39 hF => ?_)) (g_tx (((((0 + c_3) + c_9) + c_15) + c_34) + c_41) (((((0 + s_4) + s_10) + s_16) + s_35) + s_42) (Nat.le_refl _) (Nat.le_refl _) (fun E_ q_43 M_44 hF => ?_))
                · have hF := hF
                  refine g_aload_n 81 hC dX11_part_80 rfl 0 rfl rfl ?_
                  refine gf_X11_12_11N 84 hC hF dX11_part_81 rfl (fun a_45 hF => ?_)
                  refine g_aload_n 85 hC dX11_part_84 rfl 0 rfl rfl ?_
                  refine g_iconst 86 hC (1 : Int32) dX11_part_85 (by decide) rfl ?_
                  refine g_bipush 88 hC (40 : Int32) dX11_part_86 (by decide) rfl ?_
                  obtain ⟨c_48, s_49, hu, hF⟩ := hF
                  refine g_xV (rest := [_]) wl_X11_95 hd_X11_number (ci := 11) rfl 91 hC hF.1 (met_X11_number hF.2) rfl ⟨Nat.le_of_ble_eq_true rfl, Nat.le_of_ble_eq_true rfl⟩ hu rfl (Nat.le_of_ble_eq_true rfl) dX11_part_88 rfl (g_ty_i ((((((0 + c_3) + c_9) + c_15) + c_34) + c_41) + c_48) ((((((0 + s_4) + s_10) + s_16) + s_35) + s_42) + s_49) (Nat.le_refl _) (Nat.le_refl _) (fun x_47 M_46 hF => ?_)) (g_tx ((((((0 + c_3) + c_9) + c_15) + c_34) + c_41) + c_48) ((((((0 + s_4) + s_10) + s_16) + s_35) + s_42) + s_49) (Nat.le_refl _) (Nat.le_refl _) (fun E_ q_50 M_51 hF => ?_))
                  · have hF := hF
                    refine g_putI (C := RX12) (T := TX12) (N := 17) (ci := 12) (k := 2) (ty := .int) in_X12 tyX12 tyX12_ok nmX12 rfl (by decide) q586 rfl rfl (fun _ _ _ => rfl) rfl rfl 94 hC hF dX11_part_91 rfl (fun M_52 hF => ?_)
                    refine g_goto 128 hC dX11_part_94 (by decide) ?_
                    exact g_return hC ⟨rfl, hF⟩ dX11_part_128 hu.1 hu.2
                  · have hF := hF
                    obtain ⟨hE_, hF⟩ := hF
                    rw [hE_]
                    exact g_out hC hT (fun _ h => absurd h List.not_mem_nil) hF hu
                · have hF := hF
                  obtain ⟨hE_, hF⟩ := hF
                  rw [hE_]
                  exact g_out hC hT (fun _ h => absurd h List.not_mem_nil) hF hu
              · have hF := hF
                obtain ⟨hE_, hF⟩ := hF
                rw [hE_]
                exact g_out hC hT (fun _ h => absurd h List.not_mem_nil) hF hu
          · have hF := hF
            obtain ⟨hE_, hF⟩ := hF
            rw [hE_]
            exact g_out hC hT (fun _ h => absurd h List.not_mem_nil) hF hu
        · have hF := hF.2 c
          refine g_aload_n 36 hC dX11_part_35 rfl 0 rfl rfl ?_
          refine gf_X11_12_11N 39 hC hF dX11_part_36 rfl (fun a_53 hF => ?_)
          refine g_aload_n 40 hC dX11_part_39 rfl 0 rfl rfl ?_
          refine g_iconst 41 hC (0 : Int32) dX11_part_40 (by decide) rfl ?_
          refine g_iconst 42 hC (3 : Int32) dX11_part_41 (by decide) rfl ?_
          obtain ⟨c_56, s_57, hu, hF⟩ := hF
          refine g_xV (rest := [_]) wl_X11_95 hd_X11_number (ci := 11) rfl 45 hC hF.1 (met_X11_number hF.2) rfl ⟨Nat.le_of_ble_eq_true rfl, Nat.le_of_ble_eq_true rfl⟩ hu rfl (Nat.le_of_ble_eq_true rfl) dX11_part_42 rfl (g_ty_i (((0 + c_3) + c_9) + c_56) (((0 + s_4) + s_10) + s_57) (Nat.le_refl _) (Nat.le_refl _) (fun x_55 M_54 hF => ?_)) (g_tx (((0 + c_3) + c_9) + c_56) (((0 + s_4) + s_10) + s_57) (Nat.le_refl _) (Nat.le_refl _) (fun E_ q_58 M_59 hF => ?_))
          · have hF := hF
            refine g_putI (C := RX12) (T := TX12) (N := 17) (ci := 12) (k := 3) (ty := .int) in_X12 tyX12 tyX12_ok nmX12 rfl (by decide) q590 rfl rfl (fun _ _ _ => rfl) rfl rfl 48 hC hF dX11_part_45 rfl (fun M_60 hF => ?_)
            refine g_goto 128 hC dX11_part_48 (by decide) ?_
            exact g_return hC ⟨rfl, hF⟩ dX11_part_128 hu.1 hu.2
          · have hF := hF
            obtain ⟨hE_, hF⟩ := hF
            rw [hE_]
            exact g_out hC hT (fun _ h => absurd h List.not_mem_nil) hF hu
      · have hF := hF
        obtain ⟨hE_, hF⟩ := hF
        rw [hE_]
        exact g_out hC hT (fun _ h => absurd h List.not_mem_nil) hF hu
    · have hF := hF.2 c
      refine g_aload_n 10 hC dX11_part_9 rfl 0 rfl rfl ?_
      refine gf_X11_12_11N 13 hC hF dX11_part_10 rfl (fun a_61 hF => ?_)
      refine g_aload_n 14 hC dX11_part_13 rfl 0 rfl rfl ?_
      refine g_iconst 15 hC (1 : Int32) dX11_part_14 (by decide) rfl ?_
      refine g_bipush 17 hC (6 : Int32) dX11_part_15 (by decide) rfl ?_
      obtain ⟨c_64, s_65, hu, hF⟩ := hF
      refine g_xV (rest := [_]) wl_X11_95 hd_X11_number (ci := 11) rfl 20 hC hF.1 (met_X11_number hF.2) rfl ⟨Nat.le_of_ble_eq_true rfl, Nat.le_of_ble_eq_true rfl⟩ hu rfl (Nat.le_of_ble_eq_true rfl) dX11_part_17 rfl (g_ty_i ((0 + c_3) + c_64) ((0 + s_4) + s_65) (Nat.le_refl _) (Nat.le_refl _) (fun x_63 M_62 hF => ?_)) (g_tx ((0 + c_3) + c_64) ((0 + s_4) + s_65) (Nat.le_refl _) (Nat.le_refl _) (fun E_ q_66 M_67 hF => ?_))
      · have hF := hF
        refine g_putI (C := RX12) (T := TX12) (N := 17) (ci := 12) (k := 0) (ty := .int) in_X12 tyX12 tyX12_ok nmX12 rfl (by decide) q579 rfl rfl (fun _ _ _ => rfl) rfl rfl 23 hC hF dX11_part_20 rfl (fun M_68 hF => ?_)
        refine g_goto 128 hC dX11_part_23 (by decide) ?_
        exact g_return hC ⟨rfl, hF⟩ dX11_part_128 hu.1 hu.2
      · have hF := hF
        obtain ⟨hE_, hF⟩ := hF
        rw [hE_]
        exact g_out hC hT (fun _ h => absurd h List.not_mem_nil) hF hu
  · have hF := hF
    obtain ⟨hE_, hF⟩ := hF
    rw [hE_]
    exact g_out hC hT (fun _ h => absurd h List.not_mem_nil) hF hu
theorem hd_X11_part : yX11_part.cls = RX11 ∧ yX11_part.cls ≠ "java/lang/invoke/MethodHandle" ∧ yX11_part.cls ≠ "java/lang/invoke/VarHandle" ∧ (parseMethodDescriptor yX11_part.desc).map (fun d => d.parameters.length) = some 0 := by decide +kernel
theorem wl_X11_131 : GoodIn lw_all (wsV RX11 131 RX11 yX11_part (ws_ yX11_part cX11_part 1 none)) := lw_V q890 q892 qs8 q91 q893
abbrev rm_X11_read (Lc Ls : Nat) : Room := { frames := 11, cells := Lc, slots := Ls, locals := 287 }
def F_X11_read_b8 (Q : Nat → gM → Prop) (X : String → Nat → gM → Prop) (Lc Ls : Nat)  (a0 : Nat) : Nat → Nat → Nat → gM → Prop
  | 0, _, _, _ => False
  | n + 1, u, v, M =>
    gI M 11 a0 4 fun x_1 =>
    gI M 11 a0 1 fun x_2 =>
    ((x_2 ≤ x_1 →
      gN M 11 a0 2 fun a_3 =>
      gI M 12 a_3 4 fun x_4 =>
      ((¬ x_4 = 0 →
        gN M 11 a0 2 fun a_5 =>
        Q a_5 M) ∧
        (x_4 = 0 →
        nO M u v Lc Ls 13 7 fun a_6 M_7 =>
        gI M_7 11 a0 1 fun x_8 =>
        F_X13_init M_7 a_6 x_8 fun M_9 =>
        (kd M_9 a_6 = some (true, .inl 13)) ∧
        X "SendTheBox$Fault" a_6 M_9))) ∧
      (¬ x_2 ≤ x_1 →
      ∃ c_13 s_14, (u + c_13 ≤ Lc ∧ v + s_14 ≤ Ls) ∧
      rc M 11 a0 ∧ F_X11_wants c_13 s_14 M a0 (gl M 1) (fun M_11 =>
      ∃ c_19 s_20, ((u + c_13) + c_19 ≤ Lc ∧ (v + s_14) + s_20 ≤ Ls) ∧
        rc M_11 11 a0 ∧ F_X11_part c_19 s_20 M_11 a0 (fun M_17 =>
        (F_X11_read_b8 Q X Lc Ls a0 n) ((u + c_13) + c_19) ((v + s_14) + s_20) M_17) (fun E_ q_21 M_22 =>
          (E_ = "SendTheBox$Fault" ∧
          X "SendTheBox$Fault" q_21 M_22))) (fun E_ q_15 M_16 =>
        (E_ = "SendTheBox$Fault" ∧
        X "SendTheBox$Fault" q_15 M_16))))
theorem w_X11_read_b8 {G : gG} {Q : Nat → gM → Prop} {X : String → Nat → gM → Prop} {Lc Ls : Nat} (hC : gCx G cX11_read 1 RX11 (some (.object "SendTheBox$House")) (gQa Q) (rm_X11_read Lc Ls)) (hT : gTx G X (rm_X11_read Lc Ls) [])  (a0 : Nat)  : ∀ (n : Nat)  (u v : Nat) (hu : u ≤ Lc ∧ v ≤ Ls) (M : gM), F_X11_read_b8 Q X Lc Ls a0 n u v M → gAt G u v M [(0, .ref a0)] 8 [] := by
  intro n
  induction n with
  | zero =>
    intro u v hu M hF
    exact hF.elim
  | succ n ih =>
    intro u v hu M hF
    have hK8 := ih
    unfold F_X11_read_b8 at hF
    refine g_aload_n 9 hC dX11_read_8 rfl 0 rfl rfl ?_
    refine gf_X11_33_11I 12 hC hF dX11_read_9 rfl (fun x_1 hF => ?_)
    refine g_aload_n 13 hC dX11_read_12 rfl 0 rfl rfl ?_
    refine gf_X11_22_11I 16 hC hF dX11_read_13 rfl (fun x_2 hF => ?_)
    refine g_icmp_ge 19 32 hC dX11_read_16 (by decide) rfl (fun c => ?_) (fun c => ?_)
    · have hF := hF.1 c
      refine g_aload_n 33 hC dX11_read_32 rfl 0 rfl rfl ?_
      refine gf_X11_12_11N 36 hC hF dX11_read_33 rfl (fun a_3 hF => ?_)
      refine gf_X11_84_12I 39 hC hF dX11_read_36 rfl (fun x_4 hF => ?_)
      refine g_if_ne 42 54 hC dX11_read_39 (by decide) rfl (fun c => ?_) (fun c => ?_)
      · have hF := hF.1 c
        refine g_aload_n 55 hC dX11_read_54 rfl 0 rfl rfl ?_
        refine gf_X11_12_11N 58 hC hF dX11_read_55 rfl (fun a_5 hF => ?_)
        exact g_areturn (v := some a_5) hC (Or.inl ⟨_, rfl⟩) ⟨_, rfl, hF⟩ dX11_read_58 hu.1 hu.2
      · have hF := hF.2 c
        have hu := hF.1
        refine g_new (C := RX13) (T := TX13) (N := 7) (ci := 13) in_X13 tyX13_ok (by decide) rfl q871 q872 q101 45 hC hF dX11_read_42 rfl (fun a_6 M_7 hF => ?_)
        refine g_dup 46 hC dX11_read_45 rfl rfl ?_
        refine g_aload_n 47 hC dX11_read_46 rfl 0 rfl rfl ?_
        refine gf_X11_22_11I 50 hC hF dX11_read_47 rfl (fun x_8 hF => ?_)
        refine g_cI (rest := [_]) q882 q101 q880 q881 rfl hd_X13_init 53 hC (met_X13_init hF) rfl ⟨Nat.le_of_ble_eq_true rfl, Nat.le_of_ble_eq_true rfl⟩ hu rfl (Nat.le_of_ble_eq_true rfl) dX11_read_50 rfl (g_ty_v (u + 1) (v + 7) (Nat.le_refl _) (Nat.le_refl _) (fun M_9 hF => ?_))
        refine g_athrow (ci := 13) rfl hC hF.1 dX11_read_53 ?_
        have hF := hF.2
        exact g_out hC hT (fun _ h => absurd h List.not_mem_nil) hF hu
    · have hF := hF.2 c
      refine g_aload_n 20 hC dX11_read_19 rfl 0 rfl rfl ?_
      refine g_ldcS 22 hC (j := 0) rfl dX11_read_20 rfl ?_
      obtain ⟨c_13, s_14, hu, hF⟩ := hF
      refine g_xV (rest := []) wl_X11_89 hd_X11_wants (ci := 11) rfl 25 hC hF.1 (met_X11_wants hF.2) rfl ⟨Nat.le_of_ble_eq_true rfl, Nat.le_of_ble_eq_true rfl⟩ hu rfl (Nat.le_of_ble_eq_true rfl) dX11_read_22 rfl (g_ty_v (u + c_13) (v + s_14) (Nat.le_refl _) (Nat.le_refl _) (fun M_11 hF => ?_)) (g_tx (u + c_13) (v + s_14) (Nat.le_refl _) (Nat.le_refl _) (fun E_ q_15 M_16 hF => ?_))
      · have hF := hF
        refine g_aload_n 26 hC dX11_read_25 rfl 0 rfl rfl ?_
        obtain ⟨c_19, s_20, hu, hF⟩ := hF
        refine g_xV (rest := []) wl_X11_131 hd_X11_part (ci := 11) rfl 29 hC hF.1 (met_X11_part hF.2) rfl ⟨Nat.le_of_ble_eq_true rfl, Nat.le_of_ble_eq_true rfl⟩ hu rfl (Nat.le_of_ble_eq_true rfl) dX11_read_26 rfl (g_ty_v ((u + c_13) + c_19) ((v + s_14) + s_20) (Nat.le_refl _) (Nat.le_refl _) (fun M_17 hF => ?_)) (g_tx ((u + c_13) + c_19) ((v + s_14) + s_20) (Nat.le_refl _) (Nat.le_refl _) (fun E_ q_21 M_22 hF => ?_))
        · have hF := hF
          refine g_goto 8 hC dX11_read_29 (by decide) ?_
          exact hK8 _ _ hu _ hF
        · have hF := hF
          obtain ⟨hE_, hF⟩ := hF
          rw [hE_]
          exact g_out hC hT (fun _ h => absurd h List.not_mem_nil) hF hu
      · have hF := hF
        obtain ⟨hE_, hF⟩ := hF
        rw [hE_]
        exact g_out hC hT (fun _ h => absurd h List.not_mem_nil) hF hu
def F_X11_read (Lc Ls : Nat) (M : gM) (a0 : Nat) (Q : Nat → gM → Prop) (X : String → Nat → gM → Prop) : Prop :=
  ∃ c_3 s_4, (0 + c_3 ≤ Lc ∧ 0 + s_4 ≤ Ls) ∧
  rc M 11 a0 ∧ F_X11_next c_3 s_4 M a0 (fun M_1 =>
  ∃ c_9 s_10, ((0 + c_3) + c_9 ≤ Lc ∧ (0 + s_4) + s_10 ≤ Ls) ∧
    rc M_1 11 a0 ∧ F_X11_part c_9 s_10 M_1 a0 (fun M_7 =>
    ∃ n_13, F_X11_read_b8 Q X Lc Ls a0 n_13 ((0 + c_3) + c_9) ((0 + s_4) + s_10) M_7) (fun E_ q_11 M_12 =>
      (E_ = "SendTheBox$Fault" ∧
      X "SendTheBox$Fault" q_11 M_12))) (fun E_ q_5 M_6 =>
    (E_ = "SendTheBox$Fault" ∧
    X "SendTheBox$Fault" q_5 M_6))
theorem met_X11_read {M : gM} {a0 : Nat} {Q : Nat → gM → Prop} {X : String → Nat → gM → Prop} {Lc Ls : Nat} (hF : F_X11_read Lc Ls M a0 Q X) : gMx yX11_read (ws_ yX11_read cX11_read 1 (some (.object "SendTheBox$House"))) (rm_X11_read Lc Ls) M [.ref a0] (gQa Q) X := by
  refine gMetX (bytes := cX11_read) (maxL := 1) (ret := (some (.object "SendTheBox$House"))) rfl rfl (by decide) (Nat.le_of_ble_eq_true rfl) (lv := [(0, .ref a0)]) rfl (fun G hC hT hin => ?_)
  have hu : 0 ≤ Lc ∧ 0 ≤ Ls := ⟨Nat.zero_le _, Nat.zero_le _⟩
  unfold F_X11_read at hF
  refine g_aload_n 1 hC dX11_read_0 rfl 0 rfl rfl ?_
  obtain ⟨c_3, s_4, hu, hF⟩ := hF
  refine g_xV (rest := []) wl_X11_73 hd_X11_next (ci := 11) rfl 4 hC hF.1 (met_X11_next hF.2) rfl ⟨Nat.le_of_ble_eq_true rfl, Nat.le_of_ble_eq_true rfl⟩ hu rfl (Nat.le_of_ble_eq_true rfl) dX11_read_1 rfl (g_ty_v (0 + c_3) (0 + s_4) (Nat.le_refl _) (Nat.le_refl _) (fun M_1 hF => ?_)) (g_tx (0 + c_3) (0 + s_4) (Nat.le_refl _) (Nat.le_refl _) (fun E_ q_5 M_6 hF => ?_))
  · have hF := hF
    refine g_aload_n 5 hC dX11_read_4 rfl 0 rfl rfl ?_
    obtain ⟨c_9, s_10, hu, hF⟩ := hF
    refine g_xV (rest := []) wl_X11_131 hd_X11_part (ci := 11) rfl 8 hC hF.1 (met_X11_part hF.2) rfl ⟨Nat.le_of_ble_eq_true rfl, Nat.le_of_ble_eq_true rfl⟩ hu rfl (Nat.le_of_ble_eq_true rfl) dX11_read_5 rfl (g_ty_v ((0 + c_3) + c_9) ((0 + s_4) + s_10) (Nat.le_refl _) (Nat.le_refl _) (fun M_7 hF => ?_)) (g_tx ((0 + c_3) + c_9) ((0 + s_4) + s_10) (Nat.le_refl _) (Nat.le_refl _) (fun E_ q_11 M_12 hF => ?_))
    · have hF := hF
      obtain ⟨n_13, hF⟩ := hF
      exact w_X11_read_b8 hC hT _ n_13 _ _ hu _ hF
    · have hF := hF
      obtain ⟨hE_, hF⟩ := hF
      rw [hE_]
      exact g_out hC hT (fun _ h => absurd h List.not_mem_nil) hF hu
  · have hF := hF
    obtain ⟨hE_, hF⟩ := hF
    rw [hE_]
    exact g_out hC hT (fun _ h => absurd h List.not_mem_nil) hF hu