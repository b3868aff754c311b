set_option maxRecDepth 100000
set_option maxHeartbeats 1000000
theorem gf_X0_26_0N {G : gG} {cc : ByteArray} {nL : Nat} {ret : Option FieldType} {Qf : Option Value → gM → Prop} {rm : Room} {cells slots : Nat} {M : gM} {lv : List (Nat × Value)} {pc : Nat} {st : List Value} {a : Nat} (n : Nat) (hC : gCx G cc nL RX0 ret Qf rm) {κ : Nat → Prop} (hF : gN M 0 a 2 κ) (hdg : decode cc pc = .ok (.getfield 26, 3)) (hn : pc + 3 = n) (kk : ∀ x, κ x → gAt G cells slots M lv n (.ref x :: st)) : gAt G cells slots M lv pc (.ref a :: st) :=
  g_getN (C := RX0) (T := TX0) (N := 6) in_X0 rfl (by decide) q150 (fun _ _ _ => rfl) n hC hF hdg hn kk
theorem hd_X2_init : yX2_init.cls ≠ "java/lang/invoke/MethodHandle" ∧ yX2_init.cls ≠ "java/lang/invoke/VarHandle" ∧ (parseMethodDescriptor yX2_init.desc).map (fun d => d.parameters.length) = some 0 := by decide +kernel
abbrev rm_X0_init (Lc Ls : Nat) : Room := { frames := 2, cells := Lc, slots := Ls, locals := 44 }
def F_X0_init_b43 (Q : gM → Prop)  (Lc Ls : Nat)  (a0 : Nat) : Nat → Int32 → Nat → Nat → gM → Prop
  | 0, _, _, _, _ => False
  | n + 1, x1, u, v, M =>
    (((8 : Int32) ≤ x1 →
      Q M) ∧
      (¬ (8 : Int32) ≤ x1 →
      gN M 0 a0 2 fun a_1 =>
      nO M u v Lc Ls 2 1 fun a_2 M_3 =>
      F_X2_init M_3 a_2 fun M_4 =>
      uR M_4 (.object "SendTheBox$Sheet") 2 a_1 x1 a_2 fun M_6 =>
      (F_X0_init_b43 Q Lc Ls a0 n) (x1 + (1 : Int32)) (u + 1) (v + 1) M_6))
theorem w_X0_init_b43 {G : gG} {Q : gM → Prop} {Lc Ls : Nat} (hC : gCx G cX0_init 2 RX0 none (gQv Q) (rm_X0_init Lc Ls)) (hin : G.2.2.1.2.2.2.2.1.name = "<init>")  (a0 : Nat)  : ∀ (n : Nat) (x1 : Int32) (u v : Nat) (hu : u ≤ Lc ∧ v ≤ Ls) (M : gM), F_X0_init_b43 Q Lc Ls a0 n x1 u v M → gAt G u v M [(0, .ref a0), (1, .int x1)] 43 [] := by
  intro n
  induction n with
  | zero =>
    intro x1 u v hu M hF
    exact hF.elim
  | succ n ih =>
    intro x1 u v hu M hF
    have hK43 := ih
    unfold F_X0_init_b43 at hF
    refine g_iload_n 44 hC dX0_init_43 rfl 1 rfl rfl ?_
    refine g_bipush 46 hC (8 : Int32) dX0_init_44 (by decide) rfl ?_
    refine g_icmp_ge 49 68 hC dX0_init_46 (by decide) rfl (fun c => ?_) (fun c => ?_)
    · have hF := hF.1 c
      exact g_return hC ⟨rfl, hF⟩ dX0_init_68 hu.1 hu.2
    · have hF := hF.2 c
      refine g_aload_n 50 hC dX0_init_49 rfl 0 rfl rfl ?_
      refine gf_X0_26_0N 53 hC hF dX0_init_50 rfl (fun a_1 hF => ?_)
      refine g_iload_n 54 hC dX0_init_53 rfl 1 rfl rfl ?_
      have hu := hF.1
      refine g_new (C := RX2) (T := TX2) (N := 1) (ci := 2) in_X2 tyX2_ok (by decide) rfl q136 q138 q71 57 hC hF dX0_init_54 rfl (fun a_2 M_3 hF => ?_)
      refine g_dup 58 hC dX0_init_57 rfl rfl ?_
      refine g_cIN (rest := [_, _, _]) q139 q141 q71 q140 rfl hd_X2_init 61 hC (met_X2_init hF) rfl ⟨Nat.le_of_ble_eq_true rfl, Nat.le_of_ble_eq_true rfl⟩ hu rfl (Nat.le_of_ble_eq_true rfl) dX0_init_58 rfl (g_ty_v (u + 1) (v + 1) (Nat.le_refl _) (Nat.le_refl _) (fun M_4 hF => ?_))
      refine g_aast (C := RX2) (by decide) rfl 62 hC hF dX0_init_61 rfl (fun M_6 hF => ?_)
      refine g_iinc 65 hC (x1 + (1 : Int32)) (lv' := [(1, .int _), (0, .ref _)]) dX0_init_62 rfl 1 rfl rfl (by decide) rfl ?_
      refine g_goto 43 hC dX0_init_65 (by decide) ?_
      refine g_sub [1, 0] rfl ?_
      exact hK43 _ _ _ hu _ hF
def F_X0_init (Lc Ls : Nat) (M : gM) (a0 : Nat) (Q : gM → Prop)  : Prop :=
  nO M 0 0 Lc Ls 1 4 fun a_1 M_2 =>
  ∃ c_5 s_6, ((0 + 1) + c_5 ≤ Lc ∧ (0 + 4) + s_6 ≤ Ls) ∧
  F_X1_init c_5 s_6 M_2 a_1 fun M_3 =>
  pR M_3 0 a0 0 (some a_1) fun M_7 =>
  nA M_7 ((0 + 1) + c_5) ((0 + 4) + s_6) Lc Ls (.object "SendTheBox$Sheet") (8 : Int32) 8 fun a_8 M_9 =>
  pR M_9 0 a0 2 (some a_8) fun M_10 =>
  nA M_10 (((0 + 1) + c_5) + 1) (((0 + 4) + s_6) + 8) Lc Ls .int (160 : Int32) 160 fun a_11 M_12 =>
  pR M_12 0 a0 3 (some a_11) fun M_13 =>
  nA M_13 ((((0 + 1) + c_5) + 1) + 1) ((((0 + 4) + s_6) + 8) + 160) Lc Ls .int (7 : Int32) 7 fun a_14 M_15 =>
  pR M_15 0 a0 5 (some a_14) fun M_16 =>
  ∃ n_17, F_X0_init_b43 Q Lc Ls a0 n_17 (0 : Int32) (((((0 + 1) + c_5) + 1) + 1) + 1) (((((0 + 4) + s_6) + 8) + 160) + 7) M_16
theorem met_X0_init {M : gM} {a0 : Nat} {Q : gM → Prop} {Lc Ls : Nat} (hF : F_X0_init Lc Ls M a0 Q) : gMt yX0_init (ws_ yX0_init cX0_init 2 none) (rm_X0_init Lc Ls) M [.ref a0] (gQv Q) := by
  refine gMet (bytes := cX0_init) (maxL := 2) (ret := none) rfl rfl (by decide) (Nat.le_of_ble_eq_true rfl) (lv := [(0, .ref a0)]) rfl (fun G hC hin => ?_)
  have hu : 0 ≤ Lc ∧ 0 ≤ Ls := ⟨Nat.zero_le _, Nat.zero_le _⟩
  unfold F_X0_init at hF
  refine g_aload_n 1 hC dX0_init_0 rfl 0 rfl rfl ?_
  refine g_objInit 4 hC q108 q109 q110 (Nat.le_of_ble_eq_true rfl) (Nat.le_of_ble_eq_true rfl) dX0_init_1 rfl ?_
  refine g_aload_n 5 hC dX0_init_4 rfl 0 rfl rfl ?_
  have hu := hF.1
  refine g_new (C := RX1) (T := TX1) (N := 4) (ci := 1) in_X1 tyX1_ok (by decide) rfl q111 q112 q70 8 hC hF dX0_init_5 rfl (fun a_1 M_2 hF => ?_)
  refine g_dup 9 hC dX0_init_8 rfl rfl ?_
  obtain ⟨c_5, s_6, hu, hF⟩ := hF
  refine g_cIN (rest := [_, _]) q113 q115 q70 q114 rfl hd_X1_init 12 hC (met_X1_init hF) rfl ⟨Nat.le_of_ble_eq_true rfl, Nat.le_of_ble_eq_true rfl⟩ hu rfl (Nat.le_of_ble_eq_true rfl) dX0_init_9 rfl (g_ty_v ((0 + 1) + c_5) ((0 + 4) + s_6) (Nat.le_refl _) (Nat.le_refl _) (fun M_3 hF => ?_))
  refine g_putR (C := RX0) (T := TX0) (N := 6) (ci := 0) (k := 0) (ty := (.object "SendTheBox$Kept")) in_X0 tyX0 tyX0_ok nmX0 rfl (by decide) q148 rfl rfl (fun _ _ _ => rfl) (g_narR _ _ (by decide)) (g_fitR _ _ (by decide)) 15 hC hF dX0_init_12 rfl (fun M_7 hF => ?_)
  refine g_aload_n 16 hC dX0_init_15 rfl 0 rfl rfl ?_
  refine g_bipush 18 hC (8 : Int32) dX0_init_16 (by decide) rfl ?_
  have hu := hF.2.1
  refine g_anew 21 hC (by decide) q136 q137 hF dX0_init_18 rfl (fun a_8 M_9 hF => ?_)
  refine g_putFR (C := RX0) (T := TX0) (N := 6) (ci := 0) (k := 2) (ty := (.array (.object "SendTheBox$Sheet"))) in_X0 tyX0 tyX0_ok nmX0 rfl (by decide) q150 rfl rfl rfl (fun _ _ _ => rfl) (g_narR _ _ (by decide)) (g_fitR _ _ (by decide)) 24 hC hin hF dX0_init_21 rfl (fun M_10 hF => ?_)
  refine g_aload_n 25 hC dX0_init_24 rfl 0 rfl rfl ?_
  refine g_sipush 28 hC (160 : Int32) dX0_init_25 (by decide) rfl ?_
  have hu := hF.2.1
  refine g_newa 30 hC (ty := .int) rfl (by decide) (fun _ _ h => h) (by decide) (by decide) q147 hF dX0_init_28 rfl (fun a_11 M_12 hF => ?_)
  refine g_putFR (C := RX0) (T := TX0) (N := 6) (ci := 0) (k := 3) (ty := (.array .int)) in_X0 tyX0 tyX0_ok nmX0 rfl (by decide) q151 rfl rfl rfl (fun _ _ _ => rfl) (g_narR _ _ (by decide)) (g_fitR _ _ (by decide)) 33 hC hin hF dX0_init_30 rfl (fun M_13 hF => ?_)
  refine g_aload_n 34 hC dX0_init_33 rfl 0 rfl rfl ?_
  refine g_bipush 36 hC (7 : Int32) dX0_init_34 (by decide) rfl ?_
  have hu := hF.2.1
  refine g_newa 38 hC (ty := .int) rfl (by decide) (fun _ _ h => h) (by decide) (by decide) q147 hF dX0_init_36 rfl (fun a_14 M_15 hF => ?_)
  refine g_putFR (C := RX0) (T := TX0) (N := 6) (ci := 0) (k := 5) (ty := (.array .int)) in_X0 tyX0 tyX0_ok nmX0 rfl (by decide) q153 rfl rfl rfl (fun _ _ _ => rfl) (g_narR _ _ (by decide)) (g_fitR _ _ (by decide)) 41 hC hin hF dX0_init_38 rfl (fun M_16 hF => ?_)
  refine g_iconst 42 hC (0 : Int32) dX0_init_41 (by decide) rfl ?_
  refine g_istore_n 43 hC (lv' := [(1, .int _), (0, .ref _)]) dX0_init_42 rfl rfl (by decide) rfl ?_
  refine g_sub [1, 0] rfl ?_
  obtain ⟨n_17, hF⟩ := hF
  exact w_X0_init_b43 hC hin _ n_17 _ _ _ hu _ hF
abbrev rm_X0_isIn : Room := { frames := 0, cells := 0, slots := 0, locals := 0 }
def F_X0_isIn  (M : gM) (x0 : Int32) (x1 : Int32) (x2 : Int32) (Q : Int32 → gM → Prop)  : Prop :=
  ((x0 < x1 →
    Q (0 : Int32) M) ∧
    (¬ x0 < x1 →
    ((x2 < x0 →
      Q (0 : Int32) M) ∧
      (¬ x2 < x0 →
      Q (1 : Int32) M))))
theorem met_X0_isIn {M : gM} {x0 : Int32} {x1 : Int32} {x2 : Int32} {Q : Int32 → gM → Prop} (hF : F_X0_isIn M x0 x1 x2 Q) : gMt yX0_isIn (ws_ yX0_isIn cX0_isIn 3 (some .boolean)) rm_X0_isIn M [.int x0, .int x1, .int x2] (gQi Q) := by
  refine gMet (bytes := cX0_isIn) (maxL := 3) (ret := (some .boolean)) rfl rfl (by decide) (Nat.le_of_ble_eq_true rfl) (lv := [(0, .int x0), (1, .int x1), (2, .int x2)]) rfl (fun G hC hin => ?_)
  unfold F_X0_isIn at hF
  refine g_iload_n 1 hC dX0_isIn_0 rfl 0 rfl rfl ?_
  refine g_iload_n 2 hC dX0_isIn_1 rfl 1 rfl rfl ?_
  refine g_icmp_lt 5 14 hC dX0_isIn_2 (by decide) rfl (fun c => ?_) (fun c => ?_)
  · have hF := hF.1 c
    refine g_iconst 15 hC (0 : Int32) dX0_isIn_14 (by decide) rfl ?_
    exact g_zreturn hC ⟨_, rfl, hF⟩ (Or.inl rfl) dX0_isIn_15 (Nat.zero_le _) (Nat.zero_le _)
  · have hF := hF.2 c
    refine g_iload_n 6 hC dX0_isIn_5 rfl 0 rfl rfl ?_
    refine g_iload_n 7 hC dX0_isIn_6 rfl 2 rfl rfl ?_
    refine g_icmp_gt 10 14 hC dX0_isIn_7 (by decide) rfl (fun c => ?_) (fun c => ?_)
    · have hF := hF.1 c
      refine g_iconst 15 hC (0 : Int32) dX0_isIn_14 (by decide) rfl ?_
      exact g_zreturn hC ⟨_, rfl, hF⟩ (Or.inl rfl) dX0_isIn_15 (Nat.zero_le _) (Nat.zero_le _)
    · have hF := hF.2 c
      refine g_iconst 11 hC (1 : Int32) dX0_isIn_10 (by decide) rfl ?_
      refine g_goto 15 hC dX0_isIn_11 (by decide) ?_
      exact g_zreturn hC ⟨_, rfl, hF⟩ (Or.inr rfl) dX0_isIn_15 (Nat.zero_le _) (Nat.zero_le _)
theorem hd_X0_isIn : yX0_isIn.cls ≠ "java/lang/invoke/MethodHandle" ∧ yX0_isIn.cls ≠ "java/lang/invoke/VarHandle" ∧ (parseMethodDescriptor yX0_isIn.desc).map (fun d => d.parameters.length) = some 3 := by decide +kernel
theorem wl_X0_37 : GoodIn lw_all (va_wsS RX0 37 yX0_isIn (ws_ yX0_isIn cX0_isIn 3 (some .boolean))) := lw_S q262 q263 q69 q264
abbrev rm_X0_isShelf : Room := { frames := 1, cells := 0, slots := 0, locals := 22 }
def F_X0_isShelf  (M : gM) (x0 : Int32) (Q : Int32 → gM → Prop)  : Prop :=
  F_X0_isIn M x0 (0 : Int32) (7 : Int32) fun x_2 M_1 =>
  zq x_2 (Q x_2 M_1)
theorem met_X0_isShelf {M : gM} {x0 : Int32} {Q : Int32 → gM → Prop} (hF : F_X0_isShelf M x0 Q) : gMt yX0_isShelf (ws_ yX0_isShelf cX0_isShelf 1 (some .boolean)) rm_X0_isShelf M [.int x0] (gQi Q) := by
  refine gMet (bytes := cX0_isShelf) (maxL := 1) (ret := (some .boolean)) rfl rfl (by decide) (Nat.le_of_ble_eq_true rfl) (lv := [(0, .int x0)]) rfl (fun G hC hin => ?_)
  unfold F_X0_isShelf at hF
  refine g_iload_n 1 hC dX0_isShelf_0 rfl 0 rfl rfl ?_
  refine g_iconst 2 hC (0 : Int32) dX0_isShelf_1 (by decide) rfl ?_
  refine g_bipush 4 hC (7 : Int32) dX0_isShelf_2 (by decide) rfl ?_
  refine g_cS (rest := []) wl_X0_37 hd_X0_isIn 7 hC (met_X0_isIn hF) rfl ⟨Nat.le_of_ble_eq_true rfl, Nat.le_of_ble_eq_true rfl⟩ ⟨Nat.zero_le _, Nat.zero_le _⟩ rfl (Nat.le_of_ble_eq_true rfl) dX0_isShelf_4 rfl (g_ty_i 0 0 (Nat.le_refl _) (Nat.le_refl _) (fun x_2 M_1 hF => ?_))
  exact g_zreturn hC ⟨_, rfl, hF.2⟩ hF.1 dX0_isShelf_7 (Nat.zero_le _) (Nat.zero_le _)
theorem gf_X0_33_0N {G : gG} {cc : ByteArray} {nL : Nat} {ret : Option FieldType} {Qf : Option Value → gM → Prop} {rm : Room} {cells slots : Nat} {M : gM} {lv : List (Nat × Value)} {pc : Nat} {st : List Value} {a : Nat} (n : Nat) (hC : gCx G cc nL RX0 ret Qf rm) {κ : Nat → Prop} (hF : gN M 0 a 5 κ) (hdg : decode cc pc = .ok (.getfield 33, 3)) (hn : pc + 3 = n) (kk : ∀ x, κ x → gAt G cells slots M lv n (.ref x :: st)) : gAt G cells slots M lv pc (.ref a :: st) :=
  g_getN (C := RX0) (T := TX0) (N := 6) in_X0 rfl (by decide) q153 (fun _ _ _ => rfl) n hC hF hdg hn kk
abbrev rm_X0_no : Room := { frames := 0, cells := 0, slots := 0, locals := 0 }
def F_X0_no  (M : gM) (a0 : Nat) (x1 : Int32) (Q : Int32 → gM → Prop)  : Prop :=
  gN M 0 a0 5 fun a_1 =>
  aI M .int a_1 (-x1) fun x_2 =>
  uI M a_1 (-x1) (x_2 + (1 : Int32)) fun M_3 =>
  Q x1 M_3
theorem met_X0_no {M : gM} {a0 : Nat} {x1 : Int32} {Q : Int32 → gM → Prop} (hF : F_X0_no M a0 x1 Q) : gMt yX0_no (ws_ yX0_no cX0_no 2 (some .int)) rm_X0_no M [.ref a0, .int x1] (gQi Q) := by
  refine gMet (bytes := cX0_no) (maxL := 2) (ret := (some .int)) rfl rfl (by decide) (Nat.le_of_ble_eq_true rfl) (lv := [(0, .ref a0), (1, .int x1)]) rfl (fun G hC hin => ?_)
  unfold F_X0_no at hF
  refine g_aload_n 1 hC dX0_no_0 rfl 0 rfl rfl ?_
  refine gf_X0_33_0N 4 hC hF dX0_no_1 rfl (fun a_1 hF => ?_)
  refine g_iload_n 5 hC dX0_no_4 rfl 1 rfl rfl ?_
  refine g_ineg 6 hC dX0_no_5 rfl ?_
  refine g_dup2_11 7 hC dX0_no_6 rfl rfl rfl ?_
  refine g_iald 8 hC hF dX0_no_7 rfl (fun x_2 hF => ?_)
  refine g_iconst 9 hC (1 : Int32) dX0_no_8 (by decide) rfl ?_
  refine g_iadd 10 hC dX0_no_9 rfl ?_
  refine g_iast 11 hC hF dX0_no_10 rfl (fun M_3 hF => ?_)
  refine g_iload_n 12 hC dX0_no_11 rfl 1 rfl rfl ?_
  exact g_ireturn hC ⟨_, rfl, hF⟩ dX0_no_12 (Nat.zero_le _) (Nat.zero_le _)
theorem hd_X0_no : yX0_no.cls = RX0 ∧ yX0_no.cls ≠ "java/lang/invoke/MethodHandle" ∧ yX0_no.cls ≠ "java/lang/invoke/VarHandle" ∧ (parseMethodDescriptor yX0_no.desc).map (fun d => d.parameters.length) = some 1 := by decide +kernel
theorem wl_X0_81 : GoodIn lw_all (wsV RX0 81 RX0 yX0_no (ws_ yX0_no cX0_no 2 (some .int))) := lw_V q265 q267 qs2 q69 q268
theorem hd_X0_isShelf : yX0_isShelf.cls ≠ "java/lang/invoke/MethodHandle" ∧ yX0_isShelf.cls ≠ "java/lang/invoke/VarHandle" ∧ (parseMethodDescriptor yX0_isShelf.desc).map (fun d => d.parameters.length) = some 1 := by decide +kernel
theorem wl_X0_78 : GoodIn lw_all (va_wsS RX0 78 yX0_isShelf (ws_ yX0_isShelf cX0_isShelf 1 (some .boolean))) := lw_S q259 q260 q69 q261
theorem hd_X0_rowOf : yX0_rowOf.cls ≠ "java/lang/invoke/MethodHandle" ∧ yX0_rowOf.cls ≠ "java/lang/invoke/VarHandle" ∧ (parseMethodDescriptor yX0_rowOf.desc).map (fun d => d.parameters.length) = some 2 := by decide +kernel
theorem wl_X0_85 : GoodIn lw_all (va_wsS RX0 85 yX0_rowOf (ws_ yX0_rowOf cX0_rowOf 2 (some (.object "java/lang/Object")))) := lw_S q269 q270 q69 q271
abbrev rm_X0_row (Lc Ls : Nat) : Room := { frames := 9, cells := Lc, slots := Ls, locals := 10277 }
def F_X0_row_b22 (Q : Int32 → gM → Prop)  (Lc Ls : Nat)  (a0 : Nat)  (u v : Nat) (M : gM) : Prop :=
  rc M 0 a0 ∧ F_X0_no M a0 (-2 : Int32) fun x_2 M_1 =>
  Q x_2 M_1
theorem w_X0_row_b22 {G : gG} {Q : Int32 → gM → Prop} {Lc Ls : Nat} (hC : gCx G cX0_row 5 RX0 (some .int) (gQi Q) (rm_X0_row Lc Ls)) (hT : gTx G (fun _ _ _ => False) (rm_X0_row Lc Ls) (tableOf [(29, 43, 46, 93)]))  (a0 : Nat)   (u v : Nat) (hu : u ≤ Lc ∧ v ≤ Ls) (M : gM) (hF : F_X0_row_b22 Q Lc Ls a0 u v M) : gAt G u v M [(0, .ref a0)] 22 [] := by
  unfold F_X0_row_b22 at hF
  refine g_aload_n 23 hC dX0_row_22 rfl 0 rfl rfl ?_
  refine g_bipush 25 hC (-2 : Int32) dX0_row_23 (by decide) rfl ?_
  refine g_cV (rest := []) wl_X0_81 hd_X0_no (ci := 0) rfl 28 hC hF.1 (met_X0_no hF.2) rfl ⟨Nat.le_of_ble_eq_true rfl, Nat.le_of_ble_eq_true rfl⟩ hu rfl (Nat.le_of_ble_eq_true rfl) dX0_row_25 rfl (g_ty_i u v (Nat.le_refl _) (Nat.le_refl _) (fun x_2 M_1 hF => ?_))
  exact g_ireturn hC ⟨_, rfl, hF⟩ dX0_row_28 hu.1 hu.2
def F_X0_row (Lc Ls : Nat) (M : gM) (a0 : Nat) (x1 : Int32) (x2 : Int32) (x3 : Int32) (Q : Int32 → gM → Prop)  : Prop :=
  F_X0_isShelf M x1 fun x_2 M_1 =>
  ((x_2 = 0 →
    F_X0_row_b22 Q Lc Ls a0 0 0 M_1) ∧
    (¬ x_2 = 0 →
    ((x2 < 0 →
      F_X0_row_b22 Q Lc Ls a0 0 0 M_1) ∧
      (¬ x2 < 0 →
      (((4 : Int32) < x2 →
        F_X0_row_b22 Q Lc Ls a0 0 0 M_1) ∧
        (¬ (4 : Int32) < x2 →
        ((x3 ≤ (125 : Int32) →
          gN M_1 0 a0 2 fun a_3 =>
          aN M_1 (.object "SendTheBox$Sheet") a_3 x1 fun a_4 =>
          ∃ c_7 s_8, (0 + c_7 ≤ Lc ∧ 0 + s_8 ≤ Ls) ∧
          F_X0_rowOf c_7 s_8 M_1 x2 x3 (fun a_6 M_5 =>
          pR M_5 2 a_4 0 (some a_6) fun M_13 =>
            Q (1 : Int32) M_13) (fun E_ q_9 M_10 =>
            (E_ = "java/lang/NegativeArraySizeException" ∧
            rc M_10 0 a0 ∧ F_X0_no M_10 a0 (-2 : Int32) fun x_12 M_11 =>
            Q x_12 M_11))) ∧
          (¬ x3 ≤ (125 : Int32) →
          F_X0_row_b22 Q Lc Ls a0 0 0 M_1))))))))
theorem met_X0_row {M : gM} {a0 : Nat} {x1 : Int32} {x2 : Int32} {x3 : Int32} {Q : Int32 → gM → Prop} {Lc Ls : Nat} (hF : F_X0_row Lc Ls M a0 x1 x2 x3 Q) : gMx yX0_row (wsW_ yX0_row cX0_row 5 (some .int) [(29, 43, 46, 93)]) (rm_X0_row Lc Ls) M [.ref a0, .int x1, .int x2, .int x3] (gQi Q) (fun _ _ _ => False) := by
  refine gMetH (bytes := cX0_row) (maxL := 5) (ret := (some .int)) (hh := [(29, 43, 46, 93)]) rfl rfl (by decide) (Nat.le_of_ble_eq_true rfl) (lv := [(0, .ref a0), (1, .int x1), (2, .int x2), (3, .int x3)]) rfl (fun G hC hT hin => ?_)
  have hu : 0 ≤ Lc ∧ 0 ≤ Ls := ⟨Nat.zero_le _, Nat.zero_le _⟩
  unfold F_X0_row at hF
  refine g_iload_n 1 hC dX0_row_0 rfl 1 rfl rfl ?_
  refine g_cS (rest := []) wl_X0_78 hd_X0_isShelf 4 hC (met_X0_isShelf hF) rfl ⟨Nat.le_of_ble_eq_true rfl, Nat.le_of_ble_eq_true rfl⟩ hu rfl (Nat.le_of_ble_eq_true rfl) dX0_row_1 rfl (g_ty_i 0 0 (Nat.le_refl _) (Nat.le_refl _) (fun x_2 M_1 hF => ?_))
  refine g_if_eq 7 22 hC dX0_row_4 (by decide) rfl (fun c => ?_) (fun c => ?_)
  · have hF := hF.1 c
    refine g_sub [0] rfl ?_
    exact w_X0_row_b22 hC hT _ _ _ hu _ hF
  · have hF := hF.2 c
    refine g_iload_n 8 hC dX0_row_7 rfl 2 rfl rfl ?_
    refine g_if_lt 11 22 hC dX0_row_8 (by decide) rfl (fun c => ?_) (fun c => ?_)
    · have hF := hF.1 c
      refine g_sub [0] rfl ?_
      exact w_X0_row_b22 hC hT _ _ _ hu _ hF
    · have hF := hF.2 c
      refine g_iload_n 12 hC dX0_row_11 rfl 2 rfl rfl ?_
      refine g_iconst 13 hC (4 : Int32) dX0_row_12 (by decide) rfl ?_
      refine g_icmp_gt 16 22 hC dX0_row_13 (by decide) rfl (fun c => ?_) (fun c => ?_)
      · have hF := hF.1 c
        refine g_sub [0] rfl ?_
        exact w_X0_row_b22 hC hT _ _ _ hu _ hF
      · have hF := hF.2 c
        refine g_iload_n 17 hC dX0_row_16 rfl 3 rfl rfl ?_
        refine g_bipush 19 hC (125 : Int32) dX0_row_17 (by decide) rfl ?_
        refine g_icmp_le 22 29 hC dX0_row_19 (by decide) rfl (fun c => ?_) (fun c => ?_)
        · have hF := hF.1 c
          refine g_aload_n 30 hC dX0_row_29 rfl 0 rfl rfl ?_
          refine gf_X0_26_0N 33 hC hF dX0_row_30 rfl (fun a_3 hF => ?_)
          refine g_iload_n 34 hC dX0_row_33 rfl 1 rfl rfl ?_
          refine g_aaldN 35 hC hF (by decide) rfl (fun _ _ _ => rfl) dX0_row_34 rfl (fun a_4 hF => ?_)
          refine g_iload_n 36 hC dX0_row_35 rfl 2 rfl rfl ?_
          refine g_iload_n 37 hC dX0_row_36 rfl 3 rfl rfl ?_
          obtain ⟨c_7, s_8, hu, hF⟩ := hF
          refine g_xS (rest := [_]) wl_X0_85 hd_X0_rowOf 40 hC (met_X0_rowOf hF) rfl ⟨Nat.le_of_ble_eq_true rfl, Nat.le_of_ble_eq_true rfl⟩ hu rfl (Nat.le_of_ble_eq_true rfl) dX0_row_37 rfl (g_ty_a (0 + c_7) (0 + s_8) (Nat.le_refl _) (Nat.le_refl _) (fun a_6 M_5 hF => ?_)) (g_tx (0 + c_7) (0 + s_8) (Nat.le_refl _) (Nat.le_refl _) (fun E_ q_9 M_10 hF => ?_))
          · have hF := hF
            refine g_putR (C := RX2) (T := TX2) (N := 1) (ci := 2) (k := 0) (ty := (.object "java/lang/Object")) in_X2 tyX2 tyX2_ok nmX2 rfl (by decide) q143 rfl rfl (fun _ _ _ => rfl) (g_narR _ _ (by decide)) (g_fitR _ _ (by decide)) 43 hC hF dX0_row_40 rfl (fun M_13 hF => ?_)
            refine g_goto 55 hC dX0_row_43 (by decide) ?_
            refine g_iconst 56 hC (1 : Int32) dX0_row_55 (by decide) rfl ?_
            exact g_ireturn hC ⟨_, rfl, hF⟩ dX0_row_56 hu.1 hu.2
          · have hF := hF
            obtain ⟨hE_, hF⟩ := hF
            rw [hE_]
            refine g_catch hC hT [] ⟨29, 43, 46, 93⟩ [] rfl (fun _ h => absurd h List.not_mem_nil) rfl (by decide) q171 q236 46 rfl ?_
            refine g_astore 48 hC (lv' := [(4, .ref _), (0, .ref _), (1, .int _), (2, .int _), (3, .int _)]) dX0_row_46 rfl (by decide) rfl ?_
            refine g_aload_n 49 hC dX0_row_48 rfl 1 rfl rfl ?_
            refine g_bipush 51 hC (-2 : Int32) dX0_row_49 (by decide) rfl ?_
            refine g_cV (rest := []) wl_X0_81 hd_X0_no (ci := 0) rfl 54 hC hF.1 (met_X0_no hF.2) rfl ⟨Nat.le_of_ble_eq_true rfl, Nat.le_of_ble_eq_true rfl⟩ hu rfl (Nat.le_of_ble_eq_true rfl) dX0_row_51 rfl (g_ty_i (0 + c_7) (0 + s_8) (Nat.le_refl _) (Nat.le_refl _) (fun x_12 M_11 hF => ?_))
            exact g_ireturn hC ⟨_, rfl, hF⟩ dX0_row_54 hu.1 hu.2
        · have hF := hF.2 c
          refine g_sub [0] rfl ?_
          exact w_X0_row_b22 hC hT _ _ _ hu _ hF
theorem gf_X0_89_2R {G : gG} {cc : ByteArray} {nL : Nat} {ret : Option FieldType} {Qf : Option Value → gM → Prop} {rm : Room} {cells slots : Nat} {M : gM} {lv : List (Nat × Value)} {pc : Nat} {st : List Value} {a : Nat} (n : Nat) (hC : gCx G cc nL RX0 ret Qf rm) {κ : Option Nat → Prop} (hF : gR M 2 a 0 κ) (hdg : decode cc pc = .ok (.getfield 89, 3)) (hn : pc + 3 = n) (kk : ∀ x, κ x → gAt G cells slots M lv n (va_rf x :: st)) : gAt G cells slots M lv pc (.ref a :: st) :=
  g_getR (C := RX2) (T := TX2) (N := 1) in_X2 rfl (by decide) q143 (fun _ _ _ => rfl) n hC hF hdg hn kk
theorem hd_X4_init : yX4_init.cls ≠ "java/lang/invoke/MethodHandle" ∧ yX4_init.cls ≠ "java/lang/invoke/VarHandle" ∧ (parseMethodDescriptor yX4_init.desc).map (fun d => d.parameters.length) = some 1 := by decide +kernel
abbrev rm_X0_rowIn (Lc Ls : Nat) : Room := { frames := 5, cells := Lc, slots := Ls, locals := 117 }
def F_X0_rowIn (Lc Ls : Nat) (M : gM) (a0 : Nat) (x1 : Int32) (Q : Nat → gM → Prop) (X : String → Nat → gM → Prop) : Prop :=
  gN M 0 a0 2 fun a_1 =>
  aN M (.object "SendTheBox$Sheet") a_1 x1 fun a_2 =>
  gR M 2 a_2 0 fun r_3 =>
  iOq M r_3 "SendTheBox$Rule" fun x_4 =>
  ((x_4 = 0 →
    ((r_3 = none →
      nO M 0 0 Lc Ls 4 7 fun a_6 M_7 =>
      F_X4_init M_7 a_6 (-4 : Int32) fun M_8 =>
      (kd M_8 a_6 = some (true, .inl 4)) ∧
      X "SendTheBox$Refused" a_6 M_8) ∧
      (∀ b_5, r_3 = some b_5 →
      Q b_5 M))) ∧
    (¬ x_4 = 0 →
    nO M 0 0 Lc Ls 4 7 fun a_10 M_11 =>
    F_X4_init M_11 a_10 (-3 : Int32) fun M_12 =>
    (kd M_12 a_10 = some (true, .inl 4)) ∧
    X "SendTheBox$Refused" a_10 M_12))
theorem met_X0_rowIn {M : gM} {a0 : Nat} {x1 : Int32} {Q : Nat → gM → Prop} {X : String → Nat → gM → Prop} {Lc Ls : Nat} (hF : F_X0_rowIn Lc Ls M a0 x1 Q X) : gMx yX0_rowIn (ws_ yX0_rowIn cX0_rowIn 3 (some (.object "java/lang/Object"))) (rm_X0_rowIn Lc Ls) M [.ref a0, .int x1] (gQa Q) X := by
  refine gMetX (bytes := cX0_rowIn) (maxL := 3) (ret := (some (.object "java/lang/Object"))) rfl rfl (by decide) (Nat.le_of_ble_eq_true rfl) (lv := [(0, .ref a0), (1, .int x1)]) rfl (fun G hC hT hin => ?_)
  have hu : 0 ≤ Lc ∧ 0 ≤ Ls := ⟨Nat.zero_le _, Nat.zero_le _⟩
  unfold F_X0_rowIn at hF
  refine g_aload_n 1 hC dX0_rowIn_0 rfl 0 rfl rfl ?_
  refine gf_X0_26_0N 4 hC hF dX0_rowIn_1 rfl (fun a_1 hF => ?_)
  refine g_iload_n 5 hC dX0_rowIn_4 rfl 1 rfl rfl ?_
  refine g_aaldN 6 hC hF (by decide) rfl (fun _ _ _ => rfl) dX0_rowIn_5 rfl (fun a_2 hF => ?_)
  refine gf_X0_89_2R 9 hC hF dX0_rowIn_6 rfl (fun r_3 hF => ?_)
  refine g_qstore_n 10 hC (lv' := [(2, va_rf _), (0, .ref _), (1, .int _)]) dX0_rowIn_9 rfl rfl (by decide) rfl ?_
  refine g_qload_n 11 hC dX0_rowIn_10 rfl 0 rfl rfl ?_
  refine g_instq 14 hC q303 hF dX0_rowIn_11 rfl (fun x_4 hF => ?_)
  refine g_if_eq 17 27 hC dX0_rowIn_14 (by decide) rfl (fun c => ?_) (fun c => ?_)
  · have hF := hF.1 c
    refine g_qload_n 28 hC dX0_rowIn_27 rfl 0 rfl rfl ?_
    refine g_ifnonnull 31 41 hC dX0_rowIn_28 (by decide) rfl (fun b_5 c => ?_) (fun c => ?_)
    · have hF := hF.2 b_5 c
      try rw [c]
      refine g_aload_n 42 hC dX0_rowIn_41 rfl 0 rfl rfl ?_
      exact g_areturn (v := some b_5) hC (Or.inl ⟨_, rfl⟩) ⟨_, rfl, hF⟩ dX0_rowIn_42 hu.1 hu.2
    · have hF := hF.1 c
      try rw [c]
      have hu := hF.1
      refine g_new (C := RX4) (T := TX4) (N := 7) (ci := 4) in_X4 tyX4_ok (by decide) rfl q279 q304 q80 34 hC hF dX0_rowIn_31 rfl (fun a_6 M_7 hF => ?_)
      refine g_dup 35 hC dX0_rowIn_34 rfl rfl ?_
      refine g_bipush 37 hC (-4 : Int32) dX0_rowIn_35 (by decide) rfl ?_
      refine g_cI (rest := [_]) q314 q80 q312 q313 rfl hd_X4_init 40 hC (met_X4_init hF) rfl ⟨Nat.le_of_ble_eq_true rfl, Nat.le_of_ble_eq_true rfl⟩ hu rfl (Nat.le_of_ble_eq_true rfl) dX0_rowIn_37 rfl (g_ty_v (0 + 1) (0 + 7) (Nat.le_refl _) (Nat.le_refl _) (fun M_8 hF => ?_))
      refine g_athrow (ci := 4) rfl hC hF.1 dX0_rowIn_40 ?_
      have hF := hF.2
      exact g_out hC hT (fun _ h => absurd h List.not_mem_nil) hF hu
  · have hF := hF.2 c
    have hu := hF.1
    refine g_new (C := RX4) (T := TX4) (N := 7) (ci := 4) in_X4 tyX4_ok (by decide) rfl q279 q304 q80 20 hC hF dX0_rowIn_17 rfl (fun a_10 M_11 hF => ?_)
    refine g_dup 21 hC dX0_rowIn_20 rfl rfl ?_
    refine g_bipush 23 hC (-3 : Int32) dX0_rowIn_21 (by decide) rfl ?_
    refine g_cI (rest := [_]) q314 q80 q312 q313 rfl hd_X4_init 26 hC (met_X4_init hF) rfl ⟨Nat.le_of_ble_eq_true rfl, Nat.le_of_ble_eq_true rfl⟩ hu rfl (Nat.le_of_ble_eq_true rfl) dX0_rowIn_23 rfl (g_ty_v (0 + 1) (0 + 7) (Nat.le_refl _) (Nat.le_refl _) (fun M_12 hF => ?_))
    refine g_athrow (ci := 4) rfl hC hF.1 dX0_rowIn_26 ?_
    have hF := hF.2
    exact g_out hC hT (fun _ h => absurd h List.not_mem_nil) hF hu
theorem hd_X0_rowIn : yX0_rowIn.cls = RX0 ∧ yX0_rowIn.cls ≠ "java/lang/invoke/MethodHandle" ∧ yX0_rowIn.cls ≠ "java/lang/invoke/VarHandle" ∧ (parseMethodDescriptor yX0_rowIn.desc).map (fun d => d.parameters.length) = some 1 := by decide +kernel
theorem gf_X0_110_4I {G : gG} {cc : ByteArray} {nL : Nat} {ret : Option FieldType} {Qf : Option Value → gM → Prop} {rm : Room} {cells slots : Nat} {M : gM} {lv : List (Nat × Value)} {pc : Nat} {st : List Value} {a : Nat} (n : Nat) (hC : gCx G cc nL RX0 ret Qf rm) {κ : Int32 → Prop} (hF : gI M 4 a 6 κ) (hdg : decode cc pc = .ok (.getfield 110, 3)) (hn : pc + 3 = n) (kk : ∀ x, κ x → gAt G cells slots M lv n (.int x :: st)) : gAt G cells slots M lv pc (.ref a :: st) :=
  g_getI (C := RX4) (T := TX4) (N := 7) in_X4 rfl (by decide) q325 (fun _ _ _ => rfl) n hC hF hdg hn kk
theorem wl_X0_102 : GoodIn lw_all (wsV RX0 102 RX0 yX0_rowIn (ws_ yX0_rowIn cX0_rowIn 3 (some (.object "java/lang/Object")))) := lw_V q299 q301 qs3 q69 q302
theorem hd_X0_puts : yX0_puts.cls ≠ "java/lang/invoke/MethodHandle" ∧ yX0_puts.cls ≠ "java/lang/invoke/VarHandle" ∧ (parseMethodDescriptor yX0_puts.desc).map (fun d => d.parameters.length) = some 3 := by decide +kernel
theorem nc_ArrayIndexOutOfBoundsException_Refused : (Cond.not (Cond.castable "java/lang/ArrayIndexOutOfBoundsException" "SendTheBox$Refused")) ∈ flatC (Jvm.Cond.and given_1 narrow_1) := List.mem_of_getElem? (i := 42) (by decide +kernel)
theorem wl_X0_106 : GoodIn lw_all (va_wsS RX0 106 yX0_puts (ws_ yX0_puts cX0_puts 4 none)) := lw_S q330 q331 q69 q332
abbrev rm_X0_set (Lc Ls : Nat) : Room := { frames := 9, cells := Lc, slots := Ls, locals := 10279 }
def F_X0_set (Lc Ls : Nat) (M : gM) (a0 : Nat) (x1 : Int32) (x2 : Int32) (j3 : Int64) (Q : Int32 → gM → Prop)  : Prop :=
  F_X0_isShelf M x1 fun x_2 M_1 =>
  ((¬ x_2 = 0 →
    ∃ c_5 s_6, (0 + c_5 ≤ Lc ∧ 0 + s_6 ≤ Ls) ∧
    rc M_1 0 a0 ∧ F_X0_rowIn c_5 s_6 M_1 a0 x1 (fun a_4 M_3 =>
    ∃ c_14 s_15, ((0 + c_5) + c_14 ≤ Lc ∧ (0 + s_6) + s_15 ≤ Ls) ∧
      F_X0_puts c_14 s_15 M_3 a_4 x2 j3 (fun M_12 =>
      Q (1 : Int32) M_12) (fun E_ q_16 M_17 =>
        (E_ = "java/lang/ArrayIndexOutOfBoundsException" ∧
        rc M_17 0 a0 ∧ F_X0_no M_17 a0 (-2 : Int32) fun x_19 M_18 =>
        Q x_19 M_18))) (fun E_ q_7 M_8 =>
      (E_ = "SendTheBox$Refused" ∧
      gI M_8 4 q_7 6 fun x_9 =>
      rc M_8 0 a0 ∧ F_X0_no M_8 a0 x_9 fun x_11 M_10 =>
      Q x_11 M_10))) ∧
    (x_2 = 0 →
    rc M_1 0 a0 ∧ F_X0_no M_1 a0 (-2 : Int32) fun x_21 M_20 =>
    Q x_21 M_20))
theorem met_X0_set {M : gM} {a0 : Nat} {x1 : Int32} {x2 : Int32} {j3 : Int64} {Q : Int32 → gM → Prop} {Lc Ls : Nat} (hF : F_X0_set Lc Ls M a0 x1 x2 j3 Q) : gMx yX0_set (wsW_ yX0_set cX0_set 6 (some .int) [(14, 25, 26, 97), (14, 25, 38, 113)]) (rm_X0_set Lc Ls) M [.ref a0, .int x1, .int x2, .long j3] (gQi Q) (fun _ _ _ => False) := by
  refine gMetH (bytes := cX0_set) (maxL := 6) (ret := (some .int)) (hh := [(14, 25, 26, 97), (14, 25, 38, 113)]) rfl rfl (by decide) (Nat.le_of_ble_eq_true rfl) (lv := [(0, .ref a0), (1, .int x1), (2, .int x2), (3, .long j3)]) rfl (fun G hC hT hin => ?_)
  have hu : 0 ≤ Lc ∧ 0 ≤ Ls := ⟨Nat.zero_le _, Nat.zero_le _⟩
  unfold F_X0_set at hF
  refine g_iload_n 1 hC dX0_set_0 rfl 1 rfl rfl ?_
  refine g_cS (rest := []) wl_X0_78 hd_X0_isShelf 4 hC (met_X0_isShelf hF) rfl ⟨Nat.le_of_ble_eq_true rfl, Nat.le_of_ble_eq_true rfl⟩ hu rfl (Nat.le_of_ble_eq_true rfl) dX0_set_1 rfl (g_ty_i 0 0 (Nat.le_refl _) (Nat.le_refl _) (fun x_2 M_1 hF => ?_))
  refine g_if_ne 7 14 hC dX0_set_4 (by decide) rfl (fun c => ?_) (fun c => ?_)
  · have hF := hF.1 c
    refine g_aload_n 15 hC dX0_set_14 rfl 0 rfl rfl ?_
    refine g_iload_n 16 hC dX0_set_15 rfl 1 rfl rfl ?_
    obtain ⟨c_5, s_6, hu, hF⟩ := hF
    refine g_xV (rest := []) wl_X0_102 hd_X0_rowIn (ci := 0) rfl 19 hC hF.1 (met_X0_rowIn hF.2) rfl ⟨Nat.le_of_ble_eq_true rfl, Nat.le_of_ble_eq_true rfl⟩ hu rfl (Nat.le_of_ble_eq_true rfl) dX0_set_16 rfl (g_ty_a (0 + c_5) (0 + s_6) (Nat.le_refl _) (Nat.le_refl _) (fun a_4 M_3 hF => ?_)) (g_tx (0 + c_5) (0 + s_6) (Nat.le_refl _) (Nat.le_refl _) (fun E_ q_7 M_8 hF => ?_))
    · have hF := hF
      refine g_iload_n 20 hC dX0_set_19 rfl 2 rfl rfl ?_
      refine g_lload_n 21 hC dX0_set_20 rfl 3 rfl rfl ?_
      obtain ⟨c_14, s_15, hu, hF⟩ := hF
      refine g_xS (rest := []) wl_X0_106 hd_X0_puts 24 hC (met_X0_puts hF) rfl ⟨Nat.le_of_ble_eq_true rfl, Nat.le_of_ble_eq_true rfl⟩ hu rfl (Nat.le_of_ble_eq_true rfl) dX0_set_21 rfl (g_ty_v ((0 + c_5) + c_14) ((0 + s_6) + s_15) (Nat.le_refl _) (Nat.le_refl _) (fun M_12 hF => ?_)) (g_tx ((0 + c_5) + c_14) ((0 + s_6) + s_15) (Nat.le_refl _) (Nat.le_refl _) (fun E_ q_16 M_17 hF => ?_))
      · have hF := hF
        refine g_iconst 25 hC (1 : Int32) dX0_set_24 (by decide) rfl ?_
        exact g_ireturn hC ⟨_, rfl, hF⟩ dX0_set_25 hu.1 hu.2
      · have hF := hF
        obtain ⟨hE_, hF⟩ := hF
        rw [hE_]
        refine g_catch hC hT [⟨14, 25, 26, 97⟩] ⟨14, 25, 38, 113⟩ [] rfl (List.forall_mem_cons.mpr ⟨Or.inr ⟨by decide, _, q279, nc_ArrayIndexOutOfBoundsException_Refused⟩, (fun _ h => absurd h List.not_mem_nil)⟩) rfl (by decide) q280 q295 38 rfl ?_
        refine g_astore 40 hC (lv' := [(5, .ref _), (0, .ref _), (1, .int _), (2, .int _), (3, .long _)]) dX0_set_38 rfl (by decide) rfl ?_
        refine g_aload_n 41 hC dX0_set_40 rfl 1 rfl rfl ?_
        refine g_bipush 43 hC (-2 : Int32) dX0_set_41 (by decide) rfl ?_
        refine g_cV (rest := []) wl_X0_81 hd_X0_no (ci := 0) rfl 46 hC hF.1 (met_X0_no hF.2) rfl ⟨Nat.le_of_ble_eq_true rfl, Nat.le_of_ble_eq_true rfl⟩ hu rfl (Nat.le_of_ble_eq_true rfl) dX0_set_43 rfl (g_ty_i ((0 + c_5) + c_14) ((0 + s_6) + s_15) (Nat.le_refl _) (Nat.le_refl _) (fun x_19 M_18 hF => ?_))
        exact g_ireturn hC ⟨_, rfl, hF⟩ dX0_set_46 hu.1 hu.2
    · have hF := hF
      obtain ⟨hE_, hF⟩ := hF
      rw [hE_]
      refine g_catch hC hT [] ⟨14, 25, 26, 97⟩ [⟨14, 25, 38, 113⟩] rfl (fun _ h => absurd h List.not_mem_nil) rfl (by decide) q279 q305 26 rfl ?_
      refine g_astore 28 hC (lv' := [(5, .ref _), (0, .ref _), (1, .int _), (2, .int _), (3, .long _)]) dX0_set_26 rfl (by decide) rfl ?_
      refine g_aload_n 29 hC dX0_set_28 rfl 1 rfl rfl ?_
      refine g_aload 31 hC dX0_set_29 rfl 0 rfl ?_
      refine gf_X0_110_4I 34 hC hF dX0_set_31 rfl (fun x_9 hF => ?_)
      refine g_cV (rest := []) wl_X0_81 hd_X0_no (ci := 0) rfl 37 hC hF.1 (met_X0_no hF.2) rfl ⟨Nat.le_of_ble_eq_true rfl, Nat.le_of_ble_eq_true rfl⟩ hu rfl (Nat.le_of_ble_eq_true rfl) dX0_set_34 rfl (g_ty_i (0 + c_5) (0 + s_6) (Nat.le_refl _) (Nat.le_refl _) (fun x_11 M_10 hF => ?_))
      exact g_ireturn hC ⟨_, rfl, hF⟩ dX0_set_37 hu.1 hu.2
  · have hF := hF.2 c
    refine g_aload_n 8 hC dX0_set_7 rfl 0 rfl rfl ?_
    refine g_bipush 10 hC (-2 : Int32) dX0_set_8 (by decide) rfl ?_
    refine g_cV (rest := []) wl_X0_81 hd_X0_no (ci := 0) rfl 13 hC hF.1 (met_X0_no hF.2) rfl ⟨Nat.le_of_ble_eq_true rfl, Nat.le_of_ble_eq_true rfl⟩ hu rfl (Nat.le_of_ble_eq_true rfl) dX0_set_10 rfl (g_ty_i 0 0 (Nat.le_refl _) (Nat.le_refl _) (fun x_21 M_20 hF => ?_))
    exact g_ireturn hC ⟨_, rfl, hF⟩ dX0_set_13 hu.1 hu.2
theorem nc_ArrayStoreException_NullPointerException : (Cond.not (Cond.castable "java/lang/ArrayStoreException" "java/lang/NullPointerException")) ∈ flatC (Jvm.Cond.and given_1 narrow_1) := List.mem_of_getElem? (i := 100) (by decide +kernel)
theorem nc_ArrayIndexOutOfBoundsException_NullPointerException : (Cond.not (Cond.castable "java/lang/ArrayIndexOutOfBoundsException" "java/lang/NullPointerException")) ∈ flatC (Jvm.Cond.and given_1 narrow_1) := List.mem_of_getElem? (i := 98) (by decide +kernel)
theorem nc_ArrayIndexOutOfBoundsException_ArrayStoreException : (Cond.not (Cond.castable "java/lang/ArrayIndexOutOfBoundsException" "java/lang/ArrayStoreException")) ∈ flatC (Jvm.Cond.and given_1 narrow_1) := List.mem_of_getElem? (i := 118) (by decide +kernel)
abbrev rm_X0_copy (Lc Ls : Nat) : Room := { frames := 9, cells := Lc, slots := Ls, locals := 10256 }
def F_X0_copy_b59 (Q : Int32 → gM → Prop)  (Lc Ls : Nat)  (a0 : Nat)  (u v : Nat) (M : gM) : Prop :=
  rc M 0 a0 ∧ F_X0_no M a0 (-3 : Int32) fun x_2 M_1 =>
  Q x_2 M_1
theorem w_X0_copy_b59 {G : gG} {Q : Int32 → gM → Prop} {Lc Ls : Nat} (hC : gCx G cX0_copy 9 RX0 (some .int) (gQi Q) (rm_X0_copy Lc Ls)) (hT : gTx G (fun _ _ _ => False) (rm_X0_copy Lc Ls) (tableOf [(66, 80, 81, 121), (66, 80, 90, 123), (66, 80, 99, 125)]))  (a0 : Nat)   (u v : Nat) (hu : u ≤ Lc ∧ v ≤ Ls) (M : gM) (hF : F_X0_copy_b59 Q Lc Ls a0 u v M) : gAt G u v M [(0, .ref a0)] 59 [] := by
  unfold F_X0_copy_b59 at hF
  refine g_aload_n 60 hC dX0_copy_59 rfl 0 rfl rfl ?_
  refine g_bipush 62 hC (-3 : Int32) dX0_copy_60 (by decide) rfl ?_
  refine g_cV (rest := []) wl_X0_81 hd_X0_no (ci := 0) rfl 65 hC hF.1 (met_X0_no hF.2) rfl ⟨Nat.le_of_ble_eq_true rfl, Nat.le_of_ble_eq_true rfl⟩ hu rfl (Nat.le_of_ble_eq_true rfl) dX0_copy_62 rfl (g_ty_i u v (Nat.le_refl _) (Nat.le_refl _) (fun x_2 M_1 hF => ?_))
  exact g_ireturn hC ⟨_, rfl, hF⟩ dX0_copy_65 hu.1 hu.2
def F_X0_copy_b14 (Q : Int32 → gM → Prop)  (Lc Ls : Nat)  (a0 : Nat)  (u v : Nat) (M : gM) : Prop :=
  rc M 0 a0 ∧ F_X0_no M a0 (-2 : Int32) fun x_2 M_1 =>
  Q x_2 M_1
theorem w_X0_copy_b14 {G : gG} {Q : Int32 → gM → Prop} {Lc Ls : Nat} (hC : gCx G cX0_copy 9 RX0 (some .int) (gQi Q) (rm_X0_copy Lc Ls)) (hT : gTx G (fun _ _ _ => False) (rm_X0_copy Lc Ls) (tableOf [(66, 80, 81, 121), (66, 80, 90, 123), (66, 80, 99, 125)]))  (a0 : Nat)   (u v : Nat) (hu : u ≤ Lc ∧ v ≤ Ls) (M : gM) (hF : F_X0_copy_b14 Q Lc Ls a0 u v M) : gAt G u v M [(0, .ref a0)] 14 [] := by
  unfold F_X0_copy_b14 at hF
  refine g_aload_n 15 hC dX0_copy_14 rfl 0 rfl rfl ?_
  refine g_bipush 17 hC (-2 : Int32) dX0_copy_15 (by decide) rfl ?_
  refine g_cV (rest := []) wl_X0_81 hd_X0_no (ci := 0) rfl 20 hC hF.1 (met_X0_no hF.2) rfl ⟨Nat.le_of_ble_eq_true rfl, Nat.le_of_ble_eq_true rfl⟩ hu rfl (Nat.le_of_ble_eq_true rfl) dX0_copy_17 rfl (g_ty_i u v (Nat.le_refl _) (Nat.le_refl _) (fun x_2 M_1 hF => ?_))
  exact g_ireturn hC ⟨_, rfl, hF⟩ dX0_copy_20 hu.1 hu.2
def F_X0_copy (Lc Ls : Nat) (M : gM) (a0 : Nat) (x1 : Int32) (x2 : Int32) (x3 : Int32) (x4 : Int32) (x5 : Int32) (Q : Int32 → gM → Prop)  : Prop :=
  F_X0_isShelf M x1 fun x_2 M_1 =>
  ((x_2 = 0 →
    F_X0_copy_b14 Q Lc Ls a0 0 0 M_1) ∧
    (¬ x_2 = 0 →
    F_X0_isShelf M_1 x2 fun x_4 M_3 =>
    ((¬ x_4 = 0 →
      gN M_3 0 a0 2 fun a_5 =>
      aN M_3 (.object "SendTheBox$Sheet") a_5 x1 fun a_6 =>
      gR M_3 2 a_6 0 fun r_7 =>
      gN M_3 0 a0 2 fun a_8 =>
      aN M_3 (.object "SendTheBox$Sheet") a_8 x2 fun a_9 =>
      gR M_3 2 a_9 0 fun r_10 =>
      iOq M_3 r_7 "SendTheBox$Rule" fun x_11 =>
      ((¬ x_11 = 0 →
        F_X0_copy_b59 Q Lc Ls a0 0 0 M_3) ∧
        (x_11 = 0 →
        iOq M_3 r_10 "SendTheBox$Rule" fun x_12 =>
        ((x_12 = 0 →
          aCx M_3 0 0 Lc Ls r_7 x3 r_10 x4 x5 (fun M_13 =>
            Q x5 M_13) (fun q_14 =>
            rc M_3 0 a0 ∧ F_X0_no M_3 a0 (-4 : Int32) fun x_16 M_15 =>
            Q x_16 M_15) (fun q_17 =>
            rc M_3 0 a0 ∧ F_X0_no M_3 a0 (-3 : Int32) fun x_19 M_18 =>
            Q x_19 M_18) (fun q_20 =>
            rc M_3 0 a0 ∧ F_X0_no M_3 a0 (-2 : Int32) fun x_22 M_21 =>
            Q x_22 M_21)) ∧
          (¬ x_12 = 0 →
          F_X0_copy_b59 Q Lc Ls a0 0 0 M_3))))) ∧
      (x_4 = 0 →
      F_X0_copy_b14 Q Lc Ls a0 0 0 M_3))))
theorem met_X0_copy {M : gM} {a0 : Nat} {x1 : Int32} {x2 : Int32} {x3 : Int32} {x4 : Int32} {x5 : Int32} {Q : Int32 → gM → Prop} {Lc Ls : Nat} (hF : F_X0_copy Lc Ls M a0 x1 x2 x3 x4 x5 Q) : gMx yX0_copy (wsW_ yX0_copy cX0_copy 9 (some .int) [(66, 80, 81, 121), (66, 80, 90, 123), (66, 80, 99, 125)]) (rm_X0_copy Lc Ls) M [.ref a0, .int x1, .int x2, .int x3, .int x4, .int x5] (gQi Q) (fun _ _ _ => False) := by
  refine gMetH (bytes := cX0_copy) (maxL := 9) (ret := (some .int)) (hh := [(66, 80, 81, 121), (66, 80, 90, 123), (66, 80, 99, 125)]) rfl rfl (by decide) (Nat.le_of_ble_eq_true rfl) (lv := [(0, .ref a0), (1, .int x1), (2, .int x2), (3, .int x3), (4, .int x4), (5, .int x5)]) rfl (fun G hC hT hin => ?_)
  have hu : 0 ≤ Lc ∧ 0 ≤ Ls := ⟨Nat.zero_le _, Nat.zero_le _⟩
  unfold F_X0_copy at hF
  refine g_iload_n 1 hC dX0_copy_0 rfl 1 rfl rfl ?_
  refine g_cS (rest := []) wl_X0_78 hd_X0_isShelf 4 hC (met_X0_isShelf hF) rfl ⟨Nat.le_of_ble_eq_true rfl, Nat.le_of_ble_eq_true rfl⟩ hu rfl (Nat.le_of_ble_eq_true rfl) dX0_copy_1 rfl (g_ty_i 0 0 (Nat.le_refl _) (Nat.le_refl _) (fun x_2 M_1 hF => ?_))
  refine g_if_eq 7 14 hC dX0_copy_4 (by decide) rfl (fun c => ?_) (fun c => ?_)
  · have hF := hF.1 c
    refine g_sub [0] rfl ?_
    exact w_X0_copy_b14 hC hT _ _ _ hu _ hF
  · have hF := hF.2 c
    refine g_iload_n 8 hC dX0_copy_7 rfl 2 rfl rfl ?_
    refine g_cS (rest := []) wl_X0_78 hd_X0_isShelf 11 hC (met_X0_isShelf hF) rfl ⟨Nat.le_of_ble_eq_true rfl, Nat.le_of_ble_eq_true rfl⟩ hu rfl (Nat.le_of_ble_eq_true rfl) dX0_copy_8 rfl (g_ty_i 0 0 (Nat.le_refl _) (Nat.le_refl _) (fun x_4 M_3 hF => ?_))
    refine g_if_ne 14 21 hC dX0_copy_11 (by decide) rfl (fun c => ?_) (fun c => ?_)
    · have hF := hF.1 c
      refine g_aload_n 22 hC dX0_copy_21 rfl 0 rfl rfl ?_
      refine gf_X0_26_0N 25 hC hF dX0_copy_22 rfl (fun a_5 hF => ?_)
      refine g_iload_n 26 hC dX0_copy_25 rfl 1 rfl rfl ?_
      refine g_aaldN 27 hC hF (by decide) rfl (fun _ _ _ => rfl) dX0_copy_26 rfl (fun a_6 hF => ?_)
      refine gf_X0_89_2R 30 hC hF dX0_copy_27 rfl (fun r_7 hF => ?_)
      refine g_qstore 32 hC (lv' := [(6, va_rf _), (0, .ref _), (1, .int _), (2, .int _), (3, .int _), (4, .int _), (5, .int _)]) dX0_copy_30 rfl (by decide) rfl ?_
      refine g_aload_n 33 hC dX0_copy_32 rfl 1 rfl rfl ?_
      refine gf_X0_26_0N 36 hC hF dX0_copy_33 rfl (fun a_8 hF => ?_)
      refine g_iload_n 37 hC dX0_copy_36 rfl 3 rfl rfl ?_
      refine g_aaldN 38 hC hF (by decide) rfl (fun _ _ _ => rfl) dX0_copy_37 rfl (fun a_9 hF => ?_)
      refine gf_X0_89_2R 41 hC hF dX0_copy_38 rfl (fun r_10 hF => ?_)
      refine g_qstore 43 hC (lv' := [(7, va_rf r_10), (6, va_rf r_7), (0, .ref a0), (1, .int x1), (2, .int x2), (3, .int x3), (4, .int x4), (5, .int x5)]) dX0_copy_41 rfl (by decide) (by cases r_7 <;> rfl) ?_
      refine g_qload 45 hC dX0_copy_43 rfl 1 rfl ?_
      refine g_instq 48 hC q303 hF dX0_copy_45 rfl (fun x_11 hF => ?_)
      refine g_if_ne 51 59 hC dX0_copy_48 (by decide) rfl (fun c => ?_) (fun c => ?_)
      · have hF := hF.1 c
        refine g_sub [2] rfl ?_
        exact w_X0_copy_b59 hC hT _ _ _ hu _ hF
      · have hF := hF.2 c
        refine g_qload 53 hC dX0_copy_51 rfl 0 rfl ?_
        refine g_instq 56 hC q303 hF dX0_copy_53 rfl (fun x_12 hF => ?_)
        refine g_if_eq 59 66 hC dX0_copy_56 (by decide) rfl (fun c => ?_) (fun c => ?_)
        · have hF := hF.1 c
          refine g_qload 68 hC dX0_copy_66 rfl 1 rfl ?_
          refine g_iload_n 69 hC dX0_copy_68 rfl 5 rfl rfl ?_
          refine g_qload 71 hC dX0_copy_69 rfl 0 rfl ?_
          refine g_iload 73 hC dX0_copy_71 rfl 6 rfl ?_
          refine g_iload 75 hC dX0_copy_73 rfl 7 rfl ?_
          refine g_copyX 78 hC q385 hF (Nat.le_of_ble_eq_true rfl) (Nat.le_of_ble_eq_true rfl) dX0_copy_75 rfl (fun M_13 hF => ?_) (fun q_14 hu hF => ?_) (fun q_17 hu hF => ?_) (fun q_20 hu hF => ?_)
          · have hF := hF
            refine g_iload 80 hC dX0_copy_78 rfl 7 rfl ?_
            exact g_ireturn hC ⟨_, rfl, hF⟩ dX0_copy_80 hu.1 hu.2
          · have hF := hF
            refine g_catch hC hT [] ⟨66, 80, 81, 121⟩ [⟨66, 80, 90, 123⟩, ⟨66, 80, 99, 125⟩] rfl (fun _ h => absurd h List.not_mem_nil) rfl (by decide) q345 q367 81 rfl ?_
            refine g_astore 83 hC (lv' := [(8, .ref q_14), (7, va_rf r_10), (6, va_rf r_7), (0, .ref a0), (1, .int x1), (2, .int x2), (3, .int x3), (4, .int x4), (5, .int x5)]) dX0_copy_81 rfl (by decide) (by cases r_10 <;> rfl) ?_
            refine g_aload_n 84 hC dX0_copy_83 rfl 3 rfl rfl ?_
            refine g_bipush 86 hC (-4 : Int32) dX0_copy_84 (by decide) rfl ?_
            refine g_cV (rest := []) wl_X0_81 hd_X0_no (ci := 0) rfl 89 hC hF.1 (met_X0_no hF.2) rfl ⟨Nat.le_of_ble_eq_true rfl, Nat.le_of_ble_eq_true rfl⟩ hu rfl (Nat.le_of_ble_eq_true rfl) dX0_copy_86 rfl (g_ty_i (0 + 1) (0 + 8) (Nat.le_refl _) (Nat.le_refl _) (fun x_16 M_15 hF => ?_))
            exact g_ireturn hC ⟨_, rfl, hF⟩ dX0_copy_89 hu.1 hu.2
          · have hF := hF
            refine g_catch hC hT [⟨66, 80, 81, 121⟩] ⟨66, 80, 90, 123⟩ [⟨66, 80, 99, 125⟩] rfl (List.forall_mem_cons.mpr ⟨Or.inr ⟨by decide, _, q345, nc_ArrayStoreException_NullPointerException⟩, (fun _ h => absurd h List.not_mem_nil)⟩) rfl (by decide) q370 q382 90 rfl ?_
            refine g_astore 92 hC (lv' := [(8, .ref q_17), (7, va_rf r_10), (6, va_rf r_7), (0, .ref a0), (1, .int x1), (2, .int x2), (3, .int x3), (4, .int x4), (5, .int x5)]) dX0_copy_90 rfl (by decide) (by cases r_10 <;> rfl) ?_
            refine g_aload_n 93 hC dX0_copy_92 rfl 3 rfl rfl ?_
            refine g_bipush 95 hC (-3 : Int32) dX0_copy_93 (by decide) rfl ?_
            refine g_cV (rest := []) wl_X0_81 hd_X0_no (ci := 0) rfl 98 hC hF.1 (met_X0_no hF.2) rfl ⟨Nat.le_of_ble_eq_true rfl, Nat.le_of_ble_eq_true rfl⟩ hu rfl (Nat.le_of_ble_eq_true rfl) dX0_copy_95 rfl (g_ty_i (0 + 3) (0 + 1010) (Nat.le_refl _) (Nat.le_refl _) (fun x_19 M_18 hF => ?_))
            exact g_ireturn hC ⟨_, rfl, hF⟩ dX0_copy_98 hu.1 hu.2
          · have hF := hF
            refine g_catch hC hT [⟨66, 80, 81, 121⟩, ⟨66, 80, 90, 123⟩] ⟨66, 80, 99, 125⟩ [] rfl (List.forall_mem_cons.mpr ⟨Or.inr ⟨by decide, _, q345, nc_ArrayIndexOutOfBoundsException_NullPointerException⟩, (List.forall_mem_cons.mpr ⟨Or.inr ⟨by decide, _, q370, nc_ArrayIndexOutOfBoundsException_ArrayStoreException⟩, (fun _ h => absurd h List.not_mem_nil)⟩)⟩) rfl (by decide) q384 q1954 99 rfl ?_
            refine g_astore 101 hC (lv' := [(8, .ref q_20), (7, va_rf r_10), (6, va_rf r_7), (0, .ref a0), (1, .int x1), (2, .int x2), (3, .int x3), (4, .int x4), (5, .int x5)]) dX0_copy_99 rfl (by decide) (by cases r_10 <;> rfl) ?_
            refine g_aload_n 102 hC dX0_copy_101 rfl 3 rfl rfl ?_
            refine g_bipush 104 hC (-2 : Int32) dX0_copy_102 (by decide) rfl ?_
            refine g_cV (rest := []) wl_X0_81 hd_X0_no (ci := 0) rfl 107 hC hF.1 (met_X0_no hF.2) rfl ⟨Nat.le_of_ble_eq_true rfl, Nat.le_of_ble_eq_true rfl⟩ hu rfl (Nat.le_of_ble_eq_true rfl) dX0_copy_104 rfl (g_ty_i (0 + 3) (0 + 1010) (Nat.le_refl _) (Nat.le_refl _) (fun x_22 M_21 hF => ?_))
            exact g_ireturn hC ⟨_, rfl, hF⟩ dX0_copy_107 hu.1 hu.2
        · have hF := hF.2 c
          refine g_sub [2] rfl ?_
          exact w_X0_copy_b59 hC hT _ _ _ hu _ hF
    · have hF := hF.2 c
      refine g_sub [0] rfl ?_
      exact w_X0_copy_b14 hC hT _ _ _ hu _ hF
theorem wl_X0_127 : GoodIn lw_all (va_wsS RX0 127 yX0_elementOf (ws_ yX0_elementOf cX0_elementOf 2 (some .long))) := lw_S q392 q393 q69 q394
abbrev rm_X0_element (Lc Ls : Nat) : Room := { frames := 9, cells := Lc, slots := Ls, locals := 10277 }
def F_X0_element (Lc Ls : Nat) (M : gM) (a0 : Nat) (x1 : Int32) (x2 : Int32) (Q : Int64 → gM → Prop)  : Prop :=
  F_X0_isShelf M x1 fun x_2 M_1 =>
  ((¬ x_2 = 0 →
    ∃ c_5 s_6, (0 + c_5 ≤ Lc ∧ 0 + s_6 ≤ Ls) ∧
    rc M_1 0 a0 ∧ F_X0_rowIn c_5 s_6 M_1 a0 x1 (fun a_4 M_3 =>
    ∃ c_11 s_12, ((0 + c_5) + c_11 ≤ Lc ∧ (0 + s_6) + s_12 ≤ Ls) ∧
      F_X0_elementOf c_11 s_12 M_3 a_4 x2 (fun j_10 M_9 =>
      Q j_10 M_9) (fun E_ q_13 M_14 =>
        (E_ = "java/lang/ArrayIndexOutOfBoundsException" ∧
        Q (0 : Int64) M_14))) (fun E_ q_7 M_8 =>
      (E_ = "SendTheBox$Refused" ∧
      Q (0 : Int64) M_8))) ∧
    (x_2 = 0 →
    Q (0 : Int64) M_1))
theorem met_X0_element {M : gM} {a0 : Nat} {x1 : Int32} {x2 : Int32} {Q : Int64 → gM → Prop} {Lc Ls : Nat} (hF : F_X0_element Lc Ls M a0 x1 x2 Q) : gMx yX0_element (wsW_ yX0_element cX0_element 4 (some .long) [(9, 18, 19, 97), (9, 18, 22, 113)]) (rm_X0_element Lc Ls) M [.ref a0, .int x1, .int x2] (gQj Q) (fun _ _ _ => False) := by
  refine gMetH (bytes := cX0_element) (maxL := 4) (ret := (some .long)) (hh := [(9, 18, 19, 97), (9, 18, 22, 113)]) rfl rfl (by decide) (Nat.le_of_ble_eq_true rfl) (lv := [(0, .ref a0), (1, .int x1), (2, .int x2)]) rfl (fun G hC hT hin => ?_)
  have hu : 0 ≤ Lc ∧ 0 ≤ Ls := ⟨Nat.zero_le _, Nat.zero_le _⟩
  unfold F_X0_element at hF
  refine g_iload_n 1 hC dX0_element_0 rfl 1 rfl rfl ?_
  refine g_cS (rest := []) wl_X0_78 hd_X0_isShelf 4 hC (met_X0_isShelf hF) rfl ⟨Nat.le_of_ble_eq_true rfl, Nat.le_of_ble_eq_true rfl⟩ hu rfl (Nat.le_of_ble_eq_true rfl) dX0_element_1 rfl (g_ty_i 0 0 (Nat.le_refl _) (Nat.le_refl _) (fun x_2 M_1 hF => ?_))
  refine g_if_ne 7 9 hC dX0_element_4 (by decide) rfl (fun c => ?_) (fun c => ?_)
  · have hF := hF.1 c
    refine g_aload_n 10 hC dX0_element_9 rfl 0 rfl rfl ?_
    refine g_iload_n 11 hC dX0_element_10 rfl 1 rfl rfl ?_
    obtain ⟨c_5, s_6, hu, hF⟩ := hF
    refine g_xV (rest := []) wl_X0_102 hd_X0_rowIn (ci := 0) rfl 14 hC hF.1 (met_X0_rowIn hF.2) rfl ⟨Nat.le_of_ble_eq_true rfl, Nat.le_of_ble_eq_true rfl⟩ hu rfl (Nat.le_of_ble_eq_true rfl) dX0_element_11 rfl (g_ty_a (0 + c_5) (0 + s_6) (Nat.le_refl _) (Nat.le_refl _) (fun a_4 M_3 hF => ?_)) (g_tx (0 + c_5) (0 + s_6) (Nat.le_refl _) (Nat.le_refl _) (fun E_ q_7 M_8 hF => ?_))
    · have hF := hF
      refine g_iload_n 15 hC dX0_element_14 rfl 2 rfl rfl ?_
      obtain ⟨c_11, s_12, hu, hF⟩ := hF
      refine g_xS (rest := []) wl_X0_127 hd_X0_elementOf 18 hC (met_X0_elementOf hF) rfl ⟨Nat.le_of_ble_eq_true rfl, Nat.le_of_ble_eq_true rfl⟩ hu rfl (Nat.le_of_ble_eq_true rfl) dX0_element_15 rfl (g_ty_j ((0 + c_5) + c_11) ((0 + s_6) + s_12) (Nat.le_refl _) (Nat.le_refl _) (fun j_10 M_9 hF => ?_)) (g_tx ((0 + c_5) + c_11) ((0 + s_6) + s_12) (Nat.le_refl _) (Nat.le_refl _) (fun E_ q_13 M_14 hF => ?_))
      · have hF := hF
        exact g_lreturn hC ⟨_, rfl, hF⟩ dX0_element_18 hu.1 hu.2
      · have hF := hF
        obtain ⟨hE_, hF⟩ := hF
        rw [hE_]
        refine g_catch hC hT [⟨9, 18, 19, 97⟩] ⟨9, 18, 22, 113⟩ [] rfl (List.forall_mem_cons.mpr ⟨Or.inr ⟨by decide, _, q279, nc_ArrayIndexOutOfBoundsException_Refused⟩, (fun _ h => absurd h List.not_mem_nil)⟩) rfl (by decide) q280 q295 22 rfl ?_
        refine g_astore_n 23 hC (lv' := [(3, .ref _), (0, .ref _), (1, .int _), (2, .int _)]) dX0_element_22 rfl rfl (by decide) rfl ?_
        refine g_lconst 24 hC (0 : Int64) dX0_element_23 (by decide) rfl ?_
        exact g_lreturn hC ⟨_, rfl, hF⟩ dX0_element_24 hu.1 hu.2
    · have hF := hF
      obtain ⟨hE_, hF⟩ := hF
      rw [hE_]
      refine g_catch hC hT [] ⟨9, 18, 19, 97⟩ [⟨9, 18, 22, 113⟩] rfl (fun _ h => absurd h List.not_mem_nil) rfl (by decide) q279 q305 19 rfl ?_
      refine g_astore_n 20 hC (lv' := [(3, .ref _), (0, .ref _), (1, .int _), (2, .int _)]) dX0_element_19 rfl rfl (by decide) rfl ?_
      refine g_lconst 21 hC (0 : Int64) dX0_element_20 (by decide) rfl ?_
      exact g_lreturn hC ⟨_, rfl, hF⟩ dX0_element_21 hu.1 hu.2
  · have hF := hF.2 c
    refine g_lconst 8 hC (0 : Int64) dX0_element_7 (by decide) rfl ?_
    exact g_lreturn hC ⟨_, rfl, hF⟩ dX0_element_8 hu.1 hu.2
def FD_Rule_kind (M : gM) (a : Nat)  (κ : Int32 → gM → Prop) : Prop :=
  (rc M 6 a ∧ F_X6_kind M a  κ) ∨
  (rc M 7 a ∧ F_X7_kind M a  κ) ∨
  (rc M 8 a ∧ F_X8_kind M a  κ) ∨
  (rc M 9 a ∧ F_X9_kind M a  κ) ∨
  (rc M 10 a ∧ F_X10_kind M a  κ)
theorem wd_X0_131_X6 : GoodIn lw_all (va_wsU RX0 131 RX6 "SendTheBox$Rule" ⟨"SendTheBox$Rule", "kind", "()I"⟩ yX6_kind (ws_ yX6_kind cX6_kind 1 (some .int))) := lw_app (fun w hw => by
  simp only [List.mem_cons, List.not_mem_nil, or_false] at hw
  rcases hw with e | e | e | e | e
  · rw [e]; exact q399
  · rw [e]; exact q401
  · rw [e]; exact q411
  · rw [e]; exact q412
  · rw [e]; exact q85) (lw_meth q413)
theorem wd_X0_131_X7 : GoodIn lw_all (va_wsU RX0 131 RX7 "SendTheBox$Rule" ⟨"SendTheBox$Rule", "kind", "()I"⟩ yX7_kind (ws_ yX7_kind cX7_kind 1 (some .int))) := lw_app (fun w hw => by
  simp only [List.mem_cons, List.not_mem_nil, or_false] at hw
  rcases hw with e | e | e | e | e
  · rw [e]; exact q399
  · rw [e]; exact q401
  · rw [e]; exact q408
  · rw [e]; exact q409
  · rw [e]; exact q86) (lw_meth q410)
theorem wd_X0_131_X8 : GoodIn lw_all (va_wsU RX0 131 RX8 "SendTheBox$Rule" ⟨"SendTheBox$Rule", "kind", "()I"⟩ yX8_kind (ws_ yX8_kind cX8_kind 1 (some .int))) := lw_app (fun w hw => by
  simp only [List.mem_cons, List.not_mem_nil, or_false] at hw
  rcases hw with e | e | e | e | e
  · rw [e]; exact q399
  · rw [e]; exact q401
  · rw [e]; exact q405
  · rw [e]; exact q406
  · rw [e]; exact q87) (lw_meth q407)
theorem wd_X0_131_X9 : GoodIn lw_all (va_wsU RX0 131 RX9 "SendTheBox$Rule" ⟨"SendTheBox$Rule", "kind", "()I"⟩ yX9_kind (ws_ yX9_kind cX9_kind 1 (some .int))) := lw_app (fun w hw => by
  simp only [List.mem_cons, List.not_mem_nil, or_false] at hw
  rcases hw with e | e | e | e | e
  · rw [e]; exact q399
  · rw [e]; exact q401
  · rw [e]; exact q402
  · rw [e]; exact q403
  · rw [e]; exact q88) (lw_meth q404)
theorem wd_X0_131_X10 : GoodIn lw_all (va_wsU RX0 131 RX10 "SendTheBox$Rule" ⟨"SendTheBox$Rule", "kind", "()I"⟩ yX10_kind (ws_ yX10_kind cX10_kind 1 (some .int))) := lw_app (fun w hw => by
  simp only [List.mem_cons, List.not_mem_nil, or_false] at hw
  rcases hw with e | e | e | e | e
  · rw [e]; exact q399
  · rw [e]; exact q401
  · rw [e]; exact q414
  · rw [e]; exact q415
  · rw [e]; exact q89) (lw_meth q416)
theorem hx_X0_131 : "SendTheBox$Rule" ≠ "java/lang/invoke/MethodHandle" ∧ "SendTheBox$Rule" ≠ "java/lang/invoke/VarHandle" ∧ (parseMethodDescriptor "()I").map (fun d => d.parameters.length) = some 0 := by decide +kernel
theorem gd_X0_131 {G : gG} {cc : ByteArray} {nL : Nat} {ret : Option FieldType} {Qf : Option Value → gM → Prop} {rm : Room} {cells slots : Nat} {M : gM} {lv : List (Nat × Value)} {pc : Nat} {a : Nat}  {st0 : List Value} {κ : Int32 → gM → Prop} (rest : List Value) (n : Nat) (hC : gCx G cc nL RX0 ret Qf rm) (hF : FD_Rule_kind M a  κ) (hR : 1 ≤ rm.frames ∧ 20 ≤ rm.locals) (hf : cells ≤ rm.cells ∧ slots ≤ rm.slots) (hst : st0 = ([] : List Value).reverse ++ .ref a :: rest) (hroom : (rest.map fun v => v.category).sum ≤ 8) (hdg : decode cc pc = .ok (.invokevirtual 131, 3)) (hn : pc + 3 = n) (kk : ∀ r M1, κ r M1 → gAt G cells slots M1 lv n (.int r :: rest)) : gAt G cells slots M lv pc st0 := by
  rcases hF with hF | hF | hF | hF | hF
  · exact g_cA (x := ⟨"SendTheBox$Rule", "kind", "()I"⟩) wd_X0_131_X6 q400 hx_X0_131 (ci := 6) rfl n hC hF.1 (met_X6_kind hF.2) rfl ⟨Nat.le_trans (Nat.le_of_ble_eq_true rfl) hR.1, Nat.le_trans (Nat.le_of_ble_eq_true rfl) hR.2⟩ hf hst hroom hdg hn (g_ty_i cells slots (Nat.le_refl _) (Nat.le_refl _) kk)
  · exact g_cA (x := ⟨"SendTheBox$Rule", "kind", "()I"⟩) wd_X0_131_X7 q400 hx_X0_131 (ci := 7) rfl n hC hF.1 (met_X7_kind hF.2) rfl ⟨Nat.le_trans (Nat.le_of_ble_eq_true rfl) hR.1, Nat.le_trans (Nat.le_of_ble_eq_true rfl) hR.2⟩ hf hst hroom hdg hn (g_ty_i cells slots (Nat.le_refl _) (Nat.le_refl _) kk)
  · exact g_cA (x := ⟨"SendTheBox$Rule", "kind", "()I"⟩) wd_X0_131_X8 q400 hx_X0_131 (ci := 8) rfl n hC hF.1 (met_X8_kind hF.2) rfl ⟨Nat.le_trans (Nat.le_of_ble_eq_true rfl) hR.1, Nat.le_trans (Nat.le_of_ble_eq_true rfl) hR.2⟩ hf hst hroom hdg hn (g_ty_i cells slots (Nat.le_refl _) (Nat.le_refl _) kk)
  · exact g_cA (x := ⟨"SendTheBox$Rule", "kind", "()I"⟩) wd_X0_131_X9 q400 hx_X0_131 (ci := 9) rfl n hC hF.1 (met_X9_kind hF.2) rfl ⟨Nat.le_trans (Nat.le_of_ble_eq_true rfl) hR.1, Nat.le_trans (Nat.le_of_ble_eq_true rfl) hR.2⟩ hf hst hroom hdg hn (g_ty_i cells slots (Nat.le_refl _) (Nat.le_refl _) kk)
  · exact g_cA (x := ⟨"SendTheBox$Rule", "kind", "()I"⟩) wd_X0_131_X10 q400 hx_X0_131 (ci := 10) rfl n hC hF.1 (met_X10_kind hF.2) rfl ⟨Nat.le_trans (Nat.le_of_ble_eq_true rfl) hR.1, Nat.le_trans (Nat.le_of_ble_eq_true rfl) hR.2⟩ hf hst hroom hdg hn (g_ty_i cells slots (Nat.le_refl _) (Nat.le_refl _) kk)
abbrev rm_X0_holds : Room := { frames := 2, cells := 0, slots := 0, locals := 42 }
def F_X0_holds  (M : gM) (a0 : Nat) (x1 : Int32) (Q : Int32 → gM → Prop)  : Prop :=
  F_X0_isShelf M x1 fun x_2 M_1 =>
  ((x_2 = 0 →
    Q (-1 : Int32) M_1) ∧
    (¬ x_2 = 0 →
    gN M_1 0 a0 2 fun a_3 =>
    aN M_1 (.object "SendTheBox$Sheet") a_3 x1 fun a_4 =>
    gR M_1 2 a_4 0 fun r_5 =>
    ((r_5 = none →
      Q (-1 : Int32) M_1) ∧
      (∀ b_6, r_5 = some b_6 →
      gN M_1 0 a0 2 fun a_7 =>
      aN M_1 (.object "SendTheBox$Sheet") a_7 x1 fun a_8 =>
      gR M_1 2 a_8 0 fun r_9 =>
      iOq M_1 r_9 "SendTheBox$Rule" fun x_10 =>
      ((x_10 = 0 →
        dN r_9 fun b_11 =>
        F_X0_sortOf M_1 b_11 fun x_13 M_12 =>
        Q x_13 M_12) ∧
        (¬ x_10 = 0 →
        cYq M_1 r_9 "SendTheBox$Rule" fun _ =>
        dN r_9 fun b_14 =>
        FD_Rule_kind M_1 b_14 fun x_16 M_15 =>
        Q ((10 : Int32) + x_16) M_15))))))
theorem met_X0_holds {M : gM} {a0 : Nat} {x1 : Int32} {Q : Int32 → gM → Prop} (hF : F_X0_holds M a0 x1 Q) : gMt yX0_holds (ws_ yX0_holds cX0_holds 3 (some .int)) rm_X0_holds M [.ref a0, .int x1] (gQi Q) := by
  refine gMet (bytes := cX0_holds) (maxL := 3) (ret := (some .int)) rfl rfl (by decide) (Nat.le_of_ble_eq_true rfl) (lv := [(0, .ref a0), (1, .int x1)]) rfl (fun G hC hin => ?_)
  unfold F_X0_holds at hF
  refine g_iload_n 1 hC dX0_holds_0 rfl 1 rfl rfl ?_
  refine g_cS (rest := []) wl_X0_78 hd_X0_isShelf 4 hC (met_X0_isShelf hF) rfl ⟨Nat.le_of_ble_eq_true rfl, Nat.le_of_ble_eq_true rfl⟩ ⟨Nat.zero_le _, Nat.zero_le _⟩ rfl (Nat.le_of_ble_eq_true rfl) dX0_holds_1 rfl (g_ty_i 0 0 (Nat.le_refl _) (Nat.le_refl _) (fun x_2 M_1 hF => ?_))
  refine g_if_eq 7 19 hC dX0_holds_4 (by decide) rfl (fun c => ?_) (fun c => ?_)
  · have hF := hF.1 c
    refine g_iconst 20 hC (-1 : Int32) dX0_holds_19 (by decide) rfl ?_
    exact g_ireturn hC ⟨_, rfl, hF⟩ dX0_holds_20 (Nat.zero_le _) (Nat.zero_le _)
  · have hF := hF.2 c
    refine g_aload_n 8 hC dX0_holds_7 rfl 0 rfl rfl ?_
    refine gf_X0_26_0N 11 hC hF dX0_holds_8 rfl (fun a_3 hF => ?_)
    refine g_iload_n 12 hC dX0_holds_11 rfl 1 rfl rfl ?_
    refine g_aaldN 13 hC hF (by decide) rfl (fun _ _ _ => rfl) dX0_holds_12 rfl (fun a_4 hF => ?_)
    refine gf_X0_89_2R 16 hC hF dX0_holds_13 rfl (fun r_5 hF => ?_)
    refine g_ifnonnull 19 21 hC dX0_holds_16 (by decide) rfl (fun b_6 c => ?_) (fun c => ?_)
    · have hF := hF.2 b_6 c
      try rw [c]
      refine g_aload_n 22 hC dX0_holds_21 rfl 0 rfl rfl ?_
      refine gf_X0_26_0N 25 hC hF dX0_holds_22 rfl (fun a_7 hF => ?_)
      refine g_iload_n 26 hC dX0_holds_25 rfl 1 rfl rfl ?_
      refine g_aaldN 27 hC hF (by decide) rfl (fun _ _ _ => rfl) dX0_holds_26 rfl (fun a_8 hF => ?_)
      refine gf_X0_89_2R 30 hC hF dX0_holds_27 rfl (fun r_9 hF => ?_)
      refine g_qstore_n 31 hC (lv' := [(2, va_rf _), (0, .ref _), (1, .int _)]) dX0_holds_30 rfl rfl (by decide) rfl ?_
      refine g_qload_n 32 hC dX0_holds_31 rfl 0 rfl rfl ?_
      refine g_instq 35 hC q303 hF dX0_holds_32 rfl (fun x_10 hF => ?_)
      refine g_if_eq 38 51 hC dX0_holds_35 (by decide) rfl (fun c => ?_) (fun c => ?_)
      · have hF := hF.1 c
        refine g_qload_n 52 hC dX0_holds_51 rfl 0 rfl rfl ?_
        obtain ⟨b_11, hr_, hF⟩ := hF
        try rw [hr_]
        refine g_cS (rest := []) wl_X0_72 hd_X0_sortOf 55 hC (met_X0_sortOf hF) rfl ⟨Nat.le_of_ble_eq_true rfl, Nat.le_of_ble_eq_true rfl⟩ ⟨Nat.zero_le _, Nat.zero_le _⟩ rfl (Nat.le_of_ble_eq_true rfl) dX0_holds_52 rfl (g_ty_i 0 0 (Nat.le_refl _) (Nat.le_refl _) (fun x_13 M_12 hF => ?_))
        exact g_ireturn hC ⟨_, rfl, hF⟩ dX0_holds_55 (Nat.zero_le _) (Nat.zero_le _)
      · have hF := hF.2 c
        refine g_bipush 40 hC (10 : Int32) dX0_holds_38 (by decide) rfl ?_
        refine g_qload_n 41 hC dX0_holds_40 rfl 0 rfl rfl ?_
        refine g_castq 44 hC q303 hF dX0_holds_41 rfl (fun hF => ?_)
        obtain ⟨b_14, hr_, hF⟩ := hF
        try rw [hr_]
        refine gd_X0_131 [_] 47 hC hF ⟨Nat.le_of_ble_eq_true rfl, Nat.le_of_ble_eq_true rfl⟩ ⟨Nat.zero_le _, Nat.zero_le _⟩ rfl (Nat.le_of_ble_eq_true rfl) dX0_holds_44 rfl (fun x_16 M_15 hF => ?_)
        refine g_iadd 48 hC dX0_holds_47 rfl ?_
        refine g_goto 55 hC dX0_holds_48 (by decide) ?_
        exact g_ireturn hC ⟨_, rfl, hF⟩ dX0_holds_55 (Nat.zero_le _) (Nat.zero_le _)
    · have hF := hF.1 c
      try rw [c]
      refine g_iconst 20 hC (-1 : Int32) dX0_holds_19 (by decide) rfl ?_
      exact g_ireturn hC ⟨_, rfl, hF⟩ dX0_holds_20 (Nat.zero_le _) (Nat.zero_le _)
abbrev rm_X0_may : Room := { frames := 2, cells := 0, slots := 0, locals := 42 }
def F_X0_may  (M : gM) (x0 : Int32) (x1 : Int32) (Q : Int32 → gM → Prop)  : Prop :=
  (((x0.toInt < 1 ∨ 4 < x0.toInt) →
    F_X0_isShelf M x1 fun x_2 M_1 =>
    zq x_2 (Q x_2 M_1)) ∧
    (x0 = (1 : Int32) →
    F_X0_isIn M x1 (0 : Int32) (99 : Int32) fun x_4 M_3 =>
    zq x_4 (Q x_4 M_3)) ∧
    (x0 = (2 : Int32) →
    F_X0_isIn M x1 (1 : Int32) (6 : Int32) fun x_6 M_5 =>
    zq x_6 (Q x_6 M_5)) ∧
    (x0 = (3 : Int32) →
    F_X0_isIn M x1 (0 : Int32) (999 : Int32) fun x_8 M_7 =>
    ((x_8 = 0 →
      Q (0 : Int32) M_7) ∧
      (¬ x_8 = 0 →
      F_X0_isIn M_7 (x1 - x1 / (10 : Int32) * (10 : Int32)) (1 : Int32) (6 : Int32) fun x_10 M_9 =>
      ((x_10 = 0 →
        Q (0 : Int32) M_9) ∧
        (¬ x_10 = 0 →
        Q (1 : Int32) M_9))))) ∧
    (x0 = (4 : Int32) →
    Q (1 : Int32) M))
theorem met_X0_may {M : gM} {x0 : Int32} {x1 : Int32} {Q : Int32 → gM → Prop} (hF : F_X0_may M x0 x1 Q) : gMt yX0_may (ws_ yX0_may cX0_may 2 (some .boolean)) rm_X0_may M [.int x0, .int x1] (gQi Q) := by
  refine gMet (bytes := cX0_may) (maxL := 2) (ret := (some .boolean)) rfl rfl (by decide) (Nat.le_of_ble_eq_true rfl) (lv := [(0, .int x0), (1, .int x1)]) rfl (fun G hC hin => ?_)
  unfold F_X0_may at hF
  refine g_iload_n 1 hC dX0_may_0 rfl 0 rfl rfl ?_
  rcases (by omega : ((x0.toInt < 1 ∨ 4 < x0.toInt) ∨ x0.toInt = 1 ∨ x0.toInt = 2 ∨ x0.toInt = 3 ∨ x0.toInt = 4)) with c | c | c | c | c
  · refine g_tsOut 80 hC dX0_may_1 c (by decide) ?_
    have hF := hF.1 c
    refine g_iload_n 81 hC dX0_may_80 rfl 1 rfl rfl ?_
    refine g_cS (rest := []) wl_X0_78 hd_X0_isShelf 84 hC (met_X0_isShelf hF) rfl ⟨Nat.le_of_ble_eq_true rfl, Nat.le_of_ble_eq_true rfl⟩ ⟨Nat.zero_le _, Nat.zero_le _⟩ rfl (Nat.le_of_ble_eq_true rfl) dX0_may_81 rfl (g_ty_i 0 0 (Nat.le_refl _) (Nat.le_refl _) (fun x_2 M_1 hF => ?_))
    exact g_zreturn hC ⟨_, rfl, hF.2⟩ hF.1 dX0_may_84 (Nat.zero_le _) (Nat.zero_le _)
  · have c : x0 = (1 : Int32) := Int32.toInt_inj.mp (c.trans (by decide))
    refine g_tsIn 32 hC (1 : Int32) c dX0_may_1 (by decide) (by decide) rfl (by decide) ?_
    have hF := hF.2.1 c
    refine g_iload_n 33 hC dX0_may_32 rfl 1 rfl rfl ?_
    refine g_iconst 34 hC (0 : Int32) dX0_may_33 (by decide) rfl ?_
    refine g_bipush 36 hC (99 : Int32) dX0_may_34 (by decide) rfl ?_
    refine g_cS (rest := []) wl_X0_37 hd_X0_isIn 39 hC (met_X0_isIn hF) rfl ⟨Nat.le_of_ble_eq_true rfl, Nat.le_of_ble_eq_true rfl⟩ ⟨Nat.zero_le _, Nat.zero_le _⟩ rfl (Nat.le_of_ble_eq_true rfl) dX0_may_36 rfl (g_ty_i 0 0 (Nat.le_refl _) (Nat.le_refl _) (fun x_4 M_3 hF => ?_))
    exact g_zreturn hC ⟨_, rfl, hF.2⟩ hF.1 dX0_may_39 (Nat.zero_le _) (Nat.zero_le _)
  · have c : x0 = (2 : Int32) := Int32.toInt_inj.mp (c.trans (by decide))
    refine g_tsIn 40 hC (2 : Int32) c dX0_may_1 (by decide) (by decide) rfl (by decide) ?_
    have hF := hF.2.2.1 c
    refine g_iload_n 41 hC dX0_may_40 rfl 1 rfl rfl ?_
    refine g_iconst 42 hC (1 : Int32) dX0_may_41 (by decide) rfl ?_
    refine g_bipush 44 hC (6 : Int32) dX0_may_42 (by decide) rfl ?_
    refine g_cS (rest := []) wl_X0_37 hd_X0_isIn 47 hC (met_X0_isIn hF) rfl ⟨Nat.le_of_ble_eq_true rfl, Nat.le_of_ble_eq_true rfl⟩ ⟨Nat.zero_le _, Nat.zero_le _⟩ rfl (Nat.le_of_ble_eq_true rfl) dX0_may_44 rfl (g_ty_i 0 0 (Nat.le_refl _) (Nat.le_refl _) (fun x_6 M_5 hF => ?_))
    exact g_zreturn hC ⟨_, rfl, hF.2⟩ hF.1 dX0_may_47 (Nat.zero_le _) (Nat.zero_le _)
  · have c : x0 = (3 : Int32) := Int32.toInt_inj.mp (c.trans (by decide))
    refine g_tsIn 48 hC (3 : Int32) c dX0_may_1 (by decide) (by decide) rfl (by decide) ?_
    have hF := hF.2.2.2.1 c
    refine g_iload_n 49 hC dX0_may_48 rfl 1 rfl rfl ?_
    refine g_iconst 50 hC (0 : Int32) dX0_may_49 (by decide) rfl ?_
    refine g_sipush 53 hC (999 : Int32) dX0_may_50 (by decide) rfl ?_
    refine g_cS (rest := []) wl_X0_37 hd_X0_isIn 56 hC (met_X0_isIn hF) rfl ⟨Nat.le_of_ble_eq_true rfl, Nat.le_of_ble_eq_true rfl⟩ ⟨Nat.zero_le _, Nat.zero_le _⟩ rfl (Nat.le_of_ble_eq_true rfl) dX0_may_53 rfl (g_ty_i 0 0 (Nat.le_refl _) (Nat.le_refl _) (fun x_8 M_7 hF => ?_))
    refine g_if_eq 59 76 hC dX0_may_56 (by decide) rfl (fun c => ?_) (fun c => ?_)
    · have hF := hF.1 c
      refine g_iconst 77 hC (0 : Int32) dX0_may_76 (by decide) rfl ?_
      exact g_zreturn hC ⟨_, rfl, hF⟩ (Or.inl rfl) dX0_may_77 (Nat.zero_le _) (Nat.zero_le _)
    · have hF := hF.2 c
      refine g_iload_n 60 hC dX0_may_59 rfl 1 rfl rfl ?_
      refine g_bipush 62 hC (10 : Int32) dX0_may_60 (by decide) rfl ?_
      refine g_irem 63 hC (by decide) dX0_may_62 rfl ?_
      refine g_iconst 64 hC (1 : Int32) dX0_may_63 (by decide) rfl ?_
      refine g_bipush 66 hC (6 : Int32) dX0_may_64 (by decide) rfl ?_
      refine g_cS (rest := []) wl_X0_37 hd_X0_isIn 69 hC (met_X0_isIn hF) rfl ⟨Nat.le_of_ble_eq_true rfl, Nat.le_of_ble_eq_true rfl⟩ ⟨Nat.zero_le _, Nat.zero_le _⟩ rfl (Nat.le_of_ble_eq_true rfl) dX0_may_66 rfl (g_ty_i 0 0 (Nat.le_refl _) (Nat.le_refl _) (fun x_10 M_9 hF => ?_))
      refine g_if_eq 72 76 hC dX0_may_69 (by decide) rfl (fun c => ?_) (fun c => ?_)
      · have hF := hF.1 c
        refine g_iconst 77 hC (0 : Int32) dX0_may_76 (by decide) rfl ?_
        exact g_zreturn hC ⟨_, rfl, hF⟩ (Or.inl rfl) dX0_may_77 (Nat.zero_le _) (Nat.zero_le _)
      · have hF := hF.2 c
        refine g_iconst 73 hC (1 : Int32) dX0_may_72 (by decide) rfl ?_
        refine g_goto 77 hC dX0_may_73 (by decide) ?_
        exact g_zreturn hC ⟨_, rfl, hF⟩ (Or.inr rfl) dX0_may_77 (Nat.zero_le _) (Nat.zero_le _)
  · have c : x0 = (4 : Int32) := Int32.toInt_inj.mp (c.trans (by decide))
    refine g_tsIn 78 hC (4 : Int32) c dX0_may_1 (by decide) (by decide) rfl (by decide) ?_
    have hF := hF.2.2.2.2 c
    refine g_iconst 79 hC (1 : Int32) dX0_may_78 (by decide) rfl ?_
    exact g_zreturn hC ⟨_, rfl, hF⟩ (Or.inr rfl) dX0_may_79 (Nat.zero_le _) (Nat.zero_le _)
abbrev rm_X0_cloned (Lc Ls : Nat) : Room := { frames := 1, cells := Lc, slots := Ls, locals := 72 }
def F_X0_cloned (Lc Ls : Nat) (M : gM) (a0 : Nat) (Q : Nat → gM → Prop)  : Prop :=
  F_X0_sortOf M a0 fun x_2 M_1 =>
  (((x_2.toInt < 0 ∨ 3 < x_2.toInt) →
    cY M_1 a0 "[Z" ∧
    nC M_1 0 0 Lc Ls .boolean a0 fun n_5 a_4 M_3 =>
    Q a_4 M_3) ∧
    (x_2 = (0 : Int32) →
    cY M_1 a0 "[B" ∧
    nC M_1 0 0 Lc Ls .byte a0 fun n_8 a_7 M_6 =>
    Q a_7 M_6) ∧
    (x_2 = (1 : Int32) →
    cY M_1 a0 "[S" ∧
    nC M_1 0 0 Lc Ls .short a0 fun n_11 a_10 M_9 =>
    Q a_10 M_9) ∧
    (x_2 = (2 : Int32) →
    cY M_1 a0 "[I" ∧
    nC M_1 0 0 Lc Ls .int a0 fun n_14 a_13 M_12 =>
    Q a_13 M_12) ∧
    (x_2 = (3 : Int32) →
    cY M_1 a0 "[J" ∧
    nC M_1 0 0 Lc Ls .long a0 fun n_17 a_16 M_15 =>
    Q a_16 M_15))
theorem met_X0_cloned {M : gM} {a0 : Nat} {Q : Nat → gM → Prop} {Lc Ls : Nat} (hF : F_X0_cloned Lc Ls M a0 Q) : gMt yX0_cloned (ws_ yX0_cloned cX0_cloned 1 (some (.object "java/lang/Object"))) (rm_X0_cloned Lc Ls) M [.ref a0] (gQa Q) := by
  refine gMet (bytes := cX0_cloned) (maxL := 1) (ret := (some (.object "java/lang/Object"))) rfl rfl (by decide) (Nat.le_of_ble_eq_true rfl) (lv := [(0, .ref a0)]) rfl (fun G hC hin => ?_)
  have hu : 0 ≤ Lc ∧ 0 ≤ Ls := ⟨Nat.zero_le _, Nat.zero_le _⟩
  unfold F_X0_cloned at hF
  refine g_aload_n 1 hC dX0_cloned_0 rfl 0 rfl rfl ?_
  refine g_cS (rest := []) wl_X0_72 hd_X0_sortOf 4 hC (met_X0_sortOf hF) rfl ⟨Nat.le_of_ble_eq_true rfl, Nat.le_of_ble_eq_true rfl⟩ hu rfl (Nat.le_of_ble_eq_true rfl) dX0_cloned_1 rfl (g_ty_i 0 0 (Nat.le_refl _) (Nat.le_refl _) (fun x_2 M_1 hF => ?_))
  rcases (by omega : ((x_2.toInt < 0 ∨ 3 < x_2.toInt) ∨ x_2.toInt = 0 ∨ x_2.toInt = 1 ∨ x_2.toInt = 2 ∨ x_2.toInt = 3)) with c | c | c | c | c
  · refine g_tsOut 68 hC dX0_cloned_4 c (by decide) ?_
    have hF := hF.1 c
    refine g_aload_n 69 hC dX0_cloned_68 rfl 0 rfl rfl ?_
    refine g_cast 72 hC q340 hF.1 dX0_cloned_69 rfl ?_
    have hF := hF.2
    refine g_clone (ty := .boolean) (ad := "[Z") 75 hC (by decide +kernel) q495 q496 q497 q498 hF (Nat.le_of_ble_eq_true rfl) (Nat.le_of_ble_eq_true rfl) dX0_cloned_72 rfl (fun n_5 a_4 M_3 hu hF => ?_)
    exact g_areturn (v := some a_4) hC (Or.inl ⟨_, rfl⟩) ⟨_, rfl, hF⟩ dX0_cloned_75 hu.1 hu.2
  · have c : x_2 = (0 : Int32) := Int32.toInt_inj.mp (c.trans (by decide))
    refine g_tsIn 36 hC (0 : Int32) c dX0_cloned_4 (by decide) (by decide) rfl (by decide) ?_
    have hF := hF.2.1 c
    refine g_aload_n 37 hC dX0_cloned_36 rfl 0 rfl rfl ?_
    refine g_cast 40 hC q336 hF.1 dX0_cloned_37 rfl ?_
    have hF := hF.2
    refine g_clone (ty := .byte) (ad := "[B") 43 hC (by decide +kernel) q477 q478 q481 q482 hF (Nat.le_of_ble_eq_true rfl) (Nat.le_of_ble_eq_true rfl) dX0_cloned_40 rfl (fun n_8 a_7 M_6 hu hF => ?_)
    exact g_areturn (v := some a_7) hC (Or.inl ⟨_, rfl⟩) ⟨_, rfl, hF⟩ dX0_cloned_43 hu.1 hu.2
  · have c : x_2 = (1 : Int32) := Int32.toInt_inj.mp (c.trans (by decide))
    refine g_tsIn 44 hC (1 : Int32) c dX0_cloned_4 (by decide) (by decide) rfl (by decide) ?_
    have hF := hF.2.2.1 c
    refine g_aload_n 45 hC dX0_cloned_44 rfl 0 rfl rfl ?_
    refine g_cast 48 hC q337 hF.1 dX0_cloned_45 rfl ?_
    have hF := hF.2
    refine g_clone (ty := .short) (ad := "[S") 51 hC (by decide +kernel) q483 q484 q485 q486 hF (Nat.le_of_ble_eq_true rfl) (Nat.le_of_ble_eq_true rfl) dX0_cloned_48 rfl (fun n_11 a_10 M_9 hu hF => ?_)
    exact g_areturn (v := some a_10) hC (Or.inl ⟨_, rfl⟩) ⟨_, rfl, hF⟩ dX0_cloned_51 hu.1 hu.2
  · have c : x_2 = (2 : Int32) := Int32.toInt_inj.mp (c.trans (by decide))
    refine g_tsIn 52 hC (2 : Int32) c dX0_cloned_4 (by decide) (by decide) rfl (by decide) ?_
    have hF := hF.2.2.2.1 c
    refine g_aload_n 53 hC dX0_cloned_52 rfl 0 rfl rfl ?_
    refine g_cast 56 hC q338 hF.1 dX0_cloned_53 rfl ?_
    have hF := hF.2
    refine g_clone (ty := .int) (ad := "[I") 59 hC (by decide +kernel) q487 q488 q489 q490 hF (Nat.le_of_ble_eq_true rfl) (Nat.le_of_ble_eq_true rfl) dX0_cloned_56 rfl (fun n_14 a_13 M_12 hu hF => ?_)
    exact g_areturn (v := some a_13) hC (Or.inl ⟨_, rfl⟩) ⟨_, rfl, hF⟩ dX0_cloned_59 hu.1 hu.2
  · have c : x_2 = (3 : Int32) := Int32.toInt_inj.mp (c.trans (by decide))
    refine g_tsIn 60 hC (3 : Int32) c dX0_cloned_4 (by decide) (by decide) rfl (by decide) ?_
    have hF := hF.2.2.2.2 c
    refine g_aload_n 61 hC dX0_cloned_60 rfl 0 rfl rfl ?_
    refine g_cast 64 hC q339 hF.1 dX0_cloned_61 rfl ?_
    have hF := hF.2
    refine g_clone (ty := .long) (ad := "[J") 67 hC (by decide +kernel) q491 q492 q493 q494 hF (Nat.le_of_ble_eq_true rfl) (Nat.le_of_ble_eq_true rfl) dX0_cloned_64 rfl (fun n_17 a_16 M_15 hu hF => ?_)
    exact g_areturn (v := some a_16) hC (Or.inl ⟨_, rfl⟩) ⟨_, rfl, hF⟩ dX0_cloned_67 hu.1 hu.2
theorem hd_X0_cloned : yX0_cloned.cls ≠ "java/lang/invoke/MethodHandle" ∧ yX0_cloned.cls ≠ "java/lang/invoke/VarHandle" ∧ (parseMethodDescriptor yX0_cloned.desc).map (fun d => d.parameters.length) = some 1 := by decide +kernel
theorem wl_X0_158 : GoodIn lw_all (va_wsS RX0 158 yX0_cloned (ws_ yX0_cloned cX0_cloned 1 (some (.object "java/lang/Object")))) := lw_S q474 q475 q69 q476
theorem hd_X10_init : yX10_init.cls ≠ "java/lang/invoke/MethodHandle" ∧ yX10_init.cls ≠ "java/lang/invoke/VarHandle" ∧ (parseMethodDescriptor yX10_init.desc).map (fun d => d.parameters.length) = some 1 := by decide +kernel
theorem hd_X8_init : yX8_init.cls ≠ "java/lang/invoke/MethodHandle" ∧ yX8_init.cls ≠ "java/lang/invoke/VarHandle" ∧ (parseMethodDescriptor yX8_init.desc).map (fun d => d.parameters.length) = some 2 := by decide +kernel
theorem hd_X9_init : yX9_init.cls ≠ "java/lang/invoke/MethodHandle" ∧ yX9_init.cls ≠ "java/lang/invoke/VarHandle" ∧ (parseMethodDescriptor yX9_init.desc).map (fun d => d.parameters.length) = some 0 := by decide +kernel
abbrev rm_X0_ruleOf (Lc Ls : Nat) : Room := { frames := 6, cells := Lc, slots := Ls, locals := 139 }
def F_X0_ruleOf (Lc Ls : Nat) (M : gM) (a0 : Nat) (x1 : Int32) (x2 : Int32) (Q : Nat → gM → Prop) (X : String → Nat → gM → Prop) : Prop :=
  (((x1.toInt < 1 ∨ 4 < x1.toInt) →
    nO M 0 0 Lc Ls 10 2 fun a_1 M_2 =>
    ∃ c_5 s_6, ((0 + 1) + c_5 ≤ Lc ∧ (0 + 2) + s_6 ≤ Ls) ∧
    rc M_2 0 a0 ∧ F_X0_rowIn c_5 s_6 M_2 a0 x2 (fun a_4 M_3 =>
    ∃ c_11 s_12, (((0 + 1) + c_5) + c_11 ≤ Lc ∧ ((0 + 2) + s_6) + s_12 ≤ Ls) ∧
      F_X0_cloned c_11 s_12 M_3 a_4 fun a_10 M_9 =>
      F_X10_init M_9 a_1 a_10 fun M_13 =>
      Q a_1 M_13) (fun E_ q_7 M_8 =>
      (E_ = "SendTheBox$Refused" ∧
      X "SendTheBox$Refused" q_7 M_8))) ∧
    (x1 = (1 : Int32) →
    nO M 0 0 Lc Ls 6 1 fun a_15 M_16 =>
    F_X6_init M_16 a_15 x2 fun M_17 =>
    Q a_15 M_17) ∧
    (x1 = (2 : Int32) →
    nO M 0 0 Lc Ls 7 1 fun a_19 M_20 =>
    F_X7_init M_20 a_19 x2 fun M_21 =>
    Q a_19 M_21) ∧
    (x1 = (3 : Int32) →
    nO M 0 0 Lc Ls 8 2 fun a_23 M_24 =>
    ∃ c_27 s_28, ((0 + 1) + c_27 ≤ Lc ∧ (0 + 2) + s_28 ≤ Ls) ∧
    F_X8_init c_27 s_28 M_24 a_23 (x2 / (10 : Int32)) (x2 - x2 / (10 : Int32) * (10 : Int32)) fun M_25 =>
    Q a_23 M_25) ∧
    (x1 = (4 : Int32) →
    nO M 0 0 Lc Ls 9 0 fun a_29 M_30 =>
    F_X9_init M_30 a_29 fun M_31 =>
    Q a_29 M_31))
theorem met_X0_ruleOf {M : gM} {a0 : Nat} {x1 : Int32} {x2 : Int32} {Q : Nat → gM → Prop} {X : String → Nat → gM → Prop} {Lc Ls : Nat} (hF : F_X0_ruleOf Lc Ls M a0 x1 x2 Q X) : gMx yX0_ruleOf (ws_ yX0_ruleOf cX0_ruleOf 3 (some (.object "SendTheBox$Rule"))) (rm_X0_ruleOf Lc Ls) M [.ref a0, .int x1, .int x2] (gQa Q) X := by
  refine gMetX (bytes := cX0_ruleOf) (maxL := 3) (ret := (some (.object "SendTheBox$Rule"))) rfl rfl (by decide) (Nat.le_of_ble_eq_true rfl) (lv := [(0, .ref a0), (1, .int x1), (2, .int x2)]) rfl (fun G hC hT hin => ?_)
  have hu : 0 ≤ Lc ∧ 0 ≤ Ls := ⟨Nat.zero_le _, Nat.zero_le _⟩
  unfold F_X0_ruleOf at hF
  refine g_iload_n 1 hC dX0_ruleOf_0 rfl 1 rfl rfl ?_
  rcases (by omega : ((x1.toInt < 1 ∨ 4 < x1.toInt) ∨ x1.toInt = 1 ∨ x1.toInt = 2 ∨ x1.toInt = 3 ∨ x1.toInt = 4)) with c | c | c | c | c
  · refine g_tsOut 74 hC dX0_ruleOf_1 c (by decide) ?_
    have hF := hF.1 c
    have hu := hF.1
    refine g_new (C := RX10) (T := TX10) (N := 2) (ci := 10) in_X10 tyX10_ok (by decide) rfl q472 q473 q89 77 hC hF dX0_ruleOf_74 rfl (fun a_1 M_2 hF => ?_)
    refine g_dup 78 hC dX0_ruleOf_77 rfl rfl ?_
    refine g_aload_n 79 hC dX0_ruleOf_78 rfl 0 rfl rfl ?_
    refine g_iload_n 80 hC dX0_ruleOf_79 rfl 2 rfl rfl ?_
    obtain ⟨c_5, s_6, hu, hF⟩ := hF
    refine g_xV (rest := [_, _]) wl_X0_102 hd_X0_rowIn (ci := 0) rfl 83 hC hF.1 (met_X0_rowIn hF.2) rfl ⟨Nat.le_of_ble_eq_true rfl, Nat.le_of_ble_eq_true rfl⟩ hu rfl (Nat.le_of_ble_eq_true rfl) dX0_ruleOf_80 rfl (g_ty_a ((0 + 1) + c_5) ((0 + 2) + s_6) (Nat.le_refl _) (Nat.le_refl _) (fun a_4 M_3 hF => ?_)) (g_tx ((0 + 1) + c_5) ((0 + 2) + s_6) (Nat.le_refl _) (Nat.le_refl _) (fun E_ q_7 M_8 hF => ?_))
    · have hF := hF
      obtain ⟨c_11, s_12, hu, hF⟩ := hF
      refine g_cS (rest := [_, _]) wl_X0_158 hd_X0_cloned 86 hC (met_X0_cloned hF) rfl ⟨Nat.le_of_ble_eq_true rfl, Nat.le_of_ble_eq_true rfl⟩ hu rfl (Nat.le_of_ble_eq_true rfl) dX0_ruleOf_83 rfl (g_ty_a (((0 + 1) + c_5) + c_11) (((0 + 2) + s_6) + s_12) (Nat.le_refl _) (Nat.le_refl _) (fun a_10 M_9 hF => ?_))
      refine g_cI (rest := [_]) q501 q89 q499 q500 rfl hd_X10_init 89 hC (met_X10_init hF) rfl ⟨Nat.le_of_ble_eq_true rfl, Nat.le_of_ble_eq_true rfl⟩ hu rfl (Nat.le_of_ble_eq_true rfl) dX0_ruleOf_86 rfl (g_ty_v (((0 + 1) + c_5) + c_11) (((0 + 2) + s_6) + s_12) (Nat.le_refl _) (Nat.le_refl _) (fun M_13 hF => ?_))
      exact g_areturn (v := some a_1) hC (Or.inl ⟨_, rfl⟩) ⟨_, rfl, hF⟩ dX0_ruleOf_89 hu.1 hu.2
    · have hF := hF
      obtain ⟨hE_, hF⟩ := hF
      rw [hE_]
      exact g_out hC hT (fun _ h => absurd h List.not_mem_nil) hF hu
  · have c : x1 = (1 : Int32) := Int32.toInt_inj.mp (c.trans (by decide))
    refine g_tsIn 32 hC (1 : Int32) c dX0_ruleOf_1 (by decide) (by decide) rfl (by decide) ?_
    have hF := hF.2.1 c
    have hu := hF.1
    refine g_new (C := RX6) (T := TX6) (N := 1) (ci := 6) in_X6 tyX6_ok (by decide) rfl q428 q429 q85 35 hC hF dX0_ruleOf_32 rfl (fun a_15 M_16 hF => ?_)
    refine g_dup 36 hC dX0_ruleOf_35 rfl rfl ?_
    refine g_iload_n 37 hC dX0_ruleOf_36 rfl 2 rfl rfl ?_
    refine g_cI (rest := [_]) q432 q85 q430 q431 rfl hd_X6_init 40 hC (met_X6_init hF) rfl ⟨Nat.le_of_ble_eq_true rfl, Nat.le_of_ble_eq_true rfl⟩ hu rfl (Nat.le_of_ble_eq_true rfl) dX0_ruleOf_37 rfl (g_ty_v (0 + 1) (0 + 1) (Nat.le_refl _) (Nat.le_refl _) (fun M_17 hF => ?_))
    exact g_areturn (v := some a_15) hC (Or.inl ⟨_, rfl⟩) ⟨_, rfl, hF⟩ dX0_ruleOf_40 hu.1 hu.2
  · have c : x1 = (2 : Int32) := Int32.toInt_inj.mp (c.trans (by decide))
    refine g_tsIn 41 hC (2 : Int32) c dX0_ruleOf_1 (by decide) (by decide) rfl (by decide) ?_
    have hF := hF.2.2.1 c
    have hu := hF.1
    refine g_new (C := RX7) (T := TX7) (N := 1) (ci := 7) in_X7 tyX7_ok (by decide) rfl q442 q443 q86 44 hC hF dX0_ruleOf_41 rfl (fun a_19 M_20 hF => ?_)
    refine g_dup 45 hC dX0_ruleOf_44 rfl rfl ?_
    refine g_iload_n 46 hC dX0_ruleOf_45 rfl 2 rfl rfl ?_
    refine g_cI (rest := [_]) q446 q86 q444 q445 rfl hd_X7_init 49 hC (met_X7_init hF) rfl ⟨Nat.le_of_ble_eq_true rfl, Nat.le_of_ble_eq_true rfl⟩ hu rfl (Nat.le_of_ble_eq_true rfl) dX0_ruleOf_46 rfl (g_ty_v (0 + 1) (0 + 1) (Nat.le_refl _) (Nat.le_refl _) (fun M_21 hF => ?_))
    exact g_areturn (v := some a_19) hC (Or.inl ⟨_, rfl⟩) ⟨_, rfl, hF⟩ dX0_ruleOf_49 hu.1 hu.2
  · have c : x1 = (3 : Int32) := Int32.toInt_inj.mp (c.trans (by decide))
    refine g_tsIn 50 hC (3 : Int32) c dX0_ruleOf_1 (by decide) (by decide) rfl (by decide) ?_
    have hF := hF.2.2.2.1 c
    have hu := hF.1
    refine g_new (C := RX8) (T := TX8) (N := 2) (ci := 8) in_X8 tyX8_ok (by decide) rfl q452 q453 q87 53 hC hF dX0_ruleOf_50 rfl (fun a_23 M_24 hF => ?_)
    refine g_dup 54 hC dX0_ruleOf_53 rfl rfl ?_
    refine g_iload_n 55 hC dX0_ruleOf_54 rfl 2 rfl rfl ?_
    refine g_bipush 57 hC (10 : Int32) dX0_ruleOf_55 (by decide) rfl ?_
    refine g_idiv 58 hC (by decide) dX0_ruleOf_57 rfl ?_
    refine g_iload_n 59 hC dX0_ruleOf_58 rfl 2 rfl rfl ?_
    refine g_bipush 61 hC (10 : Int32) dX0_ruleOf_59 (by decide) rfl ?_
    refine g_irem 62 hC (by decide) dX0_ruleOf_61 rfl ?_
    obtain ⟨c_27, s_28, hu, hF⟩ := hF
    refine g_cI (rest := [_]) q456 q87 q454 q455 rfl hd_X8_init 65 hC (met_X8_init hF) rfl ⟨Nat.le_of_ble_eq_true rfl, Nat.le_of_ble_eq_true rfl⟩ hu rfl (Nat.le_of_ble_eq_true rfl) dX0_ruleOf_62 rfl (g_ty_v ((0 + 1) + c_27) ((0 + 2) + s_28) (Nat.le_refl _) (Nat.le_refl _) (fun M_25 hF => ?_))
    exact g_areturn (v := some a_23) hC (Or.inl ⟨_, rfl⟩) ⟨_, rfl, hF⟩ dX0_ruleOf_65 hu.1 hu.2
  · have c : x1 = (4 : Int32) := Int32.toInt_inj.mp (c.trans (by decide))
    refine g_tsIn 66 hC (4 : Int32) c dX0_ruleOf_1 (by decide) (by decide) rfl (by decide) ?_
    have hF := hF.2.2.2.2 c
    have hu := hF.1
    refine g_new (C := RX9) (T := TX6) (N := 0) (ci := 9) (fun _ h => absurd h List.not_mem_nil) (fun k h => absurd h (Nat.not_lt_zero k)) (by decide) rfl q465 q466 q88 69 hC hF dX0_ruleOf_66 rfl (fun a_29 M_30 hF => ?_)
    refine g_dup 70 hC dX0_ruleOf_69 rfl rfl ?_
    refine g_cIN (rest := [_]) q467 q469 q88 q468 rfl hd_X9_init 73 hC (met_X9_init hF) rfl ⟨Nat.le_of_ble_eq_true rfl, Nat.le_of_ble_eq_true rfl⟩ hu rfl (Nat.le_of_ble_eq_true rfl) dX0_ruleOf_70 rfl (g_ty_v (0 + 1) (0 + 0) (Nat.le_refl _) (Nat.le_refl _) (fun M_31 hF => ?_))
    exact g_areturn (v := some a_29) hC (Or.inl ⟨_, rfl⟩) ⟨_, rfl, hF⟩ dX0_ruleOf_73 hu.1 hu.2
theorem hd_X0_may : yX0_may.cls ≠ "java/lang/invoke/MethodHandle" ∧ yX0_may.cls ≠ "java/lang/invoke/VarHandle" ∧ (parseMethodDescriptor yX0_may.desc).map (fun d => d.parameters.length) = some 2 := by decide +kernel
theorem wl_X0_165 : GoodIn lw_all (va_wsS RX0 165 yX0_may (ws_ yX0_may cX0_may 2 (some .boolean))) := lw_S q421 q422 q69 q423
theorem hd_X0_ruleOf : yX0_ruleOf.cls = RX0 ∧ yX0_ruleOf.cls ≠ "java/lang/invoke/MethodHandle" ∧ yX0_ruleOf.cls ≠ "java/lang/invoke/VarHandle" ∧ (parseMethodDescriptor yX0_ruleOf.desc).map (fun d => d.parameters.length) = some 2 := by decide +kernel
theorem wl_X0_169 : GoodIn lw_all (wsV RX0 169 RX0 yX0_ruleOf (ws_ yX0_ruleOf cX0_ruleOf 3 (some (.object "SendTheBox$Rule")))) := lw_V q424 q426 qs4 q69 q427
abbrev rm_X0_rule (Lc Ls : Nat) : Room := { frames := 7, cells := Lc, slots := Ls, locals := 161 }
def F_X0_rule_b24 (Q : Int32 → gM → Prop)  (Lc Ls : Nat)  (a0 : Nat)  (u v : Nat) (M : gM) : Prop :=
  rc M 0 a0 ∧ F_X0_no M a0 (-2 : Int32) fun x_2 M_1 =>
  Q x_2 M_1
theorem w_X0_rule_b24 {G : gG} {Q : Int32 → gM → Prop} {Lc Ls : Nat} (hC : gCx G cX0_rule 5 RX0 (some .int) (gQi Q) (rm_X0_rule Lc Ls)) (hT : gTx G (fun _ _ _ => False) (rm_X0_rule Lc Ls) (tableOf [(31, 47, 48, 97)]))  (a0 : Nat)   (u v : Nat) (hu : u ≤ Lc ∧ v ≤ Ls) (M : gM) (hF : F_X0_rule_b24 Q Lc Ls a0 u v M) : gAt G u v M [(0, .ref a0)] 24 [] := by
  unfold F_X0_rule_b24 at hF
  refine g_aload_n 25 hC dX0_rule_24 rfl 0 rfl rfl ?_
  refine g_bipush 27 hC (-2 : Int32) dX0_rule_25 (by decide) rfl ?_
  refine g_cV (rest := []) wl_X0_81 hd_X0_no (ci := 0) rfl 30 hC hF.1 (met_X0_no hF.2) rfl ⟨Nat.le_of_ble_eq_true rfl, Nat.le_of_ble_eq_true rfl⟩ hu rfl (Nat.le_of_ble_eq_true rfl) dX0_rule_27 rfl (g_ty_i u v (Nat.le_refl _) (Nat.le_refl _) (fun x_2 M_1 hF => ?_))
  exact g_ireturn hC ⟨_, rfl, hF⟩ dX0_rule_30 hu.1 hu.2
def F_X0_rule (Lc Ls : Nat) (M : gM) (a0 : Nat) (x1 : Int32) (x2 : Int32) (x3 : Int32) (Q : Int32 → gM → Prop)  : Prop :=
  F_X0_isShelf M x1 fun x_2 M_1 =>
  ((x_2 = 0 →
    F_X0_rule_b24 Q Lc Ls a0 0 0 M_1) ∧
    (¬ x_2 = 0 →
    F_X0_isIn M_1 x2 (1 : Int32) (5 : Int32) fun x_4 M_3 =>
    ((x_4 = 0 →
      F_X0_rule_b24 Q Lc Ls a0 0 0 M_3) ∧
      (¬ x_4 = 0 →
      F_X0_may M_3 x2 x3 fun x_6 M_5 =>
      ((¬ x_6 = 0 →
        gN M_5 0 a0 2 fun a_7 =>
        aN M_5 (.object "SendTheBox$Sheet") a_7 x1 fun a_8 =>
        ∃ c_11 s_12, (0 + c_11 ≤ Lc ∧ 0 + s_12 ≤ Ls) ∧
        rc M_5 0 a0 ∧ F_X0_ruleOf c_11 s_12 M_5 a0 x2 x3 (fun a_10 M_9 =>
        pR M_9 2 a_8 0 (some a_10) fun M_18 =>
          Q (1 : Int32) M_18) (fun E_ q_13 M_14 =>
          (E_ = "SendTheBox$Refused" ∧
          gI M_14 4 q_13 6 fun x_15 =>
          rc M_14 0 a0 ∧ F_X0_no M_14 a0 x_15 fun x_17 M_16 =>
          Q x_17 M_16))) ∧
        (x_6 = 0 →
        F_X0_rule_b24 Q Lc Ls a0 0 0 M_5))))))
theorem met_X0_rule {M : gM} {a0 : Nat} {x1 : Int32} {x2 : Int32} {x3 : Int32} {Q : Int32 → gM → Prop} {Lc Ls : Nat} (hF : F_X0_rule Lc Ls M a0 x1 x2 x3 Q) : gMx yX0_rule (wsW_ yX0_rule cX0_rule 5 (some .int) [(31, 47, 48, 97)]) (rm_X0_rule Lc Ls) M [.ref a0, .int x1, .int x2, .int x3] (gQi Q) (fun _ _ _ => False) := by
  refine gMetH (bytes := cX0_rule) (maxL := 5) (ret := (some .int)) (hh := [(31, 47, 48, 97)]) rfl rfl (by decide) (Nat.le_of_ble_eq_true rfl) (lv := [(0, .ref a0), (1, .int x1), (2, .int x2), (3, .int x3)]) rfl (fun G hC hT hin => ?_)
  have hu : 0 ≤ Lc ∧ 0 ≤ Ls := ⟨Nat.zero_le _, Nat.zero_le _⟩
  unfold F_X0_rule at hF
  refine g_iload_n 1 hC dX0_rule_0 rfl 1 rfl rfl ?_
  refine g_cS (rest := []) wl_X0_78 hd_X0_isShelf 4 hC (met_X0_isShelf hF) rfl ⟨Nat.le_of_ble_eq_true rfl, Nat.le_of_ble_eq_true rfl⟩ hu rfl (Nat.le_of_ble_eq_true rfl) dX0_rule_1 rfl (g_ty_i 0 0 (Nat.le_refl _) (Nat.le_refl _) (fun x_2 M_1 hF => ?_))
  refine g_if_eq 7 24 hC dX0_rule_4 (by decide) rfl (fun c => ?_) (fun c => ?_)
  · have hF := hF.1 c
    refine g_sub [0] rfl ?_
    exact w_X0_rule_b24 hC hT _ _ _ hu _ hF
  · have hF := hF.2 c
    refine g_iload_n 8 hC dX0_rule_7 rfl 2 rfl rfl ?_
    refine g_iconst 9 hC (1 : Int32) dX0_rule_8 (by decide) rfl ?_
    refine g_iconst 10 hC (5 : Int32) dX0_rule_9 (by decide) rfl ?_
    refine g_cS (rest := []) wl_X0_37 hd_X0_isIn 13 hC (met_X0_isIn hF) rfl ⟨Nat.le_of_ble_eq_true rfl, Nat.le_of_ble_eq_true rfl⟩ hu rfl (Nat.le_of_ble_eq_true rfl) dX0_rule_10 rfl (g_ty_i 0 0 (Nat.le_refl _) (Nat.le_refl _) (fun x_4 M_3 hF => ?_))
    refine g_if_eq 16 24 hC dX0_rule_13 (by decide) rfl (fun c => ?_) (fun c => ?_)
    · have hF := hF.1 c
      refine g_sub [0] rfl ?_
      exact w_X0_rule_b24 hC hT _ _ _ hu _ hF
    · have hF := hF.2 c
      refine g_iload_n 17 hC dX0_rule_16 rfl 2 rfl rfl ?_
      refine g_iload_n 18 hC dX0_rule_17 rfl 3 rfl rfl ?_
      refine g_cS (rest := []) wl_X0_165 hd_X0_may 21 hC (met_X0_may hF) rfl ⟨Nat.le_of_ble_eq_true rfl, Nat.le_of_ble_eq_true rfl⟩ hu rfl (Nat.le_of_ble_eq_true rfl) dX0_rule_18 rfl (g_ty_i 0 0 (Nat.le_refl _) (Nat.le_refl _) (fun x_6 M_5 hF => ?_))
      refine g_if_ne 24 31 hC dX0_rule_21 (by decide) rfl (fun c => ?_) (fun c => ?_)
      · have hF := hF.1 c
        refine g_aload_n 32 hC dX0_rule_31 rfl 0 rfl rfl ?_
        refine gf_X0_26_0N 35 hC hF dX0_rule_32 rfl (fun a_7 hF => ?_)
        refine g_iload_n 36 hC dX0_rule_35 rfl 1 rfl rfl ?_
        refine g_aaldN 37 hC hF (by decide) rfl (fun _ _ _ => rfl) dX0_rule_36 rfl (fun a_8 hF => ?_)
        refine g_aload_n 38 hC dX0_rule_37 rfl 0 rfl rfl ?_
        refine g_iload_n 39 hC dX0_rule_38 rfl 2 rfl rfl ?_
        refine g_iload_n 40 hC dX0_rule_39 rfl 3 rfl rfl ?_
        obtain ⟨c_11, s_12, hu, hF⟩ := hF
        refine g_xV (rest := [_]) wl_X0_169 hd_X0_ruleOf (ci := 0) rfl 43 hC hF.1 (met_X0_ruleOf hF.2) rfl ⟨Nat.le_of_ble_eq_true rfl, Nat.le_of_ble_eq_true rfl⟩ hu rfl (Nat.le_of_ble_eq_true rfl) dX0_rule_40 rfl (g_ty_a (0 + c_11) (0 + s_12) (Nat.le_refl _) (Nat.le_refl _) (fun a_10 M_9 hF => ?_)) (g_tx (0 + c_11) (0 + s_12) (Nat.le_refl _) (Nat.le_refl _) (fun E_ q_13 M_14 hF => ?_))
        · have hF := hF
          refine g_putR (C := RX2) (T := TX2) (N := 1) (ci := 2) (k := 0) (ty := (.object "java/lang/Object")) in_X2 tyX2 tyX2_ok nmX2 rfl (by decide) q143 rfl rfl (fun _ _ _ => rfl) (g_narR _ _ (by decide)) (g_fitR _ _ (by decide)) 46 hC hF dX0_rule_43 rfl (fun M_18 hF => ?_)
          refine g_iconst 47 hC (1 : Int32) dX0_rule_46 (by decide) rfl ?_
          exact g_ireturn hC ⟨_, rfl, hF⟩ dX0_rule_47 hu.1 hu.2
        · have hF := hF
          obtain ⟨hE_, hF⟩ := hF
          rw [hE_]
          refine g_catch hC hT [] ⟨31, 47, 48, 97⟩ [] rfl (fun _ h => absurd h List.not_mem_nil) rfl (by decide) q279 q305 48 rfl ?_
          refine g_astore 50 hC (lv' := [(4, .ref _), (0, .ref _), (1, .int _), (2, .int _), (3, .int _)]) dX0_rule_48 rfl (by decide) rfl ?_
          refine g_aload_n 51 hC dX0_rule_50 rfl 1 rfl rfl ?_
          refine g_aload 53 hC dX0_rule_51 rfl 0 rfl ?_
          refine gf_X0_110_4I 56 hC hF dX0_rule_53 rfl (fun x_15 hF => ?_)
          refine g_cV (rest := []) wl_X0_81 hd_X0_no (ci := 0) rfl 59 hC hF.1 (met_X0_no hF.2) rfl ⟨Nat.le_of_ble_eq_true rfl, Nat.le_of_ble_eq_true rfl⟩ hu rfl (Nat.le_of_ble_eq_true rfl) dX0_rule_56 rfl (g_ty_i (0 + c_11) (0 + s_12) (Nat.le_refl _) (Nat.le_refl _) (fun x_17 M_16 hF => ?_))
          exact g_ireturn hC ⟨_, rfl, hF⟩ dX0_rule_59 hu.1 hu.2
      · have hF := hF.2 c
        refine g_sub [0] rfl ?_
        exact w_X0_rule_b24 hC hT _ _ _ hu _ hF
theorem nc_Refused_ClassCastException : (Cond.not (Cond.castable "SendTheBox$Refused" "java/lang/ClassCastException")) ∈ flatC (Jvm.Cond.and given_1 narrow_1) := List.mem_of_getElem? (i := 159) (by decide +kernel)
abbrev rm_X0_ruleIn (Lc Ls : Nat) : Room := { frames := 8, cells := Lc, slots := Ls, locals := 10256 }
def F_X0_ruleIn (Lc Ls : Nat) (M : gM) (a0 : Nat) (x1 : Int32) (Q : Nat → gM → Prop) (X : String → Nat → gM → Prop) : Prop :=
  gN M 0 a0 2 fun a_1 =>
  aN M (.object "SendTheBox$Sheet") a_1 x1 fun a_2 =>
  gR M 2 a_2 0 fun r_3 =>
  cX M 0 0 Lc Ls r_3 "SendTheBox$Rule" (fun _ =>
    ((r_3 = none →
      nO M 0 0 Lc Ls 4 7 fun a_10 M_11 =>
      F_X4_init M_11 a_10 (-4 : Int32) fun M_12 =>
      (kd M_12 a_10 = some (true, .inl 4)) ∧
      X "SendTheBox$Refused" a_10 M_12) ∧
      (∀ b_9, r_3 = some b_9 →
      Q b_9 M))) (fun q_4 =>
    nO M (0 + 3) (0 + 1010) Lc Ls 4 7 fun a_5 M_6 =>
    F_X4_init M_6 a_5 (-3 : Int32) fun M_7 =>
    (kd M_7 a_5 = some (true, .inl 4)) ∧
    X "SendTheBox$Refused" a_5 M_7)
theorem met_X0_ruleIn {M : gM} {a0 : Nat} {x1 : Int32} {Q : Nat → gM → Prop} {X : String → Nat → gM → Prop} {Lc Ls : Nat} (hF : F_X0_ruleIn Lc Ls M a0 x1 Q X) : gMx yX0_ruleIn (wsW_ yX0_ruleIn cX0_ruleIn 3 (some (.object "SendTheBox$Rule")) [(0, 28, 29, 173)]) (rm_X0_ruleIn Lc Ls) M [.ref a0, .int x1] (gQa Q) X := by
  refine gMetH (bytes := cX0_ruleIn) (maxL := 3) (ret := (some (.object "SendTheBox$Rule"))) (hh := [(0, 28, 29, 173)]) rfl rfl (by decide) (Nat.le_of_ble_eq_true rfl) (lv := [(0, .ref a0), (1, .int x1)]) rfl (fun G hC hT hin => ?_)
  have hu : 0 ≤ Lc ∧ 0 ≤ Ls := ⟨Nat.zero_le _, Nat.zero_le _⟩
  unfold F_X0_ruleIn at hF
  refine g_aload_n 1 hC dX0_ruleIn_0 rfl 0 rfl rfl ?_
  refine gf_X0_26_0N 4 hC hF dX0_ruleIn_1 rfl (fun a_1 hF => ?_)
  refine g_iload_n 5 hC dX0_ruleIn_4 rfl 1 rfl rfl ?_
  refine g_aaldN 6 hC hF (by decide) rfl (fun _ _ _ => rfl) dX0_ruleIn_5 rfl (fun a_2 hF => ?_)
  refine gf_X0_89_2R 9 hC hF dX0_ruleIn_6 rfl (fun r_3 hF => ?_)
  refine g_castX (r := r_3) 12 hC q303 hF (Nat.le_of_ble_eq_true rfl) (by cases r_3 <;> exact Nat.le_of_ble_eq_true rfl) dX0_ruleIn_9 rfl (fun hF => ?_) (fun q_4 hu hF => ?_)
  · have hF := hF
    refine g_qstore_n 13 hC (lv' := [(2, va_rf _), (0, .ref _), (1, .int _)]) dX0_ruleIn_12 rfl rfl (by decide) rfl ?_
    refine g_qload_n 14 hC dX0_ruleIn_13 rfl 0 rfl rfl ?_
    refine g_ifnonnull 17 27 hC dX0_ruleIn_14 (by decide) rfl (fun b_9 c => ?_) (fun c => ?_)
    · have hF := hF.2 b_9 c
      try rw [c]
      refine g_aload_n 28 hC dX0_ruleIn_27 rfl 0 rfl rfl ?_
      exact g_areturn (v := some b_9) hC (Or.inl ⟨_, rfl⟩) ⟨_, rfl, hF⟩ dX0_ruleIn_28 hu.1 hu.2
    · have hF := hF.1 c
      try rw [c]
      have hu := hF.1
      refine g_new (C := RX4) (T := TX4) (N := 7) (ci := 4) in_X4 tyX4_ok (by decide) rfl q279 q304 q80 20 hC hF dX0_ruleIn_17 rfl (fun a_10 M_11 hF => ?_)
      refine g_dup 21 hC dX0_ruleIn_20 rfl rfl ?_
      refine g_bipush 23 hC (-4 : Int32) dX0_ruleIn_21 (by decide) rfl ?_
      refine g_cI (rest := [_]) q314 q80 q312 q313 rfl hd_X4_init 26 hC (met_X4_init hF) rfl ⟨Nat.le_of_ble_eq_true rfl, Nat.le_of_ble_eq_true rfl⟩ hu rfl (Nat.le_of_ble_eq_true rfl) dX0_ruleIn_23 rfl (g_ty_v (0 + 1) (0 + 7) (Nat.le_refl _) (Nat.le_refl _) (fun M_12 hF => ?_))
      refine g_athrow (ci := 4) rfl hC hF.1 dX0_ruleIn_26 ?_
      have hF := hF.2
      exact g_out hC hT (List.forall_mem_cons.mpr ⟨Or.inr ⟨by decide, _, q517, nc_Refused_ClassCastException⟩, (fun _ h => absurd h List.not_mem_nil)⟩) hF hu
  · have hF := hF
    refine g_catch hC hT [] ⟨0, 28, 29, 173⟩ [] rfl (fun _ h => absurd h List.not_mem_nil) rfl (by decide) q517 q529 29 rfl ?_
    refine g_astore_n 30 hC (lv' := [(2, .ref _), (0, .ref _), (1, .int _)]) dX0_ruleIn_29 rfl rfl (by decide) rfl ?_
    have hu := hF.1
    refine g_new (C := RX4) (T := TX4) (N := 7) (ci := 4) in_X4 tyX4_ok (by decide) rfl q279 q304 q80 33 hC hF dX0_ruleIn_30 rfl (fun a_5 M_6 hF => ?_)
    refine g_dup 34 hC dX0_ruleIn_33 rfl rfl ?_
    refine g_bipush 36 hC (-3 : Int32) dX0_ruleIn_34 (by decide) rfl ?_
    refine g_cI (rest := [_]) q314 q80 q312 q313 rfl hd_X4_init 39 hC (met_X4_init hF) rfl ⟨Nat.le_of_ble_eq_true rfl, Nat.le_of_ble_eq_true rfl⟩ hu rfl (Nat.le_of_ble_eq_true rfl) dX0_ruleIn_36 rfl (g_ty_v ((0 + 3) + 1) ((0 + 1010) + 7) (Nat.le_refl _) (Nat.le_refl _) (fun M_7 hF => ?_))
    refine g_athrow (ci := 4) rfl hC hF.1 dX0_ruleIn_39 ?_
    have hF := hF.2
    exact g_out hC hT (List.forall_mem_cons.mpr ⟨Or.inl rfl, (fun _ h => absurd h List.not_mem_nil)⟩) hF hu
theorem hd_X0_ruleIn : yX0_ruleIn.cls = RX0 ∧ yX0_ruleIn.cls ≠ "java/lang/invoke/MethodHandle" ∧ yX0_ruleIn.cls ≠ "java/lang/invoke/VarHandle" ∧ (parseMethodDescriptor yX0_ruleIn.desc).map (fun d => d.parameters.length) = some 1 := by decide +kernel
theorem wl_X0_175 : GoodIn lw_all (wsV RX0 175 RX0 yX0_ruleIn (wsW_ yX0_ruleIn cX0_ruleIn 3 (some (.object "SendTheBox$Rule")) [(0, 28, 29, 173)])) := lw_VW q531 q533 qs5 q69 q534
theorem nc_ClassCastException_Refused : (Cond.not (Cond.castable "java/lang/ClassCastException" "SendTheBox$Refused")) ∈ flatC (Jvm.Cond.and given_1 narrow_1) := List.mem_of_getElem? (i := 50) (by decide +kernel)
theorem hd_X10_says : yX10_says.cls = RX10 ∧ yX10_says.cls ≠ "java/lang/invoke/MethodHandle" ∧ yX10_says.cls ≠ "java/lang/invoke/VarHandle" ∧ (parseMethodDescriptor yX10_says.desc).map (fun d => d.parameters.length) = some 0 := by decide +kernel
theorem wl_X0_187 : GoodIn lw_all (wsV RX0 187 RX10 yX10_says (ws_ yX10_says cX10_says 1 (some .int))) := lw_V q548 q549 q550 q89 q551
theorem gf_X0_179_6I {G : gG} {cc : ByteArray} {nL : Nat} {ret : Option FieldType} {Qf : Option Value → gM → Prop} {rm : Room} {cells slots : Nat} {M : gM} {lv : List (Nat × Value)} {pc : Nat} {st : List Value} {a : Nat} (n : Nat) (hC : gCx G cc nL RX0 ret Qf rm) {κ : Int32 → Prop} (hF : gI M 6 a 0 κ) (hdg : decode cc pc = .ok (.getfield 179, 3)) (hn : pc + 3 = n) (kk : ∀ x, κ x → gAt G cells slots M lv n (.int x :: st)) : gAt G cells slots M lv pc (.ref a :: st) :=
  g_getI (C := RX6) (T := TX6) (N := 1) in_X6 rfl (by decide) q438 (fun _ _ _ => rfl) n hC hF hdg hn kk
theorem gf_X0_179_8I {G : gG} {cc : ByteArray} {nL : Nat} {ret : Option FieldType} {Qf : Option Value → gM → Prop} {rm : Room} {cells slots : Nat} {M : gM} {lv : List (Nat × Value)} {pc : Nat} {st : List Value} {a : Nat} (n : Nat) (hC : gCx G cc nL RX0 ret Qf rm) {κ : Int32 → Prop} (hF : gI M 8 a 0 κ) (hdg : decode cc pc = .ok (.getfield 179, 3)) (hn : pc + 3 = n) (kk : ∀ x, κ x → gAt G cells slots M lv n (.int x :: st)) : gAt G cells slots M lv pc (.ref a :: st) :=
  g_getI (C := RX8) (T := TX8) (N := 2) in_X8 rfl (by decide) q438 (fun _ _ _ => rfl) n hC hF hdg hn kk
theorem wl_X0_182 : GoodIn lw_all (wsV RX0 182 RX7 yX7_says (ws_ yX7_says cX7_says 1 (some .int))) := lw_V q535 q536 q537 q86 q538
theorem hd_X8_says : yX8_says.cls = RX8 ∧ yX8_says.cls ≠ "java/lang/invoke/MethodHandle" ∧ yX8_says.cls ≠ "java/lang/invoke/VarHandle" ∧ (parseMethodDescriptor yX8_says.desc).map (fun d => d.parameters.length) = some 0 := by decide +kernel
theorem wl_X0_185 : GoodIn lw_all (wsV RX0 185 RX8 yX8_says (ws_ yX8_says cX8_says 1 (some .int))) := lw_V q539 q540 q541 q87 q542
theorem hd_X9_says : yX9_says.cls = RX9 ∧ yX9_says.cls ≠ "java/lang/invoke/MethodHandle" ∧ yX9_says.cls ≠ "java/lang/invoke/VarHandle" ∧ (parseMethodDescriptor yX9_says.desc).map (fun d => d.parameters.length) = some 0 := by decide +kernel
theorem wl_X0_186 : GoodIn lw_all (wsV RX0 186 RX9 yX9_says (ws_ yX9_says cX9_says 1 (some .int))) := lw_V q544 q545 q546 q88 q547
abbrev rm_X0_says (Lc Ls : Nat) : Room := { frames := 9, cells := Lc, slots := Ls, locals := 10278 }
def F_X0_says_b16 (Q : Int32 → gM → Prop)  (Lc Ls : Nat)  (a0 : Nat)  (u v : Nat) (M : gM) : Prop :=
  rc M 0 a0 ∧ F_X0_no M a0 (-2 : Int32) fun x_2 M_1 =>
  Q x_2 M_1
theorem w_X0_says_b16 {G : gG} {Q : Int32 → gM → Prop} {Lc Ls : Nat} (hC : gCx G cX0_says 4 RX0 (some .int) (gQi Q) (rm_X0_says Lc Ls)) (hT : gTx G (fun _ _ _ => False) (rm_X0_says Lc Ls) (tableOf [(23, 65, 106, 97), (66, 73, 106, 97), (74, 81, 106, 97), (82, 89, 106, 97), (90, 97, 106, 97), (98, 105, 106, 97), (23, 65, 116, 173), (66, 73, 116, 173), (74, 81, 116, 173), (82, 89, 116, 173), (90, 97, 116, 173), (98, 105, 116, 173)]))  (a0 : Nat)   (u v : Nat) (hu : u ≤ Lc ∧ v ≤ Ls) (M : gM) (hF : F_X0_says_b16 Q Lc Ls a0 u v M) : gAt G u v M [(0, .ref a0)] 16 [] := by
  unfold F_X0_says_b16 at hF
  refine g_aload_n 17 hC dX0_says_16 rfl 0 rfl rfl ?_
  refine g_bipush 19 hC (-2 : Int32) dX0_says_17 (by decide) rfl ?_
  refine g_cV (rest := []) wl_X0_81 hd_X0_no (ci := 0) rfl 22 hC hF.1 (met_X0_no hF.2) rfl ⟨Nat.le_of_ble_eq_true rfl, Nat.le_of_ble_eq_true rfl⟩ hu rfl (Nat.le_of_ble_eq_true rfl) dX0_says_19 rfl (g_ty_i u v (Nat.le_refl _) (Nat.le_refl _) (fun x_2 M_1 hF => ?_))
  exact g_ireturn hC ⟨_, rfl, hF⟩ dX0_says_22 hu.1 hu.2
def F_X0_says (Lc Ls : Nat) (M : gM) (a0 : Nat) (x1 : Int32) (x2 : Int32) (Q : Int32 → gM → Prop)  : Prop :=
  F_X0_isShelf M x1 fun x_2 M_1 =>
  ((x_2 = 0 →
    F_X0_says_b16 Q Lc Ls a0 0 0 M_1) ∧
    (¬ x_2 = 0 →
    F_X0_isIn M_1 x2 (0 : Int32) (5 : Int32) fun x_4 M_3 =>
    ((¬ x_4 = 0 →
      ∃ c_7 s_8, (0 + c_7 ≤ Lc ∧ 0 + s_8 ≤ Ls) ∧
      rc M_3 0 a0 ∧ F_X0_ruleIn c_7 s_8 M_3 a0 x1 (fun a_6 M_5 =>
      (((x2.toInt < 0 ∨ 4 < x2.toInt) →
          cX M_5 (0 + c_7) (0 + s_8) Lc Ls (some a_6) "SendTheBox$Told" (fun _ =>
            rc M_5 10 a_6 ∧ F_X10_says M_5 a_6 fun x_18 M_17 =>
            Q x_18 M_17) (fun q_14 =>
            rc M_5 0 a0 ∧ F_X0_no M_5 a0 (-3 : Int32) fun x_16 M_15 =>
            Q x_16 M_15)) ∧
          (x2 = (0 : Int32) →
          Q (0 : Int32) M_5) ∧
          (x2 = (1 : Int32) →
          cX M_5 (0 + c_7) (0 + s_8) Lc Ls (some a_6) "SendTheBox$Full" (fun _ =>
            ((gI M_5 6 a_6 0 fun x_22 =>
            Q x_22 M_5) ∨ (gI M_5 8 a_6 0 fun x_22 =>
            Q x_22 M_5))) (fun q_19 =>
            rc M_5 0 a0 ∧ F_X0_no M_5 a0 (-3 : Int32) fun x_21 M_20 =>
            Q x_21 M_20)) ∧
          (x2 = (2 : Int32) →
          cX M_5 (0 + c_7) (0 + s_8) Lc Ls (some a_6) "SendTheBox$Daily" (fun _ =>
            rc M_5 7 a_6 ∧ F_X7_says M_5 a_6 fun x_27 M_26 =>
            Q x_27 M_26) (fun q_23 =>
            rc M_5 0 a0 ∧ F_X0_no M_5 a0 (-3 : Int32) fun x_25 M_24 =>
            Q x_25 M_24)) ∧
          (x2 = (3 : Int32) →
          cX M_5 (0 + c_7) (0 + s_8) Lc Ls (some a_6) "SendTheBox$Both" (fun _ =>
            rc M_5 8 a_6 ∧ F_X8_says M_5 a_6 fun x_32 M_31 =>
            Q x_32 M_31) (fun q_28 =>
            rc M_5 0 a0 ∧ F_X0_no M_5 a0 (-3 : Int32) fun x_30 M_29 =>
            Q x_30 M_29)) ∧
          (x2 = (4 : Int32) →
          cX M_5 (0 + c_7) (0 + s_8) Lc Ls (some a_6) "SendTheBox$Best" (fun _ =>
            rc M_5 9 a_6 ∧ F_X9_says M_5 a_6 fun x_37 M_36 =>
            Q x_37 M_36) (fun q_33 =>
            rc M_5 0 a0 ∧ F_X0_no M_5 a0 (-3 : Int32) fun x_35 M_34 =>
            Q x_35 M_34)))) (fun E_ q_9 M_10 =>
        (E_ = "SendTheBox$Refused" ∧
        gI M_10 4 q_9 6 fun x_11 =>
        rc M_10 0 a0 ∧ F_X0_no M_10 a0 x_11 fun x_13 M_12 =>
        Q x_13 M_12))) ∧
      (x_4 = 0 →
      F_X0_says_b16 Q Lc Ls a0 0 0 M_3))))
theorem met_X0_says {M : gM} {a0 : Nat} {x1 : Int32} {x2 : Int32} {Q : Int32 → gM → Prop} {Lc Ls : Nat} (hF : F_X0_says Lc Ls M a0 x1 x2 Q) : gMx yX0_says (wsW_ yX0_says cX0_says 4 (some .int) [(23, 65, 106, 97), (66, 73, 106, 97), (74, 81, 106, 97), (82, 89, 106, 97), (90, 97, 106, 97), (98, 105, 106, 97), (23, 65, 116, 173), (66, 73, 116, 173), (74, 81, 116, 173), (82, 89, 116, 173), (90, 97, 116, 173), (98, 105, 116, 173)]) (rm_X0_says Lc Ls) M [.ref a0, .int x1, .int x2] (gQi Q) (fun _ _ _ => False) := by
  refine gMetH (bytes := cX0_says) (maxL := 4) (ret := (some .int)) (hh := [(23, 65, 106, 97), (66, 73, 106, 97), (74, 81, 106, 97), (82, 89, 106, 97), (90, 97, 106, 97), (98, 105, 106, 97), (23, 65, 116, 173), (66, 73, 116, 173), (74, 81, 116, 173), (82, 89, 116, 173), (90, 97, 116, 173), (98, 105, 116, 173)]) rfl rfl (by decide) (Nat.le_of_ble_eq_true rfl) (lv := [(0, .ref a0), (1, .int x1), (2, .int x2)]) rfl (fun G hC hT hin => ?_)
  have hu : 0 ≤ Lc ∧ 0 ≤ Ls := ⟨Nat.zero_le _, Nat.zero_le _⟩
  unfold F_X0_says at hF
  refine g_iload_n 1 hC dX0_says_0 rfl 1 rfl rfl ?_
  refine g_cS (rest := []) wl_X0_78 hd_X0_isShelf 4 hC (met_X0_isShelf hF) rfl ⟨Nat.le_of_ble_eq_true rfl, Nat.le_of_ble_eq_true rfl⟩ hu rfl (Nat.le_of_ble_eq_true rfl) dX0_says_1 rfl (g_ty_i 0 0 (Nat.le_refl _) (Nat.le_refl _) (fun x_2 M_1 hF => ?_))
  refine g_if_eq 7 16 hC dX0_says_4 (by decide) rfl (fun c => ?_) (fun c => ?_)
  · have hF := hF.1 c
    refine g_sub [0] rfl ?_
    exact w_X0_says_b16 hC hT _ _ _ hu _ hF
  · have hF := hF.2 c
    refine g_iload_n 8 hC dX0_says_7 rfl 2 rfl rfl ?_
    refine g_iconst 9 hC (0 : Int32) dX0_says_8 (by decide) rfl ?_
    refine g_iconst 10 hC (5 : Int32) dX0_says_9 (by decide) rfl ?_
    refine g_cS (rest := []) wl_X0_37 hd_X0_isIn 13 hC (met_X0_isIn hF) rfl ⟨Nat.le_of_ble_eq_true rfl, Nat.le_of_ble_eq_true rfl⟩ hu rfl (Nat.le_of_ble_eq_true rfl) dX0_says_10 rfl (g_ty_i 0 0 (Nat.le_refl _) (Nat.le_refl _) (fun x_4 M_3 hF => ?_))
    refine g_if_ne 16 23 hC dX0_says_13 (by decide) rfl (fun c => ?_) (fun c => ?_)
    · have hF := hF.1 c
      refine g_aload_n 24 hC dX0_says_23 rfl 0 rfl rfl ?_
      refine g_iload_n 25 hC dX0_says_24 rfl 1 rfl rfl ?_
      obtain ⟨c_7, s_8, hu, hF⟩ := hF
      refine g_xVW (rest := []) wl_X0_175 hd_X0_ruleIn (ci := 0) rfl 28 hC hF.1 (met_X0_ruleIn hF.2) rfl ⟨Nat.le_of_ble_eq_true rfl, Nat.le_of_ble_eq_true rfl⟩ hu rfl (Nat.le_of_ble_eq_true rfl) dX0_says_25 rfl (g_ty_a (0 + c_7) (0 + s_8) (Nat.le_refl _) (Nat.le_refl _) (fun a_6 M_5 hF => ?_)) (g_tx (0 + c_7) (0 + s_8) (Nat.le_refl _) (Nat.le_refl _) (fun E_ q_9 M_10 hF => ?_))
      · have hF := hF
        refine g_astore_n 29 hC (lv' := [(3, .ref _), (0, .ref _), (1, .int _), (2, .int _)]) dX0_says_28 rfl rfl (by decide) rfl ?_
        refine g_iload_n 30 hC dX0_says_29 rfl 3 rfl rfl ?_
        rcases (by omega : ((x2.toInt < 0 ∨ 4 < x2.toInt) ∨ x2.toInt = 0 ∨ x2.toInt = 1 ∨ x2.toInt = 2 ∨ x2.toInt = 3 ∨ x2.toInt = 4)) with c | c | c | c | c | c
        · refine g_tsOut 98 hC dX0_says_30 c (by decide) ?_
          have hF := hF.1 c
          refine g_aload_n 99 hC dX0_says_98 rfl 0 rfl rfl ?_
          refine g_castX (r := (some a_6)) 102 hC q472 hF (Nat.le_of_ble_eq_true rfl) (Nat.le_of_ble_eq_true rfl) dX0_says_99 rfl (fun hF => ?_) (fun q_14 hu hF => ?_)
          · have hF := hF
            refine g_cV (rest := []) wl_X0_187 hd_X10_says (ci := 10) rfl 105 hC hF.1 (met_X10_says hF.2) rfl ⟨Nat.le_of_ble_eq_true rfl, Nat.le_of_ble_eq_true rfl⟩ hu rfl (Nat.le_of_ble_eq_true rfl) dX0_says_102 rfl (g_ty_i (0 + c_7) (0 + s_8) (Nat.le_refl _) (Nat.le_refl _) (fun x_18 M_17 hF => ?_))
            exact g_ireturn hC ⟨_, rfl, hF⟩ dX0_says_105 hu.1 hu.2
          · have hF := hF
            refine g_catch hC hT [⟨23, 65, 106, 97⟩, ⟨66, 73, 106, 97⟩, ⟨74, 81, 106, 97⟩, ⟨82, 89, 106, 97⟩, ⟨90, 97, 106, 97⟩, ⟨98, 105, 106, 97⟩, ⟨23, 65, 116, 173⟩, ⟨66, 73, 116, 173⟩, ⟨74, 81, 116, 173⟩, ⟨82, 89, 116, 173⟩, ⟨90, 97, 116, 173⟩] ⟨98, 105, 116, 173⟩ [] rfl (List.forall_mem_cons.mpr ⟨Or.inl rfl, (List.forall_mem_cons.mpr ⟨Or.inl rfl, (List.forall_mem_cons.mpr ⟨Or.inl rfl, (List.forall_mem_cons.mpr ⟨Or.inl rfl, (List.forall_mem_cons.mpr ⟨Or.inl rfl, (List.forall_mem_cons.mpr ⟨Or.inr ⟨by decide, _, q279, nc_ClassCastException_Refused⟩, (List.forall_mem_cons.mpr ⟨Or.inl rfl, (List.forall_mem_cons.mpr ⟨Or.inl rfl, (List.forall_mem_cons.mpr ⟨Or.inl rfl, (List.forall_mem_cons.mpr ⟨Or.inl rfl, (List.forall_mem_cons.mpr ⟨Or.inl rfl, (fun _ h => absurd h List.not_mem_nil)⟩)⟩)⟩)⟩)⟩)⟩)⟩)⟩)⟩)⟩)⟩) rfl (by decide) q517 q529 116 rfl ?_
            refine g_astore_n 117 hC (lv' := [(3, .ref _), (0, .ref _), (1, .int _), (2, .int _)]) dX0_says_116 rfl rfl (by decide) rfl ?_
            refine g_aload_n 118 hC dX0_says_117 rfl 1 rfl rfl ?_
            refine g_bipush 120 hC (-3 : Int32) dX0_says_118 (by decide) rfl ?_
            refine g_cV (rest := []) wl_X0_81 hd_X0_no (ci := 0) rfl 123 hC hF.1 (met_X0_no hF.2) rfl ⟨Nat.le_of_ble_eq_true rfl, Nat.le_of_ble_eq_true rfl⟩ hu rfl (Nat.le_of_ble_eq_true rfl) dX0_says_120 rfl (g_ty_i ((0 + c_7) + 3) ((0 + s_8) + 1010) (Nat.le_refl _) (Nat.le_refl _) (fun x_16 M_15 hF => ?_))
            exact g_ireturn hC ⟨_, rfl, hF⟩ dX0_says_123 hu.1 hu.2
        · have c : x2 = (0 : Int32) := Int32.toInt_inj.mp (c.trans (by decide))
          refine g_tsIn 64 hC (0 : Int32) c dX0_says_30 (by decide) (by decide) rfl (by decide) ?_
          have hF := hF.2.1 c
          refine g_iconst 65 hC (0 : Int32) dX0_says_64 (by decide) rfl ?_
          exact g_ireturn hC ⟨_, rfl, hF⟩ dX0_says_65 hu.1 hu.2
        · have c : x2 = (1 : Int32) := Int32.toInt_inj.mp (c.trans (by decide))
          refine g_tsIn 66 hC (1 : Int32) c dX0_says_30 (by decide) (by decide) rfl (by decide) ?_
          have hF := hF.2.2.1 c
          refine g_aload_n 67 hC dX0_says_66 rfl 0 rfl rfl ?_
          refine g_castX (r := (some a_6)) 70 hC q428 hF (Nat.le_of_ble_eq_true rfl) (Nat.le_of_ble_eq_true rfl) dX0_says_67 rfl (fun hF => ?_) (fun q_19 hu hF => ?_)
          · have hF := hF
            rcases hF with hF | hF
            · exact gf_X0_179_6I 73 hC hF dX0_says_70 rfl (fun x_22 hF => g_ireturn hC ⟨_, rfl, hF⟩ dX0_says_73 hu.1 hu.2)
            · exact gf_X0_179_8I 73 hC hF dX0_says_70 rfl (fun x_22 hF => g_ireturn hC ⟨_, rfl, hF⟩ dX0_says_73 hu.1 hu.2)
          · have hF := hF
            refine g_catch hC hT [⟨23, 65, 106, 97⟩, ⟨66, 73, 106, 97⟩, ⟨74, 81, 106, 97⟩, ⟨82, 89, 106, 97⟩, ⟨90, 97, 106, 97⟩, ⟨98, 105, 106, 97⟩, ⟨23, 65, 116, 173⟩] ⟨66, 73, 116, 173⟩ [⟨74, 81, 116, 173⟩, ⟨82, 89, 116, 173⟩, ⟨90, 97, 116, 173⟩, ⟨98, 105, 116, 173⟩] rfl (List.forall_mem_cons.mpr ⟨Or.inl rfl, (List.forall_mem_cons.mpr ⟨Or.inr ⟨by decide, _, q279, nc_ClassCastException_Refused⟩, (List.forall_mem_cons.mpr ⟨Or.inl rfl, (List.forall_mem_cons.mpr ⟨Or.inl rfl, (List.forall_mem_cons.mpr ⟨Or.inl rfl, (List.forall_mem_cons.mpr ⟨Or.inl rfl, (List.forall_mem_cons.mpr ⟨Or.inl rfl, (fun _ h => absurd h List.not_mem_nil)⟩)⟩)⟩)⟩)⟩)⟩)⟩) rfl (by decide) q517 q529 116 rfl ?_
            refine g_astore_n 117 hC (lv' := [(3, .ref _), (0, .ref _), (1, .int _), (2, .int _)]) dX0_says_116 rfl rfl (by decide) rfl ?_
            refine g_aload_n 118 hC dX0_says_117 rfl 1 rfl rfl ?_
            refine g_bipush 120 hC (-3 : Int32) dX0_says_118 (by decide) rfl ?_
            refine g_cV (rest := []) wl_X0_81 hd_X0_no (ci := 0) rfl 123 hC hF.1 (met_X0_no hF.2) rfl ⟨Nat.le_of_ble_eq_true rfl, Nat.le_of_ble_eq_true rfl⟩ hu rfl (Nat.le_of_ble_eq_true rfl) dX0_says_120 rfl (g_ty_i ((0 + c_7) + 3) ((0 + s_8) + 1010) (Nat.le_refl _) (Nat.le_refl _) (fun x_21 M_20 hF => ?_))
            exact g_ireturn hC ⟨_, rfl, hF⟩ dX0_says_123 hu.1 hu.2
        · have c : x2 = (2 : Int32) := Int32.toInt_inj.mp (c.trans (by decide))
          refine g_tsIn 74 hC (2 : Int32) c dX0_says_30 (by decide) (by decide) rfl (by decide) ?_
          have hF := hF.2.2.2.1 c
          refine g_aload_n 75 hC dX0_says_74 rfl 0 rfl rfl ?_
          refine g_castX (r := (some a_6)) 78 hC q442 hF (Nat.le_of_ble_eq_true rfl) (Nat.le_of_ble_eq_true rfl) dX0_says_75 rfl (fun hF => ?_) (fun q_23 hu hF => ?_)
          · have hF := hF
            refine g_cV (rest := []) wl_X0_182 hd_X7_says (ci := 7) rfl 81 hC hF.1 (met_X7_says hF.2) rfl ⟨Nat.le_of_ble_eq_true rfl, Nat.le_of_ble_eq_true rfl⟩ hu rfl (Nat.le_of_ble_eq_true rfl) dX0_says_78 rfl (g_ty_i (0 + c_7) (0 + s_8) (Nat.le_refl _) (Nat.le_refl _) (fun x_27 M_26 hF => ?_))
            exact g_ireturn hC ⟨_, rfl, hF⟩ dX0_says_81 hu.1 hu.2
          · have hF := hF
            refine g_catch hC hT [⟨23, 65, 106, 97⟩, ⟨66, 73, 106, 97⟩, ⟨74, 81, 106, 97⟩, ⟨82, 89, 106, 97⟩, ⟨90, 97, 106, 97⟩, ⟨98, 105, 106, 97⟩, ⟨23, 65, 116, 173⟩, ⟨66, 73, 116, 173⟩] ⟨74, 81, 116, 173⟩ [⟨82, 89, 116, 173⟩, ⟨90, 97, 116, 173⟩, ⟨98, 105, 116, 173⟩] rfl (List.forall_mem_cons.mpr ⟨Or.inl rfl, (List.forall_mem_cons.mpr ⟨Or.inl rfl, (List.forall_mem_cons.mpr ⟨Or.inr ⟨by decide, _, q279, nc_ClassCastException_Refused⟩, (List.forall_mem_cons.mpr ⟨Or.inl rfl, (List.forall_mem_cons.mpr ⟨Or.inl rfl, (List.forall_mem_cons.mpr ⟨Or.inl rfl, (List.forall_mem_cons.mpr ⟨Or.inl rfl, (List.forall_mem_cons.mpr ⟨Or.inl rfl, (fun _ h => absurd h List.not_mem_nil)⟩)⟩)⟩)⟩)⟩)⟩)⟩)⟩) rfl (by decide) q517 q529 116 rfl ?_
            refine g_astore_n 117 hC (lv' := [(3, .ref _), (0, .ref _), (1, .int _), (2, .int _)]) dX0_says_116 rfl rfl (by decide) rfl ?_
            refine g_aload_n 118 hC dX0_says_117 rfl 1 rfl rfl ?_
            refine g_bipush 120 hC (-3 : Int32) dX0_says_118 (by decide) rfl ?_
            refine g_cV (rest := []) wl_X0_81 hd_X0_no (ci := 0) rfl 123 hC hF.1 (met_X0_no hF.2) rfl ⟨Nat.le_of_ble_eq_true rfl, Nat.le_of_ble_eq_true rfl⟩ hu rfl (Nat.le_of_ble_eq_true rfl) dX0_says_120 rfl (g_ty_i ((0 + c_7) + 3) ((0 + s_8) + 1010) (Nat.le_refl _) (Nat.le_refl _) (fun x_25 M_24 hF => ?_))
            exact g_ireturn hC ⟨_, rfl, hF⟩ dX0_says_123 hu.1 hu.2
        · have c : x2 = (3 : Int32) := Int32.toInt_inj.mp (c.trans (by decide))
          refine g_tsIn 82 hC (3 : Int32) c dX0_says_30 (by decide) (by decide) rfl (by decide) ?_
          have hF := hF.2.2.2.2.1 c
          refine g_aload_n 83 hC dX0_says_82 rfl 0 rfl rfl ?_
          refine g_castX (r := (some a_6)) 86 hC q452 hF (Nat.le_of_ble_eq_true rfl) (Nat.le_of_ble_eq_true rfl) dX0_says_83 rfl (fun hF => ?_) (fun q_28 hu hF => ?_)
          · have hF := hF
            refine g_cV (rest := []) wl_X0_185 hd_X8_says (ci := 8) rfl 89 hC hF.1 (met_X8_says hF.2) rfl ⟨Nat.le_of_ble_eq_true rfl, Nat.le_of_ble_eq_true rfl⟩ hu rfl (Nat.le_of_ble_eq_true rfl) dX0_says_86 rfl (g_ty_i (0 + c_7) (0 + s_8) (Nat.le_refl _) (Nat.le_refl _) (fun x_32 M_31 hF => ?_))
            exact g_ireturn hC ⟨_, rfl, hF⟩ dX0_says_89 hu.1 hu.2
          · have hF := hF
            refine g_catch hC hT [⟨23, 65, 106, 97⟩, ⟨66, 73, 106, 97⟩, ⟨74, 81, 106, 97⟩, ⟨82, 89, 106, 97⟩, ⟨90, 97, 106, 97⟩, ⟨98, 105, 106, 97⟩, ⟨23, 65, 116, 173⟩, ⟨66, 73, 116, 173⟩, ⟨74, 81, 116, 173⟩] ⟨82, 89, 116, 173⟩ [⟨90, 97, 116, 173⟩, ⟨98, 105, 116, 173⟩] rfl (List.forall_mem_cons.mpr ⟨Or.inl rfl, (List.forall_mem_cons.mpr ⟨Or.inl rfl, (List.forall_mem_cons.mpr ⟨Or.inl rfl, (List.forall_mem_cons.mpr ⟨Or.inr ⟨by decide, _, q279, nc_ClassCastException_Refused⟩, (List.forall_mem_cons.mpr ⟨Or.inl rfl, (List.forall_mem_cons.mpr ⟨Or.inl rfl, (List.forall_mem_cons.mpr ⟨Or.inl rfl, (List.forall_mem_cons.mpr ⟨Or.inl rfl, (List.forall_mem_cons.mpr ⟨Or.inl rfl, (fun _ h => absurd h List.not_mem_nil)⟩)⟩)⟩)⟩)⟩)⟩)⟩)⟩)⟩) rfl (by decide) q517 q529 116 rfl ?_
            refine g_astore_n 117 hC (lv' := [(3, .ref _), (0, .ref _), (1, .int _), (2, .int _)]) dX0_says_116 rfl rfl (by decide) rfl ?_
            refine g_aload_n 118 hC dX0_says_117 rfl 1 rfl rfl ?_
            refine g_bipush 120 hC (-3 : Int32) dX0_says_118 (by decide) rfl ?_
            refine g_cV (rest := []) wl_X0_81 hd_X0_no (ci := 0) rfl 123 hC hF.1 (met_X0_no hF.2) rfl ⟨Nat.le_of_ble_eq_true rfl, Nat.le_of_ble_eq_true rfl⟩ hu rfl (Nat.le_of_ble_eq_true rfl) dX0_says_120 rfl (g_ty_i ((0 + c_7) + 3) ((0 + s_8) + 1010) (Nat.le_refl _) (Nat.le_refl _) (fun x_30 M_29 hF => ?_))
            exact g_ireturn hC ⟨_, rfl, hF⟩ dX0_says_123 hu.1 hu.2
        · have c : x2 = (4 : Int32) := Int32.toInt_inj.mp (c.trans (by decide))
          refine g_tsIn 90 hC (4 : Int32) c dX0_says_30 (by decide) (by decide) rfl (by decide) ?_
          have hF := hF.2.2.2.2.2 c
          refine g_aload_n 91 hC dX0_says_90 rfl 0 rfl rfl ?_
          refine g_castX (r := (some a_6)) 94 hC q465 hF (Nat.le_of_ble_eq_true rfl) (Nat.le_of_ble_eq_true rfl) dX0_says_91 rfl (fun hF => ?_) (fun q_33 hu hF => ?_)
          · have hF := hF
            refine g_cV (rest := []) wl_X0_186 hd_X9_says (ci := 9) rfl 97 hC hF.1 (met_X9_says hF.2) rfl ⟨Nat.le_of_ble_eq_true rfl, Nat.le_of_ble_eq_true rfl⟩ hu rfl (Nat.le_of_ble_eq_true rfl) dX0_says_94 rfl (g_ty_i (0 + c_7) (0 + s_8) (Nat.le_refl _) (Nat.le_refl _) (fun x_37 M_36 hF => ?_))
            exact g_ireturn hC ⟨_, rfl, hF⟩ dX0_says_97 hu.1 hu.2
          · have hF := hF
            refine g_catch hC hT [⟨23, 65, 106, 97⟩, ⟨66, 73, 106, 97⟩, ⟨74, 81, 106, 97⟩, ⟨82, 89, 106, 97⟩, ⟨90, 97, 106, 97⟩, ⟨98, 105, 106, 97⟩, ⟨23, 65, 116, 173⟩, ⟨66, 73, 116, 173⟩, ⟨74, 81, 116, 173⟩, ⟨82, 89, 116, 173⟩] ⟨90, 97, 116, 173⟩ [⟨98, 105, 116, 173⟩] rfl (List.forall_mem_cons.mpr ⟨Or.inl rfl, (List.forall_mem_cons.mpr ⟨Or.inl rfl, (List.forall_mem_cons.mpr ⟨Or.inl rfl, (List.forall_mem_cons.mpr ⟨Or.inl rfl, (List.forall_mem_cons.mpr ⟨Or.inr ⟨by decide, _, q279, nc_ClassCastException_Refused⟩, (List.forall_mem_cons.mpr ⟨Or.inl rfl, (List.forall_mem_cons.mpr ⟨Or.inl rfl, (List.forall_mem_cons.mpr ⟨Or.inl rfl, (List.forall_mem_cons.mpr ⟨Or.inl rfl, (List.forall_mem_cons.mpr ⟨Or.inl rfl, (fun _ h => absurd h List.not_mem_nil)⟩)⟩)⟩)⟩)⟩)⟩)⟩)⟩)⟩)⟩) rfl (by decide) q517 q529 116 rfl ?_
            refine g_astore_n 117 hC (lv' := [(3, .ref _), (0, .ref _), (1, .int _), (2, .int _)]) dX0_says_116 rfl rfl (by decide) rfl ?_
            refine g_aload_n 118 hC dX0_says_117 rfl 1 rfl rfl ?_
            refine g_bipush 120 hC (-3 : Int32) dX0_says_118 (by decide) rfl ?_
            refine g_cV (rest := []) wl_X0_81 hd_X0_no (ci := 0) rfl 123 hC hF.1 (met_X0_no hF.2) rfl ⟨Nat.le_of_ble_eq_true rfl, Nat.le_of_ble_eq_true rfl⟩ hu rfl (Nat.le_of_ble_eq_true rfl) dX0_says_120 rfl (g_ty_i ((0 + c_7) + 3) ((0 + s_8) + 1010) (Nat.le_refl _) (Nat.le_refl _) (fun x_35 M_34 hF => ?_))
            exact g_ireturn hC ⟨_, rfl, hF⟩ dX0_says_123 hu.1 hu.2
      · have hF := hF
        obtain ⟨hE_, hF⟩ := hF
        rw [hE_]
        refine g_catch hC hT [] ⟨23, 65, 106, 97⟩ [⟨66, 73, 106, 97⟩, ⟨74, 81, 106, 97⟩, ⟨82, 89, 106, 97⟩, ⟨90, 97, 106, 97⟩, ⟨98, 105, 106, 97⟩, ⟨23, 65, 116, 173⟩, ⟨66, 73, 116, 173⟩, ⟨74, 81, 116, 173⟩, ⟨82, 89, 116, 173⟩, ⟨90, 97, 116, 173⟩, ⟨98, 105, 116, 173⟩] rfl (fun _ h => absurd h List.not_mem_nil) rfl (by decide) q279 q305 106 rfl ?_
        refine g_astore_n 107 hC (lv' := [(3, .ref _), (0, .ref _), (1, .int _), (2, .int _)]) dX0_says_106 rfl rfl (by decide) rfl ?_
        refine g_aload_n 108 hC dX0_says_107 rfl 1 rfl rfl ?_
        refine g_aload_n 109 hC dX0_says_108 rfl 0 rfl rfl ?_
        refine gf_X0_110_4I 112 hC hF dX0_says_109 rfl (fun x_11 hF => ?_)
        refine g_cV (rest := []) wl_X0_81 hd_X0_no (ci := 0) rfl 115 hC hF.1 (met_X0_no hF.2) rfl ⟨Nat.le_of_ble_eq_true rfl, Nat.le_of_ble_eq_true rfl⟩ hu rfl (Nat.le_of_ble_eq_true rfl) dX0_says_112 rfl (g_ty_i (0 + c_7) (0 + s_8) (Nat.le_refl _) (Nat.le_refl _) (fun x_13 M_12 hF => ?_))
        exact g_ireturn hC ⟨_, rfl, hF⟩ dX0_says_115 hu.1 hu.2
    · have hF := hF.2 c
      refine g_sub [0] rfl ?_
      exact w_X0_says_b16 hC hT _ _ _ hu _ hF
theorem gf_X0_188_0I {G : gG} {cc : ByteArray} {nL : Nat} {ret : Option FieldType} {Qf : Option Value → gM → Prop} {rm : Room} {cells slots : Nat} {M : gM} {lv : List (Nat × Value)} {pc : Nat} {st : List Value} {a : Nat} (n : Nat) (hC : gCx G cc nL RX0 ret Qf rm) {κ : Int32 → Prop} (hF : gI M 0 a 4 κ) (hdg : decode cc pc = .ok (.getfield 188, 3)) (hn : pc + 3 = n) (kk : ∀ x, κ x → gAt G cells slots M lv n (.int x :: st)) : gAt G cells slots M lv pc (.ref a :: st) :=
  g_getI (C := RX0) (T := TX0) (N := 6) in_X0 rfl (by decide) q152 (fun _ _ _ => rfl) n hC hF hdg hn kk
theorem gf_X0_30_0N {G : gG} {cc : ByteArray} {nL : Nat} {ret : Option FieldType} {Qf : Option Value → gM → Prop} {rm : Room} {cells slots : Nat} {M : gM} {lv : List (Nat × Value)} {pc : Nat} {st : List Value} {a : Nat} (n : Nat) (hC : gCx G cc nL RX0 ret Qf rm) {κ : Nat → Prop} (hF : gN M 0 a 3 κ) (hdg : decode cc pc = .ok (.getfield 30, 3)) (hn : pc + 3 = n) (kk : ∀ x, κ x → gAt G cells slots M lv n (.ref x :: st)) : gAt G cells slots M lv pc (.ref a :: st) :=
  g_getN (C := RX0) (T := TX0) (N := 6) in_X0 rfl (by decide) q151 (fun _ _ _ => rfl) n hC hF hdg hn kk
abbrev rm_X0_feed : Room := { frames := 1, cells := 0, slots := 0, locals := 22 }
def F_X0_feed_b39 (Q : Int32 → gM → Prop)    (a0 : Nat) (x1 : Int32) : Nat → Int32 → gM → Prop
  | 0, _, _ => False
  | n + 1, x3, M =>
    ((x3 < 0 →
      gI M 0 a0 4 fun x_1 =>
      Q x_1 M) ∧
      (¬ x3 < 0 →
      gN M 0 a0 3 fun a_2 =>
      gI M 0 a0 4 fun x_3 =>
      pI M 0 a0 4 (x_3 + (1 : Int32)) fun M_4 =>
      uI M_4 a_2 x_3 ((x1 >>> (((8 : Int32) * x3) &&& 31)) &&& (255 : Int32)) fun M_5 =>
      (F_X0_feed_b39 Q a0 x1 n) (x3 + (-1 : Int32)) M_5))
theorem w_X0_feed_b39 {G : gG} {Q : Int32 → gM → Prop} (hC : gCx G cX0_feed 4 RX0 (some .int) (gQi Q) rm_X0_feed)  (a0 : Nat) (x1 : Int32)  : ∀ (n : Nat) (x3 : Int32)   (M : gM), F_X0_feed_b39 Q a0 x1 n x3 M → gAt G 0 0 M [(0, .ref a0), (1, .int x1), (3, .int x3)] 39 [] := by
  intro n
  induction n with
  | zero =>
    intro x3 M hF
    exact hF.elim
  | succ n ih =>
    intro x3 M hF
    have hK39 := ih
    unfold F_X0_feed_b39 at hF
    refine g_iload_n 40 hC dX0_feed_39 rfl 2 rfl rfl ?_
    refine g_if_lt 43 75 hC dX0_feed_40 (by decide) rfl (fun c => ?_) (fun c => ?_)
    · have hF := hF.1 c
      refine g_aload_n 76 hC dX0_feed_75 rfl 0 rfl rfl ?_
      refine gf_X0_188_0I 79 hC hF dX0_feed_76 rfl (fun x_1 hF => ?_)
      exact g_ireturn hC ⟨_, rfl, hF⟩ dX0_feed_79 (Nat.zero_le _) (Nat.zero_le _)
    · have hF := hF.2 c
      refine g_aload_n 44 hC dX0_feed_43 rfl 0 rfl rfl ?_
      refine gf_X0_30_0N 47 hC hF dX0_feed_44 rfl (fun a_2 hF => ?_)
      refine g_aload_n 48 hC dX0_feed_47 rfl 0 rfl rfl ?_
      refine g_dup 49 hC dX0_feed_48 rfl rfl ?_
      refine gf_X0_188_0I 52 hC hF dX0_feed_49 rfl (fun x_3 hF => ?_)
      refine g_dup_x1 53 hC dX0_feed_52 rfl rfl rfl ?_
      refine g_iconst 54 hC (1 : Int32) dX0_feed_53 (by decide) rfl ?_
      refine g_iadd 55 hC dX0_feed_54 rfl ?_
      refine g_putI (C := RX0) (T := TX0) (N := 6) (ci := 0) (k := 4) (ty := .int) in_X0 tyX0 tyX0_ok nmX0 rfl (by decide) q152 rfl rfl (fun _ _ _ => rfl) rfl rfl 58 hC hF dX0_feed_55 rfl (fun M_4 hF => ?_)
      refine g_iload_n 59 hC dX0_feed_58 rfl 1 rfl rfl ?_
      refine g_bipush 61 hC (8 : Int32) dX0_feed_59 (by decide) rfl ?_
      refine g_iload_n 62 hC dX0_feed_61 rfl 2 rfl rfl ?_
      refine g_imul 63 hC dX0_feed_62 rfl ?_
      refine g_ishr 64 hC dX0_feed_63 rfl ?_
      refine g_sipush 67 hC (255 : Int32) dX0_feed_64 (by decide) rfl ?_
      refine g_iand 68 hC dX0_feed_67 rfl ?_
      refine g_iast 69 hC hF dX0_feed_68 rfl (fun M_5 hF => ?_)
      refine g_iinc 72 hC (x3 + (-1 : Int32)) (lv' := [(3, .int _), (0, .ref _), (1, .int _)]) dX0_feed_69 rfl 2 rfl rfl (by decide) rfl ?_
      refine g_goto 39 hC dX0_feed_72 (by decide) ?_
      refine g_sub [1, 2, 0] rfl ?_
      exact hK39 _ _ hF
def F_X0_feed  (M : gM) (a0 : Nat) (x1 : Int32) (x2 : Int32) (Q : Int32 → gM → Prop)  : Prop :=
  F_X0_isIn M x2 (1 : Int32) (4 : Int32) fun x_2 M_1 =>
  ((¬ x_2 = 0 →
    gI M_1 0 a0 4 fun x_3 =>
    (((x_3 + x2) ≤ (160 : Int32) →
      ∃ n_4, F_X0_feed_b39 Q a0 x1 n_4 (x2 - (1 : Int32)) M_1) ∧
      (¬ (x_3 + x2) ≤ (160 : Int32) →
      rc M_1 0 a0 ∧ F_X0_no M_1 a0 (-6 : Int32) fun x_6 M_5 =>
      Q x_6 M_5))) ∧
    (x_2 = 0 →
    rc M_1 0 a0 ∧ F_X0_no M_1 a0 (-2 : Int32) fun x_8 M_7 =>
    Q x_8 M_7))
theorem met_X0_feed {M : gM} {a0 : Nat} {x1 : Int32} {x2 : Int32} {Q : Int32 → gM → Prop} (hF : F_X0_feed M a0 x1 x2 Q) : gMt yX0_feed (ws_ yX0_feed cX0_feed 4 (some .int)) rm_X0_feed M [.ref a0, .int x1, .int x2] (gQi Q) := by
  refine gMet (bytes := cX0_feed) (maxL := 4) (ret := (some .int)) rfl rfl (by decide) (Nat.le_of_ble_eq_true rfl) (lv := [(0, .ref a0), (1, .int x1), (2, .int x2)]) rfl (fun G hC hin => ?_)
  unfold F_X0_feed at hF
  refine g_iload_n 1 hC dX0_feed_0 rfl 2 rfl rfl ?_
  refine g_iconst 2 hC (1 : Int32) dX0_feed_1 (by decide) rfl ?_
  refine g_iconst 3 hC (4 : Int32) dX0_feed_2 (by decide) rfl ?_
  refine g_cS (rest := []) wl_X0_37 hd_X0_isIn 6 hC (met_X0_isIn hF) rfl ⟨Nat.le_of_ble_eq_true rfl, Nat.le_of_ble_eq_true rfl⟩ ⟨Nat.zero_le _, Nat.zero_le _⟩ rfl (Nat.le_of_ble_eq_true rfl) dX0_feed_3 rfl (g_ty_i 0 0 (Nat.le_refl _) (Nat.le_refl _) (fun x_2 M_1 hF => ?_))
  refine g_if_ne 9 16 hC dX0_feed_6 (by decide) rfl (fun c => ?_) (fun c => ?_)
  · have hF := hF.1 c
    refine g_aload_n 17 hC dX0_feed_16 rfl 0 rfl rfl ?_
    refine gf_X0_188_0I 20 hC hF dX0_feed_17 rfl (fun x_3 hF => ?_)
    refine g_iload_n 21 hC dX0_feed_20 rfl 2 rfl rfl ?_
    refine g_iadd 22 hC dX0_feed_21 rfl ?_
    refine g_sipush 25 hC (160 : Int32) dX0_feed_22 (by decide) rfl ?_
    refine g_icmp_le 28 35 hC dX0_feed_25 (by decide) rfl (fun c => ?_) (fun c => ?_)
    · have hF := hF.1 c
      refine g_iload_n 36 hC dX0_feed_35 rfl 2 rfl rfl ?_
      refine g_iconst 37 hC (1 : Int32) dX0_feed_36 (by decide) rfl ?_
      refine g_isub 38 hC dX0_feed_37 rfl ?_
      refine g_istore_n 39 hC (lv' := [(3, .int _), (0, .ref _), (1, .int _), (2, .int _)]) dX0_feed_38 rfl rfl (by decide) rfl ?_
      refine g_sub [1, 2, 0] rfl ?_
      obtain ⟨n_4, hF⟩ := hF
      exact w_X0_feed_b39 hC _ _ n_4 _ _ hF
    · have hF := hF.2 c
      refine g_aload_n 29 hC dX0_feed_28 rfl 0 rfl rfl ?_
      refine g_bipush 31 hC (-6 : Int32) dX0_feed_29 (by decide) rfl ?_
      refine g_cV (rest := []) wl_X0_81 hd_X0_no (ci := 0) rfl 34 hC hF.1 (met_X0_no hF.2) rfl ⟨Nat.le_of_ble_eq_true rfl, Nat.le_of_ble_eq_true rfl⟩ ⟨Nat.zero_le _, Nat.zero_le _⟩ rfl (Nat.le_of_ble_eq_true rfl) dX0_feed_31 rfl (g_ty_i 0 0 (Nat.le_refl _) (Nat.le_refl _) (fun x_6 M_5 hF => ?_))
      exact g_ireturn hC ⟨_, rfl, hF⟩ dX0_feed_34 (Nat.zero_le _) (Nat.zero_le _)
  · have hF := hF.2 c
    refine g_aload_n 10 hC dX0_feed_9 rfl 0 rfl rfl ?_
    refine g_bipush 12 hC (-2 : Int32) dX0_feed_10 (by decide) rfl ?_
    refine g_cV (rest := []) wl_X0_81 hd_X0_no (ci := 0) rfl 15 hC hF.1 (met_X0_no hF.2) rfl ⟨Nat.le_of_ble_eq_true rfl, Nat.le_of_ble_eq_true rfl⟩ ⟨Nat.zero_le _, Nat.zero_le _⟩ rfl (Nat.le_of_ble_eq_true rfl) dX0_feed_12 rfl (g_ty_i 0 0 (Nat.le_refl _) (Nat.le_refl _) (fun x_8 M_7 hF => ?_))
    exact g_ireturn hC ⟨_, rfl, hF⟩ dX0_feed_15 (Nat.zero_le _) (Nat.zero_le _)
abbrev rm_X0_wipe : Room := { frames := 0, cells := 0, slots := 0, locals := 0 }
def F_X0_wipe  (M : gM) (a0 : Nat) (Q : Int32 → gM → Prop)  : Prop :=
  gI M 0 a0 4 fun x_1 =>
  pI M 0 a0 4 (0 : Int32) fun M_2 =>
  Q x_1 M_2
theorem met_X0_wipe {M : gM} {a0 : Nat} {Q : Int32 → gM → Prop} (hF : F_X0_wipe M a0 Q) : gMt yX0_wipe (ws_ yX0_wipe cX0_wipe 2 (some .int)) rm_X0_wipe M [.ref a0] (gQi Q) := by
  refine gMet (bytes := cX0_wipe) (maxL := 2) (ret := (some .int)) rfl rfl (by decide) (Nat.le_of_ble_eq_true rfl) (lv := [(0, .ref a0)]) rfl (fun G hC hin => ?_)
  unfold F_X0_wipe at hF
  refine g_aload_n 1 hC dX0_wipe_0 rfl 0 rfl rfl ?_
  refine gf_X0_188_0I 4 hC hF dX0_wipe_1 rfl (fun x_1 hF => ?_)
  refine g_istore_n 5 hC (lv' := [(1, .int _), (0, .ref _)]) dX0_wipe_4 rfl rfl (by decide) rfl ?_
  refine g_aload_n 6 hC dX0_wipe_5 rfl 1 rfl rfl ?_
  refine g_iconst 7 hC (0 : Int32) dX0_wipe_6 (by decide) rfl ?_
  refine g_putI (C := RX0) (T := TX0) (N := 6) (ci := 0) (k := 4) (ty := .int) in_X0 tyX0 tyX0_ok nmX0 rfl (by decide) q152 rfl rfl (fun _ _ _ => rfl) rfl rfl 10 hC hF dX0_wipe_7 rfl (fun M_2 hF => ?_)
  refine g_iload_n 11 hC dX0_wipe_10 rfl 0 rfl rfl ?_
  exact g_ireturn hC ⟨_, rfl, hF⟩ dX0_wipe_11 (Nat.zero_le _) (Nat.zero_le _)
theorem gf_X0_20_0N {G : gG} {cc : ByteArray} {nL : Nat} {ret : Option FieldType} {Qf : Option Value → gM → Prop} {rm : Room} {cells slots : Nat} {M : gM} {lv : List (Nat × Value)} {pc : Nat} {st : List Value} {a : Nat} (n : Nat) (hC : gCx G cc nL RX0 ret Qf rm) {κ : Nat → Prop} (hF : gN M 0 a 0 κ) (hdg : decode cc pc = .ok (.getfield 20, 3)) (hn : pc + 3 = n) (kk : ∀ x, κ x → gAt G cells slots M lv n (.ref x :: st)) : gAt G cells slots M lv pc (.ref a :: st) :=
  g_getN (C := RX0) (T := TX0) (N := 6) in_X0 rfl (by decide) q148 (fun _ _ _ => rfl) n hC hF hdg hn kk
theorem gf_X0_41_1I {G : gG} {cc : ByteArray} {nL : Nat} {ret : Option FieldType} {Qf : Option Value → gM → Prop} {rm : Room} {cells slots : Nat} {M : gM} {lv : List (Nat × Value)} {pc : Nat} {st : List Value} {a : Nat} (n : Nat) (hC : gCx G cc nL RX0 ret Qf rm) {κ : Int32 → Prop} (hF : gI M 1 a 1 κ) (hdg : decode cc pc = .ok (.getfield 41, 3)) (hn : pc + 3 = n) (kk : ∀ x, κ x → gAt G cells slots M lv n (.int x :: st)) : gAt G cells slots M lv pc (.ref a :: st) :=
  g_getI (C := RX1) (T := TX1) (N := 4) in_X1 rfl (by decide) q122 (fun _ _ _ => rfl) n hC hF hdg hn kk
theorem gf_X0_49_1N {G : gG} {cc : ByteArray} {nL : Nat} {ret : Option FieldType} {Qf : Option Value → gM → Prop} {rm : Room} {cells slots : Nat} {M : gM} {lv : List (Nat × Value)} {pc : Nat} {st : List Value} {a : Nat} (n : Nat) (hC : gCx G cc nL RX0 ret Qf rm) {κ : Nat → Prop} (hF : gN M 1 a 0 κ) (hdg : decode cc pc = .ok (.getfield 49, 3)) (hn : pc + 3 = n) (kk : ∀ x, κ x → gAt G cells slots M lv n (.ref x :: st)) : gAt G cells slots M lv pc (.ref a :: st) :=
  g_getN (C := RX1) (T := TX1) (N := 4) in_X1 rfl (by decide) q120 (fun _ _ _ => rfl) n hC hF hdg hn kk
theorem hd_X11_init : yX11_init.cls ≠ "java/lang/invoke/MethodHandle" ∧ yX11_init.cls ≠ "java/lang/invoke/VarHandle" ∧ (parseMethodDescriptor yX11_init.desc).map (fun d => d.parameters.length) = some 2 := by decide +kernel
theorem hd_X11_read : yX11_read.cls = RX11 ∧ yX11_read.cls ≠ "java/lang/invoke/MethodHandle" ∧ yX11_read.cls ≠ "java/lang/invoke/VarHandle" ∧ (parseMethodDescriptor yX11_read.desc).map (fun d => d.parameters.length) = some 0 := by decide +kernel
theorem gf_X0_202_13I {G : gG} {cc : ByteArray} {nL : Nat} {ret : Option FieldType} {Qf : Option Value → gM → Prop} {rm : Room} {cells slots : Nat} {M : gM} {lv : List (Nat × Value)} {pc : Nat} {st : List Value} {a : Nat} (n : Nat) (hC : gCx G cc nL RX0 ret Qf rm) {κ : Int32 → Prop} (hF : gI M 13 a 6 κ) (hdg : decode cc pc = .ok (.getfield 202, 3)) (hn : pc + 3 = n) (kk : ∀ x, κ x → gAt G cells slots M lv n (.int x :: st)) : gAt G cells slots M lv pc (.ref a :: st) :=
  g_getI (C := RX13) (T := TX13) (N := 7) in_X13 rfl (by decide) q885 (fun _ _ _ => rfl) n hC hF hdg hn kk
theorem wl_X0_196 : GoodIn lw_all (wsV RX0 196 RX11 yX11_read (ws_ yX11_read cX11_read 1 (some (.object "SendTheBox$House")))) := lw_V q677 q678 q679 q91 q680
abbrev rm_X0_house (Lc Ls : Nat) : Room := { frames := 12, cells := Lc, slots := Ls, locals := 307 }
def F_X0_house (Lc Ls : Nat) (M : gM) (a0 : Nat) (Q : Int32 → gM → Prop)  : Prop :=
  gN M 0 a0 0 fun a_1 =>
  gI M 1 a_1 1 fun x_2 =>
  ((¬ x_2 = (6 : Int32) →
    gN M 0 a0 0 fun a_3 =>
    gN M 1 a_3 0 fun a_4 =>
    gN M 0 a0 0 fun a_5 =>
    gI M 1 a_5 1 fun x_6 =>
    nO M 0 0 Lc Ls 11 7 fun a_7 M_8 =>
    gN M_8 0 a0 3 fun a_9 =>
    gI M_8 0 a0 4 fun x_10 =>
    ∃ c_13 s_14, ((0 + 1) + c_13 ≤ Lc ∧ (0 + 7) + s_14 ≤ Ls) ∧
    F_X11_init c_13 s_14 M_8 a_7 a_9 x_10 fun M_11 =>
    ∃ c_17 s_18, (((0 + 1) + c_13) + c_17 ≤ Lc ∧ ((0 + 7) + s_14) + s_18 ≤ Ls) ∧
    rc M_11 11 a_7 ∧ F_X11_read c_17 s_18 M_11 a_7 (fun a_16 M_15 =>
    uR M_15 (.object "SendTheBox$House") 12 a_4 x_6 a_16 fun M_25 =>
      gN M_25 0 a0 0 fun a_26 =>
      gI M_25 1 a_26 1 fun x_27 =>
      pI M_25 1 a_26 1 (x_27 + (1 : Int32)) fun M_28 =>
      pI M_28 0 a0 4 (0 : Int32) fun M_29 =>
      Q x_27 M_29) (fun E_ q_19 M_20 =>
      (E_ = "SendTheBox$Fault" ∧
      rc M_20 0 a0 ∧ F_X0_no M_20 a0 (-2 : Int32) fun x_22 M_21 =>
      gI M_21 13 q_19 6 fun x_23 =>
      pI M_21 0 a0 4 (0 : Int32) fun M_24 =>
      Q ((-20 : Int32) - x_23) M_24))) ∧
    (x_2 = (6 : Int32) →
    rc M 0 a0 ∧ F_X0_no M a0 (-6 : Int32) fun x_31 M_30 =>
    Q x_31 M_30))
theorem met_X0_house {M : gM} {a0 : Nat} {Q : Int32 → gM → Prop} {Lc Ls : Nat} (hF : F_X0_house Lc Ls M a0 Q) : gMx yX0_house (wsW_ yX0_house cX0_house 4 (some .int) [(19, 67, 74, 200), (19, 67, 97, 0), (74, 90, 97, 0)]) (rm_X0_house Lc Ls) M [.ref a0] (gQi Q) (fun _ _ _ => False) := by
  refine gMetH (bytes := cX0_house) (maxL := 4) (ret := (some .int)) (hh := [(19, 67, 74, 200), (19, 67, 97, 0), (74, 90, 97, 0)]) rfl rfl (by decide) (Nat.le_of_ble_eq_true rfl) (lv := [(0, .ref a0)]) rfl (fun G hC hT hin => ?_)
  have hu : 0 ≤ Lc ∧ 0 ≤ Ls := ⟨Nat.zero_le _, Nat.zero_le _⟩
  unfold F_X0_house at hF
  refine g_aload_n 1 hC dX0_house_0 rfl 0 rfl rfl ?_
  refine gf_X0_20_0N 4 hC hF dX0_house_1 rfl (fun a_1 hF => ?_)
  refine gf_X0_41_1I 7 hC hF dX0_house_4 rfl (fun x_2 hF => ?_)
  refine g_bipush 9 hC (6 : Int32) dX0_house_7 (by decide) rfl ?_
  refine g_icmp_ne 12 19 hC dX0_house_9 (by decide) rfl (fun c => ?_) (fun c => ?_)
  · have hF := hF.1 c
    refine g_aload_n 20 hC dX0_house_19 rfl 0 rfl rfl ?_
    refine gf_X0_20_0N 23 hC hF dX0_house_20 rfl (fun a_3 hF => ?_)
    refine gf_X0_49_1N 26 hC hF dX0_house_23 rfl (fun a_4 hF => ?_)
    refine g_aload_n 27 hC dX0_house_26 rfl 0 rfl rfl ?_
    refine gf_X0_20_0N 30 hC hF dX0_house_27 rfl (fun a_5 hF => ?_)
    refine gf_X0_41_1I 33 hC hF dX0_house_30 rfl (fun x_6 hF => ?_)
    have hu := hF.1
    refine g_new (C := RX11) (T := TX11) (N := 7) (ci := 11) in_X11 tyX11_ok (by decide) rfl q565 q566 q91 36 hC hF dX0_house_33 rfl (fun a_7 M_8 hF => ?_)
    refine g_dup 37 hC dX0_house_36 rfl rfl ?_
    refine g_aload_n 38 hC dX0_house_37 rfl 0 rfl rfl ?_
    refine gf_X0_30_0N 41 hC hF dX0_house_38 rfl (fun a_9 hF => ?_)
    refine g_aload_n 42 hC dX0_house_41 rfl 0 rfl rfl ?_
    refine gf_X0_188_0I 45 hC hF dX0_house_42 rfl (fun x_10 hF => ?_)
    obtain ⟨c_13, s_14, hu, hF⟩ := hF
    refine g_cI (rest := [_, _, _]) q569 q91 q567 q568 rfl hd_X11_init 48 hC (met_X11_init hF) rfl ⟨Nat.le_of_ble_eq_true rfl, Nat.le_of_ble_eq_true rfl⟩ hu rfl (Nat.le_of_ble_eq_true rfl) dX0_house_45 rfl (g_ty_v ((0 + 1) + c_13) ((0 + 7) + s_14) (Nat.le_refl _) (Nat.le_refl _) (fun M_11 hF => ?_))
    obtain ⟨c_17, s_18, hu, hF⟩ := hF
    refine g_xV (rest := [_, _]) wl_X0_196 hd_X11_read (ci := 11) rfl 51 hC hF.1 (met_X11_read hF.2) rfl ⟨Nat.le_of_ble_eq_true rfl, Nat.le_of_ble_eq_true rfl⟩ hu rfl (Nat.le_of_ble_eq_true rfl) dX0_house_48 rfl (g_ty_a (((0 + 1) + c_13) + c_17) (((0 + 7) + s_14) + s_18) (Nat.le_refl _) (Nat.le_refl _) (fun a_16 M_15 hF => ?_)) (g_tx (((0 + 1) + c_13) + c_17) (((0 + 7) + s_14) + s_18) (Nat.le_refl _) (Nat.le_refl _) (fun E_ q_19 M_20 hF => ?_))
    · have hF := hF
      refine g_aast (C := RX12) (by decide) rfl 52 hC hF dX0_house_51 rfl (fun M_25 hF => ?_)
      refine g_aload_n 53 hC dX0_house_52 rfl 0 rfl rfl ?_
      refine gf_X0_20_0N 56 hC hF dX0_house_53 rfl (fun a_26 hF => ?_)
      refine g_dup 57 hC dX0_house_56 rfl rfl ?_
      refine gf_X0_41_1I 60 hC hF dX0_house_57 rfl (fun x_27 hF => ?_)
      refine g_dup_x1 61 hC dX0_house_60 rfl rfl rfl ?_
      refine g_iconst 62 hC (1 : Int32) dX0_house_61 (by decide) rfl ?_
      refine g_iadd 63 hC dX0_house_62 rfl ?_
      refine g_putI (C := RX1) (T := TX1) (N := 4) (ci := 1) (k := 1) (ty := .int) in_X1 tyX1 tyX1_ok nmX1 rfl (by decide) q122 rfl rfl (fun _ _ _ => rfl) rfl rfl 66 hC hF dX0_house_63 rfl (fun M_28 hF => ?_)
      refine g_istore_n 67 hC (lv' := [(1, .int _), (0, .ref _)]) dX0_house_66 rfl rfl (by decide) rfl ?_
      refine g_aload_n 68 hC dX0_house_67 rfl 1 rfl rfl ?_
      refine g_iconst 69 hC (0 : Int32) dX0_house_68 (by decide) rfl ?_
      refine g_putI (C := RX0) (T := TX0) (N := 6) (ci := 0) (k := 4) (ty := .int) in_X0 tyX0 tyX0_ok nmX0 rfl (by decide) q152 rfl rfl (fun _ _ _ => rfl) rfl rfl 72 hC hF dX0_house_69 rfl (fun M_29 hF => ?_)
      refine g_iload_n 73 hC dX0_house_72 rfl 0 rfl rfl ?_
      exact g_ireturn hC ⟨_, rfl, hF⟩ dX0_house_73 hu.1 hu.2
    · have hF := hF
      obtain ⟨hE_, hF⟩ := hF
      rw [hE_]
      refine g_catch hC hT [] ⟨19, 67, 74, 200⟩ [⟨19, 67, 97, 0⟩, ⟨74, 90, 97, 0⟩] rfl (fun _ h => absurd h List.not_mem_nil) rfl (by decide) q564 q873 74 rfl ?_
      refine g_astore_n 75 hC (lv' := [(1, .ref _), (0, .ref _)]) dX0_house_74 rfl rfl (by decide) rfl ?_
      refine g_aload_n 76 hC dX0_house_75 rfl 1 rfl rfl ?_
      refine g_bipush 78 hC (-2 : Int32) dX0_house_76 (by decide) rfl ?_
      refine g_cV (rest := []) wl_X0_81 hd_X0_no (ci := 0) rfl 81 hC hF.1 (met_X0_no hF.2) rfl ⟨Nat.le_of_ble_eq_true rfl, Nat.le_of_ble_eq_true rfl⟩ hu rfl (Nat.le_of_ble_eq_true rfl) dX0_house_78 rfl (g_ty_i (((0 + 1) + c_13) + c_17) (((0 + 7) + s_14) + s_18) (Nat.le_refl _) (Nat.le_refl _) (fun x_22 M_21 hF => ?_))
      refine g_pop 82 hC dX0_house_81 rfl rfl ?_
      refine g_bipush 84 hC (-20 : Int32) dX0_house_82 (by decide) rfl ?_
      refine g_aload_n 85 hC dX0_house_84 rfl 0 rfl rfl ?_
      refine gf_X0_202_13I 88 hC hF dX0_house_85 rfl (fun x_23 hF => ?_)
      refine g_isub 89 hC dX0_house_88 rfl ?_
      refine g_istore_n 90 hC (lv' := [(2, .int _), (1, .ref _), (0, .ref _)]) dX0_house_89 rfl rfl (by decide) rfl ?_
      refine g_aload_n 91 hC dX0_house_90 rfl 2 rfl rfl ?_
      refine g_iconst 92 hC (0 : Int32) dX0_house_91 (by decide) rfl ?_
      refine g_putI (C := RX0) (T := TX0) (N := 6) (ci := 0) (k := 4) (ty := .int) in_X0 tyX0 tyX0_ok nmX0 rfl (by decide) q152 rfl rfl (fun _ _ _ => rfl) rfl rfl 95 hC hF dX0_house_92 rfl (fun M_24 hF => ?_)
      refine g_iload_n 96 hC dX0_house_95 rfl 0 rfl rfl ?_
      exact g_ireturn hC ⟨_, rfl, hF⟩ dX0_house_96 hu.1 hu.2
  · have hF := hF.2 c
    refine g_aload_n 13 hC dX0_house_12 rfl 0 rfl rfl ?_
    refine g_bipush 15 hC (-6 : Int32) dX0_house_13 (by decide) rfl ?_
    refine g_cV (rest := []) wl_X0_81 hd_X0_no (ci := 0) rfl 18 hC hF.1 (met_X0_no hF.2) rfl ⟨Nat.le_of_ble_eq_true rfl, Nat.le_of_ble_eq_true rfl⟩ hu rfl (Nat.le_of_ble_eq_true rfl) dX0_house_15 rfl (g_ty_i 0 0 (Nat.le_refl _) (Nat.le_refl _) (fun x_31 M_30 hF => ?_))
    exact g_ireturn hC ⟨_, rfl, hF⟩ dX0_house_18 hu.1 hu.2
abbrev rm_X0_isHouse : Room := { frames := 1, cells := 0, slots := 0, locals := 22 }
def F_X0_isHouse  (M : gM) (a0 : Nat) (x1 : Int32) (Q : Int32 → gM → Prop)  : Prop :=
  gN M 0 a0 0 fun a_1 =>
  gI M 1 a_1 1 fun x_2 =>
  F_X0_isIn M x1 (0 : Int32) (x_2 - (1 : Int32)) fun x_4 M_3 =>
  zq x_4 (Q x_4 M_3)
theorem met_X0_isHouse {M : gM} {a0 : Nat} {x1 : Int32} {Q : Int32 → gM → Prop} (hF : F_X0_isHouse M a0 x1 Q) : gMt yX0_isHouse (ws_ yX0_isHouse cX0_isHouse 2 (some .boolean)) rm_X0_isHouse M [.ref a0, .int x1] (gQi Q) := by
  refine gMet (bytes := cX0_isHouse) (maxL := 2) (ret := (some .boolean)) rfl rfl (by decide) (Nat.le_of_ble_eq_true rfl) (lv := [(0, .ref a0), (1, .int x1)]) rfl (fun G hC hin => ?_)
  unfold F_X0_isHouse at hF
  refine g_iload_n 1 hC dX0_isHouse_0 rfl 1 rfl rfl ?_
  refine g_iconst 2 hC (0 : Int32) dX0_isHouse_1 (by decide) rfl ?_
  refine g_aload_n 3 hC dX0_isHouse_2 rfl 0 rfl rfl ?_
  refine gf_X0_20_0N 6 hC hF dX0_isHouse_3 rfl (fun a_1 hF => ?_)
  refine gf_X0_41_1I 9 hC hF dX0_isHouse_6 rfl (fun x_2 hF => ?_)
  refine g_iconst 10 hC (1 : Int32) dX0_isHouse_9 (by decide) rfl ?_
  refine g_isub 11 hC dX0_isHouse_10 rfl ?_
  refine g_cS (rest := []) wl_X0_37 hd_X0_isIn 14 hC (met_X0_isIn hF) rfl ⟨Nat.le_of_ble_eq_true rfl, Nat.le_of_ble_eq_true rfl⟩ ⟨Nat.zero_le _, Nat.zero_le _⟩ rfl (Nat.le_of_ble_eq_true rfl) dX0_isHouse_11 rfl (g_ty_i 0 0 (Nat.le_refl _) (Nat.le_refl _) (fun x_4 M_3 hF => ?_))
  exact g_zreturn hC ⟨_, rfl, hF.2⟩ hF.1 dX0_isHouse_14 (Nat.zero_le _) (Nat.zero_le _)
theorem hd_X0_isHouse : yX0_isHouse.cls = RX0 ∧ yX0_isHouse.cls ≠ "java/lang/invoke/MethodHandle" ∧ yX0_isHouse.cls ≠ "java/lang/invoke/VarHandle" ∧ (parseMethodDescriptor yX0_isHouse.desc).map (fun d => d.parameters.length) = some 1 := by decide +kernel
theorem wl_X0_45 : GoodIn lw_all (wsV RX0 45 RX0 yX0_isHouse (ws_ yX0_isHouse cX0_isHouse 2 (some .boolean))) := lw_V q935 q937 qs14 q69 q938
theorem gf_X0_62_12I {G : gG} {cc : ByteArray} {nL : Nat} {ret : Option FieldType} {Qf : Option Value → gM → Prop} {rm : Room} {cells slots : Nat} {M : gM} {lv : List (Nat × Value)} {pc : Nat} {st : List Value} {a : Nat} (n : Nat) (hC : gCx G cc nL RX0 ret Qf rm) {κ : Int32 → Prop} (hF : gI M 12 a 0 κ) (hdg : decode cc pc = .ok (.getfield 62, 3)) (hn : pc + 3 = n) (kk : ∀ x, κ x → gAt G cells slots M lv n (.int x :: st)) : gAt G cells slots M lv pc (.ref a :: st) :=
  g_getI (C := RX12) (T := TX12) (N := 17) in_X12 rfl (by decide) q580 (fun _ _ _ => rfl) n hC hF hdg hn kk
theorem gf_X0_205_12I {G : gG} {cc : ByteArray} {nL : Nat} {ret : Option FieldType} {Qf : Option Value → gM → Prop} {rm : Room} {cells slots : Nat} {M : gM} {lv : List (Nat × Value)} {pc : Nat} {st : List Value} {a : Nat} (n : Nat) (hC : gCx G cc nL RX0 ret Qf rm) {κ : Int32 → Prop} (hF : gI M 12 a 1 κ) (hdg : decode cc pc = .ok (.getfield 205, 3)) (hn : pc + 3 = n) (kk : ∀ x, κ x → gAt G cells slots M lv n (.int x :: st)) : gAt G cells slots M lv pc (.ref a :: st) :=
  g_getI (C := RX12) (T := TX12) (N := 17) in_X12 rfl (by decide) q584 (fun _ _ _ => rfl) n hC hF hdg hn kk
theorem gf_X0_208_12I {G : gG} {cc : ByteArray} {nL : Nat} {ret : Option FieldType} {Qf : Option Value → gM → Prop} {rm : Room} {cells slots : Nat} {M : gM} {lv : List (Nat × Value)} {pc : Nat} {st : List Value} {a : Nat} (n : Nat) (hC : gCx G cc nL RX0 ret Qf rm) {κ : Int32 → Prop} (hF : gI M 12 a 2 κ) (hdg : decode cc pc = .ok (.getfield 208, 3)) (hn : pc + 3 = n) (kk : ∀ x, κ x → gAt G cells slots M lv n (.int x :: st)) : gAt G cells slots M lv pc (.ref a :: st) :=
  g_getI (C := RX12) (T := TX12) (N := 17) in_X12 rfl (by decide) q587 (fun _ _ _ => rfl) n hC hF hdg hn kk
theorem gf_X0_211_12I {G : gG} {cc : ByteArray} {nL : Nat} {ret : Option FieldType} {Qf : Option Value → gM → Prop} {rm : Room} {cells slots : Nat} {M : gM} {lv : List (Nat × Value)} {pc : Nat} {st : List Value} {a : Nat} (n : Nat) (hC : gCx G cc nL RX0 ret Qf rm) {κ : Int32 → Prop} (hF : gI M 12 a 3 κ) (hdg : decode cc pc = .ok (.getfield 211, 3)) (hn : pc + 3 = n) (kk : ∀ x, κ x → gAt G cells slots M lv n (.int x :: st)) : gAt G cells slots M lv pc (.ref a :: st) :=
  g_getI (C := RX12) (T := TX12) (N := 17) in_X12 rfl (by decide) q591 (fun _ _ _ => rfl) n hC hF hdg hn kk
theorem gf_X0_53_12I {G : gG} {cc : ByteArray} {nL : Nat} {ret : Option FieldType} {Qf : Option Value → gM → Prop} {rm : Room} {cells slots : Nat} {M : gM} {lv : List (Nat × Value)} {pc : Nat} {st : List Value} {a : Nat} (n : Nat) (hC : gCx G cc nL RX0 ret Qf rm) {κ : Int32 → Prop} (hF : gI M 12 a 4 κ) (hdg : decode cc pc = .ok (.getfield 53, 3)) (hn : pc + 3 = n) (kk : ∀ x, κ x → gAt G cells slots M lv n (.int x :: st)) : gAt G cells slots M lv pc (.ref a :: st) :=
  g_getI (C := RX12) (T := TX12) (N := 17) in_X12 rfl (by decide) q595 (fun _ _ _ => rfl) n hC hF hdg hn kk
abbrev rm_X0_houseOf : Room := { frames := 2, cells := 0, slots := 0, locals := 43 }
def F_X0_houseOf  (M : gM) (a0 : Nat) (x1 : Int32) (x2 : Int32) (Q : Int32 → gM → Prop)  : Prop :=
  rc M 0 a0 ∧ F_X0_isHouse M a0 x1 fun x_2 M_1 =>
  ((¬ x_2 = 0 →
    gN M_1 0 a0 0 fun a_3 =>
    gN M_1 1 a_3 0 fun a_4 =>
    aN M_1 (.object "SendTheBox$House") a_4 x1 fun a_5 =>
    (((x2.toInt < 0 ∨ 4 < x2.toInt) →
      rc M_1 0 a0 ∧ F_X0_no M_1 a0 (-2 : Int32) fun x_7 M_6 =>
      Q x_7 M_6) ∧
      (x2 = (0 : Int32) →
      gI M_1 12 a_5 0 fun x_8 =>
      Q x_8 M_1) ∧
      (x2 = (1 : Int32) →
      gI M_1 12 a_5 1 fun x_9 =>
      Q x_9 M_1) ∧
      (x2 = (2 : Int32) →
      gI M_1 12 a_5 2 fun x_10 =>
      Q x_10 M_1) ∧
      (x2 = (3 : Int32) →
      gI M_1 12 a_5 3 fun x_11 =>
      Q x_11 M_1) ∧
      (x2 = (4 : Int32) →
      gI M_1 12 a_5 4 fun x_12 =>
      Q x_12 M_1))) ∧
    (x_2 = 0 →
    rc M_1 0 a0 ∧ F_X0_no M_1 a0 (-2 : Int32) fun x_14 M_13 =>
    Q x_14 M_13))
theorem met_X0_houseOf {M : gM} {a0 : Nat} {x1 : Int32} {x2 : Int32} {Q : Int32 → gM → Prop} (hF : F_X0_houseOf M a0 x1 x2 Q) : gMt yX0_houseOf (ws_ yX0_houseOf cX0_houseOf 4 (some .int)) rm_X0_houseOf M [.ref a0, .int x1, .int x2] (gQi Q) := by
  refine gMet (bytes := cX0_houseOf) (maxL := 4) (ret := (some .int)) rfl rfl (by decide) (Nat.le_of_ble_eq_true rfl) (lv := [(0, .ref a0), (1, .int x1), (2, .int x2)]) rfl (fun G hC hin => ?_)
  unfold F_X0_houseOf at hF
  refine g_aload_n 1 hC dX0_houseOf_0 rfl 0 rfl rfl ?_
  refine g_iload_n 2 hC dX0_houseOf_1 rfl 1 rfl rfl ?_
  refine g_cV (rest := []) wl_X0_45 hd_X0_isHouse (ci := 0) rfl 5 hC hF.1 (met_X0_isHouse hF.2) rfl ⟨Nat.le_of_ble_eq_true rfl, Nat.le_of_ble_eq_true rfl⟩ ⟨Nat.zero_le _, Nat.zero_le _⟩ rfl (Nat.le_of_ble_eq_true rfl) dX0_houseOf_2 rfl (g_ty_i 0 0 (Nat.le_refl _) (Nat.le_refl _) (fun x_2 M_1 hF => ?_))
  refine g_if_ne 8 15 hC dX0_houseOf_5 (by decide) rfl (fun c => ?_) (fun c => ?_)
  · have hF := hF.1 c
    refine g_aload_n 16 hC dX0_houseOf_15 rfl 0 rfl rfl ?_
    refine gf_X0_20_0N 19 hC hF dX0_houseOf_16 rfl (fun a_3 hF => ?_)
    refine gf_X0_49_1N 22 hC hF dX0_houseOf_19 rfl (fun a_4 hF => ?_)
    refine g_iload_n 23 hC dX0_houseOf_22 rfl 1 rfl rfl ?_
    refine g_aaldN 24 hC hF (by decide) rfl (fun _ _ _ => rfl) dX0_houseOf_23 rfl (fun a_5 hF => ?_)
    refine g_astore_n 25 hC (lv' := [(3, .ref _), (0, .ref _), (1, .int _), (2, .int _)]) dX0_houseOf_24 rfl rfl (by decide) rfl ?_
    refine g_iload_n 26 hC dX0_houseOf_25 rfl 3 rfl rfl ?_
    rcases (by omega : ((x2.toInt < 0 ∨ 4 < x2.toInt) ∨ x2.toInt = 0 ∨ x2.toInt = 1 ∨ x2.toInt = 2 ∨ x2.toInt = 3 ∨ x2.toInt = 4)) with c | c | c | c | c | c
    · refine g_tsOut 85 hC dX0_houseOf_26 c (by decide) ?_
      have hF := hF.1 c
      refine g_aload_n 86 hC dX0_houseOf_85 rfl 1 rfl rfl ?_
      refine g_bipush 88 hC (-2 : Int32) dX0_houseOf_86 (by decide) rfl ?_
      refine g_cV (rest := []) wl_X0_81 hd_X0_no (ci := 0) rfl 91 hC hF.1 (met_X0_no hF.2) rfl ⟨Nat.le_of_ble_eq_true rfl, Nat.le_of_ble_eq_true rfl⟩ ⟨Nat.zero_le _, Nat.zero_le _⟩ rfl (Nat.le_of_ble_eq_true rfl) dX0_houseOf_88 rfl (g_ty_i 0 0 (Nat.le_refl _) (Nat.le_refl _) (fun x_7 M_6 hF => ?_))
      exact g_ireturn hC ⟨_, rfl, hF⟩ dX0_houseOf_91 (Nat.zero_le _) (Nat.zero_le _)
    · have c : x2 = (0 : Int32) := Int32.toInt_inj.mp (c.trans (by decide))
      refine g_tsIn 60 hC (0 : Int32) c dX0_houseOf_26 (by decide) (by decide) rfl (by decide) ?_
      have hF := hF.2.1 c
      refine g_aload_n 61 hC dX0_houseOf_60 rfl 0 rfl rfl ?_
      refine gf_X0_62_12I 64 hC hF dX0_houseOf_61 rfl (fun x_8 hF => ?_)
      exact g_ireturn hC ⟨_, rfl, hF⟩ dX0_houseOf_64 (Nat.zero_le _) (Nat.zero_le _)
    · have c : x2 = (1 : Int32) := Int32.toInt_inj.mp (c.trans (by decide))
      refine g_tsIn 65 hC (1 : Int32) c dX0_houseOf_26 (by decide) (by decide) rfl (by decide) ?_
      have hF := hF.2.2.1 c
      refine g_aload_n 66 hC dX0_houseOf_65 rfl 0 rfl rfl ?_
      refine gf_X0_205_12I 69 hC hF dX0_houseOf_66 rfl (fun x_9 hF => ?_)
      exact g_ireturn hC ⟨_, rfl, hF⟩ dX0_houseOf_69 (Nat.zero_le _) (Nat.zero_le _)
    · have c : x2 = (2 : Int32) := Int32.toInt_inj.mp (c.trans (by decide))
      refine g_tsIn 70 hC (2 : Int32) c dX0_houseOf_26 (by decide) (by decide) rfl (by decide) ?_
      have hF := hF.2.2.2.1 c
      refine g_aload_n 71 hC dX0_houseOf_70 rfl 0 rfl rfl ?_
      refine gf_X0_208_12I 74 hC hF dX0_houseOf_71 rfl (fun x_10 hF => ?_)
      exact g_ireturn hC ⟨_, rfl, hF⟩ dX0_houseOf_74 (Nat.zero_le _) (Nat.zero_le _)
    · have c : x2 = (3 : Int32) := Int32.toInt_inj.mp (c.trans (by decide))
      refine g_tsIn 75 hC (3 : Int32) c dX0_houseOf_26 (by decide) (by decide) rfl (by decide) ?_
      have hF := hF.2.2.2.2.1 c
      refine g_aload_n 76 hC dX0_houseOf_75 rfl 0 rfl rfl ?_
      refine gf_X0_211_12I 79 hC hF dX0_houseOf_76 rfl (fun x_11 hF => ?_)
      exact g_ireturn hC ⟨_, rfl, hF⟩ dX0_houseOf_79 (Nat.zero_le _) (Nat.zero_le _)
    · have c : x2 = (4 : Int32) := Int32.toInt_inj.mp (c.trans (by decide))
      refine g_tsIn 80 hC (4 : Int32) c dX0_houseOf_26 (by decide) (by decide) rfl (by decide) ?_
      have hF := hF.2.2.2.2.2 c
      refine g_aload_n 81 hC dX0_houseOf_80 rfl 0 rfl rfl ?_
      refine gf_X0_53_12I 84 hC hF dX0_houseOf_81 rfl (fun x_12 hF => ?_)
      exact g_ireturn hC ⟨_, rfl, hF⟩ dX0_houseOf_84 (Nat.zero_le _) (Nat.zero_le _)
  · have hF := hF.2 c
    refine g_aload_n 9 hC dX0_houseOf_8 rfl 0 rfl rfl ?_
    refine g_bipush 11 hC (-2 : Int32) dX0_houseOf_9 (by decide) rfl ?_
    refine g_cV (rest := []) wl_X0_81 hd_X0_no (ci := 0) rfl 14 hC hF.1 (met_X0_no hF.2) rfl ⟨Nat.le_of_ble_eq_true rfl, Nat.le_of_ble_eq_true rfl⟩ ⟨Nat.zero_le _, Nat.zero_le _⟩ rfl (Nat.le_of_ble_eq_true rfl) dX0_houseOf_11 rfl (g_ty_i 0 0 (Nat.le_refl _) (Nat.le_refl _) (fun x_14 M_13 hF => ?_))
    exact g_ireturn hC ⟨_, rfl, hF⟩ dX0_houseOf_14 (Nat.zero_le _) (Nat.zero_le _)
abbrev rm_X0_isSort : Room := { frames := 2, cells := 0, slots := 0, locals := 43 }
def F_X0_isSort  (M : gM) (a0 : Nat) (x1 : Int32) (x2 : Int32) (Q : Int32 → gM → Prop)  : Prop :=
  rc M 0 a0 ∧ F_X0_isHouse M a0 x1 fun x_2 M_1 =>
  ((x_2 = 0 →
    Q (0 : Int32) M_1) ∧
    (¬ x_2 = 0 →
    gN M_1 0 a0 0 fun a_3 =>
    gN M_1 1 a_3 0 fun a_4 =>
    aN M_1 (.object "SendTheBox$House") a_4 x1 fun a_5 =>
    gI M_1 12 a_5 4 fun x_6 =>
    F_X0_isIn M_1 x2 (0 : Int32) (x_6 - (1 : Int32)) fun x_8 M_7 =>
    ((x_8 = 0 →
      Q (0 : Int32) M_7) ∧
      (¬ x_8 = 0 →
      Q (1 : Int32) M_7))))
theorem met_X0_isSort {M : gM} {a0 : Nat} {x1 : Int32} {x2 : Int32} {Q : Int32 → gM → Prop} (hF : F_X0_isSort M a0 x1 x2 Q) : gMt yX0_isSort (ws_ yX0_isSort cX0_isSort 3 (some .boolean)) rm_X0_isSort M [.ref a0, .int x1, .int x2] (gQi Q) := by
  refine gMet (bytes := cX0_isSort) (maxL := 3) (ret := (some .boolean)) rfl rfl (by decide) (Nat.le_of_ble_eq_true rfl) (lv := [(0, .ref a0), (1, .int x1), (2, .int x2)]) rfl (fun G hC hin => ?_)
  unfold F_X0_isSort at hF
  refine g_aload_n 1 hC dX0_isSort_0 rfl 0 rfl rfl ?_
  refine g_iload_n 2 hC dX0_isSort_1 rfl 1 rfl rfl ?_
  refine g_cV (rest := []) wl_X0_45 hd_X0_isHouse (ci := 0) rfl 5 hC hF.1 (met_X0_isHouse hF.2) rfl ⟨Nat.le_of_ble_eq_true rfl, Nat.le_of_ble_eq_true rfl⟩ ⟨Nat.zero_le _, Nat.zero_le _⟩ rfl (Nat.le_of_ble_eq_true rfl) dX0_isSort_2 rfl (g_ty_i 0 0 (Nat.le_refl _) (Nat.le_refl _) (fun x_2 M_1 hF => ?_))
  refine g_if_eq 8 34 hC dX0_isSort_5 (by decide) rfl (fun c => ?_) (fun c => ?_)
  · have hF := hF.1 c
    refine g_iconst 35 hC (0 : Int32) dX0_isSort_34 (by decide) rfl ?_
    exact g_zreturn hC ⟨_, rfl, hF⟩ (Or.inl rfl) dX0_isSort_35 (Nat.zero_le _) (Nat.zero_le _)
  · have hF := hF.2 c
    refine g_iload_n 9 hC dX0_isSort_8 rfl 2 rfl rfl ?_
    refine g_iconst 10 hC (0 : Int32) dX0_isSort_9 (by decide) rfl ?_
    refine g_aload_n 11 hC dX0_isSort_10 rfl 0 rfl rfl ?_
    refine gf_X0_20_0N 14 hC hF dX0_isSort_11 rfl (fun a_3 hF => ?_)
    refine gf_X0_49_1N 17 hC hF dX0_isSort_14 rfl (fun a_4 hF => ?_)
    refine g_iload_n 18 hC dX0_isSort_17 rfl 1 rfl rfl ?_
    refine g_aaldN 19 hC hF (by decide) rfl (fun _ _ _ => rfl) dX0_isSort_18 rfl (fun a_5 hF => ?_)
    refine gf_X0_53_12I 22 hC hF dX0_isSort_19 rfl (fun x_6 hF => ?_)
    refine g_iconst 23 hC (1 : Int32) dX0_isSort_22 (by decide) rfl ?_
    refine g_isub 24 hC dX0_isSort_23 rfl ?_
    refine g_cS (rest := []) wl_X0_37 hd_X0_isIn 27 hC (met_X0_isIn hF) rfl ⟨Nat.le_of_ble_eq_true rfl, Nat.le_of_ble_eq_true rfl⟩ ⟨Nat.zero_le _, Nat.zero_le _⟩ rfl (Nat.le_of_ble_eq_true rfl) dX0_isSort_24 rfl (g_ty_i 0 0 (Nat.le_refl _) (Nat.le_refl _) (fun x_8 M_7 hF => ?_))
    refine g_if_eq 30 34 hC dX0_isSort_27 (by decide) rfl (fun c => ?_) (fun c => ?_)
    · have hF := hF.1 c
      refine g_iconst 35 hC (0 : Int32) dX0_isSort_34 (by decide) rfl ?_
      exact g_zreturn hC ⟨_, rfl, hF⟩ (Or.inl rfl) dX0_isSort_35 (Nat.zero_le _) (Nat.zero_le _)
    · have hF := hF.2 c
      refine g_iconst 31 hC (1 : Int32) dX0_isSort_30 (by decide) rfl ?_
      refine g_goto 35 hC dX0_isSort_31 (by decide) ?_
      exact g_zreturn hC ⟨_, rfl, hF⟩ (Or.inr rfl) dX0_isSort_35 (Nat.zero_le _) (Nat.zero_le _)
theorem hd_X0_isSort : yX0_isSort.cls = RX0 ∧ yX0_isSort.cls ≠ "java/lang/invoke/MethodHandle" ∧ yX0_isSort.cls ≠ "java/lang/invoke/VarHandle" ∧ (parseMethodDescriptor yX0_isSort.desc).map (fun d => d.parameters.length) = some 2 := by decide +kernel
theorem wl_X0_214 : GoodIn lw_all (wsV RX0 214 RX0 yX0_isSort (ws_ yX0_isSort cX0_isSort 3 (some .boolean))) := lw_V q943 q945 qs15 q69 q946
theorem gf_X0_217_12N {G : gG} {cc : ByteArray} {nL : Nat} {ret : Option FieldType} {Qf : Option Value → gM → Prop} {rm : Room} {cells slots : Nat} {M : gM} {lv : List (Nat × Value)} {pc : Nat} {st : List Value} {a : Nat} (n : Nat) (hC : gCx G cc nL RX0 ret Qf rm) {κ : Nat → Prop} (hF : gN M 12 a 5 κ) (hdg : decode cc pc = .ok (.getfield 217, 3)) (hn : pc + 3 = n) (kk : ∀ x, κ x → gAt G cells slots M lv n (.ref x :: st)) : gAt G cells slots M lv pc (.ref a :: st) :=
  g_getN (C := RX12) (T := TX12) (N := 17) in_X12 rfl (by decide) q598 (fun _ _ _ => rfl) n hC hF hdg hn kk
theorem gf_X0_219_12N {G : gG} {cc : ByteArray} {nL : Nat} {ret : Option FieldType} {Qf : Option Value → gM → Prop} {rm : Room} {cells slots : Nat} {M : gM} {lv : List (Nat × Value)} {pc : Nat} {st : List Value} {a : Nat} (n : Nat) (hC : gCx G cc nL RX0 ret Qf rm) {κ : Nat → Prop} (hF : gN M 12 a 6 κ) (hdg : decode cc pc = .ok (.getfield 219, 3)) (hn : pc + 3 = n) (kk : ∀ x, κ x → gAt G cells slots M lv n (.ref x :: st)) : gAt G cells slots M lv pc (.ref a :: st) :=
  g_getN (C := RX12) (T := TX12) (N := 17) in_X12 rfl (by decide) q602 (fun _ _ _ => rfl) n hC hF hdg hn kk
theorem gf_X0_222_12N {G : gG} {cc : ByteArray} {nL : Nat} {ret : Option FieldType} {Qf : Option Value → gM → Prop} {rm : Room} {cells slots : Nat} {M : gM} {lv : List (Nat × Value)} {pc : Nat} {st : List Value} {a : Nat} (n : Nat) (hC : gCx G cc nL RX0 ret Qf rm) {κ : Nat → Prop} (hF : gN M 12 a 7 κ) (hdg : decode cc pc = .ok (.getfield 222, 3)) (hn : pc + 3 = n) (kk : ∀ x, κ x → gAt G cells slots M lv n (.ref x :: st)) : gAt G cells slots M lv pc (.ref a :: st) :=
  g_getN (C := RX12) (T := TX12) (N := 17) in_X12 rfl (by decide) q605 (fun _ _ _ => rfl) n hC hF hdg hn kk
theorem gf_X0_225_12N {G : gG} {cc : ByteArray} {nL : Nat} {ret : Option FieldType} {Qf : Option Value → gM → Prop} {rm : Room} {cells slots : Nat} {M : gM} {lv : List (Nat × Value)} {pc : Nat} {st : List Value} {a : Nat} (n : Nat) (hC : gCx G cc nL RX0 ret Qf rm) {κ : Nat → Prop} (hF : gN M 12 a 8 κ) (hdg : decode cc pc = .ok (.getfield 225, 3)) (hn : pc + 3 = n) (kk : ∀ x, κ x → gAt G cells slots M lv n (.ref x :: st)) : gAt G cells slots M lv pc (.ref a :: st) :=
  g_getN (C := RX12) (T := TX12) (N := 17) in_X12 rfl (by decide) q609 (fun _ _ _ => rfl) n hC hF hdg hn kk
theorem gf_X0_228_12N {G : gG} {cc : ByteArray} {nL : Nat} {ret : Option FieldType} {Qf : Option Value → gM → Prop} {rm : Room} {cells slots : Nat} {M : gM} {lv : List (Nat × Value)} {pc : Nat} {st : List Value} {a : Nat} (n : Nat) (hC : gCx G cc nL RX0 ret Qf rm) {κ : Nat → Prop} (hF : gN M 12 a 9 κ) (hdg : decode cc pc = .ok (.getfield 228, 3)) (hn : pc + 3 = n) (kk : ∀ x, κ x → gAt G cells slots M lv n (.ref x :: st)) : gAt G cells slots M lv pc (.ref a :: st) :=
  g_getN (C := RX12) (T := TX12) (N := 17) in_X12 rfl (by decide) q612 (fun _ _ _ => rfl) n hC hF hdg hn kk
abbrev rm_X0_sortOf_2 : Room := { frames := 3, cells := 0, slots := 0, locals := 65 }
def F_X0_sortOf_2  (M : gM) (a0 : Nat) (x1 : Int32) (x2 : Int32) (x3 : Int32) (Q : Int32 → gM → Prop)  : Prop :=
  rc M 0 a0 ∧ F_X0_isSort M a0 x1 x2 fun x_2 M_1 =>
  ((¬ x_2 = 0 →
    gN M_1 0 a0 0 fun a_3 =>
    gN M_1 1 a_3 0 fun a_4 =>
    aN M_1 (.object "SendTheBox$House") a_4 x1 fun a_5 =>
    (((x3.toInt < 0 ∨ 4 < x3.toInt) →
      rc M_1 0 a0 ∧ F_X0_no M_1 a0 (-2 : Int32) fun x_7 M_6 =>
      Q x_7 M_6) ∧
      (x3 = (0 : Int32) →
      gN M_1 12 a_5 5 fun a_8 =>
      aI M_1 .int a_8 x2 fun x_9 =>
      Q x_9 M_1) ∧
      (x3 = (1 : Int32) →
      gN M_1 12 a_5 6 fun a_10 =>
      aI M_1 .int a_10 x2 fun x_11 =>
      Q x_11 M_1) ∧
      (x3 = (2 : Int32) →
      gN M_1 12 a_5 7 fun a_12 =>
      aI M_1 .int a_12 x2 fun x_13 =>
      Q x_13 M_1) ∧
      (x3 = (3 : Int32) →
      gN M_1 12 a_5 8 fun a_14 =>
      aI M_1 .int a_14 x2 fun x_15 =>
      Q x_15 M_1) ∧
      (x3 = (4 : Int32) →
      gN M_1 12 a_5 9 fun a_16 =>
      aI M_1 .int a_16 x2 fun x_17 =>
      Q x_17 M_1))) ∧
    (x_2 = 0 →
    rc M_1 0 a0 ∧ F_X0_no M_1 a0 (-2 : Int32) fun x_19 M_18 =>
    Q x_19 M_18))
theorem met_X0_sortOf_2 {M : gM} {a0 : Nat} {x1 : Int32} {x2 : Int32} {x3 : Int32} {Q : Int32 → gM → Prop} (hF : F_X0_sortOf_2 M a0 x1 x2 x3 Q) : gMt yX0_sortOf_2 (ws_ yX0_sortOf_2 cX0_sortOf_2 5 (some .int)) rm_X0_sortOf_2 M [.ref a0, .int x1, .int x2, .int x3] (gQi Q) := by
  refine gMet (bytes := cX0_sortOf_2) (maxL := 5) (ret := (some .int)) rfl rfl (by decide) (Nat.le_of_ble_eq_true rfl) (lv := [(0, .ref a0), (1, .int x1), (2, .int x2), (3, .int x3)]) rfl (fun G hC hin => ?_)
  unfold F_X0_sortOf_2 at hF
  refine g_aload_n 1 hC dX0_sortOf_2_0 rfl 0 rfl rfl ?_
  refine g_iload_n 2 hC dX0_sortOf_2_1 rfl 1 rfl rfl ?_
  refine g_iload_n 3 hC dX0_sortOf_2_2 rfl 2 rfl rfl ?_
  refine g_cV (rest := []) wl_X0_214 hd_X0_isSort (ci := 0) rfl 6 hC hF.1 (met_X0_isSort hF.2) rfl ⟨Nat.le_of_ble_eq_true rfl, Nat.le_of_ble_eq_true rfl⟩ ⟨Nat.zero_le _, Nat.zero_le _⟩ rfl (Nat.le_of_ble_eq_true rfl) dX0_sortOf_2_3 rfl (g_ty_i 0 0 (Nat.le_refl _) (Nat.le_refl _) (fun x_2 M_1 hF => ?_))
  refine g_if_ne 9 16 hC dX0_sortOf_2_6 (by decide) rfl (fun c => ?_) (fun c => ?_)
  · have hF := hF.1 c
    refine g_aload_n 17 hC dX0_sortOf_2_16 rfl 0 rfl rfl ?_
    refine gf_X0_20_0N 20 hC hF dX0_sortOf_2_17 rfl (fun a_3 hF => ?_)
    refine gf_X0_49_1N 23 hC hF dX0_sortOf_2_20 rfl (fun a_4 hF => ?_)
    refine g_iload_n 24 hC dX0_sortOf_2_23 rfl 1 rfl rfl ?_
    refine g_aaldN 25 hC hF (by decide) rfl (fun _ _ _ => rfl) dX0_sortOf_2_24 rfl (fun a_5 hF => ?_)
    refine g_astore 27 hC (lv' := [(4, .ref _), (0, .ref _), (1, .int _), (2, .int _), (3, .int _)]) dX0_sortOf_2_25 rfl (by decide) rfl ?_
    refine g_iload_n 28 hC dX0_sortOf_2_27 rfl 4 rfl rfl ?_
    rcases (by omega : ((x3.toInt < 0 ∨ 4 < x3.toInt) ∨ x3.toInt = 0 ∨ x3.toInt = 1 ∨ x3.toInt = 2 ∨ x3.toInt = 3 ∨ x3.toInt = 4)) with c | c | c | c | c | c
    · refine g_tsOut 104 hC dX0_sortOf_2_28 c (by decide) ?_
      have hF := hF.1 c
      refine g_aload_n 105 hC dX0_sortOf_2_104 rfl 1 rfl rfl ?_
      refine g_bipush 107 hC (-2 : Int32) dX0_sortOf_2_105 (by decide) rfl ?_
      refine g_cV (rest := []) wl_X0_81 hd_X0_no (ci := 0) rfl 110 hC hF.1 (met_X0_no hF.2) rfl ⟨Nat.le_of_ble_eq_true rfl, Nat.le_of_ble_eq_true rfl⟩ ⟨Nat.zero_le _, Nat.zero_le _⟩ rfl (Nat.le_of_ble_eq_true rfl) dX0_sortOf_2_107 rfl (g_ty_i 0 0 (Nat.le_refl _) (Nat.le_refl _) (fun x_7 M_6 hF => ?_))
      exact g_ireturn hC ⟨_, rfl, hF⟩ dX0_sortOf_2_110 (Nat.zero_le _) (Nat.zero_le _)
    · have c : x3 = (0 : Int32) := Int32.toInt_inj.mp (c.trans (by decide))
      refine g_tsIn 64 hC (0 : Int32) c dX0_sortOf_2_28 (by decide) (by decide) rfl (by decide) ?_
      have hF := hF.2.1 c
      refine g_aload 66 hC dX0_sortOf_2_64 rfl 0 rfl ?_
      refine gf_X0_217_12N 69 hC hF dX0_sortOf_2_66 rfl (fun a_8 hF => ?_)
      refine g_iload_n 70 hC dX0_sortOf_2_69 rfl 3 rfl rfl ?_
      refine g_iald 71 hC hF dX0_sortOf_2_70 rfl (fun x_9 hF => ?_)
      exact g_ireturn hC ⟨_, rfl, hF⟩ dX0_sortOf_2_71 (Nat.zero_le _) (Nat.zero_le _)
    · have c : x3 = (1 : Int32) := Int32.toInt_inj.mp (c.trans (by decide))
      refine g_tsIn 72 hC (1 : Int32) c dX0_sortOf_2_28 (by decide) (by decide) rfl (by decide) ?_
      have hF := hF.2.2.1 c
      refine g_aload 74 hC dX0_sortOf_2_72 rfl 0 rfl ?_
      refine gf_X0_219_12N 77 hC hF dX0_sortOf_2_74 rfl (fun a_10 hF => ?_)
      refine g_iload_n 78 hC dX0_sortOf_2_77 rfl 3 rfl rfl ?_
      refine g_iald 79 hC hF dX0_sortOf_2_78 rfl (fun x_11 hF => ?_)
      exact g_ireturn hC ⟨_, rfl, hF⟩ dX0_sortOf_2_79 (Nat.zero_le _) (Nat.zero_le _)
    · have c : x3 = (2 : Int32) := Int32.toInt_inj.mp (c.trans (by decide))
      refine g_tsIn 80 hC (2 : Int32) c dX0_sortOf_2_28 (by decide) (by decide) rfl (by decide) ?_
      have hF := hF.2.2.2.1 c
      refine g_aload 82 hC dX0_sortOf_2_80 rfl 0 rfl ?_
      refine gf_X0_222_12N 85 hC hF dX0_sortOf_2_82 rfl (fun a_12 hF => ?_)
      refine g_iload_n 86 hC dX0_sortOf_2_85 rfl 3 rfl rfl ?_
      refine g_iald 87 hC hF dX0_sortOf_2_86 rfl (fun x_13 hF => ?_)
      exact g_ireturn hC ⟨_, rfl, hF⟩ dX0_sortOf_2_87 (Nat.zero_le _) (Nat.zero_le _)
    · have c : x3 = (3 : Int32) := Int32.toInt_inj.mp (c.trans (by decide))
      refine g_tsIn 88 hC (3 : Int32) c dX0_sortOf_2_28 (by decide) (by decide) rfl (by decide) ?_
      have hF := hF.2.2.2.2.1 c
      refine g_aload 90 hC dX0_sortOf_2_88 rfl 0 rfl ?_
      refine gf_X0_225_12N 93 hC hF dX0_sortOf_2_90 rfl (fun a_14 hF => ?_)
      refine g_iload_n 94 hC dX0_sortOf_2_93 rfl 3 rfl rfl ?_
      refine g_iald 95 hC hF dX0_sortOf_2_94 rfl (fun x_15 hF => ?_)
      exact g_ireturn hC ⟨_, rfl, hF⟩ dX0_sortOf_2_95 (Nat.zero_le _) (Nat.zero_le _)
    · have c : x3 = (4 : Int32) := Int32.toInt_inj.mp (c.trans (by decide))
      refine g_tsIn 96 hC (4 : Int32) c dX0_sortOf_2_28 (by decide) (by decide) rfl (by decide) ?_
      have hF := hF.2.2.2.2.2 c
      refine g_aload 98 hC dX0_sortOf_2_96 rfl 0 rfl ?_
      refine gf_X0_228_12N 101 hC hF dX0_sortOf_2_98 rfl (fun a_16 hF => ?_)
      refine g_iload_n 102 hC dX0_sortOf_2_101 rfl 3 rfl rfl ?_
      refine g_iald 103 hC hF dX0_sortOf_2_102 rfl (fun x_17 hF => ?_)
      exact g_ireturn hC ⟨_, rfl, hF⟩ dX0_sortOf_2_103 (Nat.zero_le _) (Nat.zero_le _)
  · have hF := hF.2 c
    refine g_aload_n 10 hC dX0_sortOf_2_9 rfl 0 rfl rfl ?_
    refine g_bipush 12 hC (-2 : Int32) dX0_sortOf_2_10 (by decide) rfl ?_
    refine g_cV (rest := []) wl_X0_81 hd_X0_no (ci := 0) rfl 15 hC hF.1 (met_X0_no hF.2) rfl ⟨Nat.le_of_ble_eq_true rfl, Nat.le_of_ble_eq_true rfl⟩ ⟨Nat.zero_le _, Nat.zero_le _⟩ rfl (Nat.le_of_ble_eq_true rfl) dX0_sortOf_2_12 rfl (g_ty_i 0 0 (Nat.le_refl _) (Nat.le_refl _) (fun x_19 M_18 hF => ?_))
    exact g_ireturn hC ⟨_, rfl, hF⟩ dX0_sortOf_2_15 (Nat.zero_le _) (Nat.zero_le _)
theorem hd_X12_forgets : yX12_forgets.cls = RX12 ∧ yX12_forgets.cls ≠ "java/lang/invoke/MethodHandle" ∧ yX12_forgets.cls ≠ "java/lang/invoke/VarHandle" ∧ (parseMethodDescriptor yX12_forgets.desc).map (fun d => d.parameters.length) = some 0 := by decide +kernel
theorem wl_X0_231 : GoodIn lw_all (wsV RX0 231 RX12 yX12_forgets (ws_ yX12_forgets cX12_forgets 1 none)) := lw_V q951 q952 q953 q92 q954
abbrev rm_X0_alter : Room := { frames := 2, cells := 0, slots := 0, locals := 43 }
def F_X0_alter_b166 (Q : Int32 → gM → Prop)    (a5 : Nat) (x6 : Int32) (t0 : Nat) (t1 : Int32)  (M : gM) : Prop :=
  pI M 12 t0 3 t1 fun M_1 =>
  rc M_1 12 a5 ∧ F_X12_forgets M_1 a5 fun M_2 =>
  Q x6 M_2
theorem w_X0_alter_b166 {G : gG} {Q : Int32 → gM → Prop} (hC : gCx G cX0_alter 7 RX0 (some .int) (gQi Q) rm_X0_alter)  (a5 : Nat) (x6 : Int32) (t0 : Nat) (t1 : Int32)    (M : gM) (hF : F_X0_alter_b166 Q a5 x6 t0 t1 M) : gAt G 0 0 M [(5, .ref a5), (6, .int x6)] 166 [.int t1, .ref t0] := by
  unfold F_X0_alter_b166 at hF
  refine g_putI (C := RX12) (T := TX12) (N := 17) (ci := 12) (k := 3) (ty := .int) in_X12 tyX12 tyX12_ok nmX12 rfl (by decide) q591 rfl rfl (fun _ _ _ => rfl) rfl rfl 169 hC hF dX0_alter_166 rfl (fun M_1 hF => ?_)
  refine g_aload 171 hC dX0_alter_169 rfl 0 rfl ?_
  refine g_cV (rest := []) wl_X0_231 hd_X12_forgets (ci := 12) rfl 174 hC hF.1 (met_X12_forgets hF.2) rfl ⟨Nat.le_of_ble_eq_true rfl, Nat.le_of_ble_eq_true rfl⟩ ⟨Nat.zero_le _, Nat.zero_le _⟩ rfl (Nat.le_of_ble_eq_true rfl) dX0_alter_171 rfl (g_ty_v 0 0 (Nat.le_refl _) (Nat.le_refl _) (fun M_2 hF => ?_))
  refine g_iload 176 hC dX0_alter_174 rfl 1 rfl ?_
  exact g_ireturn hC ⟨_, rfl, hF⟩ dX0_alter_176 (Nat.zero_le _) (Nat.zero_le _)
def F_X0_alter_b147 (Q : Int32 → gM → Prop)    (x2 : Int32) (x3 : Int32) (a5 : Nat) (x6 : Int32) (t0 : Nat) (t1 : Int32)  (M : gM) : Prop :=
  pI M 12 t0 2 t1 fun M_1 =>
  ((¬ x2 = (2 : Int32) →
    gI M_1 12 a5 3 fun x_2 =>
    F_X0_alter_b166 Q a5 x6 a5 x_2 M_1) ∧
    (x2 = (2 : Int32) →
    F_X0_alter_b166 Q a5 x6 a5 x3 M_1))
theorem w_X0_alter_b147 {G : gG} {Q : Int32 → gM → Prop} (hC : gCx G cX0_alter 7 RX0 (some .int) (gQi Q) rm_X0_alter)  (x2 : Int32) (x3 : Int32) (a5 : Nat) (x6 : Int32) (t0 : Nat) (t1 : Int32)    (M : gM) (hF : F_X0_alter_b147 Q x2 x3 a5 x6 t0 t1 M) : gAt G 0 0 M [(2, .int x2), (3, .int x3), (5, .ref a5), (6, .int x6)] 147 [.int t1, .ref t0] := by
  unfold F_X0_alter_b147 at hF
  refine g_putI (C := RX12) (T := TX12) (N := 17) (ci := 12) (k := 2) (ty := .int) in_X12 tyX12 tyX12_ok nmX12 rfl (by decide) q587 rfl rfl (fun _ _ _ => rfl) rfl rfl 150 hC hF dX0_alter_147 rfl (fun M_1 hF => ?_)
  refine g_aload 152 hC dX0_alter_150 rfl 2 rfl ?_
  refine g_iload_n 153 hC dX0_alter_152 rfl 0 rfl rfl ?_
  refine g_iconst 154 hC (2 : Int32) dX0_alter_153 (by decide) rfl ?_
  refine g_icmp_ne 157 161 hC dX0_alter_154 (by decide) rfl (fun c => ?_) (fun c => ?_)
  · have hF := hF.1 c
    refine g_aload 163 hC dX0_alter_161 rfl 2 rfl ?_
    refine gf_X0_211_12I 166 hC hF dX0_alter_163 rfl (fun x_2 hF => ?_)
    refine g_sub [2, 3] rfl ?_
    exact w_X0_alter_b166 hC _ _ _ _ _ hF
  · have hF := hF.2 c
    refine g_iload_n 158 hC dX0_alter_157 rfl 1 rfl rfl ?_
    refine g_goto 166 hC dX0_alter_158 (by decide) ?_
    refine g_sub [2, 3] rfl ?_
    exact w_X0_alter_b166 hC _ _ _ _ _ hF
def F_X0_alter_b128 (Q : Int32 → gM → Prop)    (x2 : Int32) (x3 : Int32) (a5 : Nat) (x6 : Int32) (t0 : Nat) (t1 : Int32)  (M : gM) : Prop :=
  pI M 12 t0 1 t1 fun M_1 =>
  ((¬ x2 = (1 : Int32) →
    gI M_1 12 a5 2 fun x_2 =>
    F_X0_alter_b147 Q x2 x3 a5 x6 a5 x_2 M_1) ∧
    (x2 = (1 : Int32) →
    F_X0_alter_b147 Q x2 x3 a5 x6 a5 x3 M_1))
theorem w_X0_alter_b128 {G : gG} {Q : Int32 → gM → Prop} (hC : gCx G cX0_alter 7 RX0 (some .int) (gQi Q) rm_X0_alter)  (x2 : Int32) (x3 : Int32) (a5 : Nat) (x6 : Int32) (t0 : Nat) (t1 : Int32)    (M : gM) (hF : F_X0_alter_b128 Q x2 x3 a5 x6 t0 t1 M) : gAt G 0 0 M [(2, .int x2), (3, .int x3), (5, .ref a5), (6, .int x6)] 128 [.int t1, .ref t0] := by
  unfold F_X0_alter_b128 at hF
  refine g_putI (C := RX12) (T := TX12) (N := 17) (ci := 12) (k := 1) (ty := .int) in_X12 tyX12 tyX12_ok nmX12 rfl (by decide) q584 rfl rfl (fun _ _ _ => rfl) rfl rfl 131 hC hF dX0_alter_128 rfl (fun M_1 hF => ?_)
  refine g_aload 133 hC dX0_alter_131 rfl 2 rfl ?_
  refine g_iload_n 134 hC dX0_alter_133 rfl 0 rfl rfl ?_
  refine g_iconst 135 hC (1 : Int32) dX0_alter_134 (by decide) rfl ?_
  refine g_icmp_ne 138 142 hC dX0_alter_135 (by decide) rfl (fun c => ?_) (fun c => ?_)
  · have hF := hF.1 c
    refine g_aload 144 hC dX0_alter_142 rfl 2 rfl ?_
    refine gf_X0_208_12I 147 hC hF dX0_alter_144 rfl (fun x_2 hF => ?_)
    exact w_X0_alter_b147 hC _ _ _ _ _ _ _ hF
  · have hF := hF.2 c
    refine g_iload_n 139 hC dX0_alter_138 rfl 1 rfl rfl ?_
    refine g_goto 147 hC dX0_alter_139 (by decide) ?_
    exact w_X0_alter_b147 hC _ _ _ _ _ _ _ hF
def F_X0_alter_b111 (Q : Int32 → gM → Prop)    (x2 : Int32) (x3 : Int32) (a5 : Nat) (t0 : Int32)  (M : gM) : Prop :=
  ((¬ x2 = 0 →
    gI M 12 a5 1 fun x_1 =>
    F_X0_alter_b128 Q x2 x3 a5 t0 a5 x_1 M) ∧
    (x2 = 0 →
    F_X0_alter_b128 Q x2 x3 a5 t0 a5 x3 M))
theorem w_X0_alter_b111 {G : gG} {Q : Int32 → gM → Prop} (hC : gCx G cX0_alter 7 RX0 (some .int) (gQi Q) rm_X0_alter)  (x2 : Int32) (x3 : Int32) (a5 : Nat) (t0 : Int32)    (M : gM) (hF : F_X0_alter_b111 Q x2 x3 a5 t0 M) : gAt G 0 0 M [(2, .int x2), (3, .int x3), (5, .ref a5)] 111 [.int t0] := by
  unfold F_X0_alter_b111 at hF
  refine g_istore 113 hC (lv' := [(6, .int _), (2, .int _), (3, .int _), (5, .ref _)]) dX0_alter_111 rfl (by decide) rfl ?_
  refine g_aload 115 hC dX0_alter_113 rfl 3 rfl ?_
  refine g_iload_n 116 hC dX0_alter_115 rfl 1 rfl rfl ?_
  refine g_if_ne 119 123 hC dX0_alter_116 (by decide) rfl (fun c => ?_) (fun c => ?_)
  · have hF := hF.1 c
    refine g_aload 125 hC dX0_alter_123 rfl 3 rfl ?_
    refine gf_X0_205_12I 128 hC hF dX0_alter_125 rfl (fun x_1 hF => ?_)
    refine g_sub [1, 2, 3, 0] rfl ?_
    exact w_X0_alter_b128 hC _ _ _ _ _ _ _ hF
  · have hF := hF.2 c
    refine g_iload_n 120 hC dX0_alter_119 rfl 2 rfl rfl ?_
    refine g_goto 128 hC dX0_alter_120 (by decide) ?_
    refine g_sub [1, 2, 3, 0] rfl ?_
    exact w_X0_alter_b128 hC _ _ _ _ _ _ _ hF
def F_X0_alter_b63 (Q : Int32 → gM → Prop)    (a0 : Nat)   (M : gM) : Prop :=
  rc M 0 a0 ∧ F_X0_no M a0 (-2 : Int32) fun x_2 M_1 =>
  Q x_2 M_1
theorem w_X0_alter_b63 {G : gG} {Q : Int32 → gM → Prop} (hC : gCx G cX0_alter 7 RX0 (some .int) (gQi Q) rm_X0_alter)  (a0 : Nat)     (M : gM) (hF : F_X0_alter_b63 Q a0 M) : gAt G 0 0 M [(0, .ref a0)] 63 [] := by
  unfold F_X0_alter_b63 at hF
  refine g_aload_n 64 hC dX0_alter_63 rfl 0 rfl rfl ?_
  refine g_bipush 66 hC (-2 : Int32) dX0_alter_64 (by decide) rfl ?_
  refine g_cV (rest := []) wl_X0_81 hd_X0_no (ci := 0) rfl 69 hC hF.1 (met_X0_no hF.2) rfl ⟨Nat.le_of_ble_eq_true rfl, Nat.le_of_ble_eq_true rfl⟩ ⟨Nat.zero_le _, Nat.zero_le _⟩ rfl (Nat.le_of_ble_eq_true rfl) dX0_alter_66 rfl (g_ty_i 0 0 (Nat.le_refl _) (Nat.le_refl _) (fun x_2 M_1 hF => ?_))
  exact g_ireturn hC ⟨_, rfl, hF⟩ dX0_alter_69 (Nat.zero_le _) (Nat.zero_le _)
def F_X0_alter_b48 (Q : Int32 → gM → Prop)    (a0 : Nat) (x1 : Int32) (x2 : Int32) (x3 : Int32) (t0 : Int32)  (M : gM) : Prop :=
  rc M 0 a0 ∧ F_X0_isHouse M a0 x1 fun x_2 M_1 =>
  ((x_2 = 0 →
    F_X0_alter_b63 Q a0 M_1) ∧
    (¬ x_2 = 0 →
    ((¬ t0 = 0 →
      gN M_1 0 a0 0 fun a_3 =>
      gN M_1 1 a_3 0 fun a_4 =>
      aN M_1 (.object "SendTheBox$House") a_4 x1 fun a_5 =>
      ((¬ x2 = 0 →
        ((¬ x2 = (1 : Int32) →
          gI M_1 12 a_5 3 fun x_6 =>
          F_X0_alter_b111 Q x2 x3 a_5 x_6 M_1) ∧
          (x2 = (1 : Int32) →
          gI M_1 12 a_5 2 fun x_7 =>
          F_X0_alter_b111 Q x2 x3 a_5 x_7 M_1))) ∧
        (x2 = 0 →
        gI M_1 12 a_5 1 fun x_8 =>
        F_X0_alter_b111 Q x2 x3 a_5 x_8 M_1))) ∧
      (t0 = 0 →
      F_X0_alter_b63 Q a0 M_1))))
theorem w_X0_alter_b48 {G : gG} {Q : Int32 → gM → Prop} (hC : gCx G cX0_alter 7 RX0 (some .int) (gQi Q) rm_X0_alter)  (a0 : Nat) (x1 : Int32) (x2 : Int32) (x3 : Int32) (t0 : Int32)    (M : gM) (hF : F_X0_alter_b48 Q a0 x1 x2 x3 t0 M) : gAt G 0 0 M [(0, .ref a0), (1, .int x1), (2, .int x2), (3, .int x3)] 48 [.int t0] := by
  unfold F_X0_alter_b48 at hF
  refine g_istore 50 hC (lv' := [(4, .int _), (0, .ref _), (1, .int _), (2, .int _), (3, .int _)]) dX0_alter_48 rfl (by decide) rfl ?_
  refine g_aload_n 51 hC dX0_alter_50 rfl 1 rfl rfl ?_
  refine g_iload_n 52 hC dX0_alter_51 rfl 2 rfl rfl ?_
  refine g_cV (rest := []) wl_X0_45 hd_X0_isHouse (ci := 0) rfl 55 hC hF.1 (met_X0_isHouse hF.2) rfl ⟨Nat.le_of_ble_eq_true rfl, Nat.le_of_ble_eq_true rfl⟩ ⟨Nat.zero_le _, Nat.zero_le _⟩ rfl (Nat.le_of_ble_eq_true rfl) dX0_alter_52 rfl (g_ty_i 0 0 (Nat.le_refl _) (Nat.le_refl _) (fun x_2 M_1 hF => ?_))
  refine g_if_eq 58 63 hC dX0_alter_55 (by decide) rfl (fun c => ?_) (fun c => ?_)
  · have hF := hF.1 c
    refine g_sub [1] rfl ?_
    exact w_X0_alter_b63 hC _ _ hF
  · have hF := hF.2 c
    refine g_iload 60 hC dX0_alter_58 rfl 0 rfl ?_
    refine g_if_ne 63 70 hC dX0_alter_60 (by decide) rfl (fun c => ?_) (fun c => ?_)
    · have hF := hF.1 c
      refine g_aload_n 71 hC dX0_alter_70 rfl 1 rfl rfl ?_
      refine gf_X0_20_0N 74 hC hF dX0_alter_71 rfl (fun a_3 hF => ?_)
      refine gf_X0_49_1N 77 hC hF dX0_alter_74 rfl (fun a_4 hF => ?_)
      refine g_iload_n 78 hC dX0_alter_77 rfl 2 rfl rfl ?_
      refine g_aaldN 79 hC hF (by decide) rfl (fun _ _ _ => rfl) dX0_alter_78 rfl (fun a_5 hF => ?_)
      refine g_astore 81 hC (lv' := [(5, .ref _), (4, .int _), (0, .ref _), (1, .int _), (2, .int _), (3, .int _)]) dX0_alter_79 rfl (by decide) rfl ?_
      refine g_iload_n 82 hC dX0_alter_81 rfl 4 rfl rfl ?_
      refine g_if_ne 85 93 hC dX0_alter_82 (by decide) rfl (fun c => ?_) (fun c => ?_)
      · have hF := hF.1 c
        refine g_iload_n 94 hC dX0_alter_93 rfl 4 rfl rfl ?_
        refine g_iconst 95 hC (1 : Int32) dX0_alter_94 (by decide) rfl ?_
        refine g_icmp_ne 98 106 hC dX0_alter_95 (by decide) rfl (fun c => ?_) (fun c => ?_)
        · have hF := hF.1 c
          refine g_aload 108 hC dX0_alter_106 rfl 0 rfl ?_
          refine gf_X0_211_12I 111 hC hF dX0_alter_108 rfl (fun x_6 hF => ?_)
          refine g_sub [4, 5, 0] rfl ?_
          exact w_X0_alter_b111 hC _ _ _ _ _ hF
        · have hF := hF.2 c
          refine g_aload 100 hC dX0_alter_98 rfl 0 rfl ?_
          refine gf_X0_208_12I 103 hC hF dX0_alter_100 rfl (fun x_7 hF => ?_)
          refine g_goto 111 hC dX0_alter_103 (by decide) ?_
          refine g_sub [4, 5, 0] rfl ?_
          exact w_X0_alter_b111 hC _ _ _ _ _ hF
      · have hF := hF.2 c
        refine g_aload 87 hC dX0_alter_85 rfl 0 rfl ?_
        refine gf_X0_205_12I 90 hC hF dX0_alter_87 rfl (fun x_8 hF => ?_)
        refine g_goto 111 hC dX0_alter_90 (by decide) ?_
        refine g_sub [4, 5, 0] rfl ?_
        exact w_X0_alter_b111 hC _ _ _ _ _ hF
    · have hF := hF.2 c
      refine g_sub [1] rfl ?_
      exact w_X0_alter_b63 hC _ _ hF
def F_X0_alter_b47 (Q : Int32 → gM → Prop)    (a0 : Nat) (x1 : Int32) (x2 : Int32) (x3 : Int32)   (M : gM) : Prop :=
  F_X0_alter_b48 Q a0 x1 x2 x3 (0 : Int32) M
theorem w_X0_alter_b47 {G : gG} {Q : Int32 → gM → Prop} (hC : gCx G cX0_alter 7 RX0 (some .int) (gQi Q) rm_X0_alter)  (a0 : Nat) (x1 : Int32) (x2 : Int32) (x3 : Int32)     (M : gM) (hF : F_X0_alter_b47 Q a0 x1 x2 x3 M) : gAt G 0 0 M [(0, .ref a0), (1, .int x1), (2, .int x2), (3, .int x3)] 47 [] := by
  unfold F_X0_alter_b47 at hF
  refine g_iconst 48 hC (0 : Int32) dX0_alter_47 (by decide) rfl ?_
  exact w_X0_alter_b48 hC _ _ _ _ _ _ hF
def F_X0_alter  (M : gM) (a0 : Nat) (x1 : Int32) (x2 : Int32) (x3 : Int32) (Q : Int32 → gM → Prop)  : Prop :=
  ((¬ x2 = 0 →
    ((¬ x2 = (1 : Int32) →
      ((¬ x2 = (2 : Int32) →
        F_X0_alter_b47 Q a0 x1 x2 x3 M) ∧
        (x2 = (2 : Int32) →
        F_X0_isIn M x3 (0 : Int32) (3 : Int32) fun x_2 M_1 =>
        ((x_2 = 0 →
          F_X0_alter_b47 Q a0 x1 x2 x3 M_1) ∧
          (¬ x_2 = 0 →
          F_X0_alter_b48 Q a0 x1 x2 x3 (1 : Int32) M_1))))) ∧
      (x2 = (1 : Int32) →
      F_X0_isIn M x3 (1 : Int32) (40 : Int32) fun x_4 M_3 =>
      F_X0_alter_b48 Q a0 x1 x2 x3 x_4 M_3))) ∧
    (x2 = 0 →
    F_X0_isIn M x3 (0 : Int32) (99 : Int32) fun x_6 M_5 =>
    F_X0_alter_b48 Q a0 x1 x2 x3 x_6 M_5))
theorem met_X0_alter {M : gM} {a0 : Nat} {x1 : Int32} {x2 : Int32} {x3 : Int32} {Q : Int32 → gM → Prop} (hF : F_X0_alter M a0 x1 x2 x3 Q) : gMt yX0_alter (ws_ yX0_alter cX0_alter 7 (some .int)) rm_X0_alter M [.ref a0, .int x1, .int x2, .int x3] (gQi Q) := by
  refine gMet (bytes := cX0_alter) (maxL := 7) (ret := (some .int)) rfl rfl (by decide) (Nat.le_of_ble_eq_true rfl) (lv := [(0, .ref a0), (1, .int x1), (2, .int x2), (3, .int x3)]) rfl (fun G hC hin => ?_)
  unfold F_X0_alter at hF
  refine g_iload_n 1 hC dX0_alter_0 rfl 2 rfl rfl ?_
  refine g_if_ne 4 14 hC dX0_alter_1 (by decide) rfl (fun c => ?_) (fun c => ?_)
  · have hF := hF.1 c
    refine g_iload_n 15 hC dX0_alter_14 rfl 2 rfl rfl ?_
    refine g_iconst 16 hC (1 : Int32) dX0_alter_15 (by decide) rfl ?_
    refine g_icmp_ne 19 29 hC dX0_alter_16 (by decide) rfl (fun c => ?_) (fun c => ?_)
    · have hF := hF.1 c
      refine g_iload_n 30 hC dX0_alter_29 rfl 2 rfl rfl ?_
      refine g_iconst 31 hC (2 : Int32) dX0_alter_30 (by decide) rfl ?_
      refine g_icmp_ne 34 47 hC dX0_alter_31 (by decide) rfl (fun c => ?_) (fun c => ?_)
      · have hF := hF.1 c
        exact w_X0_alter_b47 hC _ _ _ _ _ hF
      · have hF := hF.2 c
        refine g_iload_n 35 hC dX0_alter_34 rfl 3 rfl rfl ?_
        refine g_iconst 36 hC (0 : Int32) dX0_alter_35 (by decide) rfl ?_
        refine g_iconst 37 hC (3 : Int32) dX0_alter_36 (by decide) rfl ?_
        refine g_cS (rest := []) wl_X0_37 hd_X0_isIn 40 hC (met_X0_isIn hF) rfl ⟨Nat.le_of_ble_eq_true rfl, Nat.le_of_ble_eq_true rfl⟩ ⟨Nat.zero_le _, Nat.zero_le _⟩ rfl (Nat.le_of_ble_eq_true rfl) dX0_alter_37 rfl (g_ty_i 0 0 (Nat.le_refl _) (Nat.le_refl _) (fun x_2 M_1 hF => ?_))
        refine g_if_eq 43 47 hC dX0_alter_40 (by decide) rfl (fun c => ?_) (fun c => ?_)
        · have hF := hF.1 c
          exact w_X0_alter_b47 hC _ _ _ _ _ hF
        · have hF := hF.2 c
          refine g_iconst 44 hC (1 : Int32) dX0_alter_43 (by decide) rfl ?_
          refine g_goto 48 hC dX0_alter_44 (by decide) ?_
          exact w_X0_alter_b48 hC _ _ _ _ _ _ hF
    · have hF := hF.2 c
      refine g_iload_n 20 hC dX0_alter_19 rfl 3 rfl rfl ?_
      refine g_iconst 21 hC (1 : Int32) dX0_alter_20 (by decide) rfl ?_
      refine g_bipush 23 hC (40 : Int32) dX0_alter_21 (by decide) rfl ?_
      refine g_cS (rest := []) wl_X0_37 hd_X0_isIn 26 hC (met_X0_isIn hF) rfl ⟨Nat.le_of_ble_eq_true rfl, Nat.le_of_ble_eq_true rfl⟩ ⟨Nat.zero_le _, Nat.zero_le _⟩ rfl (Nat.le_of_ble_eq_true rfl) dX0_alter_23 rfl (g_ty_i 0 0 (Nat.le_refl _) (Nat.le_refl _) (fun x_4 M_3 hF => ?_))
      refine g_goto 48 hC dX0_alter_26 (by decide) ?_
      exact w_X0_alter_b48 hC _ _ _ _ _ _ hF
  · have hF := hF.2 c
    refine g_iload_n 5 hC dX0_alter_4 rfl 3 rfl rfl ?_
    refine g_iconst 6 hC (0 : Int32) dX0_alter_5 (by decide) rfl ?_
    refine g_bipush 8 hC (99 : Int32) dX0_alter_6 (by decide) rfl ?_
    refine g_cS (rest := []) wl_X0_37 hd_X0_isIn 11 hC (met_X0_isIn hF) rfl ⟨Nat.le_of_ble_eq_true rfl, Nat.le_of_ble_eq_true rfl⟩ ⟨Nat.zero_le _, Nat.zero_le _⟩ rfl (Nat.le_of_ble_eq_true rfl) dX0_alter_8 rfl (g_ty_i 0 0 (Nat.le_refl _) (Nat.le_refl _) (fun x_6 M_5 hF => ?_))
    refine g_goto 48 hC dX0_alter_11 (by decide) ?_
    exact w_X0_alter_b48 hC _ _ _ _ _ _ hF
abbrev rm_X0_change : Room := { frames := 3, cells := 0, slots := 0, locals := 65 }
def F_X0_change_b47 (Q : Int32 → gM → Prop)    (a0 : Nat)   (M : gM) : Prop :=
  rc M 0 a0 ∧ F_X0_no M a0 (-2 : Int32) fun x_2 M_1 =>
  Q x_2 M_1
theorem w_X0_change_b47 {G : gG} {Q : Int32 → gM → Prop} (hC : gCx G cX0_change 8 RX0 (some .int) (gQi Q) rm_X0_change)  (a0 : Nat)     (M : gM) (hF : F_X0_change_b47 Q a0 M) : gAt G 0 0 M [(0, .ref a0)] 47 [] := by
  unfold F_X0_change_b47 at hF
  refine g_aload_n 48 hC dX0_change_47 rfl 0 rfl rfl ?_
  refine g_bipush 50 hC (-2 : Int32) dX0_change_48 (by decide) rfl ?_
  refine g_cV (rest := []) wl_X0_81 hd_X0_no (ci := 0) rfl 53 hC hF.1 (met_X0_no hF.2) rfl ⟨Nat.le_of_ble_eq_true rfl, Nat.le_of_ble_eq_true rfl⟩ ⟨Nat.zero_le _, Nat.zero_le _⟩ rfl (Nat.le_of_ble_eq_true rfl) dX0_change_50 rfl (g_ty_i 0 0 (Nat.le_refl _) (Nat.le_refl _) (fun x_2 M_1 hF => ?_))
  exact g_ireturn hC ⟨_, rfl, hF⟩ dX0_change_53 (Nat.zero_le _) (Nat.zero_le _)
def F_X0_change_b108 (Q : Int32 → gM → Prop)    (x2 : Int32) (x4 : Int32) (a5 : Nat) (t0 : Nat)  (M : gM) : Prop :=
  aI M .int t0 x2 fun x_1 =>
  uI M t0 x2 x4 fun M_2 =>
  rc M_2 12 a5 ∧ F_X12_forgets M_2 a5 fun M_3 =>
  Q x_1 M_3
theorem w_X0_change_b108 {G : gG} {Q : Int32 → gM → Prop} (hC : gCx G cX0_change 8 RX0 (some .int) (gQi Q) rm_X0_change)  (x2 : Int32) (x4 : Int32) (a5 : Nat) (t0 : Nat)    (M : gM) (hF : F_X0_change_b108 Q x2 x4 a5 t0 M) : gAt G 0 0 M [(2, .int x2), (4, .int x4), (5, .ref a5)] 108 [.ref t0] := by
  unfold F_X0_change_b108 at hF
  refine g_astore 110 hC (lv' := [(6, .ref _), (2, .int _), (4, .int _), (5, .ref _)]) dX0_change_108 rfl (by decide) rfl ?_
  refine g_aload 112 hC dX0_change_110 rfl 0 rfl ?_
  refine g_iload_n 113 hC dX0_change_112 rfl 1 rfl rfl ?_
  refine g_iald 114 hC hF dX0_change_113 rfl (fun x_1 hF => ?_)
  refine g_istore 116 hC (lv' := [(7, .int _), (6, .ref _), (2, .int _), (4, .int _), (5, .ref _)]) dX0_change_114 rfl (by decide) rfl ?_
  refine g_aload 118 hC dX0_change_116 rfl 1 rfl ?_
  refine g_iload_n 119 hC dX0_change_118 rfl 2 rfl rfl ?_
  refine g_iload 121 hC dX0_change_119 rfl 3 rfl ?_
  refine g_iast 122 hC hF dX0_change_121 rfl (fun M_2 hF => ?_)
  refine g_aload 124 hC dX0_change_122 rfl 4 rfl ?_
  refine g_cV (rest := []) wl_X0_231 hd_X12_forgets (ci := 12) rfl 127 hC hF.1 (met_X12_forgets hF.2) rfl ⟨Nat.le_of_ble_eq_true rfl, Nat.le_of_ble_eq_true rfl⟩ ⟨Nat.zero_le _, Nat.zero_le _⟩ rfl (Nat.le_of_ble_eq_true rfl) dX0_change_124 rfl (g_ty_v 0 0 (Nat.le_refl _) (Nat.le_refl _) (fun M_3 hF => ?_))
  refine g_iload 129 hC dX0_change_127 rfl 0 rfl ?_
  exact g_ireturn hC ⟨_, rfl, hF⟩ dX0_change_129 (Nat.zero_le _) (Nat.zero_le _)
def F_X0_change_b41 (Q : Int32 → gM → Prop)    (a0 : Nat) (x1 : Int32) (x2 : Int32) (x3 : Int32) (x4 : Int32) (t0 : Int32) (t1 : Int32) (t2 : Int32)  (M : gM) : Prop :=
  F_X0_isIn M t0 t1 t2 fun x_2 M_1 =>
  ((¬ x_2 = 0 →
    gN M_1 0 a0 0 fun a_3 =>
    gN M_1 1 a_3 0 fun a_4 =>
    aN M_1 (.object "SendTheBox$House") a_4 x1 fun a_5 =>
    ((¬ x3 = 0 →
      ((¬ x3 = (1 : Int32) →
        ((¬ x3 = (2 : Int32) →
          gN M_1 12 a_5 9 fun a_6 =>
          F_X0_change_b108 Q x2 x4 a_5 a_6 M_1) ∧
          (x3 = (2 : Int32) →
          gN M_1 12 a_5 8 fun a_7 =>
          F_X0_change_b108 Q x2 x4 a_5 a_7 M_1))) ∧
        (x3 = (1 : Int32) →
        gN M_1 12 a_5 7 fun a_8 =>
        F_X0_change_b108 Q x2 x4 a_5 a_8 M_1))) ∧
      (x3 = 0 →
      gN M_1 12 a_5 6 fun a_9 =>
      F_X0_change_b108 Q x2 x4 a_5 a_9 M_1))) ∧
    (x_2 = 0 →
    F_X0_change_b47 Q a0 M_1))
theorem w_X0_change_b41 {G : gG} {Q : Int32 → gM → Prop} (hC : gCx G cX0_change 8 RX0 (some .int) (gQi Q) rm_X0_change)  (a0 : Nat) (x1 : Int32) (x2 : Int32) (x3 : Int32) (x4 : Int32) (t0 : Int32) (t1 : Int32) (t2 : Int32)    (M : gM) (hF : F_X0_change_b41 Q a0 x1 x2 x3 x4 t0 t1 t2 M) : gAt G 0 0 M [(0, .ref a0), (1, .int x1), (2, .int x2), (3, .int x3), (4, .int x4)] 41 [.int t2, .int t1, .int t0] := by
  unfold F_X0_change_b41 at hF
  refine g_cS (rest := []) wl_X0_37 hd_X0_isIn 44 hC (met_X0_isIn hF) rfl ⟨Nat.le_of_ble_eq_true rfl, Nat.le_of_ble_eq_true rfl⟩ ⟨Nat.zero_le _, Nat.zero_le _⟩ rfl (Nat.le_of_ble_eq_true rfl) dX0_change_41 rfl (g_ty_i 0 0 (Nat.le_refl _) (Nat.le_refl _) (fun x_2 M_1 hF => ?_))
  refine g_if_ne 47 54 hC dX0_change_44 (by decide) rfl (fun c => ?_) (fun c => ?_)
  · have hF := hF.1 c
    refine g_aload_n 55 hC dX0_change_54 rfl 0 rfl rfl ?_
    refine gf_X0_20_0N 58 hC hF dX0_change_55 rfl (fun a_3 hF => ?_)
    refine gf_X0_49_1N 61 hC hF dX0_change_58 rfl (fun a_4 hF => ?_)
    refine g_iload_n 62 hC dX0_change_61 rfl 1 rfl rfl ?_
    refine g_aaldN 63 hC hF (by decide) rfl (fun _ _ _ => rfl) dX0_change_62 rfl (fun a_5 hF => ?_)
    refine g_astore 65 hC (lv' := [(5, .ref _), (0, .ref _), (1, .int _), (2, .int _), (3, .int _), (4, .int _)]) dX0_change_63 rfl (by decide) rfl ?_
    refine g_iload_n 66 hC dX0_change_65 rfl 4 rfl rfl ?_
    refine g_if_ne 69 77 hC dX0_change_66 (by decide) rfl (fun c => ?_) (fun c => ?_)
    · have hF := hF.1 c
      refine g_iload_n 78 hC dX0_change_77 rfl 4 rfl rfl ?_
      refine g_iconst 79 hC (1 : Int32) dX0_change_78 (by decide) rfl ?_
      refine g_icmp_ne 82 90 hC dX0_change_79 (by decide) rfl (fun c => ?_) (fun c => ?_)
      · have hF := hF.1 c
        refine g_iload_n 91 hC dX0_change_90 rfl 4 rfl rfl ?_
        refine g_iconst 92 hC (2 : Int32) dX0_change_91 (by decide) rfl ?_
        refine g_icmp_ne 95 103 hC dX0_change_92 (by decide) rfl (fun c => ?_) (fun c => ?_)
        · have hF := hF.1 c
          refine g_aload 105 hC dX0_change_103 rfl 0 rfl ?_
          refine gf_X0_228_12N 108 hC hF dX0_change_105 rfl (fun a_6 hF => ?_)
          refine g_sub [3, 5, 0] rfl ?_
          exact w_X0_change_b108 hC _ _ _ _ _ hF
        · have hF := hF.2 c
          refine g_aload 97 hC dX0_change_95 rfl 0 rfl ?_
          refine gf_X0_225_12N 100 hC hF dX0_change_97 rfl (fun a_7 hF => ?_)
          refine g_goto 108 hC dX0_change_100 (by decide) ?_
          refine g_sub [3, 5, 0] rfl ?_
          exact w_X0_change_b108 hC _ _ _ _ _ hF
      · have hF := hF.2 c
        refine g_aload 84 hC dX0_change_82 rfl 0 rfl ?_
        refine gf_X0_222_12N 87 hC hF dX0_change_84 rfl (fun a_8 hF => ?_)
        refine g_goto 108 hC dX0_change_87 (by decide) ?_
        refine g_sub [3, 5, 0] rfl ?_
        exact w_X0_change_b108 hC _ _ _ _ _ hF
    · have hF := hF.2 c
      refine g_aload 71 hC dX0_change_69 rfl 0 rfl ?_
      refine gf_X0_219_12N 74 hC hF dX0_change_71 rfl (fun a_9 hF => ?_)
      refine g_goto 108 hC dX0_change_74 (by decide) ?_
      refine g_sub [3, 5, 0] rfl ?_
      exact w_X0_change_b108 hC _ _ _ _ _ hF
  · have hF := hF.2 c
    refine g_sub [0] rfl ?_
    exact w_X0_change_b47 hC _ _ hF
def F_X0_change  (M : gM) (a0 : Nat) (x1 : Int32) (x2 : Int32) (x3 : Int32) (x4 : Int32) (Q : Int32 → gM → Prop)  : Prop :=
  rc M 0 a0 ∧ F_X0_isSort M a0 x1 x2 fun x_2 M_1 =>
  ((x_2 = 0 →
    F_X0_change_b47 Q a0 M_1) ∧
    (¬ x_2 = 0 →
    F_X0_isIn M_1 x3 (0 : Int32) (3 : Int32) fun x_4 M_3 =>
    ((x_4 = 0 →
      F_X0_change_b47 Q a0 M_3) ∧
      (¬ x_4 = 0 →
      ((¬ x3 = 0 →
        ((¬ x3 = (1 : Int32) →
          F_X0_change_b41 Q a0 x1 x2 x3 x4 x4 (0 : Int32) (99 : Int32) M_3) ∧
          (x3 = (1 : Int32) →
          F_X0_change_b41 Q a0 x1 x2 x3 x4 x4 (0 : Int32) (9 : Int32) M_3))) ∧
        (x3 = 0 →
        F_X0_change_b41 Q a0 x1 x2 x3 x4 x4 (0 : Int32) (4 : Int32) M_3))))))
theorem met_X0_change {M : gM} {a0 : Nat} {x1 : Int32} {x2 : Int32} {x3 : Int32} {x4 : Int32} {Q : Int32 → gM → Prop} (hF : F_X0_change M a0 x1 x2 x3 x4 Q) : gMt yX0_change (ws_ yX0_change cX0_change 8 (some .int)) rm_X0_change M [.ref a0, .int x1, .int x2, .int x3, .int x4] (gQi Q) := by
  refine gMet (bytes := cX0_change) (maxL := 8) (ret := (some .int)) rfl rfl (by decide) (Nat.le_of_ble_eq_true rfl) (lv := [(0, .ref a0), (1, .int x1), (2, .int x2), (3, .int x3), (4, .int x4)]) rfl (fun G hC hin => ?_)
  unfold F_X0_change at hF
  refine g_aload_n 1 hC dX0_change_0 rfl 0 rfl rfl ?_
  refine g_iload_n 2 hC dX0_change_1 rfl 1 rfl rfl ?_
  refine g_iload_n 3 hC dX0_change_2 rfl 2 rfl rfl ?_
  refine g_cV (rest := []) wl_X0_214 hd_X0_isSort (ci := 0) rfl 6 hC hF.1 (met_X0_isSort hF.2) rfl ⟨Nat.le_of_ble_eq_true rfl, Nat.le_of_ble_eq_true rfl⟩ ⟨Nat.zero_le _, Nat.zero_le _⟩ rfl (Nat.le_of_ble_eq_true rfl) dX0_change_3 rfl (g_ty_i 0 0 (Nat.le_refl _) (Nat.le_refl _) (fun x_2 M_1 hF => ?_))
  refine g_if_eq 9 47 hC dX0_change_6 (by decide) rfl (fun c => ?_) (fun c => ?_)
  · have hF := hF.1 c
    refine g_sub [0] rfl ?_
    exact w_X0_change_b47 hC _ _ hF
  · have hF := hF.2 c
    refine g_iload_n 10 hC dX0_change_9 rfl 3 rfl rfl ?_
    refine g_iconst 11 hC (0 : Int32) dX0_change_10 (by decide) rfl ?_
    refine g_iconst 12 hC (3 : Int32) dX0_change_11 (by decide) rfl ?_
    refine g_cS (rest := []) wl_X0_37 hd_X0_isIn 15 hC (met_X0_isIn hF) rfl ⟨Nat.le_of_ble_eq_true rfl, Nat.le_of_ble_eq_true rfl⟩ ⟨Nat.zero_le _, Nat.zero_le _⟩ rfl (Nat.le_of_ble_eq_true rfl) dX0_change_12 rfl (g_ty_i 0 0 (Nat.le_refl _) (Nat.le_refl _) (fun x_4 M_3 hF => ?_))
    refine g_if_eq 18 47 hC dX0_change_15 (by decide) rfl (fun c => ?_) (fun c => ?_)
    · have hF := hF.1 c
      refine g_sub [0] rfl ?_
      exact w_X0_change_b47 hC _ _ hF
    · have hF := hF.2 c
      refine g_iload 20 hC dX0_change_18 rfl 4 rfl ?_
      refine g_iconst 21 hC (0 : Int32) dX0_change_20 (by decide) rfl ?_
      refine g_iload_n 22 hC dX0_change_21 rfl 3 rfl rfl ?_
      refine g_if_ne 25 29 hC dX0_change_22 (by decide) rfl (fun c => ?_) (fun c => ?_)
      · have hF := hF.1 c
        refine g_iload_n 30 hC dX0_change_29 rfl 3 rfl rfl ?_
        refine g_iconst 31 hC (1 : Int32) dX0_change_30 (by decide) rfl ?_
        refine g_icmp_ne 34 39 hC dX0_change_31 (by decide) rfl (fun c => ?_) (fun c => ?_)
        · have hF := hF.1 c
          refine g_bipush 41 hC (99 : Int32) dX0_change_39 (by decide) rfl ?_
          exact w_X0_change_b41 hC _ _ _ _ _ _ _ _ _ hF
        · have hF := hF.2 c
          refine g_bipush 36 hC (9 : Int32) dX0_change_34 (by decide) rfl ?_
          refine g_goto 41 hC dX0_change_36 (by decide) ?_
          exact w_X0_change_b41 hC _ _ _ _ _ _ _ _ _ hF
      · have hF := hF.2 c
        refine g_iconst 26 hC (4 : Int32) dX0_change_25 (by decide) rfl ?_
        refine g_goto 41 hC dX0_change_26 (by decide) ?_
        exact w_X0_change_b41 hC _ _ _ _ _ _ _ _ _ hF
abbrev rm_X0_of : Room := { frames := 1, cells := 0, slots := 0, locals := 22 }
def F_X0_of_b27 (Q : Int32 → gM → Prop)    (a0 : Nat)   (M : gM) : Prop :=
  rc M 0 a0 ∧ F_X0_no M a0 (-2 : Int32) fun x_2 M_1 =>
  Q x_2 M_1
theorem w_X0_of_b27 {G : gG} {Q : Int32 → gM → Prop} (hC : gCx G cX0_of 3 RX0 (some .int) (gQi Q) rm_X0_of)  (a0 : Nat)     (M : gM) (hF : F_X0_of_b27 Q a0 M) : gAt G 0 0 M [(0, .ref a0)] 27 [] := by
  unfold F_X0_of_b27 at hF
  refine g_aload_n 28 hC dX0_of_27 rfl 0 rfl rfl ?_
  refine g_bipush 30 hC (-2 : Int32) dX0_of_28 (by decide) rfl ?_
  refine g_cV (rest := []) wl_X0_81 hd_X0_no (ci := 0) rfl 33 hC hF.1 (met_X0_no hF.2) rfl ⟨Nat.le_of_ble_eq_true rfl, Nat.le_of_ble_eq_true rfl⟩ ⟨Nat.zero_le _, Nat.zero_le _⟩ rfl (Nat.le_of_ble_eq_true rfl) dX0_of_30 rfl (g_ty_i 0 0 (Nat.le_refl _) (Nat.le_refl _) (fun x_2 M_1 hF => ?_))
  exact g_ireturn hC ⟨_, rfl, hF⟩ dX0_of_33 (Nat.zero_le _) (Nat.zero_le _)
def F_X0_of  (M : gM) (a0 : Nat) (x1 : Int32) (x2 : Int32) (Q : Int32 → gM → Prop)  : Prop :=
  F_X0_isIn M x1 (0 : Int32) (124 : Int32) fun x_2 M_1 =>
  ((x_2 = 0 →
    F_X0_of_b27 Q a0 M_1) ∧
    (¬ x_2 = 0 →
    F_X0_isIn M_1 x2 (0 : Int32) (2 : Int32) fun x_4 M_3 =>
    ((x_4 = 0 →
      F_X0_of_b27 Q a0 M_3) ∧
      (¬ x_4 = 0 →
      F_X0_standing M_3 x1 x2 fun x_6 M_5 =>
      Q x_6 M_5))))
theorem met_X0_of {M : gM} {a0 : Nat} {x1 : Int32} {x2 : Int32} {Q : Int32 → gM → Prop} (hF : F_X0_of M a0 x1 x2 Q) : gMt yX0_of (ws_ yX0_of cX0_of 3 (some .int)) rm_X0_of M [.ref a0, .int x1, .int x2] (gQi Q) := by
  refine gMet (bytes := cX0_of) (maxL := 3) (ret := (some .int)) rfl rfl (by decide) (Nat.le_of_ble_eq_true rfl) (lv := [(0, .ref a0), (1, .int x1), (2, .int x2)]) rfl (fun G hC hin => ?_)
  unfold F_X0_of at hF
  refine g_iload_n 1 hC dX0_of_0 rfl 1 rfl rfl ?_
  refine g_iconst 2 hC (0 : Int32) dX0_of_1 (by decide) rfl ?_
  refine g_bipush 4 hC (124 : Int32) dX0_of_2 (by decide) rfl ?_
  refine g_cS (rest := []) wl_X0_37 hd_X0_isIn 7 hC (met_X0_isIn hF) rfl ⟨Nat.le_of_ble_eq_true rfl, Nat.le_of_ble_eq_true rfl⟩ ⟨Nat.zero_le _, Nat.zero_le _⟩ rfl (Nat.le_of_ble_eq_true rfl) dX0_of_4 rfl (g_ty_i 0 0 (Nat.le_refl _) (Nat.le_refl _) (fun x_2 M_1 hF => ?_))
  refine g_if_eq 10 27 hC dX0_of_7 (by decide) rfl (fun c => ?_) (fun c => ?_)
  · have hF := hF.1 c
    refine g_sub [0] rfl ?_
    exact w_X0_of_b27 hC _ _ hF
  · have hF := hF.2 c
    refine g_iload_n 11 hC dX0_of_10 rfl 2 rfl rfl ?_
    refine g_iconst 12 hC (0 : Int32) dX0_of_11 (by decide) rfl ?_
    refine g_iconst 13 hC (2 : Int32) dX0_of_12 (by decide) rfl ?_
    refine g_cS (rest := []) wl_X0_37 hd_X0_isIn 16 hC (met_X0_isIn hF) rfl ⟨Nat.le_of_ble_eq_true rfl, Nat.le_of_ble_eq_true rfl⟩ ⟨Nat.zero_le _, Nat.zero_le _⟩ rfl (Nat.le_of_ble_eq_true rfl) dX0_of_13 rfl (g_ty_i 0 0 (Nat.le_refl _) (Nat.le_refl _) (fun x_4 M_3 hF => ?_))
    refine g_if_eq 19 27 hC dX0_of_16 (by decide) rfl (fun c => ?_) (fun c => ?_)
    · have hF := hF.1 c
      refine g_sub [0] rfl ?_
      exact w_X0_of_b27 hC _ _ hF
    · have hF := hF.2 c
      refine g_iload_n 20 hC dX0_of_19 rfl 1 rfl rfl ?_
      refine g_iload_n 21 hC dX0_of_20 rfl 2 rfl rfl ?_
      refine g_cS (rest := []) wl_X0_7 hd_X0_standing 24 hC (met_X0_standing hF) rfl ⟨Nat.le_of_ble_eq_true rfl, Nat.le_of_ble_eq_true rfl⟩ ⟨Nat.zero_le _, Nat.zero_le _⟩ rfl (Nat.le_of_ble_eq_true rfl) dX0_of_21 rfl (g_ty_i 0 0 (Nat.le_refl _) (Nat.le_refl _) (fun x_6 M_5 hF => ?_))
      refine g_goto 33 hC dX0_of_24 (by decide) ?_
      exact g_ireturn hC ⟨_, rfl, hF⟩ dX0_of_33 (Nat.zero_le _) (Nat.zero_le _)
theorem wl_X0_58 : GoodIn lw_all (wsV RX0 58 RX12 yX12_states (ws_ yX12_states cX12_states 1 (some .int))) := lw_V q976 q977 q978 q92 q979
abbrev rm_X0_isState : Room := { frames := 2, cells := 0, slots := 0, locals := 43 }
def F_X0_isState  (M : gM) (a0 : Nat) (x1 : Int32) (x2 : Int32) (Q : Int32 → gM → Prop)  : Prop :=
  rc M 0 a0 ∧ F_X0_isHouse M a0 x1 fun x_2 M_1 =>
  ((x_2 = 0 →
    Q (0 : Int32) M_1) ∧
    (¬ x_2 = 0 →
    gN M_1 0 a0 0 fun a_3 =>
    gN M_1 1 a_3 0 fun a_4 =>
    aN M_1 (.object "SendTheBox$House") a_4 x1 fun a_5 =>
    rc M_1 12 a_5 ∧ F_X12_states M_1 a_5 fun x_7 M_6 =>
    F_X0_isIn M_6 x2 (0 : Int32) (x_7 - (1 : Int32)) fun x_9 M_8 =>
    ((x_9 = 0 →
      Q (0 : Int32) M_8) ∧
      (¬ x_9 = 0 →
      Q (1 : Int32) M_8))))
theorem met_X0_isState {M : gM} {a0 : Nat} {x1 : Int32} {x2 : Int32} {Q : Int32 → gM → Prop} (hF : F_X0_isState M a0 x1 x2 Q) : gMt yX0_isState (ws_ yX0_isState cX0_isState 3 (some .boolean)) rm_X0_isState M [.ref a0, .int x1, .int x2] (gQi Q) := by
  refine gMet (bytes := cX0_isState) (maxL := 3) (ret := (some .boolean)) rfl rfl (by decide) (Nat.le_of_ble_eq_true rfl) (lv := [(0, .ref a0), (1, .int x1), (2, .int x2)]) rfl (fun G hC hin => ?_)
  unfold F_X0_isState at hF
  refine g_aload_n 1 hC dX0_isState_0 rfl 0 rfl rfl ?_
  refine g_iload_n 2 hC dX0_isState_1 rfl 1 rfl rfl ?_
  refine g_cV (rest := []) wl_X0_45 hd_X0_isHouse (ci := 0) rfl 5 hC hF.1 (met_X0_isHouse hF.2) rfl ⟨Nat.le_of_ble_eq_true rfl, Nat.le_of_ble_eq_true rfl⟩ ⟨Nat.zero_le _, Nat.zero_le _⟩ rfl (Nat.le_of_ble_eq_true rfl) dX0_isState_2 rfl (g_ty_i 0 0 (Nat.le_refl _) (Nat.le_refl _) (fun x_2 M_1 hF => ?_))
  refine g_if_eq 8 34 hC dX0_isState_5 (by decide) rfl (fun c => ?_) (fun c => ?_)
  · have hF := hF.1 c
    refine g_iconst 35 hC (0 : Int32) dX0_isState_34 (by decide) rfl ?_
    exact g_zreturn hC ⟨_, rfl, hF⟩ (Or.inl rfl) dX0_isState_35 (Nat.zero_le _) (Nat.zero_le _)
  · have hF := hF.2 c
    refine g_iload_n 9 hC dX0_isState_8 rfl 2 rfl rfl ?_
    refine g_iconst 10 hC (0 : Int32) dX0_isState_9 (by decide) rfl ?_
    refine g_aload_n 11 hC dX0_isState_10 rfl 0 rfl rfl ?_
    refine gf_X0_20_0N 14 hC hF dX0_isState_11 rfl (fun a_3 hF => ?_)
    refine gf_X0_49_1N 17 hC hF dX0_isState_14 rfl (fun a_4 hF => ?_)
    refine g_iload_n 18 hC dX0_isState_17 rfl 1 rfl rfl ?_
    refine g_aaldN 19 hC hF (by decide) rfl (fun _ _ _ => rfl) dX0_isState_18 rfl (fun a_5 hF => ?_)
    refine g_cV (rest := [_, _]) wl_X0_58 hd_X12_states (ci := 12) rfl 22 hC hF.1 (met_X12_states hF.2) rfl ⟨Nat.le_of_ble_eq_true rfl, Nat.le_of_ble_eq_true rfl⟩ ⟨Nat.zero_le _, Nat.zero_le _⟩ rfl (Nat.le_of_ble_eq_true rfl) dX0_isState_19 rfl (g_ty_i 0 0 (Nat.le_refl _) (Nat.le_refl _) (fun x_7 M_6 hF => ?_))
    refine g_iconst 23 hC (1 : Int32) dX0_isState_22 (by decide) rfl ?_
    refine g_isub 24 hC dX0_isState_23 rfl ?_
    refine g_cS (rest := []) wl_X0_37 hd_X0_isIn 27 hC (met_X0_isIn hF) rfl ⟨Nat.le_of_ble_eq_true rfl, Nat.le_of_ble_eq_true rfl⟩ ⟨Nat.zero_le _, Nat.zero_le _⟩ rfl (Nat.le_of_ble_eq_true rfl) dX0_isState_24 rfl (g_ty_i 0 0 (Nat.le_refl _) (Nat.le_refl _) (fun x_9 M_8 hF => ?_))
    refine g_if_eq 30 34 hC dX0_isState_27 (by decide) rfl (fun c => ?_) (fun c => ?_)
    · have hF := hF.1 c
      refine g_iconst 35 hC (0 : Int32) dX0_isState_34 (by decide) rfl ?_
      exact g_zreturn hC ⟨_, rfl, hF⟩ (Or.inl rfl) dX0_isState_35 (Nat.zero_le _) (Nat.zero_le _)
    · have hF := hF.2 c
      refine g_iconst 31 hC (1 : Int32) dX0_isState_30 (by decide) rfl ?_
      refine g_goto 35 hC dX0_isState_31 (by decide) ?_
      exact g_zreturn hC ⟨_, rfl, hF⟩ (Or.inr rfl) dX0_isState_35 (Nat.zero_le _) (Nat.zero_le _)
theorem hd_X0_isState : yX0_isState.cls = RX0 ∧ yX0_isState.cls ≠ "java/lang/invoke/MethodHandle" ∧ yX0_isState.cls ≠ "java/lang/invoke/VarHandle" ∧ (parseMethodDescriptor yX0_isState.desc).map (fun d => d.parameters.length) = some 2 := by decide +kernel
theorem wl_X0_234 : GoodIn lw_all (wsV RX0 234 RX0 yX0_isState (ws_ yX0_isState cX0_isState 3 (some .boolean))) := lw_V q972 q974 qs16 q69 q975
theorem wl_X0_237 : GoodIn lw_all (wsV RX0 237 RX12 yX12_space (ws_ yX12_space cX12_space 4 (some .int))) := lw_V q980 q981 q982 q92 q983
abbrev rm_X0_space : Room := { frames := 3, cells := 0, slots := 0, locals := 65 }
def F_X0_space  (M : gM) (a0 : Nat) (x1 : Int32) (x2 : Int32) (Q : Int32 → gM → Prop)  : Prop :=
  rc M 0 a0 ∧ F_X0_isState M a0 x1 x2 fun x_2 M_1 =>
  ((x_2 = 0 →
    rc M_1 0 a0 ∧ F_X0_no M_1 a0 (-2 : Int32) fun x_4 M_3 =>
    Q x_4 M_3) ∧
    (¬ x_2 = 0 →
    gN M_1 0 a0 0 fun a_5 =>
    gN M_1 1 a_5 0 fun a_6 =>
    aN M_1 (.object "SendTheBox$House") a_6 x1 fun a_7 =>
    rc M_1 12 a_7 ∧ F_X12_space M_1 a_7 x2 fun x_9 M_8 =>
    Q x_9 M_8))
theorem met_X0_space {M : gM} {a0 : Nat} {x1 : Int32} {x2 : Int32} {Q : Int32 → gM → Prop} (hF : F_X0_space M a0 x1 x2 Q) : gMt yX0_space (ws_ yX0_space cX0_space 3 (some .int)) rm_X0_space M [.ref a0, .int x1, .int x2] (gQi Q) := by
  refine gMet (bytes := cX0_space) (maxL := 3) (ret := (some .int)) rfl rfl (by decide) (Nat.le_of_ble_eq_true rfl) (lv := [(0, .ref a0), (1, .int x1), (2, .int x2)]) rfl (fun G hC hin => ?_)
  unfold F_X0_space at hF
  refine g_aload_n 1 hC dX0_space_0 rfl 0 rfl rfl ?_
  refine g_iload_n 2 hC dX0_space_1 rfl 1 rfl rfl ?_
  refine g_iload_n 3 hC dX0_space_2 rfl 2 rfl rfl ?_
  refine g_cV (rest := []) wl_X0_234 hd_X0_isState (ci := 0) rfl 6 hC hF.1 (met_X0_isState hF.2) rfl ⟨Nat.le_of_ble_eq_true rfl, Nat.le_of_ble_eq_true rfl⟩ ⟨Nat.zero_le _, Nat.zero_le _⟩ rfl (Nat.le_of_ble_eq_true rfl) dX0_space_3 rfl (g_ty_i 0 0 (Nat.le_refl _) (Nat.le_refl _) (fun x_2 M_1 hF => ?_))
  refine g_if_eq 9 25 hC dX0_space_6 (by decide) rfl (fun c => ?_) (fun c => ?_)
  · have hF := hF.1 c
    refine g_aload_n 26 hC dX0_space_25 rfl 0 rfl rfl ?_
    refine g_bipush 28 hC (-2 : Int32) dX0_space_26 (by decide) rfl ?_
    refine g_cV (rest := []) wl_X0_81 hd_X0_no (ci := 0) rfl 31 hC hF.1 (met_X0_no hF.2) rfl ⟨Nat.le_of_ble_eq_true rfl, Nat.le_of_ble_eq_true rfl⟩ ⟨Nat.zero_le _, Nat.zero_le _⟩ rfl (Nat.le_of_ble_eq_true rfl) dX0_space_28 rfl (g_ty_i 0 0 (Nat.le_refl _) (Nat.le_refl _) (fun x_4 M_3 hF => ?_))
    exact g_ireturn hC ⟨_, rfl, hF⟩ dX0_space_31 (Nat.zero_le _) (Nat.zero_le _)
  · have hF := hF.2 c
    refine g_aload_n 10 hC dX0_space_9 rfl 0 rfl rfl ?_
    refine gf_X0_20_0N 13 hC hF dX0_space_10 rfl (fun a_5 hF => ?_)
    refine gf_X0_49_1N 16 hC hF dX0_space_13 rfl (fun a_6 hF => ?_)
    refine g_iload_n 17 hC dX0_space_16 rfl 1 rfl rfl ?_
    refine g_aaldN 18 hC hF (by decide) rfl (fun _ _ _ => rfl) dX0_space_17 rfl (fun a_7 hF => ?_)
    refine g_iload_n 19 hC dX0_space_18 rfl 2 rfl rfl ?_
    refine g_cV (rest := []) wl_X0_237 hd_X12_space (ci := 12) rfl 22 hC hF.1 (met_X12_space hF.2) rfl ⟨Nat.le_of_ble_eq_true rfl, Nat.le_of_ble_eq_true rfl⟩ ⟨Nat.zero_le _, Nat.zero_le _⟩ rfl (Nat.le_of_ble_eq_true rfl) dX0_space_19 rfl (g_ty_i 0 0 (Nat.le_refl _) (Nat.le_refl _) (fun x_9 M_8 hF => ?_))
    refine g_goto 31 hC dX0_space_22 (by decide) ?_
    exact g_ireturn hC ⟨_, rfl, hF⟩ dX0_space_31 (Nat.zero_le _) (Nat.zero_le _)
abbrev rm_X0_isLeft : Room := { frames := 2, cells := 0, slots := 0, locals := 43 }
def F_X0_isLeft  (M : gM) (a0 : Nat) (x1 : Int32) (x2 : Int32) (x3 : Int32) (Q : Int32 → gM → Prop)  : Prop :=
  rc M 0 a0 ∧ F_X0_isHouse M a0 x1 fun x_2 M_1 =>
  ((x_2 = 0 →
    Q (0 : Int32) M_1) ∧
    (¬ x_2 = 0 →
    gN M_1 0 a0 0 fun a_3 =>
    gN M_1 1 a_3 0 fun a_4 =>
    aN M_1 (.object "SendTheBox$House") a_4 x1 fun a_5 =>
    gI M_1 12 a_5 0 fun x_6 =>
    F_X0_isIn M_1 x3 x2 x_6 fun x_8 M_7 =>
    ((x_8 = 0 →
      Q (0 : Int32) M_7) ∧
      (¬ x_8 = 0 →
      Q (1 : Int32) M_7))))
theorem met_X0_isLeft {M : gM} {a0 : Nat} {x1 : Int32} {x2 : Int32} {x3 : Int32} {Q : Int32 → gM → Prop} (hF : F_X0_isLeft M a0 x1 x2 x3 Q) : gMt yX0_isLeft (ws_ yX0_isLeft cX0_isLeft 4 (some .boolean)) rm_X0_isLeft M [.ref a0, .int x1, .int x2, .int x3] (gQi Q) := by
  refine gMet (bytes := cX0_isLeft) (maxL := 4) (ret := (some .boolean)) rfl rfl (by decide) (Nat.le_of_ble_eq_true rfl) (lv := [(0, .ref a0), (1, .int x1), (2, .int x2), (3, .int x3)]) rfl (fun G hC hin => ?_)
  unfold F_X0_isLeft at hF
  refine g_aload_n 1 hC dX0_isLeft_0 rfl 0 rfl rfl ?_
  refine g_iload_n 2 hC dX0_isLeft_1 rfl 1 rfl rfl ?_
  refine g_cV (rest := []) wl_X0_45 hd_X0_isHouse (ci := 0) rfl 5 hC hF.1 (met_X0_isHouse hF.2) rfl ⟨Nat.le_of_ble_eq_true rfl, Nat.le_of_ble_eq_true rfl⟩ ⟨Nat.zero_le _, Nat.zero_le _⟩ rfl (Nat.le_of_ble_eq_true rfl) dX0_isLeft_2 rfl (g_ty_i 0 0 (Nat.le_refl _) (Nat.le_refl _) (fun x_2 M_1 hF => ?_))
  refine g_if_eq 8 32 hC dX0_isLeft_5 (by decide) rfl (fun c => ?_) (fun c => ?_)
  · have hF := hF.1 c
    refine g_iconst 33 hC (0 : Int32) dX0_isLeft_32 (by decide) rfl ?_
    exact g_zreturn hC ⟨_, rfl, hF⟩ (Or.inl rfl) dX0_isLeft_33 (Nat.zero_le _) (Nat.zero_le _)
  · have hF := hF.2 c
    refine g_iload_n 9 hC dX0_isLeft_8 rfl 3 rfl rfl ?_
    refine g_iload_n 10 hC dX0_isLeft_9 rfl 2 rfl rfl ?_
    refine g_aload_n 11 hC dX0_isLeft_10 rfl 0 rfl rfl ?_
    refine gf_X0_20_0N 14 hC hF dX0_isLeft_11 rfl (fun a_3 hF => ?_)
    refine gf_X0_49_1N 17 hC hF dX0_isLeft_14 rfl (fun a_4 hF => ?_)
    refine g_iload_n 18 hC dX0_isLeft_17 rfl 1 rfl rfl ?_
    refine g_aaldN 19 hC hF (by decide) rfl (fun _ _ _ => rfl) dX0_isLeft_18 rfl (fun a_5 hF => ?_)
    refine gf_X0_62_12I 22 hC hF dX0_isLeft_19 rfl (fun x_6 hF => ?_)
    refine g_cS (rest := []) wl_X0_37 hd_X0_isIn 25 hC (met_X0_isIn hF) rfl ⟨Nat.le_of_ble_eq_true rfl, Nat.le_of_ble_eq_true rfl⟩ ⟨Nat.zero_le _, Nat.zero_le _⟩ rfl (Nat.le_of_ble_eq_true rfl) dX0_isLeft_22 rfl (g_ty_i 0 0 (Nat.le_refl _) (Nat.le_refl _) (fun x_8 M_7 hF => ?_))
    refine g_if_eq 28 32 hC dX0_isLeft_25 (by decide) rfl (fun c => ?_) (fun c => ?_)
    · have hF := hF.1 c
      refine g_iconst 33 hC (0 : Int32) dX0_isLeft_32 (by decide) rfl ?_
      exact g_zreturn hC ⟨_, rfl, hF⟩ (Or.inl rfl) dX0_isLeft_33 (Nat.zero_le _) (Nat.zero_le _)
    · have hF := hF.2 c
      refine g_iconst 29 hC (1 : Int32) dX0_isLeft_28 (by decide) rfl ?_
      refine g_goto 33 hC dX0_isLeft_29 (by decide) ?_
      exact g_zreturn hC ⟨_, rfl, hF⟩ (Or.inr rfl) dX0_isLeft_33 (Nat.zero_le _) (Nat.zero_le _)
theorem hd_X0_isLeft : yX0_isLeft.cls = RX0 ∧ yX0_isLeft.cls ≠ "java/lang/invoke/MethodHandle" ∧ yX0_isLeft.cls ≠ "java/lang/invoke/VarHandle" ∧ (parseMethodDescriptor yX0_isLeft.desc).map (fun d => d.parameters.length) = some 3 := by decide +kernel
theorem wl_X0_239 : GoodIn lw_all (wsV RX0 239 RX0 yX0_isLeft (ws_ yX0_isLeft cX0_isLeft 4 (some .boolean))) := lw_V q989 q991 qs17 q69 q992
theorem wl_X0_242 : GoodIn lw_all (wsV RX0 242 RX12 yX12_scale (ws_ yX12_scale cX12_scale 2 (some .long))) := lw_V q993 q994 q995 q92 q996
abbrev rm_X0_scale : Room := { frames := 3, cells := 0, slots := 0, locals := 66 }
def F_X0_scale  (M : gM) (a0 : Nat) (x1 : Int32) (x2 : Int32) (Q : Int64 → gM → Prop)  : Prop :=
  rc M 0 a0 ∧ F_X0_isLeft M a0 x1 (0 : Int32) x2 fun x_2 M_1 =>
  ((x_2 = 0 →
    rc M_1 0 a0 ∧ F_X0_no M_1 a0 (-2 : Int32) fun x_4 M_3 =>
    Q x_4.toInt64 M_3) ∧
    (¬ x_2 = 0 →
    gN M_1 0 a0 0 fun a_5 =>
    gN M_1 1 a_5 0 fun a_6 =>
    aN M_1 (.object "SendTheBox$House") a_6 x1 fun a_7 =>
    rc M_1 12 a_7 ∧ F_X12_scale M_1 a_7 x2 fun j_9 M_8 =>
    Q j_9 M_8))
theorem met_X0_scale {M : gM} {a0 : Nat} {x1 : Int32} {x2 : Int32} {Q : Int64 → gM → Prop} (hF : F_X0_scale M a0 x1 x2 Q) : gMt yX0_scale (ws_ yX0_scale cX0_scale 3 (some .long)) rm_X0_scale M [.ref a0, .int x1, .int x2] (gQj Q) := by
  refine gMet (bytes := cX0_scale) (maxL := 3) (ret := (some .long)) rfl rfl (by decide) (Nat.le_of_ble_eq_true rfl) (lv := [(0, .ref a0), (1, .int x1), (2, .int x2)]) rfl (fun G hC hin => ?_)
  unfold F_X0_scale at hF
  refine g_aload_n 1 hC dX0_scale_0 rfl 0 rfl rfl ?_
  refine g_iload_n 2 hC dX0_scale_1 rfl 1 rfl rfl ?_
  refine g_iconst 3 hC (0 : Int32) dX0_scale_2 (by decide) rfl ?_
  refine g_iload_n 4 hC dX0_scale_3 rfl 2 rfl rfl ?_
  refine g_cV (rest := []) wl_X0_239 hd_X0_isLeft (ci := 0) rfl 7 hC hF.1 (met_X0_isLeft hF.2) rfl ⟨Nat.le_of_ble_eq_true rfl, Nat.le_of_ble_eq_true rfl⟩ ⟨Nat.zero_le _, Nat.zero_le _⟩ rfl (Nat.le_of_ble_eq_true rfl) dX0_scale_4 rfl (g_ty_i 0 0 (Nat.le_refl _) (Nat.le_refl _) (fun x_2 M_1 hF => ?_))
  refine g_if_eq 10 26 hC dX0_scale_7 (by decide) rfl (fun c => ?_) (fun c => ?_)
  · have hF := hF.1 c
    refine g_aload_n 27 hC dX0_scale_26 rfl 0 rfl rfl ?_
    refine g_bipush 29 hC (-2 : Int32) dX0_scale_27 (by decide) rfl ?_
    refine g_cV (rest := []) wl_X0_81 hd_X0_no (ci := 0) rfl 32 hC hF.1 (met_X0_no hF.2) rfl ⟨Nat.le_of_ble_eq_true rfl, Nat.le_of_ble_eq_true rfl⟩ ⟨Nat.zero_le _, Nat.zero_le _⟩ rfl (Nat.le_of_ble_eq_true rfl) dX0_scale_29 rfl (g_ty_i 0 0 (Nat.le_refl _) (Nat.le_refl _) (fun x_4 M_3 hF => ?_))
    refine g_i2l 33 hC dX0_scale_32 rfl ?_
    exact g_lreturn hC ⟨_, rfl, hF⟩ dX0_scale_33 (Nat.zero_le _) (Nat.zero_le _)
  · have hF := hF.2 c
    refine g_aload_n 11 hC dX0_scale_10 rfl 0 rfl rfl ?_
    refine gf_X0_20_0N 14 hC hF dX0_scale_11 rfl (fun a_5 hF => ?_)
    refine gf_X0_49_1N 17 hC hF dX0_scale_14 rfl (fun a_6 hF => ?_)
    refine g_iload_n 18 hC dX0_scale_17 rfl 1 rfl rfl ?_
    refine g_aaldN 19 hC hF (by decide) rfl (fun _ _ _ => rfl) dX0_scale_18 rfl (fun a_7 hF => ?_)
    refine g_iload_n 20 hC dX0_scale_19 rfl 2 rfl rfl ?_
    refine g_cV (rest := []) wl_X0_242 hd_X12_scale (ci := 12) rfl 23 hC hF.1 (met_X12_scale hF.2) rfl ⟨Nat.le_of_ble_eq_true rfl, Nat.le_of_ble_eq_true rfl⟩ ⟨Nat.zero_le _, Nat.zero_le _⟩ rfl (Nat.le_of_ble_eq_true rfl) dX0_scale_20 rfl (g_ty_j 0 0 (Nat.le_refl _) (Nat.le_refl _) (fun j_9 M_8 hF => ?_))
    refine g_goto 33 hC dX0_scale_23 (by decide) ?_
    exact g_lreturn hC ⟨_, rfl, hF⟩ dX0_scale_33 (Nat.zero_le _) (Nat.zero_le _)
theorem hd_X12_cost : yX12_cost.cls = RX12 ∧ yX12_cost.cls ≠ "java/lang/invoke/MethodHandle" ∧ yX12_cost.cls ≠ "java/lang/invoke/VarHandle" ∧ (parseMethodDescriptor yX12_cost.desc).map (fun d => d.parameters.length) = some 2 := by decide +kernel
theorem wl_X0_246 : GoodIn lw_all (wsV RX0 246 RX12 yX12_cost (ws_ yX12_cost cX12_cost 3 (some .long))) := lw_V q1001 q1002 q1003 q92 q1004
abbrev rm_X0_cost (Lc Ls : Nat) : Room := { frames := 7, cells := Lc, slots := Ls, locals := 158 }
def F_X0_cost_b36 (Q : Int64 → gM → Prop)  (Lc Ls : Nat)  (a0 : Nat)  (u v : Nat) (M : gM) : Prop :=
  rc M 0 a0 ∧ F_X0_no M a0 (-2 : Int32) fun x_2 M_1 =>
  Q x_2.toInt64 M_1
theorem w_X0_cost_b36 {G : gG} {Q : Int64 → gM → Prop} {Lc Ls : Nat} (hC : gCx G cX0_cost 4 RX0 (some .long) (gQj Q) (rm_X0_cost Lc Ls))  (a0 : Nat)   (u v : Nat) (hu : u ≤ Lc ∧ v ≤ Ls) (M : gM) (hF : F_X0_cost_b36 Q Lc Ls a0 u v M) : gAt G u v M [(0, .ref a0)] 36 [] := by
  unfold F_X0_cost_b36 at hF
  refine g_aload_n 37 hC dX0_cost_36 rfl 0 rfl rfl ?_
  refine g_bipush 39 hC (-2 : Int32) dX0_cost_37 (by decide) rfl ?_
  refine g_cV (rest := []) wl_X0_81 hd_X0_no (ci := 0) rfl 42 hC hF.1 (met_X0_no hF.2) rfl ⟨Nat.le_of_ble_eq_true rfl, Nat.le_of_ble_eq_true rfl⟩ hu rfl (Nat.le_of_ble_eq_true rfl) dX0_cost_39 rfl (g_ty_i u v (Nat.le_refl _) (Nat.le_refl _) (fun x_2 M_1 hF => ?_))
  refine g_i2l 43 hC dX0_cost_42 rfl ?_
  exact g_lreturn hC ⟨_, rfl, hF⟩ dX0_cost_43 hu.1 hu.2
def F_X0_cost (Lc Ls : Nat) (M : gM) (a0 : Nat) (x1 : Int32) (x2 : Int32) (x3 : Int32) (Q : Int64 → gM → Prop)  : Prop :=
  rc M 0 a0 ∧ F_X0_isLeft M a0 x1 (0 : Int32) x2 fun x_2 M_1 =>
  ((x_2 = 0 →
    F_X0_cost_b36 Q Lc Ls a0 0 0 M_1) ∧
    (¬ x_2 = 0 →
    rc M_1 0 a0 ∧ F_X0_isState M_1 a0 x1 x3 fun x_4 M_3 =>
    ((x_4 = 0 →
      F_X0_cost_b36 Q Lc Ls a0 0 0 M_3) ∧
      (¬ x_4 = 0 →
      gN M_3 0 a0 0 fun a_5 =>
      gN M_3 1 a_5 0 fun a_6 =>
      aN M_3 (.object "SendTheBox$House") a_6 x1 fun a_7 =>
      ∃ c_10 s_11, (0 + c_10 ≤ Lc ∧ 0 + s_11 ≤ Ls) ∧
      rc M_3 12 a_7 ∧ F_X12_cost c_10 s_11 M_3 a_7 x2 x3 fun j_9 M_8 =>
      Q j_9 M_8))))
theorem met_X0_cost {M : gM} {a0 : Nat} {x1 : Int32} {x2 : Int32} {x3 : Int32} {Q : Int64 → gM → Prop} {Lc Ls : Nat} (hF : F_X0_cost Lc Ls M a0 x1 x2 x3 Q) : gMt yX0_cost (ws_ yX0_cost cX0_cost 4 (some .long)) (rm_X0_cost Lc Ls) M [.ref a0, .int x1, .int x2, .int x3] (gQj Q) := by
  refine gMet (bytes := cX0_cost) (maxL := 4) (ret := (some .long)) rfl rfl (by decide) (Nat.le_of_ble_eq_true rfl) (lv := [(0, .ref a0), (1, .int x1), (2, .int x2), (3, .int x3)]) rfl (fun G hC hin => ?_)
  have hu : 0 ≤ Lc ∧ 0 ≤ Ls := ⟨Nat.zero_le _, Nat.zero_le _⟩
  unfold F_X0_cost at hF
  refine g_aload_n 1 hC dX0_cost_0 rfl 0 rfl rfl ?_
  refine g_iload_n 2 hC dX0_cost_1 rfl 1 rfl rfl ?_
  refine g_iconst 3 hC (0 : Int32) dX0_cost_2 (by decide) rfl ?_
  refine g_iload_n 4 hC dX0_cost_3 rfl 2 rfl rfl ?_
  refine g_cV (rest := []) wl_X0_239 hd_X0_isLeft (ci := 0) rfl 7 hC hF.1 (met_X0_isLeft hF.2) rfl ⟨Nat.le_of_ble_eq_true rfl, Nat.le_of_ble_eq_true rfl⟩ hu rfl (Nat.le_of_ble_eq_true rfl) dX0_cost_4 rfl (g_ty_i 0 0 (Nat.le_refl _) (Nat.le_refl _) (fun x_2 M_1 hF => ?_))
  refine g_if_eq 10 36 hC dX0_cost_7 (by decide) rfl (fun c => ?_) (fun c => ?_)
  · have hF := hF.1 c
    refine g_sub [0] rfl ?_
    exact w_X0_cost_b36 hC _ _ _ hu _ hF
  · have hF := hF.2 c
    refine g_aload_n 11 hC dX0_cost_10 rfl 0 rfl rfl ?_
    refine g_iload_n 12 hC dX0_cost_11 rfl 1 rfl rfl ?_
    refine g_iload_n 13 hC dX0_cost_12 rfl 3 rfl rfl ?_
    refine g_cV (rest := []) wl_X0_234 hd_X0_isState (ci := 0) rfl 16 hC hF.1 (met_X0_isState hF.2) rfl ⟨Nat.le_of_ble_eq_true rfl, Nat.le_of_ble_eq_true rfl⟩ hu rfl (Nat.le_of_ble_eq_true rfl) dX0_cost_13 rfl (g_ty_i 0 0 (Nat.le_refl _) (Nat.le_refl _) (fun x_4 M_3 hF => ?_))
    refine g_if_eq 19 36 hC dX0_cost_16 (by decide) rfl (fun c => ?_) (fun c => ?_)
    · have hF := hF.1 c
      refine g_sub [0] rfl ?_
      exact w_X0_cost_b36 hC _ _ _ hu _ hF
    · have hF := hF.2 c
      refine g_aload_n 20 hC dX0_cost_19 rfl 0 rfl rfl ?_
      refine gf_X0_20_0N 23 hC hF dX0_cost_20 rfl (fun a_5 hF => ?_)
      refine gf_X0_49_1N 26 hC hF dX0_cost_23 rfl (fun a_6 hF => ?_)
      refine g_iload_n 27 hC dX0_cost_26 rfl 1 rfl rfl ?_
      refine g_aaldN 28 hC hF (by decide) rfl (fun _ _ _ => rfl) dX0_cost_27 rfl (fun a_7 hF => ?_)
      refine g_iload_n 29 hC dX0_cost_28 rfl 2 rfl rfl ?_
      refine g_iload_n 30 hC dX0_cost_29 rfl 3 rfl rfl ?_
      obtain ⟨c_10, s_11, hu, hF⟩ := hF
      refine g_cV (rest := []) wl_X0_246 hd_X12_cost (ci := 12) rfl 33 hC hF.1 (met_X12_cost hF.2) rfl ⟨Nat.le_of_ble_eq_true rfl, Nat.le_of_ble_eq_true rfl⟩ hu rfl (Nat.le_of_ble_eq_true rfl) dX0_cost_30 rfl (g_ty_j (0 + c_10) (0 + s_11) (Nat.le_refl _) (Nat.le_refl _) (fun j_9 M_8 hF => ?_))
      refine g_goto 43 hC dX0_cost_33 (by decide) ?_
      exact g_lreturn hC ⟨_, rfl, hF⟩ dX0_cost_43 hu.1 hu.2
theorem wl_X0_250 : GoodIn lw_all (wsV RX0 250 RX12 yX12_best (ws_ yX12_best cX12_best 3 (some .int))) := lw_V q1048 q1049 q1050 q92 q1051
abbrev rm_X0_best (Lc Ls : Nat) : Room := { frames := 7, cells := Lc, slots := Ls, locals := 158 }
def F_X0_best_b36 (Q : Int32 → gM → Prop)  (Lc Ls : Nat)  (a0 : Nat)  (u v : Nat) (M : gM) : Prop :=
  rc M 0 a0 ∧ F_X0_no M a0 (-2 : Int32) fun x_2 M_1 =>
  Q x_2 M_1
theorem w_X0_best_b36 {G : gG} {Q : Int32 → gM → Prop} {Lc Ls : Nat} (hC : gCx G cX0_best 4 RX0 (some .int) (gQi Q) (rm_X0_best Lc Ls))  (a0 : Nat)   (u v : Nat) (hu : u ≤ Lc ∧ v ≤ Ls) (M : gM) (hF : F_X0_best_b36 Q Lc Ls a0 u v M) : gAt G u v M [(0, .ref a0)] 36 [] := by
  unfold F_X0_best_b36 at hF
  refine g_aload_n 37 hC dX0_best_36 rfl 0 rfl rfl ?_
  refine g_bipush 39 hC (-2 : Int32) dX0_best_37 (by decide) rfl ?_
  refine g_cV (rest := []) wl_X0_81 hd_X0_no (ci := 0) rfl 42 hC hF.1 (met_X0_no hF.2) rfl ⟨Nat.le_of_ble_eq_true rfl, Nat.le_of_ble_eq_true rfl⟩ hu rfl (Nat.le_of_ble_eq_true rfl) dX0_best_39 rfl (g_ty_i u v (Nat.le_refl _) (Nat.le_refl _) (fun x_2 M_1 hF => ?_))
  exact g_ireturn hC ⟨_, rfl, hF⟩ dX0_best_42 hu.1 hu.2
def F_X0_best (Lc Ls : Nat) (M : gM) (a0 : Nat) (x1 : Int32) (x2 : Int32) (x3 : Int32) (Q : Int32 → gM → Prop)  : Prop :=
  rc M 0 a0 ∧ F_X0_isLeft M a0 x1 (1 : Int32) x2 fun x_2 M_1 =>
  ((x_2 = 0 →
    F_X0_best_b36 Q Lc Ls a0 0 0 M_1) ∧
    (¬ x_2 = 0 →
    rc M_1 0 a0 ∧ F_X0_isState M_1 a0 x1 x3 fun x_4 M_3 =>
    ((x_4 = 0 →
      F_X0_best_b36 Q Lc Ls a0 0 0 M_3) ∧
      (¬ x_4 = 0 →
      gN M_3 0 a0 0 fun a_5 =>
      gN M_3 1 a_5 0 fun a_6 =>
      aN M_3 (.object "SendTheBox$House") a_6 x1 fun a_7 =>
      ∃ c_10 s_11, (0 + c_10 ≤ Lc ∧ 0 + s_11 ≤ Ls) ∧
      rc M_3 12 a_7 ∧ F_X12_best c_10 s_11 M_3 a_7 x2 x3 fun x_9 M_8 =>
      Q x_9 M_8))))
theorem met_X0_best {M : gM} {a0 : Nat} {x1 : Int32} {x2 : Int32} {x3 : Int32} {Q : Int32 → gM → Prop} {Lc Ls : Nat} (hF : F_X0_best Lc Ls M a0 x1 x2 x3 Q) : gMt yX0_best (ws_ yX0_best cX0_best 4 (some .int)) (rm_X0_best Lc Ls) M [.ref a0, .int x1, .int x2, .int x3] (gQi Q) := by
  refine gMet (bytes := cX0_best) (maxL := 4) (ret := (some .int)) rfl rfl (by decide) (Nat.le_of_ble_eq_true rfl) (lv := [(0, .ref a0), (1, .int x1), (2, .int x2), (3, .int x3)]) rfl (fun G hC hin => ?_)
  have hu : 0 ≤ Lc ∧ 0 ≤ Ls := ⟨Nat.zero_le _, Nat.zero_le _⟩
  unfold F_X0_best at hF
  refine g_aload_n 1 hC dX0_best_0 rfl 0 rfl rfl ?_
  refine g_iload_n 2 hC dX0_best_1 rfl 1 rfl rfl ?_
  refine g_iconst 3 hC (1 : Int32) dX0_best_2 (by decide) rfl ?_
  refine g_iload_n 4 hC dX0_best_3 rfl 2 rfl rfl ?_
  refine g_cV (rest := []) wl_X0_239 hd_X0_isLeft (ci := 0) rfl 7 hC hF.1 (met_X0_isLeft hF.2) rfl ⟨Nat.le_of_ble_eq_true rfl, Nat.le_of_ble_eq_true rfl⟩ hu rfl (Nat.le_of_ble_eq_true rfl) dX0_best_4 rfl (g_ty_i 0 0 (Nat.le_refl _) (Nat.le_refl _) (fun x_2 M_1 hF => ?_))
  refine g_if_eq 10 36 hC dX0_best_7 (by decide) rfl (fun c => ?_) (fun c => ?_)
  · have hF := hF.1 c
    refine g_sub [0] rfl ?_
    exact w_X0_best_b36 hC _ _ _ hu _ hF
  · have hF := hF.2 c
    refine g_aload_n 11 hC dX0_best_10 rfl 0 rfl rfl ?_
    refine g_iload_n 12 hC dX0_best_11 rfl 1 rfl rfl ?_
    refine g_iload_n 13 hC dX0_best_12 rfl 3 rfl rfl ?_
    refine g_cV (rest := []) wl_X0_234 hd_X0_isState (ci := 0) rfl 16 hC hF.1 (met_X0_isState hF.2) rfl ⟨Nat.le_of_ble_eq_true rfl, Nat.le_of_ble_eq_true rfl⟩ hu rfl (Nat.le_of_ble_eq_true rfl) dX0_best_13 rfl (g_ty_i 0 0 (Nat.le_refl _) (Nat.le_refl _) (fun x_4 M_3 hF => ?_))
    refine g_if_eq 19 36 hC dX0_best_16 (by decide) rfl (fun c => ?_) (fun c => ?_)
    · have hF := hF.1 c
      refine g_sub [0] rfl ?_
      exact w_X0_best_b36 hC _ _ _ hu _ hF
    · have hF := hF.2 c
      refine g_aload_n 20 hC dX0_best_19 rfl 0 rfl rfl ?_
      refine gf_X0_20_0N 23 hC hF dX0_best_20 rfl (fun a_5 hF => ?_)
      refine gf_X0_49_1N 26 hC hF dX0_best_23 rfl (fun a_6 hF => ?_)
      refine g_iload_n 27 hC dX0_best_26 rfl 1 rfl rfl ?_
      refine g_aaldN 28 hC hF (by decide) rfl (fun _ _ _ => rfl) dX0_best_27 rfl (fun a_7 hF => ?_)
      refine g_iload_n 29 hC dX0_best_28 rfl 2 rfl rfl ?_
      refine g_iload_n 30 hC dX0_best_29 rfl 3 rfl rfl ?_
      obtain ⟨c_10, s_11, hu, hF⟩ := hF
      refine g_cV (rest := []) wl_X0_250 hd_X12_best (ci := 12) rfl 33 hC hF.1 (met_X12_best hF.2) rfl ⟨Nat.le_of_ble_eq_true rfl, Nat.le_of_ble_eq_true rfl⟩ hu rfl (Nat.le_of_ble_eq_true rfl) dX0_best_30 rfl (g_ty_i (0 + c_10) (0 + s_11) (Nat.le_refl _) (Nat.le_refl _) (fun x_9 M_8 hF => ?_))
      refine g_goto 42 hC dX0_best_33 (by decide) ?_
      exact g_ireturn hC ⟨_, rfl, hF⟩ dX0_best_42 hu.1 hu.2
theorem wl_X0_253 : GoodIn lw_all (wsV RX0 253 RX12 yX12_fill (ws_ yX12_fill cX12_fill 8 (some .int))) := lw_V q1056 q1057 q1058 q92 q1059
abbrev rm_X0_fill : Room := { frames := 3, cells := 0, slots := 0, locals := 65 }
def F_X0_fill  (M : gM) (a0 : Nat) (x1 : Int32) (x2 : Int32) (Q : Int32 → gM → Prop)  : Prop :=
  rc M 0 a0 ∧ F_X0_isState M a0 x1 x2 fun x_2 M_1 =>
  ((x_2 = 0 →
    rc M_1 0 a0 ∧ F_X0_no M_1 a0 (-2 : Int32) fun x_4 M_3 =>
    Q x_4 M_3) ∧
    (¬ x_2 = 0 →
    gN M_1 0 a0 0 fun a_5 =>
    gN M_1 1 a_5 0 fun a_6 =>
    aN M_1 (.object "SendTheBox$House") a_6 x1 fun a_7 =>
    rc M_1 12 a_7 ∧ F_X12_fill M_1 a_7 x2 fun x_9 M_8 =>
    Q x_9 M_8))
theorem met_X0_fill {M : gM} {a0 : Nat} {x1 : Int32} {x2 : Int32} {Q : Int32 → gM → Prop} (hF : F_X0_fill M a0 x1 x2 Q) : gMt yX0_fill (ws_ yX0_fill cX0_fill 3 (some .int)) rm_X0_fill M [.ref a0, .int x1, .int x2] (gQi Q) := by
  refine gMet (bytes := cX0_fill) (maxL := 3) (ret := (some .int)) rfl rfl (by decide) (Nat.le_of_ble_eq_true rfl) (lv := [(0, .ref a0), (1, .int x1), (2, .int x2)]) rfl (fun G hC hin => ?_)
  unfold F_X0_fill at hF
  refine g_aload_n 1 hC dX0_fill_0 rfl 0 rfl rfl ?_
  refine g_iload_n 2 hC dX0_fill_1 rfl 1 rfl rfl ?_
  refine g_iload_n 3 hC dX0_fill_2 rfl 2 rfl rfl ?_
  refine g_cV (rest := []) wl_X0_234 hd_X0_isState (ci := 0) rfl 6 hC hF.1 (met_X0_isState hF.2) rfl ⟨Nat.le_of_ble_eq_true rfl, Nat.le_of_ble_eq_true rfl⟩ ⟨Nat.zero_le _, Nat.zero_le _⟩ rfl (Nat.le_of_ble_eq_true rfl) dX0_fill_3 rfl (g_ty_i 0 0 (Nat.le_refl _) (Nat.le_refl _) (fun x_2 M_1 hF => ?_))
  refine g_if_eq 9 25 hC dX0_fill_6 (by decide) rfl (fun c => ?_) (fun c => ?_)
  · have hF := hF.1 c
    refine g_aload_n 26 hC dX0_fill_25 rfl 0 rfl rfl ?_
    refine g_bipush 28 hC (-2 : Int32) dX0_fill_26 (by decide) rfl ?_
    refine g_cV (rest := []) wl_X0_81 hd_X0_no (ci := 0) rfl 31 hC hF.1 (met_X0_no hF.2) rfl ⟨Nat.le_of_ble_eq_true rfl, Nat.le_of_ble_eq_true rfl⟩ ⟨Nat.zero_le _, Nat.zero_le _⟩ rfl (Nat.le_of_ble_eq_true rfl) dX0_fill_28 rfl (g_ty_i 0 0 (Nat.le_refl _) (Nat.le_refl _) (fun x_4 M_3 hF => ?_))
    exact g_ireturn hC ⟨_, rfl, hF⟩ dX0_fill_31 (Nat.zero_le _) (Nat.zero_le _)
  · have hF := hF.2 c
    refine g_aload_n 10 hC dX0_fill_9 rfl 0 rfl rfl ?_
    refine gf_X0_20_0N 13 hC hF dX0_fill_10 rfl (fun a_5 hF => ?_)
    refine gf_X0_49_1N 16 hC hF dX0_fill_13 rfl (fun a_6 hF => ?_)
    refine g_iload_n 17 hC dX0_fill_16 rfl 1 rfl rfl ?_
    refine g_aaldN 18 hC hF (by decide) rfl (fun _ _ _ => rfl) dX0_fill_17 rfl (fun a_7 hF => ?_)
    refine g_iload_n 19 hC dX0_fill_18 rfl 2 rfl rfl ?_
    refine g_cV (rest := []) wl_X0_253 hd_X12_fill (ci := 12) rfl 22 hC hF.1 (met_X12_fill hF.2) rfl ⟨Nat.le_of_ble_eq_true rfl, Nat.le_of_ble_eq_true rfl⟩ ⟨Nat.zero_le _, Nat.zero_le _⟩ rfl (Nat.le_of_ble_eq_true rfl) dX0_fill_19 rfl (g_ty_i 0 0 (Nat.le_refl _) (Nat.le_refl _) (fun x_9 M_8 hF => ?_))
    refine g_goto 31 hC dX0_fill_22 (by decide) ?_
    exact g_ireturn hC ⟨_, rfl, hF⟩ dX0_fill_31 (Nat.zero_le _) (Nat.zero_le _)
theorem wd_X0_256_X6 : GoodIn lw_all (va_wsU RX0 256 RX6 "SendTheBox$Rule" ⟨"SendTheBox$Rule", "load", "(LSendTheBox$House;II)I"⟩ yX5_load (ws_ yX5_load cX5_load 4 (some .int))) := lw_app (fun w hw => by
  simp only [List.mem_cons, List.not_mem_nil, or_false] at hw
  rcases hw with e | e | e | e | e
  · rw [e]; exact q1069
  · rw [e]; exact q1071
  · rw [e]; exact q1078
  · rw [e]; exact q1070
  · rw [e]; exact q84) (lw_meth q1080)
theorem wd_X0_256_X7 : GoodIn lw_all (va_wsU RX0 256 RX7 "SendTheBox$Rule" ⟨"SendTheBox$Rule", "load", "(LSendTheBox$House;II)I"⟩ yX5_load (ws_ yX5_load cX5_load 4 (some .int))) := lw_app (fun w hw => by
  simp only [List.mem_cons, List.not_mem_nil, or_false] at hw
  rcases hw with e | e | e | e | e
  · rw [e]; exact q1069
  · rw [e]; exact q1071
  · rw [e]; exact q1077
  · rw [e]; exact q1070
  · rw [e]; exact q84) (lw_meth q1080)
theorem wd_X0_256_X8 : GoodIn lw_all (va_wsU RX0 256 RX8 "SendTheBox$Rule" ⟨"SendTheBox$Rule", "load", "(LSendTheBox$House;II)I"⟩ yX5_load (ws_ yX5_load cX5_load 4 (some .int))) := lw_app (fun w hw => by
  simp only [List.mem_cons, List.not_mem_nil, or_false] at hw
  rcases hw with e | e | e | e | e
  · rw [e]; exact q1069
  · rw [e]; exact q1071
  · rw [e]; exact q1076
  · rw [e]; exact q1070
  · rw [e]; exact q84) (lw_meth q1080)
theorem wd_X0_256_X9 : GoodIn lw_all (va_wsO RX0 256 RX9 "SendTheBox$Rule" ⟨"SendTheBox$Rule", "load", "(LSendTheBox$House;II)I"⟩ yX9_load (ws_ yX9_load cX9_load 4 (some .int))) := lw_app (fun w hw => by
  simp only [List.mem_cons, List.not_mem_nil, or_false] at hw
  rcases hw with e | e | e | e | e | e
  · rw [e]; exact q1069
  · rw [e]; exact q1071
  · rw [e]; exact q1070
  · rw [e]; exact q1072
  · rw [e]; exact q1073
  · rw [e]; exact q88) (lw_meth q1074)
theorem wd_X0_256_X10 : GoodIn lw_all (va_wsU RX0 256 RX10 "SendTheBox$Rule" ⟨"SendTheBox$Rule", "load", "(LSendTheBox$House;II)I"⟩ yX5_load (ws_ yX5_load cX5_load 4 (some .int))) := lw_app (fun w hw => by
  simp only [List.mem_cons, List.not_mem_nil, or_false] at hw
  rcases hw with e | e | e | e | e
  · rw [e]; exact q1069
  · rw [e]; exact q1071
  · rw [e]; exact q1079
  · rw [e]; exact q1070
  · rw [e]; exact q84) (lw_meth q1080)
theorem hx_X0_256 : "SendTheBox$Rule" ≠ "java/lang/invoke/MethodHandle" ∧ "SendTheBox$Rule" ≠ "java/lang/invoke/VarHandle" ∧ (parseMethodDescriptor "(LSendTheBox$House;II)I").map (fun d => d.parameters.length) = some 3 := by decide +kernel
theorem gd_X0_256 {G : gG} {cc : ByteArray} {nL : Nat} {ret : Option FieldType} {Qf : Option Value → gM → Prop} {rm : Room} {cells slots : Nat} {M : gM} {lv : List (Nat × Value)} {pc : Nat} {a : Nat} {y0 : Nat} {y1 : Int32} {y2 : Int32} {st0 : List Value} {c1 s1 : Nat} {κ : Int32 → gM → Prop} (rest : List Value) (n : Nat) (hC : gCx G cc nL RX0 ret Qf rm) (hF : FD_Rule_load c1 s1 M a y0 y1 y2 κ) (hR : 11 ≤ rm.frames ∧ 10323 ≤ rm.locals) (hf : cells + c1 ≤ rm.cells ∧ slots + s1 ≤ rm.slots) (hst : st0 = ([.ref y0, .int y1, .int y2] : List Value).reverse ++ .ref a :: rest) (hroom : (rest.map fun v => v.category).sum ≤ 8) (hdg : decode cc pc = .ok (.invokevirtual 256, 3)) (hn : pc + 3 = n) (kk : ∀ r M1, κ r M1 → gAt G (cells + c1) (slots + s1) M1 lv n (.int r :: rest)) : gAt G cells slots M lv pc st0 := by
  rcases hF with hF | hF | hF | hF | hF
  · exact g_cU (x := ⟨"SendTheBox$Rule", "load", "(LSendTheBox$House;II)I"⟩) wd_X0_256_X6 rfl hx_X0_256 (ci := 6) rfl n hC hF.1 (met_X5_load hF.2) rfl ⟨Nat.le_trans (Nat.le_of_ble_eq_true rfl) hR.1, Nat.le_trans (Nat.le_of_ble_eq_true rfl) hR.2⟩ hf hst hroom hdg hn (g_ty_i (cells + c1) (slots + s1) (Nat.le_refl _) (Nat.le_refl _) kk)
  · exact g_cU (x := ⟨"SendTheBox$Rule", "load", "(LSendTheBox$House;II)I"⟩) wd_X0_256_X7 rfl hx_X0_256 (ci := 7) rfl n hC hF.1 (met_X5_load hF.2) rfl ⟨Nat.le_trans (Nat.le_of_ble_eq_true rfl) hR.1, Nat.le_trans (Nat.le_of_ble_eq_true rfl) hR.2⟩ hf hst hroom hdg hn (g_ty_i (cells + c1) (slots + s1) (Nat.le_refl _) (Nat.le_refl _) kk)
  · exact g_cU (x := ⟨"SendTheBox$Rule", "load", "(LSendTheBox$House;II)I"⟩) wd_X0_256_X8 rfl hx_X0_256 (ci := 8) rfl n hC hF.1 (met_X5_load hF.2) rfl ⟨Nat.le_trans (Nat.le_of_ble_eq_true rfl) hR.1, Nat.le_trans (Nat.le_of_ble_eq_true rfl) hR.2⟩ hf hst hroom hdg hn (g_ty_i (cells + c1) (slots + s1) (Nat.le_refl _) (Nat.le_refl _) kk)
  · exact g_cO (x := ⟨"SendTheBox$Rule", "load", "(LSendTheBox$House;II)I"⟩) wd_X0_256_X9 q1080 hx_X0_256 (ci := 9) rfl n hC hF.1 (met_X9_load hF.2) rfl ⟨Nat.le_trans (Nat.le_of_ble_eq_true rfl) hR.1, Nat.le_trans (Nat.le_of_ble_eq_true rfl) hR.2⟩ hf hst hroom hdg hn (g_ty_i (cells + c1) (slots + s1) (Nat.le_refl _) (Nat.le_refl _) kk)
  · exact g_cU (x := ⟨"SendTheBox$Rule", "load", "(LSendTheBox$House;II)I"⟩) wd_X0_256_X10 rfl hx_X0_256 (ci := 10) rfl n hC hF.1 (met_X5_load hF.2) rfl ⟨Nat.le_trans (Nat.le_of_ble_eq_true rfl) hR.1, Nat.le_trans (Nat.le_of_ble_eq_true rfl) hR.2⟩ hf hst hroom hdg hn (g_ty_i (cells + c1) (slots + s1) (Nat.le_refl _) (Nat.le_refl _) kk)
abbrev rm_X0_load (Lc Ls : Nat) : Room := { frames := 11, cells := Lc, slots := Ls, locals := 10323 }
def F_X0_load_b27 (Q : Int32 → gM → Prop)  (Lc Ls : Nat)  (a0 : Nat)  (u v : Nat) (M : gM) : Prop :=
  rc M 0 a0 ∧ F_X0_no M a0 (-2 : Int32) fun x_2 M_1 =>
  Q x_2 M_1
theorem w_X0_load_b27 {G : gG} {Q : Int32 → gM → Prop} {Lc Ls : Nat} (hC : gCx G cX0_load 6 RX0 (some .int) (gQi Q) (rm_X0_load Lc Ls)) (hT : gTx G (fun _ _ _ => False) (rm_X0_load Lc Ls) (tableOf [(34, 54, 55, 97)]))  (a0 : Nat)   (u v : Nat) (hu : u ≤ Lc ∧ v ≤ Ls) (M : gM) (hF : F_X0_load_b27 Q Lc Ls a0 u v M) : gAt G u v M [(0, .ref a0)] 27 [] := by
  unfold F_X0_load_b27 at hF
  refine g_aload_n 28 hC dX0_load_27 rfl 0 rfl rfl ?_
  refine g_bipush 30 hC (-2 : Int32) dX0_load_28 (by decide) rfl ?_
  refine g_cV (rest := []) wl_X0_81 hd_X0_no (ci := 0) rfl 33 hC hF.1 (met_X0_no hF.2) rfl ⟨Nat.le_of_ble_eq_true rfl, Nat.le_of_ble_eq_true rfl⟩ hu rfl (Nat.le_of_ble_eq_true rfl) dX0_load_30 rfl (g_ty_i u v (Nat.le_refl _) (Nat.le_refl _) (fun x_2 M_1 hF => ?_))
  exact g_ireturn hC ⟨_, rfl, hF⟩ dX0_load_33 hu.1 hu.2
def F_X0_load (Lc Ls : Nat) (M : gM) (a0 : Nat) (x1 : Int32) (x2 : Int32) (x3 : Int32) (x4 : Int32) (Q : Int32 → gM → Prop)  : Prop :=
  rc M 0 a0 ∧ F_X0_isLeft M a0 x1 (1 : Int32) x2 fun x_2 M_1 =>
  ((x_2 = 0 →
    F_X0_load_b27 Q Lc Ls a0 0 0 M_1) ∧
    (¬ x_2 = 0 →
    rc M_1 0 a0 ∧ F_X0_isState M_1 a0 x1 x3 fun x_4 M_3 =>
    ((x_4 = 0 →
      F_X0_load_b27 Q Lc Ls a0 0 0 M_3) ∧
      (¬ x_4 = 0 →
      F_X0_isShelf M_3 x4 fun x_6 M_5 =>
      ((¬ x_6 = 0 →
        ∃ c_9 s_10, (0 + c_9 ≤ Lc ∧ 0 + s_10 ≤ Ls) ∧
        rc M_5 0 a0 ∧ F_X0_ruleIn c_9 s_10 M_5 a0 x4 (fun a_8 M_7 =>
        gN M_7 0 a0 0 fun a_16 =>
          gN M_7 1 a_16 0 fun a_17 =>
          aN M_7 (.object "SendTheBox$House") a_17 x1 fun a_18 =>
          ∃ c_21 s_22, ((0 + c_9) + c_21 ≤ Lc ∧ (0 + s_10) + s_22 ≤ Ls) ∧
          FD_Rule_load c_21 s_22 M_7 a_8 a_18 x3 x2 fun x_20 M_19 =>
          Q x_20 M_19) (fun E_ q_11 M_12 =>
          (E_ = "SendTheBox$Refused" ∧
          gI M_12 4 q_11 6 fun x_13 =>
          rc M_12 0 a0 ∧ F_X0_no M_12 a0 x_13 fun x_15 M_14 =>
          Q x_15 M_14))) ∧
        (x_6 = 0 →
        F_X0_load_b27 Q Lc Ls a0 0 0 M_5))))))
theorem met_X0_load {M : gM} {a0 : Nat} {x1 : Int32} {x2 : Int32} {x3 : Int32} {x4 : Int32} {Q : Int32 → gM → Prop} {Lc Ls : Nat} (hF : F_X0_load Lc Ls M a0 x1 x2 x3 x4 Q) : gMx yX0_load (wsW_ yX0_load cX0_load 6 (some .int) [(34, 54, 55, 97)]) (rm_X0_load Lc Ls) M [.ref a0, .int x1, .int x2, .int x3, .int x4] (gQi Q) (fun _ _ _ => False) := by
  refine gMetH (bytes := cX0_load) (maxL := 6) (ret := (some .int)) (hh := [(34, 54, 55, 97)]) rfl rfl (by decide) (Nat.le_of_ble_eq_true rfl) (lv := [(0, .ref a0), (1, .int x1), (2, .int x2), (3, .int x3), (4, .int x4)]) rfl (fun G hC hT hin => ?_)
  have hu : 0 ≤ Lc ∧ 0 ≤ Ls := ⟨Nat.zero_le _, Nat.zero_le _⟩
  unfold F_X0_load at hF
  refine g_aload_n 1 hC dX0_load_0 rfl 0 rfl rfl ?_
  refine g_iload_n 2 hC dX0_load_1 rfl 1 rfl rfl ?_
  refine g_iconst 3 hC (1 : Int32) dX0_load_2 (by decide) rfl ?_
  refine g_iload_n 4 hC dX0_load_3 rfl 2 rfl rfl ?_
  refine g_cV (rest := []) wl_X0_239 hd_X0_isLeft (ci := 0) rfl 7 hC hF.1 (met_X0_isLeft hF.2) rfl ⟨Nat.le_of_ble_eq_true rfl, Nat.le_of_ble_eq_true rfl⟩ hu rfl (Nat.le_of_ble_eq_true rfl) dX0_load_4 rfl (g_ty_i 0 0 (Nat.le_refl _) (Nat.le_refl _) (fun x_2 M_1 hF => ?_))
  refine g_if_eq 10 27 hC dX0_load_7 (by decide) rfl (fun c => ?_) (fun c => ?_)
  · have hF := hF.1 c
    refine g_sub [0] rfl ?_
    exact w_X0_load_b27 hC hT _ _ _ hu _ hF
  · have hF := hF.2 c
    refine g_aload_n 11 hC dX0_load_10 rfl 0 rfl rfl ?_
    refine g_iload_n 12 hC dX0_load_11 rfl 1 rfl rfl ?_
    refine g_iload_n 13 hC dX0_load_12 rfl 3 rfl rfl ?_
    refine g_cV (rest := []) wl_X0_234 hd_X0_isState (ci := 0) rfl 16 hC hF.1 (met_X0_isState hF.2) rfl ⟨Nat.le_of_ble_eq_true rfl, Nat.le_of_ble_eq_true rfl⟩ hu rfl (Nat.le_of_ble_eq_true rfl) dX0_load_13 rfl (g_ty_i 0 0 (Nat.le_refl _) (Nat.le_refl _) (fun x_4 M_3 hF => ?_))
    refine g_if_eq 19 27 hC dX0_load_16 (by decide) rfl (fun c => ?_) (fun c => ?_)
    · have hF := hF.1 c
      refine g_sub [0] rfl ?_
      exact w_X0_load_b27 hC hT _ _ _ hu _ hF
    · have hF := hF.2 c
      refine g_iload 21 hC dX0_load_19 rfl 4 rfl ?_
      refine g_cS (rest := []) wl_X0_78 hd_X0_isShelf 24 hC (met_X0_isShelf hF) rfl ⟨Nat.le_of_ble_eq_true rfl, Nat.le_of_ble_eq_true rfl⟩ hu rfl (Nat.le_of_ble_eq_true rfl) dX0_load_21 rfl (g_ty_i 0 0 (Nat.le_refl _) (Nat.le_refl _) (fun x_6 M_5 hF => ?_))
      refine g_if_ne 27 34 hC dX0_load_24 (by decide) rfl (fun c => ?_) (fun c => ?_)
      · have hF := hF.1 c
        refine g_aload_n 35 hC dX0_load_34 rfl 0 rfl rfl ?_
        refine g_iload 37 hC dX0_load_35 rfl 4 rfl ?_
        obtain ⟨c_9, s_10, hu, hF⟩ := hF
        refine g_xVW (rest := []) wl_X0_175 hd_X0_ruleIn (ci := 0) rfl 40 hC hF.1 (met_X0_ruleIn hF.2) rfl ⟨Nat.le_of_ble_eq_true rfl, Nat.le_of_ble_eq_true rfl⟩ hu rfl (Nat.le_of_ble_eq_true rfl) dX0_load_37 rfl (g_ty_a (0 + c_9) (0 + s_10) (Nat.le_refl _) (Nat.le_refl _) (fun a_8 M_7 hF => ?_)) (g_tx (0 + c_9) (0 + s_10) (Nat.le_refl _) (Nat.le_refl _) (fun E_ q_11 M_12 hF => ?_))
        · have hF := hF
          refine g_aload_n 41 hC dX0_load_40 rfl 0 rfl rfl ?_
          refine gf_X0_20_0N 44 hC hF dX0_load_41 rfl (fun a_16 hF => ?_)
          refine gf_X0_49_1N 47 hC hF dX0_load_44 rfl (fun a_17 hF => ?_)
          refine g_iload_n 48 hC dX0_load_47 rfl 1 rfl rfl ?_
          refine g_aaldN 49 hC hF (by decide) rfl (fun _ _ _ => rfl) dX0_load_48 rfl (fun a_18 hF => ?_)
          refine g_iload_n 50 hC dX0_load_49 rfl 3 rfl rfl ?_
          refine g_iload_n 51 hC dX0_load_50 rfl 2 rfl rfl ?_
          obtain ⟨c_21, s_22, hu, hF⟩ := hF
          refine gd_X0_256 [] 54 hC hF ⟨Nat.le_of_ble_eq_true rfl, Nat.le_of_ble_eq_true rfl⟩ hu rfl (Nat.le_of_ble_eq_true rfl) dX0_load_51 rfl (fun x_20 M_19 hF => ?_)
          exact g_ireturn hC ⟨_, rfl, hF⟩ dX0_load_54 hu.1 hu.2
        · have hF := hF
          obtain ⟨hE_, hF⟩ := hF
          rw [hE_]
          refine g_catch hC hT [] ⟨34, 54, 55, 97⟩ [] rfl (fun _ h => absurd h List.not_mem_nil) rfl (by decide) q279 q305 55 rfl ?_
          refine g_astore 57 hC (lv' := [(5, .ref _), (0, .ref _), (1, .int _), (2, .int _), (3, .int _), (4, .int _)]) dX0_load_55 rfl (by decide) rfl ?_
          refine g_aload_n 58 hC dX0_load_57 rfl 1 rfl rfl ?_
          refine g_aload 60 hC dX0_load_58 rfl 0 rfl ?_
          refine gf_X0_110_4I 63 hC hF dX0_load_60 rfl (fun x_13 hF => ?_)
          refine g_cV (rest := []) wl_X0_81 hd_X0_no (ci := 0) rfl 66 hC hF.1 (met_X0_no hF.2) rfl ⟨Nat.le_of_ble_eq_true rfl, Nat.le_of_ble_eq_true rfl⟩ hu rfl (Nat.le_of_ble_eq_true rfl) dX0_load_63 rfl (g_ty_i (0 + c_9) (0 + s_10) (Nat.le_refl _) (Nat.le_refl _) (fun x_15 M_14 hF => ?_))
          exact g_ireturn hC ⟨_, rfl, hF⟩ dX0_load_66 hu.1 hu.2
      · have hF := hF.2 c
        refine g_sub [0] rfl ?_
        exact w_X0_load_b27 hC hT _ _ _ hu _ hF
theorem hd_X12_mean : yX12_mean.cls = RX12 ∧ yX12_mean.cls ≠ "java/lang/invoke/MethodHandle" ∧ yX12_mean.cls ≠ "java/lang/invoke/VarHandle" ∧ (parseMethodDescriptor yX12_mean.desc).map (fun d => d.parameters.length) = some 3 := by decide +kernel
theorem wl_X0_260 : GoodIn lw_all (wsV RX0 260 RX12 yX12_mean (ws_ yX12_mean cX12_mean 7 (some .long))) := lw_V q1113 q1114 q1115 q92 q1116
abbrev rm_X0_meanBy (Lc Ls : Nat) : Room := { frames := 12, cells := Lc, slots := Ls, locals := 10349 }
def F_X0_meanBy_b27 (Q : Int64 → gM → Prop) (X : String → Nat → gM → Prop) (Lc Ls : Nat)    (u v : Nat) (M : gM) : Prop :=
  nO M u v Lc Ls 4 7 fun a_1 M_2 =>
  F_X4_init M_2 a_1 (-2 : Int32) fun M_3 =>
  (kd M_3 a_1 = some (true, .inl 4)) ∧
  X "SendTheBox$Refused" a_1 M_3
theorem w_X0_meanBy_b27 {G : gG} {Q : Int64 → gM → Prop} {X : String → Nat → gM → Prop} {Lc Ls : Nat} (hC : gCx G cX0_meanBy 5 RX0 (some .long) (gQj Q) (rm_X0_meanBy Lc Ls)) (hT : gTx G X (rm_X0_meanBy Lc Ls) [])     (u v : Nat) (hu : u ≤ Lc ∧ v ≤ Ls) (M : gM) (hF : F_X0_meanBy_b27 Q X Lc Ls u v M) : gAt G u v M [] 27 [] := by
  unfold F_X0_meanBy_b27 at hF
  have hu := hF.1
  refine g_new (C := RX4) (T := TX4) (N := 7) (ci := 4) in_X4 tyX4_ok (by decide) rfl q279 q304 q80 30 hC hF dX0_meanBy_27 rfl (fun a_1 M_2 hF => ?_)
  refine g_dup 31 hC dX0_meanBy_30 rfl rfl ?_
  refine g_bipush 33 hC (-2 : Int32) dX0_meanBy_31 (by decide) rfl ?_
  refine g_cI (rest := [_]) q314 q80 q312 q313 rfl hd_X4_init 36 hC (met_X4_init hF) rfl ⟨Nat.le_of_ble_eq_true rfl, Nat.le_of_ble_eq_true rfl⟩ hu rfl (Nat.le_of_ble_eq_true rfl) dX0_meanBy_33 rfl (g_ty_v (u + 1) (v + 7) (Nat.le_refl _) (Nat.le_refl _) (fun M_3 hF => ?_))
  refine g_athrow (ci := 4) rfl hC hF.1 dX0_meanBy_36 ?_
  have hF := hF.2
  exact g_out hC hT (fun _ h => absurd h List.not_mem_nil) hF hu
def F_X0_meanBy (Lc Ls : Nat) (M : gM) (a0 : Nat) (x1 : Int32) (x2 : Int32) (x3 : Int32) (x4 : Int32) (Q : Int64 → gM → Prop) (X : String → Nat → gM → Prop) : Prop :=
  rc M 0 a0 ∧ F_X0_isLeft M a0 x1 (0 : Int32) x2 fun x_2 M_1 =>
  ((x_2 = 0 →
    F_X0_meanBy_b27 Q X Lc Ls 0 0 M_1) ∧
    (¬ x_2 = 0 →
    rc M_1 0 a0 ∧ F_X0_isState M_1 a0 x1 x3 fun x_4 M_3 =>
    ((x_4 = 0 →
      F_X0_meanBy_b27 Q X Lc Ls 0 0 M_3) ∧
      (¬ x_4 = 0 →
      F_X0_isShelf M_3 x4 fun x_6 M_5 =>
      ((¬ x_6 = 0 →
        gN M_5 0 a0 0 fun a_7 =>
        gN M_5 1 a_7 0 fun a_8 =>
        aN M_5 (.object "SendTheBox$House") a_8 x1 fun a_9 =>
        ∃ c_12 s_13, (0 + c_12 ≤ Lc ∧ 0 + s_13 ≤ Ls) ∧
        rc M_5 0 a0 ∧ F_X0_ruleIn c_12 s_13 M_5 a0 x4 (fun a_11 M_10 =>
        ∃ c_18 s_19, ((0 + c_12) + c_18 ≤ Lc ∧ (0 + s_13) + s_19 ≤ Ls) ∧
          rc M_10 12 a_9 ∧ F_X12_mean c_18 s_19 M_10 a_9 a_11 x2 x3 fun j_17 M_16 =>
          Q j_17 M_16) (fun E_ q_14 M_15 =>
          (E_ = "SendTheBox$Refused" ∧
          X "SendTheBox$Refused" q_14 M_15))) ∧
        (x_6 = 0 →
        F_X0_meanBy_b27 Q X Lc Ls 0 0 M_5))))))
theorem met_X0_meanBy {M : gM} {a0 : Nat} {x1 : Int32} {x2 : Int32} {x3 : Int32} {x4 : Int32} {Q : Int64 → gM → Prop} {X : String → Nat → gM → Prop} {Lc Ls : Nat} (hF : F_X0_meanBy Lc Ls M a0 x1 x2 x3 x4 Q X) : gMx yX0_meanBy (ws_ yX0_meanBy cX0_meanBy 5 (some .long)) (rm_X0_meanBy Lc Ls) M [.ref a0, .int x1, .int x2, .int x3, .int x4] (gQj Q) X := by
  refine gMetX (bytes := cX0_meanBy) (maxL := 5) (ret := (some .long)) rfl rfl (by decide) (Nat.le_of_ble_eq_true rfl) (lv := [(0, .ref a0), (1, .int x1), (2, .int x2), (3, .int x3), (4, .int x4)]) rfl (fun G hC hT hin => ?_)
  have hu : 0 ≤ Lc ∧ 0 ≤ Ls := ⟨Nat.zero_le _, Nat.zero_le _⟩
  unfold F_X0_meanBy at hF
  refine g_aload_n 1 hC dX0_meanBy_0 rfl 0 rfl rfl ?_
  refine g_iload_n 2 hC dX0_meanBy_1 rfl 1 rfl rfl ?_
  refine g_iconst 3 hC (0 : Int32) dX0_meanBy_2 (by decide) rfl ?_
  refine g_iload_n 4 hC dX0_meanBy_3 rfl 2 rfl rfl ?_
  refine g_cV (rest := []) wl_X0_239 hd_X0_isLeft (ci := 0) rfl 7 hC hF.1 (met_X0_isLeft hF.2) rfl ⟨Nat.le_of_ble_eq_true rfl, Nat.le_of_ble_eq_true rfl⟩ hu rfl (Nat.le_of_ble_eq_true rfl) dX0_meanBy_4 rfl (g_ty_i 0 0 (Nat.le_refl _) (Nat.le_refl _) (fun x_2 M_1 hF => ?_))
  refine g_if_eq 10 27 hC dX0_meanBy_7 (by decide) rfl (fun c => ?_) (fun c => ?_)
  · have hF := hF.1 c
    refine g_sub [] rfl ?_
    exact w_X0_meanBy_b27 hC hT _ _ hu _ hF
  · have hF := hF.2 c
    refine g_aload_n 11 hC dX0_meanBy_10 rfl 0 rfl rfl ?_
    refine g_iload_n 12 hC dX0_meanBy_11 rfl 1 rfl rfl ?_
    refine g_iload_n 13 hC dX0_meanBy_12 rfl 3 rfl rfl ?_
    refine g_cV (rest := []) wl_X0_234 hd_X0_isState (ci := 0) rfl 16 hC hF.1 (met_X0_isState hF.2) rfl ⟨Nat.le_of_ble_eq_true rfl, Nat.le_of_ble_eq_true rfl⟩ hu rfl (Nat.le_of_ble_eq_true rfl) dX0_meanBy_13 rfl (g_ty_i 0 0 (Nat.le_refl _) (Nat.le_refl _) (fun x_4 M_3 hF => ?_))
    refine g_if_eq 19 27 hC dX0_meanBy_16 (by decide) rfl (fun c => ?_) (fun c => ?_)
    · have hF := hF.1 c
      refine g_sub [] rfl ?_
      exact w_X0_meanBy_b27 hC hT _ _ hu _ hF
    · have hF := hF.2 c
      refine g_iload 21 hC dX0_meanBy_19 rfl 4 rfl ?_
      refine g_cS (rest := []) wl_X0_78 hd_X0_isShelf 24 hC (met_X0_isShelf hF) rfl ⟨Nat.le_of_ble_eq_true rfl, Nat.le_of_ble_eq_true rfl⟩ hu rfl (Nat.le_of_ble_eq_true rfl) dX0_meanBy_21 rfl (g_ty_i 0 0 (Nat.le_refl _) (Nat.le_refl _) (fun x_6 M_5 hF => ?_))
      refine g_if_ne 27 37 hC dX0_meanBy_24 (by decide) rfl (fun c => ?_) (fun c => ?_)
      · have hF := hF.1 c
        refine g_aload_n 38 hC dX0_meanBy_37 rfl 0 rfl rfl ?_
        refine gf_X0_20_0N 41 hC hF dX0_meanBy_38 rfl (fun a_7 hF => ?_)
        refine gf_X0_49_1N 44 hC hF dX0_meanBy_41 rfl (fun a_8 hF => ?_)
        refine g_iload_n 45 hC dX0_meanBy_44 rfl 1 rfl rfl ?_
        refine g_aaldN 46 hC hF (by decide) rfl (fun _ _ _ => rfl) dX0_meanBy_45 rfl (fun a_9 hF => ?_)
        refine g_aload_n 47 hC dX0_meanBy_46 rfl 0 rfl rfl ?_
        refine g_iload 49 hC dX0_meanBy_47 rfl 4 rfl ?_
        obtain ⟨c_12, s_13, hu, hF⟩ := hF
        refine g_xVW (rest := [_]) wl_X0_175 hd_X0_ruleIn (ci := 0) rfl 52 hC hF.1 (met_X0_ruleIn hF.2) rfl ⟨Nat.le_of_ble_eq_true rfl, Nat.le_of_ble_eq_true rfl⟩ hu rfl (Nat.le_of_ble_eq_true rfl) dX0_meanBy_49 rfl (g_ty_a (0 + c_12) (0 + s_13) (Nat.le_refl _) (Nat.le_refl _) (fun a_11 M_10 hF => ?_)) (g_tx (0 + c_12) (0 + s_13) (Nat.le_refl _) (Nat.le_refl _) (fun E_ q_14 M_15 hF => ?_))
        · have hF := hF
          refine g_iload_n 53 hC dX0_meanBy_52 rfl 2 rfl rfl ?_
          refine g_iload_n 54 hC dX0_meanBy_53 rfl 3 rfl rfl ?_
          obtain ⟨c_18, s_19, hu, hF⟩ := hF
          refine g_cV (rest := []) wl_X0_260 hd_X12_mean (ci := 12) rfl 57 hC hF.1 (met_X12_mean hF.2) rfl ⟨Nat.le_of_ble_eq_true rfl, Nat.le_of_ble_eq_true rfl⟩ hu rfl (Nat.le_of_ble_eq_true rfl) dX0_meanBy_54 rfl (g_ty_j ((0 + c_12) + c_18) ((0 + s_13) + s_19) (Nat.le_refl _) (Nat.le_refl _) (fun j_17 M_16 hF => ?_))
          exact g_lreturn hC ⟨_, rfl, hF⟩ dX0_meanBy_57 hu.1 hu.2
        · have hF := hF
          obtain ⟨hE_, hF⟩ := hF
          rw [hE_]
          exact g_out hC hT (fun _ h => absurd h List.not_mem_nil) hF hu
      · have hF := hF.2 c
        refine g_sub [] rfl ?_
        exact w_X0_meanBy_b27 hC hT _ _ hu _ hF
theorem hd_X0_meanBy : yX0_meanBy.cls = RX0 ∧ yX0_meanBy.cls ≠ "java/lang/invoke/MethodHandle" ∧ yX0_meanBy.cls ≠ "java/lang/invoke/VarHandle" ∧ (parseMethodDescriptor yX0_meanBy.desc).map (fun d => d.parameters.length) = some 4 := by decide +kernel
theorem wl_X0_264 : GoodIn lw_all (wsV RX0 264 RX0 yX0_meanBy (ws_ yX0_meanBy cX0_meanBy 5 (some .long))) := lw_V q1109 q1111 qs22 q69 q1112
abbrev rm_X0_mean (Lc Ls : Nat) : Room := { frames := 13, cells := Lc, slots := Ls, locals := 10373 }
def F_X0_mean (Lc Ls : Nat) (M : gM) (a0 : Nat) (x1 : Int32) (x2 : Int32) (x3 : Int32) (x4 : Int32) (Q : Int64 → gM → Prop)  : Prop :=
  ∃ c_3 s_4, (0 + c_3 ≤ Lc ∧ 0 + s_4 ≤ Ls) ∧
  rc M 0 a0 ∧ F_X0_meanBy c_3 s_4 M a0 x1 x2 x3 x4 (fun j_2 M_1 =>
  Q j_2 M_1) (fun E_ q_5 M_6 =>
    (E_ = "SendTheBox$Refused" ∧
    gI M_6 4 q_5 6 fun x_7 =>
    rc M_6 0 a0 ∧ F_X0_no M_6 a0 x_7 fun x_9 M_8 =>
    Q x_9.toInt64 M_8))
theorem met_X0_mean {M : gM} {a0 : Nat} {x1 : Int32} {x2 : Int32} {x3 : Int32} {x4 : Int32} {Q : Int64 → gM → Prop} {Lc Ls : Nat} (hF : F_X0_mean Lc Ls M a0 x1 x2 x3 x4 Q) : gMx yX0_mean (wsW_ yX0_mean cX0_mean 6 (some .long) [(0, 9, 10, 97)]) (rm_X0_mean Lc Ls) M [.ref a0, .int x1, .int x2, .int x3, .int x4] (gQj Q) (fun _ _ _ => False) := by
  refine gMetH (bytes := cX0_mean) (maxL := 6) (ret := (some .long)) (hh := [(0, 9, 10, 97)]) rfl rfl (by decide) (Nat.le_of_ble_eq_true rfl) (lv := [(0, .ref a0), (1, .int x1), (2, .int x2), (3, .int x3), (4, .int x4)]) rfl (fun G hC hT hin => ?_)
  have hu : 0 ≤ Lc ∧ 0 ≤ Ls := ⟨Nat.zero_le _, Nat.zero_le _⟩
  unfold F_X0_mean at hF
  refine g_aload_n 1 hC dX0_mean_0 rfl 0 rfl rfl ?_
  refine g_iload_n 2 hC dX0_mean_1 rfl 1 rfl rfl ?_
  refine g_iload_n 3 hC dX0_mean_2 rfl 2 rfl rfl ?_
  refine g_iload_n 4 hC dX0_mean_3 rfl 3 rfl rfl ?_
  refine g_iload 6 hC dX0_mean_4 rfl 4 rfl ?_
  obtain ⟨c_3, s_4, hu, hF⟩ := hF
  refine g_xV (rest := []) wl_X0_264 hd_X0_meanBy (ci := 0) rfl 9 hC hF.1 (met_X0_meanBy hF.2) rfl ⟨Nat.le_of_ble_eq_true rfl, Nat.le_of_ble_eq_true rfl⟩ hu rfl (Nat.le_of_ble_eq_true rfl) dX0_mean_6 rfl (g_ty_j (0 + c_3) (0 + s_4) (Nat.le_refl _) (Nat.le_refl _) (fun j_2 M_1 hF => ?_)) (g_tx (0 + c_3) (0 + s_4) (Nat.le_refl _) (Nat.le_refl _) (fun E_ q_5 M_6 hF => ?_))
  · have hF := hF
    exact g_lreturn hC ⟨_, rfl, hF⟩ dX0_mean_9 hu.1 hu.2
  · have hF := hF
    obtain ⟨hE_, hF⟩ := hF
    rw [hE_]
    refine g_catch hC hT [] ⟨0, 9, 10, 97⟩ [] rfl (fun _ h => absurd h List.not_mem_nil) rfl (by decide) q279 q305 10 rfl ?_
    refine g_astore 12 hC (lv' := [(5, .ref _), (0, .ref _), (1, .int _), (2, .int _), (3, .int _), (4, .int _)]) dX0_mean_10 rfl (by decide) rfl ?_
    refine g_aload_n 13 hC dX0_mean_12 rfl 1 rfl rfl ?_
    refine g_aload 15 hC dX0_mean_13 rfl 0 rfl ?_
    refine gf_X0_110_4I 18 hC hF dX0_mean_15 rfl (fun x_7 hF => ?_)
    refine g_cV (rest := []) wl_X0_81 hd_X0_no (ci := 0) rfl 21 hC hF.1 (met_X0_no hF.2) rfl ⟨Nat.le_of_ble_eq_true rfl, Nat.le_of_ble_eq_true rfl⟩ hu rfl (Nat.le_of_ble_eq_true rfl) dX0_mean_18 rfl (g_ty_i (0 + c_3) (0 + s_4) (Nat.le_refl _) (Nat.le_refl _) (fun x_9 M_8 hF => ?_))
    refine g_i2l 22 hC dX0_mean_21 rfl ?_
    exact g_lreturn hC ⟨_, rfl, hF⟩ dX0_mean_22 hu.1 hu.2
abbrev rm_X0_lose (Lc Ls : Nat) : Room := { frames := 13, cells := Lc, slots := Ls, locals := 10373 }
def F_X0_lose (Lc Ls : Nat) (M : gM) (a0 : Nat) (x1 : Int32) (x2 : Int32) (x3 : Int32) (x4 : Int32) (Q : Int64 → gM → Prop)  : Prop :=
  ∃ c_3 s_4, (0 + c_3 ≤ Lc ∧ 0 + s_4 ≤ Ls) ∧
  rc M 0 a0 ∧ F_X0_meanBy c_3 s_4 M a0 x1 x2 x3 x4 (fun j_2 M_1 =>
  gN M_1 0 a0 0 fun a_10 =>
    gN M_1 1 a_10 0 fun a_11 =>
    aN M_1 (.object "SendTheBox$House") a_11 x1 fun a_12 =>
    ∃ c_15 s_16, ((0 + c_3) + c_15 ≤ Lc ∧ (0 + s_4) + s_16 ≤ Ls) ∧
    rc M_1 12 a_12 ∧ F_X12_cost c_15 s_16 M_1 a_12 x2 x3 fun j_14 M_13 =>
    Q (j_2 - j_14) M_13) (fun E_ q_5 M_6 =>
    (E_ = "SendTheBox$Refused" ∧
    gI M_6 4 q_5 6 fun x_7 =>
    rc M_6 0 a0 ∧ F_X0_no M_6 a0 x_7 fun x_9 M_8 =>
    Q x_9.toInt64 M_8))
theorem met_X0_lose {M : gM} {a0 : Nat} {x1 : Int32} {x2 : Int32} {x3 : Int32} {x4 : Int32} {Q : Int64 → gM → Prop} {Lc Ls : Nat} (hF : F_X0_lose Lc Ls M a0 x1 x2 x3 x4 Q) : gMx yX0_lose (wsW_ yX0_lose cX0_lose 6 (some .long) [(0, 24, 25, 97)]) (rm_X0_lose Lc Ls) M [.ref a0, .int x1, .int x2, .int x3, .int x4] (gQj Q) (fun _ _ _ => False) := by
  refine gMetH (bytes := cX0_lose) (maxL := 6) (ret := (some .long)) (hh := [(0, 24, 25, 97)]) rfl rfl (by decide) (Nat.le_of_ble_eq_true rfl) (lv := [(0, .ref a0), (1, .int x1), (2, .int x2), (3, .int x3), (4, .int x4)]) rfl (fun G hC hT hin => ?_)
  have hu : 0 ≤ Lc ∧ 0 ≤ Ls := ⟨Nat.zero_le _, Nat.zero_le _⟩
  unfold F_X0_lose at hF
  refine g_aload_n 1 hC dX0_lose_0 rfl 0 rfl rfl ?_
  refine g_iload_n 2 hC dX0_lose_1 rfl 1 rfl rfl ?_
  refine g_iload_n 3 hC dX0_lose_2 rfl 2 rfl rfl ?_
  refine g_iload_n 4 hC dX0_lose_3 rfl 3 rfl rfl ?_
  refine g_iload 6 hC dX0_lose_4 rfl 4 rfl ?_
  obtain ⟨c_3, s_4, hu, hF⟩ := hF
  refine g_xV (rest := []) wl_X0_264 hd_X0_meanBy (ci := 0) rfl 9 hC hF.1 (met_X0_meanBy hF.2) rfl ⟨Nat.le_of_ble_eq_true rfl, Nat.le_of_ble_eq_true rfl⟩ hu rfl (Nat.le_of_ble_eq_true rfl) dX0_lose_6 rfl (g_ty_j (0 + c_3) (0 + s_4) (Nat.le_refl _) (Nat.le_refl _) (fun j_2 M_1 hF => ?_)) (g_tx (0 + c_3) (0 + s_4) (Nat.le_refl _) (Nat.le_refl _) (fun E_ q_5 M_6 hF => ?_))
  · have hF := hF
    refine g_aload_n 10 hC dX0_lose_9 rfl 0 rfl rfl ?_
    refine gf_X0_20_0N 13 hC hF dX0_lose_10 rfl (fun a_10 hF => ?_)
    refine gf_X0_49_1N 16 hC hF dX0_lose_13 rfl (fun a_11 hF => ?_)
    refine g_iload_n 17 hC dX0_lose_16 rfl 1 rfl rfl ?_
    refine g_aaldN 18 hC hF (by decide) rfl (fun _ _ _ => rfl) dX0_lose_17 rfl (fun a_12 hF => ?_)
    refine g_iload_n 19 hC dX0_lose_18 rfl 2 rfl rfl ?_
    refine g_iload_n 20 hC dX0_lose_19 rfl 3 rfl rfl ?_
    obtain ⟨c_15, s_16, hu, hF⟩ := hF
    refine g_cV (rest := [_]) wl_X0_246 hd_X12_cost (ci := 12) rfl 23 hC hF.1 (met_X12_cost hF.2) rfl ⟨Nat.le_of_ble_eq_true rfl, Nat.le_of_ble_eq_true rfl⟩ hu rfl (Nat.le_of_ble_eq_true rfl) dX0_lose_20 rfl (g_ty_j ((0 + c_3) + c_15) ((0 + s_4) + s_16) (Nat.le_refl _) (Nat.le_refl _) (fun j_14 M_13 hF => ?_))
    refine g_lsub 24 hC dX0_lose_23 rfl ?_
    exact g_lreturn hC ⟨_, rfl, hF⟩ dX0_lose_24 hu.1 hu.2
  · have hF := hF
    obtain ⟨hE_, hF⟩ := hF
    rw [hE_]
    refine g_catch hC hT [] ⟨0, 24, 25, 97⟩ [] rfl (fun _ h => absurd h List.not_mem_nil) rfl (by decide) q279 q305 25 rfl ?_
    refine g_astore 27 hC (lv' := [(5, .ref _), (0, .ref _), (1, .int _), (2, .int _), (3, .int _), (4, .int _)]) dX0_lose_25 rfl (by decide) rfl ?_
    refine g_aload_n 28 hC dX0_lose_27 rfl 1 rfl rfl ?_
    refine g_aload 30 hC dX0_lose_28 rfl 0 rfl ?_
    refine gf_X0_110_4I 33 hC hF dX0_lose_30 rfl (fun x_7 hF => ?_)
    refine g_cV (rest := []) wl_X0_81 hd_X0_no (ci := 0) rfl 36 hC hF.1 (met_X0_no hF.2) rfl ⟨Nat.le_of_ble_eq_true rfl, Nat.le_of_ble_eq_true rfl⟩ hu rfl (Nat.le_of_ble_eq_true rfl) dX0_lose_33 rfl (g_ty_i (0 + c_3) (0 + s_4) (Nat.le_refl _) (Nat.le_refl _) (fun x_9 M_8 hF => ?_))
    refine g_i2l 37 hC dX0_lose_36 rfl ?_
    exact g_lreturn hC ⟨_, rfl, hF⟩ dX0_lose_37 hu.1 hu.2
abbrev rm_X0_boy (Lc Ls : Nat) : Room := { frames := 12, cells := Lc, slots := Ls, locals := 10349 }
def F_X0_boy_b103 (Q : Int32 → gM → Prop)  (Lc Ls : Nat) (K33 : Int32 → Int64 → Int32 → Nat → Nat → gM → Prop) (a0 : Nat) (a2 : Nat) (x3 : Int32) (j4 : Int64) (x6 : Int32)  (u v : Nat) (M : gM) : Prop :=
  K33 x3 j4 (x6 + (1 : Int32)) u v M
theorem w_X0_boy_b103 {G : gG} {Q : Int32 → gM → Prop} {Lc Ls : Nat} (hC : gCx G cX0_boy 9 RX0 (some .int) (gQi Q) (rm_X0_boy Lc Ls)) (K33 : Int32 → Int64 → Int32 → Nat → Nat → gM → Prop) (a0 : Nat) (a2 : Nat) (x3 : Int32) (j4 : Int64) (x6 : Int32)  (hK33 : ∀ x3' j4' x6' u' v' (_ : u' ≤ Lc ∧ v' ≤ Ls) M', K33 x3' j4' x6' u' v' M' → gAt G u' v' M' [(0, .ref a0), (2, .ref a2), (3, .int x3'), (4, .long j4'), (6, .int x6')] 33 []) (u v : Nat) (hu : u ≤ Lc ∧ v ≤ Ls) (M : gM) (hF : F_X0_boy_b103 Q Lc Ls K33 a0 a2 x3 j4 x6 u v M) : gAt G u v M [(0, .ref a0), (2, .ref a2), (3, .int x3), (4, .long j4), (6, .int x6)] 103 [] := by
  unfold F_X0_boy_b103 at hF
  refine g_iinc 106 hC (x6 + (1 : Int32)) (lv' := [(6, .int _), (0, .ref _), (2, .ref _), (3, .int _), (4, .long _)]) dX0_boy_103 rfl 4 rfl rfl (by decide) rfl ?_
  refine g_goto 33 hC dX0_boy_106 (by decide) ?_
  refine g_sub [1, 2, 3, 4, 0] rfl ?_
  exact hK33 _ _ _ _ _ hu _ hF
def F_X0_boy_b96 (Q : Int32 → gM → Prop)  (Lc Ls : Nat) (K33 : Int32 → Int64 → Int32 → Nat → Nat → gM → Prop) (a0 : Nat) (a2 : Nat) (x6 : Int32) (j7 : Int64)  (u v : Nat) (M : gM) : Prop :=
  F_X0_boy_b103 Q Lc Ls K33 a0 a2 x6 j7 x6 u v M
theorem w_X0_boy_b96 {G : gG} {Q : Int32 → gM → Prop} {Lc Ls : Nat} (hC : gCx G cX0_boy 9 RX0 (some .int) (gQi Q) (rm_X0_boy Lc Ls)) (K33 : Int32 → Int64 → Int32 → Nat → Nat → gM → Prop) (a0 : Nat) (a2 : Nat) (x6 : Int32) (j7 : Int64)  (hK33 : ∀ x3' j4' x6' u' v' (_ : u' ≤ Lc ∧ v' ≤ Ls) M', K33 x3' j4' x6' u' v' M' → gAt G u' v' M' [(0, .ref a0), (2, .ref a2), (3, .int x3'), (4, .long j4'), (6, .int x6')] 33 []) (u v : Nat) (hu : u ≤ Lc ∧ v ≤ Ls) (M : gM) (hF : F_X0_boy_b96 Q Lc Ls K33 a0 a2 x6 j7 u v M) : gAt G u v M [(0, .ref a0), (2, .ref a2), (6, .int x6), (7, .long j7)] 96 [] := by
  unfold F_X0_boy_b96 at hF
  refine g_lload 98 hC dX0_boy_96 rfl 3 rfl ?_
  refine g_lstore 100 hC (lv' := [(4, .long _), (0, .ref _), (2, .ref _), (6, .int _), (7, .long _)]) dX0_boy_98 rfl (by decide) rfl ?_
  refine g_iload 102 hC dX0_boy_100 rfl 3 rfl ?_
  refine g_istore_n 103 hC (lv' := [(3, .int _), (4, .long _), (0, .ref _), (2, .ref _), (6, .int _), (7, .long _)]) dX0_boy_102 rfl rfl (by decide) rfl ?_
  refine g_sub [2, 3, 0, 1, 4] rfl ?_
  exact w_X0_boy_b103 hC _ _ _ _ _ _ hK33 _ _ hu _ hF
def F_X0_boy_b33 (Q : Int32 → gM → Prop)  (Lc Ls : Nat)  (a0 : Nat) (a2 : Nat) : Nat → Int32 → Int64 → Int32 → Nat → Nat → gM → Prop
  | 0, _, _, _, _, _, _ => False
  | n + 1, x3, j4, x6, u, v, M =>
    (((8 : Int32) ≤ x6 →
      ((¬ x3 = (-1 : Int32) →
        Q x3 M) ∧
        (x3 = (-1 : Int32) →
        rc M 0 a0 ∧ F_X0_no M a0 (-5 : Int32) fun x_2 M_1 =>
        Q x_2 M_1))) ∧
      (¬ (8 : Int32) ≤ x6 →
      gN M 0 a0 2 fun a_3 =>
      aN M (.object "SendTheBox$Sheet") a_3 x6 fun a_4 =>
      gR M 2 a_4 0 fun r_5 =>
      iOq M r_5 "SendTheBox$Rule" fun x_6 =>
      ((¬ x_6 = 0 →
        gN M 0 a0 2 fun a_7 =>
        aN M (.object "SendTheBox$Sheet") a_7 x6 fun a_8 =>
        gR M 2 a_8 0 fun r_9 =>
        cYq M r_9 "SendTheBox$Rule" fun _ =>
        gI M 12 a2 0 fun x_10 =>
        dN r_9 fun b_11 =>
        ∃ c_14 s_15, (u + c_14 ≤ Lc ∧ v + s_15 ≤ Ls) ∧
        rc M 12 a2 ∧ F_X12_mean c_14 s_15 M a2 b_11 x_10 (0 : Int32) fun j_13 M_12 =>
        ((x3 = (-1 : Int32) →
          F_X0_boy_b96 Q Lc Ls (F_X0_boy_b33 Q Lc Ls a0 a2 n) a0 a2 x6 j_13 (u + c_14) (v + s_15) M_12) ∧
          (¬ x3 = (-1 : Int32) →
          ((j4 ≤ j_13 →
            F_X0_boy_b103 Q Lc Ls (F_X0_boy_b33 Q Lc Ls a0 a2 n) a0 a2 x3 j4 x6 (u + c_14) (v + s_15) M_12) ∧
            (¬ j4 ≤ j_13 →
            F_X0_boy_b96 Q Lc Ls (F_X0_boy_b33 Q Lc Ls a0 a2 n) a0 a2 x6 j_13 (u + c_14) (v + s_15) M_12))))) ∧
        (x_6 = 0 →
        F_X0_boy_b103 Q Lc Ls (F_X0_boy_b33 Q Lc Ls a0 a2 n) a0 a2 x3 j4 x6 u v M))))
theorem w_X0_boy_b33 {G : gG} {Q : Int32 → gM → Prop} {Lc Ls : Nat} (hC : gCx G cX0_boy 9 RX0 (some .int) (gQi Q) (rm_X0_boy Lc Ls))  (a0 : Nat) (a2 : Nat)  : ∀ (n : Nat) (x3 : Int32) (j4 : Int64) (x6 : Int32) (u v : Nat) (hu : u ≤ Lc ∧ v ≤ Ls) (M : gM), F_X0_boy_b33 Q Lc Ls a0 a2 n x3 j4 x6 u v M → gAt G u v M [(0, .ref a0), (2, .ref a2), (3, .int x3), (4, .long j4), (6, .int x6)] 33 [] := by
  intro n
  induction n with
  | zero =>
    intro x3 j4 x6 u v hu M hF
    exact hF.elim
  | succ n ih =>
    intro x3 j4 x6 u v hu M hF
    have hK33 := ih
    unfold F_X0_boy_b33 at hF
    refine g_iload 35 hC dX0_boy_33 rfl 4 rfl ?_
    refine g_bipush 37 hC (8 : Int32) dX0_boy_35 (by decide) rfl ?_
    refine g_icmp_ge 40 109 hC dX0_boy_37 (by decide) rfl (fun c => ?_) (fun c => ?_)
    · have hF := hF.1 c
      refine g_iload_n 110 hC dX0_boy_109 rfl 2 rfl rfl ?_
      refine g_iconst 111 hC (-1 : Int32) dX0_boy_110 (by decide) rfl ?_
      refine g_icmp_ne 114 123 hC dX0_boy_111 (by decide) rfl (fun c => ?_) (fun c => ?_)
      · have hF := hF.1 c
        refine g_iload_n 124 hC dX0_boy_123 rfl 2 rfl rfl ?_
        exact g_ireturn hC ⟨_, rfl, hF⟩ dX0_boy_124 hu.1 hu.2
      · have hF := hF.2 c
        refine g_aload_n 115 hC dX0_boy_114 rfl 0 rfl rfl ?_
        refine g_bipush 117 hC (-5 : Int32) dX0_boy_115 (by decide) rfl ?_
        refine g_cV (rest := []) wl_X0_81 hd_X0_no (ci := 0) rfl 120 hC hF.1 (met_X0_no hF.2) rfl ⟨Nat.le_of_ble_eq_true rfl, Nat.le_of_ble_eq_true rfl⟩ hu rfl (Nat.le_of_ble_eq_true rfl) dX0_boy_117 rfl (g_ty_i u v (Nat.le_refl _) (Nat.le_refl _) (fun x_2 M_1 hF => ?_))
        refine g_goto 124 hC dX0_boy_120 (by decide) ?_
        exact g_ireturn hC ⟨_, rfl, hF⟩ dX0_boy_124 hu.1 hu.2
    · have hF := hF.2 c
      refine g_aload_n 41 hC dX0_boy_40 rfl 0 rfl rfl ?_
      refine gf_X0_26_0N 44 hC hF dX0_boy_41 rfl (fun a_3 hF => ?_)
      refine g_iload 46 hC dX0_boy_44 rfl 4 rfl ?_
      refine g_aaldN 47 hC hF (by decide) rfl (fun _ _ _ => rfl) dX0_boy_46 rfl (fun a_4 hF => ?_)
      refine gf_X0_89_2R 50 hC hF dX0_boy_47 rfl (fun r_5 hF => ?_)
      refine g_instq 53 hC q303 hF dX0_boy_50 rfl (fun x_6 hF => ?_)
      refine g_if_ne 56 59 hC dX0_boy_53 (by decide) rfl (fun c => ?_) (fun c => ?_)
      · have hF := hF.1 c
        refine g_aload_n 60 hC dX0_boy_59 rfl 1 rfl rfl ?_
        refine g_aload_n 61 hC dX0_boy_60 rfl 0 rfl rfl ?_
        refine gf_X0_26_0N 64 hC hF dX0_boy_61 rfl (fun a_7 hF => ?_)
        refine g_iload 66 hC dX0_boy_64 rfl 4 rfl ?_
        refine g_aaldN 67 hC hF (by decide) rfl (fun _ _ _ => rfl) dX0_boy_66 rfl (fun a_8 hF => ?_)
        refine gf_X0_89_2R 70 hC hF dX0_boy_67 rfl (fun r_9 hF => ?_)
        refine g_castq 73 hC q303 hF dX0_boy_70 rfl (fun hF => ?_)
        refine g_aload_n 74 hC dX0_boy_73 rfl 1 rfl rfl ?_
        refine gf_X0_62_12I 77 hC hF dX0_boy_74 rfl (fun x_10 hF => ?_)
        refine g_iconst 78 hC (0 : Int32) dX0_boy_77 (by decide) rfl ?_
        obtain ⟨b_11, hr_, hF⟩ := hF
        try rw [hr_]
        obtain ⟨c_14, s_15, hu, hF⟩ := hF
        refine g_cV (rest := []) wl_X0_260 hd_X12_mean (ci := 12) rfl 81 hC hF.1 (met_X12_mean hF.2) rfl ⟨Nat.le_of_ble_eq_true rfl, Nat.le_of_ble_eq_true rfl⟩ hu rfl (Nat.le_of_ble_eq_true rfl) dX0_boy_78 rfl (g_ty_j (u + c_14) (v + s_15) (Nat.le_refl _) (Nat.le_refl _) (fun j_13 M_12 hF => ?_))
        refine g_lstore 83 hC (lv' := [(7, .long _), (0, .ref _), (2, .ref _), (3, .int _), (4, .long _), (6, .int _)]) dX0_boy_81 rfl (by decide) rfl ?_
        refine g_iload_n 84 hC dX0_boy_83 rfl 3 rfl rfl ?_
        refine g_iconst 85 hC (-1 : Int32) dX0_boy_84 (by decide) rfl ?_
        refine g_icmp_eq 88 96 hC dX0_boy_85 (by decide) rfl (fun c => ?_) (fun c => ?_)
        · have hF := hF.1 c
          refine g_sub [1, 2, 5, 0] rfl ?_
          exact w_X0_boy_b96 hC _ _ _ _ _ hK33 _ _ hu _ hF
        · have hF := hF.2 c
          refine g_lload 90 hC dX0_boy_88 rfl 0 rfl ?_
          refine g_lload 92 hC dX0_boy_90 rfl 4 rfl ?_
          refine g_lcmp_ge 96 103 hC dX0_boy_92 rfl dX0_boy_93 (by decide) rfl (fun c => ?_) (fun c => ?_)
          · have hF := hF.1 c
            refine g_sub [1, 2, 3, 4, 5] rfl ?_
            exact w_X0_boy_b103 hC _ _ _ _ _ _ hK33 _ _ hu _ hF
          · have hF := hF.2 c
            refine g_sub [1, 2, 5, 0] rfl ?_
            exact w_X0_boy_b96 hC _ _ _ _ _ hK33 _ _ hu _ hF
      · have hF := hF.2 c
        refine g_goto 103 hC dX0_boy_56 (by decide) ?_
        exact w_X0_boy_b103 hC _ _ _ _ _ _ hK33 _ _ hu _ hF
def F_X0_boy (Lc Ls : Nat) (M : gM) (a0 : Nat) (x1 : Int32) (Q : Int32 → gM → Prop)  : Prop :=
  rc M 0 a0 ∧ F_X0_isHouse M a0 x1 fun x_2 M_1 =>
  ((¬ x_2 = 0 →
    gN M_1 0 a0 0 fun a_3 =>
    gN M_1 1 a_3 0 fun a_4 =>
    aN M_1 (.object "SendTheBox$House") a_4 x1 fun a_5 =>
    ∃ n_6, F_X0_boy_b33 Q Lc Ls a0 a_5 n_6 (-1 : Int32) (0 : Int64) (0 : Int32) 0 0 M_1) ∧
    (x_2 = 0 →
    rc M_1 0 a0 ∧ F_X0_no M_1 a0 (-2 : Int32) fun x_8 M_7 =>
    Q x_8 M_7))
theorem met_X0_boy {M : gM} {a0 : Nat} {x1 : Int32} {Q : Int32 → gM → Prop} {Lc Ls : Nat} (hF : F_X0_boy Lc Ls M a0 x1 Q) : gMt yX0_boy (ws_ yX0_boy cX0_boy 9 (some .int)) (rm_X0_boy Lc Ls) M [.ref a0, .int x1] (gQi Q) := by
  refine gMet (bytes := cX0_boy) (maxL := 9) (ret := (some .int)) rfl rfl (by decide) (Nat.le_of_ble_eq_true rfl) (lv := [(0, .ref a0), (1, .int x1)]) rfl (fun G hC hin => ?_)
  have hu : 0 ≤ Lc ∧ 0 ≤ Ls := ⟨Nat.zero_le _, Nat.zero_le _⟩
  unfold F_X0_boy at hF
  refine g_aload_n 1 hC dX0_boy_0 rfl 0 rfl rfl ?_
  refine g_iload_n 2 hC dX0_boy_1 rfl 1 rfl rfl ?_
  refine g_cV (rest := []) wl_X0_45 hd_X0_isHouse (ci := 0) rfl 5 hC hF.1 (met_X0_isHouse hF.2) rfl ⟨Nat.le_of_ble_eq_true rfl, Nat.le_of_ble_eq_true rfl⟩ hu rfl (Nat.le_of_ble_eq_true rfl) dX0_boy_2 rfl (g_ty_i 0 0 (Nat.le_refl _) (Nat.le_refl _) (fun x_2 M_1 hF => ?_))
  refine g_if_ne 8 15 hC dX0_boy_5 (by decide) rfl (fun c => ?_) (fun c => ?_)
  · have hF := hF.1 c
    refine g_aload_n 16 hC dX0_boy_15 rfl 0 rfl rfl ?_
    refine gf_X0_20_0N 19 hC hF dX0_boy_16 rfl (fun a_3 hF => ?_)
    refine gf_X0_49_1N 22 hC hF dX0_boy_19 rfl (fun a_4 hF => ?_)
    refine g_iload_n 23 hC dX0_boy_22 rfl 1 rfl rfl ?_
    refine g_aaldN 24 hC hF (by decide) rfl (fun _ _ _ => rfl) dX0_boy_23 rfl (fun a_5 hF => ?_)
    refine g_astore_n 25 hC (lv' := [(2, .ref _), (0, .ref _), (1, .int _)]) dX0_boy_24 rfl rfl (by decide) rfl ?_
    refine g_iconst 26 hC (-1 : Int32) dX0_boy_25 (by decide) rfl ?_
    refine g_istore_n 27 hC (lv' := [(3, .int _), (2, .ref _), (0, .ref _), (1, .int _)]) dX0_boy_26 rfl rfl (by decide) rfl ?_
    refine g_lconst 28 hC (0 : Int64) dX0_boy_27 (by decide) rfl ?_
    refine g_lstore 30 hC (lv' := [(4, .long _), (3, .int _), (2, .ref _), (0, .ref _), (1, .int _)]) dX0_boy_28 rfl (by decide) rfl ?_
    refine g_iconst 31 hC (0 : Int32) dX0_boy_30 (by decide) rfl ?_
    refine g_istore 33 hC (lv' := [(6, .int _), (4, .long _), (3, .int _), (2, .ref _), (0, .ref _), (1, .int _)]) dX0_boy_31 rfl (by decide) rfl ?_
    refine g_sub [4, 3, 2, 1, 0] rfl ?_
    obtain ⟨n_6, hF⟩ := hF
    exact w_X0_boy_b33 hC _ _ n_6 _ _ _ _ _ hu _ hF
  · have hF := hF.2 c
    refine g_aload_n 9 hC dX0_boy_8 rfl 0 rfl rfl ?_
    refine g_bipush 11 hC (-2 : Int32) dX0_boy_9 (by decide) rfl ?_
    refine g_cV (rest := []) wl_X0_81 hd_X0_no (ci := 0) rfl 14 hC hF.1 (met_X0_no hF.2) rfl ⟨Nat.le_of_ble_eq_true rfl, Nat.le_of_ble_eq_true rfl⟩ hu rfl (Nat.le_of_ble_eq_true rfl) dX0_boy_11 rfl (g_ty_i 0 0 (Nat.le_refl _) (Nat.le_refl _) (fun x_8 M_7 hF => ?_))
    exact g_ireturn hC ⟨_, rfl, hF⟩ dX0_boy_14 hu.1 hu.2
theorem wl_X0_268 : GoodIn lw_all (wsV RX0 268 RX12 yX12_worths (ws_ yX12_worths cX12_worths 1 (some (.array .long)))) := lw_V q1159 q1006 q1007 q92 q1008
theorem wl_X0_272 : GoodIn lw_all (wsV RX0 272 RX12 yX12_sending (ws_ yX12_sending cX12_sending 7 (some .long))) := lw_V q1160 q1139 q1140 q92 q1141
abbrev rm_X0_waits (Lc Ls : Nat) : Room := { frames := 7, cells := Lc, slots := Ls, locals := 158 }
def F_X0_waits_b19 (Q : Int64 → gM → Prop)  (Lc Ls : Nat)  (a0 : Nat)  (u v : Nat) (M : gM) : Prop :=
  rc M 0 a0 ∧ F_X0_no M a0 (-2 : Int32) fun x_2 M_1 =>
  Q x_2.toInt64 M_1
theorem w_X0_waits_b19 {G : gG} {Q : Int64 → gM → Prop} {Lc Ls : Nat} (hC : gCx G cX0_waits 5 RX0 (some .long) (gQj Q) (rm_X0_waits Lc Ls))  (a0 : Nat)   (u v : Nat) (hu : u ≤ Lc ∧ v ≤ Ls) (M : gM) (hF : F_X0_waits_b19 Q Lc Ls a0 u v M) : gAt G u v M [(0, .ref a0)] 19 [] := by
  unfold F_X0_waits_b19 at hF
  refine g_aload_n 20 hC dX0_waits_19 rfl 0 rfl rfl ?_
  refine g_bipush 22 hC (-2 : Int32) dX0_waits_20 (by decide) rfl ?_
  refine g_cV (rest := []) wl_X0_81 hd_X0_no (ci := 0) rfl 25 hC hF.1 (met_X0_no hF.2) rfl ⟨Nat.le_of_ble_eq_true rfl, Nat.le_of_ble_eq_true rfl⟩ hu rfl (Nat.le_of_ble_eq_true rfl) dX0_waits_22 rfl (g_ty_i u v (Nat.le_refl _) (Nat.le_refl _) (fun x_2 M_1 hF => ?_))
  refine g_i2l 26 hC dX0_waits_25 rfl ?_
  exact g_lreturn hC ⟨_, rfl, hF⟩ dX0_waits_26 hu.1 hu.2
def F_X0_waits (Lc Ls : Nat) (M : gM) (a0 : Nat) (x1 : Int32) (x2 : Int32) (x3 : Int32) (Q : Int64 → gM → Prop)  : Prop :=
  rc M 0 a0 ∧ F_X0_isLeft M a0 x1 (1 : Int32) x2 fun x_2 M_1 =>
  ((x_2 = 0 →
    F_X0_waits_b19 Q Lc Ls a0 0 0 M_1) ∧
    (¬ x_2 = 0 →
    rc M_1 0 a0 ∧ F_X0_isState M_1 a0 x1 x3 fun x_4 M_3 =>
    ((¬ x_4 = 0 →
      gN M_3 0 a0 0 fun a_5 =>
      gN M_3 1 a_5 0 fun a_6 =>
      aN M_3 (.object "SendTheBox$House") a_6 x1 fun a_7 =>
      ∃ c_10 s_11, (0 + c_10 ≤ Lc ∧ 0 + s_11 ≤ Ls) ∧
      rc M_3 12 a_7 ∧ F_X12_worths c_10 s_11 M_3 a_7 fun a_9 M_8 =>
      rc M_8 12 a_7 ∧ F_X12_sending M_8 a_7 x3 (0 : Int32) x2 a_9 fun j_13 M_12 =>
      ∃ c_16 s_17, ((0 + c_10) + c_16 ≤ Lc ∧ (0 + s_11) + s_17 ≤ Ls) ∧
      rc M_12 12 a_7 ∧ F_X12_cost c_16 s_17 M_12 a_7 x2 x3 fun j_15 M_14 =>
      Q (j_13 - j_15) M_14) ∧
      (x_4 = 0 →
      F_X0_waits_b19 Q Lc Ls a0 0 0 M_3))))
theorem met_X0_waits {M : gM} {a0 : Nat} {x1 : Int32} {x2 : Int32} {x3 : Int32} {Q : Int64 → gM → Prop} {Lc Ls : Nat} (hF : F_X0_waits Lc Ls M a0 x1 x2 x3 Q) : gMt yX0_waits (ws_ yX0_waits cX0_waits 5 (some .long)) (rm_X0_waits Lc Ls) M [.ref a0, .int x1, .int x2, .int x3] (gQj Q) := by
  refine gMet (bytes := cX0_waits) (maxL := 5) (ret := (some .long)) rfl rfl (by decide) (Nat.le_of_ble_eq_true rfl) (lv := [(0, .ref a0), (1, .int x1), (2, .int x2), (3, .int x3)]) rfl (fun G hC hin => ?_)
  have hu : 0 ≤ Lc ∧ 0 ≤ Ls := ⟨Nat.zero_le _, Nat.zero_le _⟩
  unfold F_X0_waits at hF
  refine g_aload_n 1 hC dX0_waits_0 rfl 0 rfl rfl ?_
  refine g_iload_n 2 hC dX0_waits_1 rfl 1 rfl rfl ?_
  refine g_iconst 3 hC (1 : Int32) dX0_waits_2 (by decide) rfl ?_
  refine g_iload_n 4 hC dX0_waits_3 rfl 2 rfl rfl ?_
  refine g_cV (rest := []) wl_X0_239 hd_X0_isLeft (ci := 0) rfl 7 hC hF.1 (met_X0_isLeft hF.2) rfl ⟨Nat.le_of_ble_eq_true rfl, Nat.le_of_ble_eq_true rfl⟩ hu rfl (Nat.le_of_ble_eq_true rfl) dX0_waits_4 rfl (g_ty_i 0 0 (Nat.le_refl _) (Nat.le_refl _) (fun x_2 M_1 hF => ?_))
  refine g_if_eq 10 19 hC dX0_waits_7 (by decide) rfl (fun c => ?_) (fun c => ?_)
  · have hF := hF.1 c
    refine g_sub [0] rfl ?_
    exact w_X0_waits_b19 hC _ _ _ hu _ hF
  · have hF := hF.2 c
    refine g_aload_n 11 hC dX0_waits_10 rfl 0 rfl rfl ?_
    refine g_iload_n 12 hC dX0_waits_11 rfl 1 rfl rfl ?_
    refine g_iload_n 13 hC dX0_waits_12 rfl 3 rfl rfl ?_
    refine g_cV (rest := []) wl_X0_234 hd_X0_isState (ci := 0) rfl 16 hC hF.1 (met_X0_isState hF.2) rfl ⟨Nat.le_of_ble_eq_true rfl, Nat.le_of_ble_eq_true rfl⟩ hu rfl (Nat.le_of_ble_eq_true rfl) dX0_waits_13 rfl (g_ty_i 0 0 (Nat.le_refl _) (Nat.le_refl _) (fun x_4 M_3 hF => ?_))
    refine g_if_ne 19 27 hC dX0_waits_16 (by decide) rfl (fun c => ?_) (fun c => ?_)
    · have hF := hF.1 c
      refine g_aload_n 28 hC dX0_waits_27 rfl 0 rfl rfl ?_
      refine gf_X0_20_0N 31 hC hF dX0_waits_28 rfl (fun a_5 hF => ?_)
      refine gf_X0_49_1N 34 hC hF dX0_waits_31 rfl (fun a_6 hF => ?_)
      refine g_iload_n 35 hC dX0_waits_34 rfl 1 rfl rfl ?_
      refine g_aaldN 36 hC hF (by decide) rfl (fun _ _ _ => rfl) dX0_waits_35 rfl (fun a_7 hF => ?_)
      refine g_astore 38 hC (lv' := [(4, .ref _), (0, .ref _), (1, .int _), (2, .int _), (3, .int _)]) dX0_waits_36 rfl (by decide) rfl ?_
      refine g_aload 40 hC dX0_waits_38 rfl 0 rfl ?_
      refine g_iload_n 41 hC dX0_waits_40 rfl 4 rfl rfl ?_
      refine g_iconst 42 hC (0 : Int32) dX0_waits_41 (by decide) rfl ?_
      refine g_iload_n 43 hC dX0_waits_42 rfl 3 rfl rfl ?_
      refine g_aload 45 hC dX0_waits_43 rfl 0 rfl ?_
      obtain ⟨c_10, s_11, hu, hF⟩ := hF
      refine g_cV (rest := [_, _, _, _]) wl_X0_268 hd_X12_worths (ci := 12) rfl 48 hC hF.1 (met_X12_worths hF.2) rfl ⟨Nat.le_of_ble_eq_true rfl, Nat.le_of_ble_eq_true rfl⟩ hu rfl (Nat.le_of_ble_eq_true rfl) dX0_waits_45 rfl (g_ty_a (0 + c_10) (0 + s_11) (Nat.le_refl _) (Nat.le_refl _) (fun a_9 M_8 hF => ?_))
      refine g_cV (rest := []) wl_X0_272 hd_X12_sending (ci := 12) rfl 51 hC hF.1 (met_X12_sending hF.2) rfl ⟨Nat.le_of_ble_eq_true rfl, Nat.le_of_ble_eq_true rfl⟩ hu rfl (Nat.le_of_ble_eq_true rfl) dX0_waits_48 rfl (g_ty_j (0 + c_10) (0 + s_11) (Nat.le_refl _) (Nat.le_refl _) (fun j_13 M_12 hF => ?_))
      refine g_aload 53 hC dX0_waits_51 rfl 0 rfl ?_
      refine g_iload_n 54 hC dX0_waits_53 rfl 3 rfl rfl ?_
      refine g_iload_n 55 hC dX0_waits_54 rfl 4 rfl rfl ?_
      obtain ⟨c_16, s_17, hu, hF⟩ := hF
      refine g_cV (rest := [_]) wl_X0_246 hd_X12_cost (ci := 12) rfl 58 hC hF.1 (met_X12_cost hF.2) rfl ⟨Nat.le_of_ble_eq_true rfl, Nat.le_of_ble_eq_true rfl⟩ hu rfl (Nat.le_of_ble_eq_true rfl) dX0_waits_55 rfl (g_ty_j ((0 + c_10) + c_16) ((0 + s_11) + s_17) (Nat.le_refl _) (Nat.le_refl _) (fun j_15 M_14 hF => ?_))
      refine g_lsub 59 hC dX0_waits_58 rfl ?_
      exact g_lreturn hC ⟨_, rfl, hF⟩ dX0_waits_59 hu.1 hu.2
    · have hF := hF.2 c
      refine g_sub [0] rfl ?_
      exact w_X0_waits_b19 hC _ _ _ hu _ hF
abbrev rm_X0_once (Lc Ls : Nat) : Room := { frames := 7, cells := Lc, slots := Ls, locals := 158 }
def F_X0_once_b19 (Q : Int64 → gM → Prop)  (Lc Ls : Nat)  (a0 : Nat)  (u v : Nat) (M : gM) : Prop :=
  rc M 0 a0 ∧ F_X0_no M a0 (-2 : Int32) fun x_2 M_1 =>
  Q x_2.toInt64 M_1
theorem w_X0_once_b19 {G : gG} {Q : Int64 → gM → Prop} {Lc Ls : Nat} (hC : gCx G cX0_once 5 RX0 (some .long) (gQj Q) (rm_X0_once Lc Ls))  (a0 : Nat)   (u v : Nat) (hu : u ≤ Lc ∧ v ≤ Ls) (M : gM) (hF : F_X0_once_b19 Q Lc Ls a0 u v M) : gAt G u v M [(0, .ref a0)] 19 [] := by
  unfold F_X0_once_b19 at hF
  refine g_aload_n 20 hC dX0_once_19 rfl 0 rfl rfl ?_
  refine g_bipush 22 hC (-2 : Int32) dX0_once_20 (by decide) rfl ?_
  refine g_cV (rest := []) wl_X0_81 hd_X0_no (ci := 0) rfl 25 hC hF.1 (met_X0_no hF.2) rfl ⟨Nat.le_of_ble_eq_true rfl, Nat.le_of_ble_eq_true rfl⟩ hu rfl (Nat.le_of_ble_eq_true rfl) dX0_once_22 rfl (g_ty_i u v (Nat.le_refl _) (Nat.le_refl _) (fun x_2 M_1 hF => ?_))
  refine g_i2l 26 hC dX0_once_25 rfl ?_
  exact g_lreturn hC ⟨_, rfl, hF⟩ dX0_once_26 hu.1 hu.2
def F_X0_once (Lc Ls : Nat) (M : gM) (a0 : Nat) (x1 : Int32) (x2 : Int32) (x3 : Int32) (Q : Int64 → gM → Prop)  : Prop :=
  rc M 0 a0 ∧ F_X0_isLeft M a0 x1 (1 : Int32) x2 fun x_2 M_1 =>
  ((x_2 = 0 →
    F_X0_once_b19 Q Lc Ls a0 0 0 M_1) ∧
    (¬ x_2 = 0 →
    rc M_1 0 a0 ∧ F_X0_isState M_1 a0 x1 x3 fun x_4 M_3 =>
    ((¬ x_4 = 0 →
      gN M_3 0 a0 0 fun a_5 =>
      gN M_3 1 a_5 0 fun a_6 =>
      aN M_3 (.object "SendTheBox$House") a_6 x1 fun a_7 =>
      rc M_3 12 a_7 ∧ F_X12_fill M_3 a_7 x3 fun x_9 M_8 =>
      ∃ c_12 s_13, (0 + c_12 ≤ Lc ∧ 0 + s_13 ≤ Ls) ∧
      rc M_8 12 a_7 ∧ F_X12_worths c_12 s_13 M_8 a_7 fun a_11 M_10 =>
      rc M_10 12 a_7 ∧ F_X12_sending M_10 a_7 x3 x_9 x2 a_11 fun j_15 M_14 =>
      ∃ c_18 s_19, ((0 + c_12) + c_18 ≤ Lc ∧ (0 + s_13) + s_19 ≤ Ls) ∧
      rc M_14 12 a_7 ∧ F_X12_cost c_18 s_19 M_14 a_7 x2 x3 fun j_17 M_16 =>
      Q (j_15 - j_17) M_16) ∧
      (x_4 = 0 →
      F_X0_once_b19 Q Lc Ls a0 0 0 M_3))))
theorem met_X0_once {M : gM} {a0 : Nat} {x1 : Int32} {x2 : Int32} {x3 : Int32} {Q : Int64 → gM → Prop} {Lc Ls : Nat} (hF : F_X0_once Lc Ls M a0 x1 x2 x3 Q) : gMt yX0_once (ws_ yX0_once cX0_once 5 (some .long)) (rm_X0_once Lc Ls) M [.ref a0, .int x1, .int x2, .int x3] (gQj Q) := by
  refine gMet (bytes := cX0_once) (maxL := 5) (ret := (some .long)) rfl rfl (by decide) (Nat.le_of_ble_eq_true rfl) (lv := [(0, .ref a0), (1, .int x1), (2, .int x2), (3, .int x3)]) rfl (fun G hC hin => ?_)
  have hu : 0 ≤ Lc ∧ 0 ≤ Ls := ⟨Nat.zero_le _, Nat.zero_le _⟩
  unfold F_X0_once at hF
  refine g_aload_n 1 hC dX0_once_0 rfl 0 rfl rfl ?_
  refine g_iload_n 2 hC dX0_once_1 rfl 1 rfl rfl ?_
  refine g_iconst 3 hC (1 : Int32) dX0_once_2 (by decide) rfl ?_
  refine g_iload_n 4 hC dX0_once_3 rfl 2 rfl rfl ?_
  refine g_cV (rest := []) wl_X0_239 hd_X0_isLeft (ci := 0) rfl 7 hC hF.1 (met_X0_isLeft hF.2) rfl ⟨Nat.le_of_ble_eq_true rfl, Nat.le_of_ble_eq_true rfl⟩ hu rfl (Nat.le_of_ble_eq_true rfl) dX0_once_4 rfl (g_ty_i 0 0 (Nat.le_refl _) (Nat.le_refl _) (fun x_2 M_1 hF => ?_))
  refine g_if_eq 10 19 hC dX0_once_7 (by decide) rfl (fun c => ?_) (fun c => ?_)
  · have hF := hF.1 c
    refine g_sub [0] rfl ?_
    exact w_X0_once_b19 hC _ _ _ hu _ hF
  · have hF := hF.2 c
    refine g_aload_n 11 hC dX0_once_10 rfl 0 rfl rfl ?_
    refine g_iload_n 12 hC dX0_once_11 rfl 1 rfl rfl ?_
    refine g_iload_n 13 hC dX0_once_12 rfl 3 rfl rfl ?_
    refine g_cV (rest := []) wl_X0_234 hd_X0_isState (ci := 0) rfl 16 hC hF.1 (met_X0_isState hF.2) rfl ⟨Nat.le_of_ble_eq_true rfl, Nat.le_of_ble_eq_true rfl⟩ hu rfl (Nat.le_of_ble_eq_true rfl) dX0_once_13 rfl (g_ty_i 0 0 (Nat.le_refl _) (Nat.le_refl _) (fun x_4 M_3 hF => ?_))
    refine g_if_ne 19 27 hC dX0_once_16 (by decide) rfl (fun c => ?_) (fun c => ?_)
    · have hF := hF.1 c
      refine g_aload_n 28 hC dX0_once_27 rfl 0 rfl rfl ?_
      refine gf_X0_20_0N 31 hC hF dX0_once_28 rfl (fun a_5 hF => ?_)
      refine gf_X0_49_1N 34 hC hF dX0_once_31 rfl (fun a_6 hF => ?_)
      refine g_iload_n 35 hC dX0_once_34 rfl 1 rfl rfl ?_
      refine g_aaldN 36 hC hF (by decide) rfl (fun _ _ _ => rfl) dX0_once_35 rfl (fun a_7 hF => ?_)
      refine g_astore 38 hC (lv' := [(4, .ref _), (0, .ref _), (1, .int _), (2, .int _), (3, .int _)]) dX0_once_36 rfl (by decide) rfl ?_
      refine g_aload 40 hC dX0_once_38 rfl 0 rfl ?_
      refine g_iload_n 41 hC dX0_once_40 rfl 4 rfl rfl ?_
      refine g_aload 43 hC dX0_once_41 rfl 0 rfl ?_
      refine g_iload_n 44 hC dX0_once_43 rfl 4 rfl rfl ?_
      refine g_cV (rest := [_, _]) wl_X0_253 hd_X12_fill (ci := 12) rfl 47 hC hF.1 (met_X12_fill hF.2) rfl ⟨Nat.le_of_ble_eq_true rfl, Nat.le_of_ble_eq_true rfl⟩ hu rfl (Nat.le_of_ble_eq_true rfl) dX0_once_44 rfl (g_ty_i 0 0 (Nat.le_refl _) (Nat.le_refl _) (fun x_9 M_8 hF => ?_))
      refine g_iload_n 48 hC dX0_once_47 rfl 3 rfl rfl ?_
      refine g_aload 50 hC dX0_once_48 rfl 0 rfl ?_
      obtain ⟨c_12, s_13, hu, hF⟩ := hF
      refine g_cV (rest := [_, _, _, _]) wl_X0_268 hd_X12_worths (ci := 12) rfl 53 hC hF.1 (met_X12_worths hF.2) rfl ⟨Nat.le_of_ble_eq_true rfl, Nat.le_of_ble_eq_true rfl⟩ hu rfl (Nat.le_of_ble_eq_true rfl) dX0_once_50 rfl (g_ty_a (0 + c_12) (0 + s_13) (Nat.le_refl _) (Nat.le_refl _) (fun a_11 M_10 hF => ?_))
      refine g_cV (rest := []) wl_X0_272 hd_X12_sending (ci := 12) rfl 56 hC hF.1 (met_X12_sending hF.2) rfl ⟨Nat.le_of_ble_eq_true rfl, Nat.le_of_ble_eq_true rfl⟩ hu rfl (Nat.le_of_ble_eq_true rfl) dX0_once_53 rfl (g_ty_j (0 + c_12) (0 + s_13) (Nat.le_refl _) (Nat.le_refl _) (fun j_15 M_14 hF => ?_))
      refine g_aload 58 hC dX0_once_56 rfl 0 rfl ?_
      refine g_iload_n 59 hC dX0_once_58 rfl 3 rfl rfl ?_
      refine g_iload_n 60 hC dX0_once_59 rfl 4 rfl rfl ?_
      obtain ⟨c_18, s_19, hu, hF⟩ := hF
      refine g_cV (rest := [_]) wl_X0_246 hd_X12_cost (ci := 12) rfl 63 hC hF.1 (met_X12_cost hF.2) rfl ⟨Nat.le_of_ble_eq_true rfl, Nat.le_of_ble_eq_true rfl⟩ hu rfl (Nat.le_of_ble_eq_true rfl) dX0_once_60 rfl (g_ty_j ((0 + c_12) + c_18) ((0 + s_13) + s_19) (Nat.le_refl _) (Nat.le_refl _) (fun j_17 M_16 hF => ?_))
      refine g_lsub 64 hC dX0_once_63 rfl ?_
      exact g_lreturn hC ⟨_, rfl, hF⟩ dX0_once_64 hu.1 hu.2
    · have hF := hF.2 c
      refine g_sub [0] rfl ?_
      exact w_X0_once_b19 hC _ _ _ hu _ hF
abbrev rm_X0_dear (Lc Ls : Nat) : Room := { frames := 7, cells := Lc, slots := Ls, locals := 158 }
def F_X0_dear_b39 (Q : Int64 → gM → Prop)  (Lc Ls : Nat)  (a0 : Nat)  (u v : Nat) (M : gM) : Prop :=
  rc M 0 a0 ∧ F_X0_no M a0 (-2 : Int32) fun x_2 M_1 =>
  Q x_2.toInt64 M_1
theorem w_X0_dear_b39 {G : gG} {Q : Int64 → gM → Prop} {Lc Ls : Nat} (hC : gCx G cX0_dear 6 RX0 (some .long) (gQj Q) (rm_X0_dear Lc Ls))  (a0 : Nat)   (u v : Nat) (hu : u ≤ Lc ∧ v ≤ Ls) (M : gM) (hF : F_X0_dear_b39 Q Lc Ls a0 u v M) : gAt G u v M [(0, .ref a0)] 39 [] := by
  unfold F_X0_dear_b39 at hF
  refine g_aload_n 40 hC dX0_dear_39 rfl 0 rfl rfl ?_
  refine g_bipush 42 hC (-2 : Int32) dX0_dear_40 (by decide) rfl ?_
  refine g_cV (rest := []) wl_X0_81 hd_X0_no (ci := 0) rfl 45 hC hF.1 (met_X0_no hF.2) rfl ⟨Nat.le_of_ble_eq_true rfl, Nat.le_of_ble_eq_true rfl⟩ hu rfl (Nat.le_of_ble_eq_true rfl) dX0_dear_42 rfl (g_ty_i u v (Nat.le_refl _) (Nat.le_refl _) (fun x_2 M_1 hF => ?_))
  refine g_i2l 46 hC dX0_dear_45 rfl ?_
  exact g_lreturn hC ⟨_, rfl, hF⟩ dX0_dear_46 hu.1 hu.2
def F_X0_dear (Lc Ls : Nat) (M : gM) (a0 : Nat) (x1 : Int32) (x2 : Int32) (x3 : Int32) (x4 : Int32) (Q : Int64 → gM → Prop)  : Prop :=
  rc M 0 a0 ∧ F_X0_isLeft M a0 x1 (0 : Int32) x2 fun x_2 M_1 =>
  ((x_2 = 0 →
    F_X0_dear_b39 Q Lc Ls a0 0 0 M_1) ∧
    (¬ x_2 = 0 →
    rc M_1 0 a0 ∧ F_X0_isState M_1 a0 x1 x3 fun x_4 M_3 =>
    ((x_4 = 0 →
      F_X0_dear_b39 Q Lc Ls a0 0 0 M_3) ∧
      (¬ x_4 = 0 →
      rc M_3 0 a0 ∧ F_X0_isSort M_3 a0 x1 x4 fun x_6 M_5 =>
      ((x_6 = 0 →
        F_X0_dear_b39 Q Lc Ls a0 0 0 M_5) ∧
        (¬ x_6 = 0 →
        F_X0_standing M_5 x3 x4 fun x_8 M_7 =>
        ((¬ x_8 = (4 : Int32) →
          gN M_7 0 a0 0 fun a_9 =>
          gN M_7 1 a_9 0 fun a_10 =>
          aN M_7 (.object "SendTheBox$House") a_10 x1 fun a_11 =>
          aI M_7 .int (gl M_7 0) x4 fun x_12 =>
          ∃ c_15 s_16, (0 + c_15 ≤ Lc ∧ 0 + s_16 ≤ Ls) ∧
          rc M_7 12 a_11 ∧ F_X12_cost c_15 s_16 M_7 a_11 x2 (x3 + x_12) fun j_14 M_13 =>
          ∃ c_19 s_20, ((0 + c_15) + c_19 ≤ Lc ∧ (0 + s_16) + s_20 ≤ Ls) ∧
          rc M_13 12 a_11 ∧ F_X12_cost c_19 s_20 M_13 a_11 x2 x3 fun j_18 M_17 =>
          Q (j_14 - j_18) M_17) ∧
          (x_8 = (4 : Int32) →
          F_X0_dear_b39 Q Lc Ls a0 0 0 M_7))))))))
theorem met_X0_dear {M : gM} {a0 : Nat} {x1 : Int32} {x2 : Int32} {x3 : Int32} {x4 : Int32} {Q : Int64 → gM → Prop} {Lc Ls : Nat} (hF : F_X0_dear Lc Ls M a0 x1 x2 x3 x4 Q) : gMt yX0_dear (ws_ yX0_dear cX0_dear 6 (some .long)) (rm_X0_dear Lc Ls) M [.ref a0, .int x1, .int x2, .int x3, .int x4] (gQj Q) := by
  refine gMet (bytes := cX0_dear) (maxL := 6) (ret := (some .long)) rfl rfl (by decide) (Nat.le_of_ble_eq_true rfl) (lv := [(0, .ref a0), (1, .int x1), (2, .int x2), (3, .int x3), (4, .int x4)]) rfl (fun G hC hin => ?_)
  have hu : 0 ≤ Lc ∧ 0 ≤ Ls := ⟨Nat.zero_le _, Nat.zero_le _⟩
  unfold F_X0_dear at hF
  refine g_aload_n 1 hC dX0_dear_0 rfl 0 rfl rfl ?_
  refine g_iload_n 2 hC dX0_dear_1 rfl 1 rfl rfl ?_
  refine g_iconst 3 hC (0 : Int32) dX0_dear_2 (by decide) rfl ?_
  refine g_iload_n 4 hC dX0_dear_3 rfl 2 rfl rfl ?_
  refine g_cV (rest := []) wl_X0_239 hd_X0_isLeft (ci := 0) rfl 7 hC hF.1 (met_X0_isLeft hF.2) rfl ⟨Nat.le_of_ble_eq_true rfl, Nat.le_of_ble_eq_true rfl⟩ hu rfl (Nat.le_of_ble_eq_true rfl) dX0_dear_4 rfl (g_ty_i 0 0 (Nat.le_refl _) (Nat.le_refl _) (fun x_2 M_1 hF => ?_))
  refine g_if_eq 10 39 hC dX0_dear_7 (by decide) rfl (fun c => ?_) (fun c => ?_)
  · have hF := hF.1 c
    refine g_sub [0] rfl ?_
    exact w_X0_dear_b39 hC _ _ _ hu _ hF
  · have hF := hF.2 c
    refine g_aload_n 11 hC dX0_dear_10 rfl 0 rfl rfl ?_
    refine g_iload_n 12 hC dX0_dear_11 rfl 1 rfl rfl ?_
    refine g_iload_n 13 hC dX0_dear_12 rfl 3 rfl rfl ?_
    refine g_cV (rest := []) wl_X0_234 hd_X0_isState (ci := 0) rfl 16 hC hF.1 (met_X0_isState hF.2) rfl ⟨Nat.le_of_ble_eq_true rfl, Nat.le_of_ble_eq_true rfl⟩ hu rfl (Nat.le_of_ble_eq_true rfl) dX0_dear_13 rfl (g_ty_i 0 0 (Nat.le_refl _) (Nat.le_refl _) (fun x_4 M_3 hF => ?_))
    refine g_if_eq 19 39 hC dX0_dear_16 (by decide) rfl (fun c => ?_) (fun c => ?_)
    · have hF := hF.1 c
      refine g_sub [0] rfl ?_
      exact w_X0_dear_b39 hC _ _ _ hu _ hF
    · have hF := hF.2 c
      refine g_aload_n 20 hC dX0_dear_19 rfl 0 rfl rfl ?_
      refine g_iload_n 21 hC dX0_dear_20 rfl 1 rfl rfl ?_
      refine g_iload 23 hC dX0_dear_21 rfl 4 rfl ?_
      refine g_cV (rest := []) wl_X0_214 hd_X0_isSort (ci := 0) rfl 26 hC hF.1 (met_X0_isSort hF.2) rfl ⟨Nat.le_of_ble_eq_true rfl, Nat.le_of_ble_eq_true rfl⟩ hu rfl (Nat.le_of_ble_eq_true rfl) dX0_dear_23 rfl (g_ty_i 0 0 (Nat.le_refl _) (Nat.le_refl _) (fun x_6 M_5 hF => ?_))
      refine g_if_eq 29 39 hC dX0_dear_26 (by decide) rfl (fun c => ?_) (fun c => ?_)
      · have hF := hF.1 c
        refine g_sub [0] rfl ?_
        exact w_X0_dear_b39 hC _ _ _ hu _ hF
      · have hF := hF.2 c
        refine g_iload_n 30 hC dX0_dear_29 rfl 3 rfl rfl ?_
        refine g_iload 32 hC dX0_dear_30 rfl 4 rfl ?_
        refine g_cS (rest := []) wl_X0_7 hd_X0_standing 35 hC (met_X0_standing hF) rfl ⟨Nat.le_of_ble_eq_true rfl, Nat.le_of_ble_eq_true rfl⟩ hu rfl (Nat.le_of_ble_eq_true rfl) dX0_dear_32 rfl (g_ty_i 0 0 (Nat.le_refl _) (Nat.le_refl _) (fun x_8 M_7 hF => ?_))
        refine g_iconst 36 hC (4 : Int32) dX0_dear_35 (by decide) rfl ?_
        refine g_icmp_ne 39 47 hC dX0_dear_36 (by decide) rfl (fun c => ?_) (fun c => ?_)
        · have hF := hF.1 c
          refine g_aload_n 48 hC dX0_dear_47 rfl 0 rfl rfl ?_
          refine gf_X0_20_0N 51 hC hF dX0_dear_48 rfl (fun a_9 hF => ?_)
          refine gf_X0_49_1N 54 hC hF dX0_dear_51 rfl (fun a_10 hF => ?_)
          refine g_iload_n 55 hC dX0_dear_54 rfl 1 rfl rfl ?_
          refine g_aaldN 56 hC hF (by decide) rfl (fun _ _ _ => rfl) dX0_dear_55 rfl (fun a_11 hF => ?_)
          refine g_astore 58 hC (lv' := [(5, .ref _), (0, .ref _), (1, .int _), (2, .int _), (3, .int _), (4, .int _)]) dX0_dear_56 rfl (by decide) rfl ?_
          refine g_aload 60 hC dX0_dear_58 rfl 0 rfl ?_
          refine g_iload_n 61 hC dX0_dear_60 rfl 3 rfl rfl ?_
          refine g_iload_n 62 hC dX0_dear_61 rfl 4 rfl rfl ?_
          refine g_getsP 65 hC q966 dX0_dear_62 rfl ?_
          refine g_iload 67 hC dX0_dear_65 rfl 5 rfl ?_
          refine g_iald 68 hC hF dX0_dear_67 rfl (fun x_12 hF => ?_)
          refine g_iadd 69 hC dX0_dear_68 rfl ?_
          obtain ⟨c_15, s_16, hu, hF⟩ := hF
          refine g_cV (rest := []) wl_X0_246 hd_X12_cost (ci := 12) rfl 72 hC hF.1 (met_X12_cost hF.2) rfl ⟨Nat.le_of_ble_eq_true rfl, Nat.le_of_ble_eq_true rfl⟩ hu rfl (Nat.le_of_ble_eq_true rfl) dX0_dear_69 rfl (g_ty_j (0 + c_15) (0 + s_16) (Nat.le_refl _) (Nat.le_refl _) (fun j_14 M_13 hF => ?_))
          refine g_aload 74 hC dX0_dear_72 rfl 0 rfl ?_
          refine g_iload_n 75 hC dX0_dear_74 rfl 3 rfl rfl ?_
          refine g_iload_n 76 hC dX0_dear_75 rfl 4 rfl rfl ?_
          obtain ⟨c_19, s_20, hu, hF⟩ := hF
          refine g_cV (rest := [_]) wl_X0_246 hd_X12_cost (ci := 12) rfl 79 hC hF.1 (met_X12_cost hF.2) rfl ⟨Nat.le_of_ble_eq_true rfl, Nat.le_of_ble_eq_true rfl⟩ hu rfl (Nat.le_of_ble_eq_true rfl) dX0_dear_76 rfl (g_ty_j ((0 + c_15) + c_19) ((0 + s_16) + s_20) (Nat.le_refl _) (Nat.le_refl _) (fun j_18 M_17 hF => ?_))
          refine g_lsub 80 hC dX0_dear_79 rfl ?_
          exact g_lreturn hC ⟨_, rfl, hF⟩ dX0_dear_80 hu.1 hu.2
        · have hF := hF.2 c
          refine g_sub [0] rfl ?_
          exact w_X0_dear_b39 hC _ _ _ hu _ hF
abbrev rm_X0_ruleFor (Lc Ls : Nat) : Room := { frames := 9, cells := Lc, slots := Ls, locals := 10278 }
def F_X0_ruleFor_b11 (Q : Nat → gM → Prop) (X : String → Nat → gM → Prop) (Lc Ls : Nat)    (u v : Nat) (M : gM) : Prop :=
  nO M u v Lc Ls 4 7 fun a_1 M_2 =>
  F_X4_init M_2 a_1 (-2 : Int32) fun M_3 =>
  (kd M_3 a_1 = some (true, .inl 4)) ∧
  X "SendTheBox$Refused" a_1 M_3
theorem w_X0_ruleFor_b11 {G : gG} {Q : Nat → gM → Prop} {X : String → Nat → gM → Prop} {Lc Ls : Nat} (hC : gCx G cX0_ruleFor 3 RX0 (some (.object "SendTheBox$Rule")) (gQa Q) (rm_X0_ruleFor Lc Ls)) (hT : gTx G X (rm_X0_ruleFor Lc Ls) [])     (u v : Nat) (hu : u ≤ Lc ∧ v ≤ Ls) (M : gM) (hF : F_X0_ruleFor_b11 Q X Lc Ls u v M) : gAt G u v M [] 11 [] := by
  unfold F_X0_ruleFor_b11 at hF
  have hu := hF.1
  refine g_new (C := RX4) (T := TX4) (N := 7) (ci := 4) in_X4 tyX4_ok (by decide) rfl q279 q304 q80 14 hC hF dX0_ruleFor_11 rfl (fun a_1 M_2 hF => ?_)
  refine g_dup 15 hC dX0_ruleFor_14 rfl rfl ?_
  refine g_bipush 17 hC (-2 : Int32) dX0_ruleFor_15 (by decide) rfl ?_
  refine g_cI (rest := [_]) q314 q80 q312 q313 rfl hd_X4_init 20 hC (met_X4_init hF) rfl ⟨Nat.le_of_ble_eq_true rfl, Nat.le_of_ble_eq_true rfl⟩ hu rfl (Nat.le_of_ble_eq_true rfl) dX0_ruleFor_17 rfl (g_ty_v (u + 1) (v + 7) (Nat.le_refl _) (Nat.le_refl _) (fun M_3 hF => ?_))
  refine g_athrow (ci := 4) rfl hC hF.1 dX0_ruleFor_20 ?_
  have hF := hF.2
  exact g_out hC hT (fun _ h => absurd h List.not_mem_nil) hF hu
def F_X0_ruleFor (Lc Ls : Nat) (M : gM) (a0 : Nat) (x1 : Int32) (x2 : Int32) (Q : Nat → gM → Prop) (X : String → Nat → gM → Prop) : Prop :=
  ((x1 = 0 →
    F_X0_ruleFor_b11 Q X Lc Ls 0 0 M) ∧
    (¬ x1 = 0 →
    F_X0_isShelf M x2 fun x_2 M_1 =>
    ((¬ x_2 = 0 →
      ∃ c_5 s_6, (0 + c_5 ≤ Lc ∧ 0 + s_6 ≤ Ls) ∧
      rc M_1 0 a0 ∧ F_X0_ruleIn c_5 s_6 M_1 a0 x2 (fun a_4 M_3 =>
      Q a_4 M_3) (fun E_ q_7 M_8 =>
        (E_ = "SendTheBox$Refused" ∧
        X "SendTheBox$Refused" q_7 M_8))) ∧
      (x_2 = 0 →
      F_X0_ruleFor_b11 Q X Lc Ls 0 0 M_1))))
theorem met_X0_ruleFor {M : gM} {a0 : Nat} {x1 : Int32} {x2 : Int32} {Q : Nat → gM → Prop} {X : String → Nat → gM → Prop} {Lc Ls : Nat} (hF : F_X0_ruleFor Lc Ls M a0 x1 x2 Q X) : gMx yX0_ruleFor (ws_ yX0_ruleFor cX0_ruleFor 3 (some (.object "SendTheBox$Rule"))) (rm_X0_ruleFor Lc Ls) M [.ref a0, .int x1, .int x2] (gQa Q) X := by
  refine gMetX (bytes := cX0_ruleFor) (maxL := 3) (ret := (some (.object "SendTheBox$Rule"))) rfl rfl (by decide) (Nat.le_of_ble_eq_true rfl) (lv := [(0, .ref a0), (1, .int x1), (2, .int x2)]) rfl (fun G hC hT hin => ?_)
  have hu : 0 ≤ Lc ∧ 0 ≤ Ls := ⟨Nat.zero_le _, Nat.zero_le _⟩
  unfold F_X0_ruleFor at hF
  refine g_iload_n 1 hC dX0_ruleFor_0 rfl 1 rfl rfl ?_
  refine g_if_eq 4 11 hC dX0_ruleFor_1 (by decide) rfl (fun c => ?_) (fun c => ?_)
  · have hF := hF.1 c
    refine g_sub [] rfl ?_
    exact w_X0_ruleFor_b11 hC hT _ _ hu _ hF
  · have hF := hF.2 c
    refine g_iload_n 5 hC dX0_ruleFor_4 rfl 2 rfl rfl ?_
    refine g_cS (rest := []) wl_X0_78 hd_X0_isShelf 8 hC (met_X0_isShelf hF) rfl ⟨Nat.le_of_ble_eq_true rfl, Nat.le_of_ble_eq_true rfl⟩ hu rfl (Nat.le_of_ble_eq_true rfl) dX0_ruleFor_5 rfl (g_ty_i 0 0 (Nat.le_refl _) (Nat.le_refl _) (fun x_2 M_1 hF => ?_))
    refine g_if_ne 11 21 hC dX0_ruleFor_8 (by decide) rfl (fun c => ?_) (fun c => ?_)
    · have hF := hF.1 c
      refine g_aload_n 22 hC dX0_ruleFor_21 rfl 0 rfl rfl ?_
      refine g_iload_n 23 hC dX0_ruleFor_22 rfl 2 rfl rfl ?_
      obtain ⟨c_5, s_6, hu, hF⟩ := hF
      refine g_xVW (rest := []) wl_X0_175 hd_X0_ruleIn (ci := 0) rfl 26 hC hF.1 (met_X0_ruleIn hF.2) rfl ⟨Nat.le_of_ble_eq_true rfl, Nat.le_of_ble_eq_true rfl⟩ hu rfl (Nat.le_of_ble_eq_true rfl) dX0_ruleFor_23 rfl (g_ty_a (0 + c_5) (0 + s_6) (Nat.le_refl _) (Nat.le_refl _) (fun a_4 M_3 hF => ?_)) (g_tx (0 + c_5) (0 + s_6) (Nat.le_refl _) (Nat.le_refl _) (fun E_ q_7 M_8 hF => ?_))
      · have hF := hF
        exact g_areturn (v := some a_4) hC (Or.inl ⟨_, rfl⟩) ⟨_, rfl, hF⟩ dX0_ruleFor_26 hu.1 hu.2
      · have hF := hF
        obtain ⟨hE_, hF⟩ := hF
        rw [hE_]
        exact g_out hC hT (fun _ h => absurd h List.not_mem_nil) hF hu
    · have hF := hF.2 c
      refine g_sub [] rfl ?_
      exact w_X0_ruleFor_b11 hC hT _ _ hu _ hF
theorem hd_X0_ruleFor : yX0_ruleFor.cls = RX0 ∧ yX0_ruleFor.cls ≠ "java/lang/invoke/MethodHandle" ∧ yX0_ruleFor.cls ≠ "java/lang/invoke/VarHandle" ∧ (parseMethodDescriptor yX0_ruleFor.desc).map (fun d => d.parameters.length) = some 2 := by decide +kernel
theorem wl_X0_276 : GoodIn lw_all (wsV RX0 276 RX0 yX0_ruleFor (ws_ yX0_ruleFor cX0_ruleFor 3 (some (.object "SendTheBox$Rule")))) := lw_V q1173 q1175 qs23 q69 q1176
theorem wl_X0_280 : GoodIn lw_all (wsV RX0 280 RX12 yX12_chances (ws_ yX12_chances cX12_chances 8 (some (.array .long)))) := lw_V q1177 q1178 q1179 q92 q1180
abbrev rm_X0_chance (Lc Ls : Nat) : Room := { frames := 12, cells := Lc, slots := Ls, locals := 10350 }
def F_X0_chance_b25 (Q : Int64 → gM → Prop)  (Lc Ls : Nat)  (a0 : Nat) (x1 : Int32) (x2 : Int32) (x3 : Int32) (x4 : Int32) (t0 : Nat) (t1 : Int32) (u v : Nat) (M : gM) : Prop :=
  ∃ c_3 s_4, (u + c_3 ≤ Lc ∧ v + s_4 ≤ Ls) ∧
  rc M 0 t0 ∧ F_X0_ruleFor c_3 s_4 M t0 t1 x4 (fun a_2 M_1 =>
  gN M_1 0 a0 0 fun a_10 =>
    gN M_1 1 a_10 0 fun a_11 =>
    aN M_1 (.object "SendTheBox$House") a_11 x1 fun a_12 =>
    ∃ c_15 s_16, ((u + c_3) + c_15 ≤ Lc ∧ (v + s_4) + s_16 ≤ Ls) ∧
    rc M_1 12 a_12 ∧ F_X12_chances c_15 s_16 M_1 a_12 a_2 x2 fun a_14 M_13 =>
    aJ M_13 a_14 x3 fun j_17 =>
    Q j_17 M_13) (fun E_ q_5 M_6 =>
    (E_ = "SendTheBox$Refused" ∧
    gI M_6 4 q_5 6 fun x_7 =>
    rc M_6 0 a0 ∧ F_X0_no M_6 a0 x_7 fun x_9 M_8 =>
    Q x_9.toInt64 M_8))
theorem w_X0_chance_b25 {G : gG} {Q : Int64 → gM → Prop} {Lc Ls : Nat} (hC : gCx G cX0_chance 6 RX0 (some .long) (gQj Q) (rm_X0_chance Lc Ls)) (hT : gTx G (fun _ _ _ => False) (rm_X0_chance Lc Ls) (tableOf [(0, 49, 50, 97)]))  (a0 : Nat) (x1 : Int32) (x2 : Int32) (x3 : Int32) (x4 : Int32) (t0 : Nat) (t1 : Int32)  (u v : Nat) (hu : u ≤ Lc ∧ v ≤ Ls) (M : gM) (hF : F_X0_chance_b25 Q Lc Ls a0 x1 x2 x3 x4 t0 t1 u v M) : gAt G u v M [(0, .ref a0), (1, .int x1), (2, .int x2), (3, .int x3), (4, .int x4)] 25 [.int t1, .ref t0] := by
  unfold F_X0_chance_b25 at hF
  refine g_iload 27 hC dX0_chance_25 rfl 4 rfl ?_
  obtain ⟨c_3, s_4, hu, hF⟩ := hF
  refine g_xV (rest := []) wl_X0_276 hd_X0_ruleFor (ci := 0) rfl 30 hC hF.1 (met_X0_ruleFor hF.2) rfl ⟨Nat.le_of_ble_eq_true rfl, Nat.le_of_ble_eq_true rfl⟩ hu rfl (Nat.le_of_ble_eq_true rfl) dX0_chance_27 rfl (g_ty_a (u + c_3) (v + s_4) (Nat.le_refl _) (Nat.le_refl _) (fun a_2 M_1 hF => ?_)) (g_tx (u + c_3) (v + s_4) (Nat.le_refl _) (Nat.le_refl _) (fun E_ q_5 M_6 hF => ?_))
  · have hF := hF
    refine g_astore 32 hC (lv' := [(5, .ref _), (0, .ref _), (1, .int _), (2, .int _), (3, .int _), (4, .int _)]) dX0_chance_30 rfl (by decide) rfl ?_
    refine g_aload_n 33 hC dX0_chance_32 rfl 1 rfl rfl ?_
    refine gf_X0_20_0N 36 hC hF dX0_chance_33 rfl (fun a_10 hF => ?_)
    refine gf_X0_49_1N 39 hC hF dX0_chance_36 rfl (fun a_11 hF => ?_)
    refine g_iload_n 40 hC dX0_chance_39 rfl 2 rfl rfl ?_
    refine g_aaldN 41 hC hF (by decide) rfl (fun _ _ _ => rfl) dX0_chance_40 rfl (fun a_12 hF => ?_)
    refine g_aload 43 hC dX0_chance_41 rfl 0 rfl ?_
    refine g_iload_n 44 hC dX0_chance_43 rfl 3 rfl rfl ?_
    obtain ⟨c_15, s_16, hu, hF⟩ := hF
    refine g_cV (rest := []) wl_X0_280 hd_X12_chances (ci := 12) rfl 47 hC hF.1 (met_X12_chances hF.2) rfl ⟨Nat.le_of_ble_eq_true rfl, Nat.le_of_ble_eq_true rfl⟩ hu rfl (Nat.le_of_ble_eq_true rfl) dX0_chance_44 rfl (g_ty_a ((u + c_3) + c_15) ((v + s_4) + s_16) (Nat.le_refl _) (Nat.le_refl _) (fun a_14 M_13 hF => ?_))
    refine g_iload_n 48 hC dX0_chance_47 rfl 4 rfl rfl ?_
    refine g_lald 49 hC hF dX0_chance_48 rfl (fun j_17 hF => ?_)
    exact g_lreturn hC ⟨_, rfl, hF⟩ dX0_chance_49 hu.1 hu.2
  · have hF := hF
    obtain ⟨hE_, hF⟩ := hF
    rw [hE_]
    refine g_catch hC hT [] ⟨0, 49, 50, 97⟩ [] rfl (fun _ h => absurd h List.not_mem_nil) rfl (by decide) q279 q305 50 rfl ?_
    refine g_astore 52 hC (lv' := [(5, .ref _), (0, .ref _), (1, .int _), (2, .int _), (3, .int _), (4, .int _)]) dX0_chance_50 rfl (by decide) rfl ?_
    refine g_aload_n 53 hC dX0_chance_52 rfl 1 rfl rfl ?_
    refine g_aload 55 hC dX0_chance_53 rfl 0 rfl ?_
    refine gf_X0_110_4I 58 hC hF dX0_chance_55 rfl (fun x_7 hF => ?_)
    refine g_cV (rest := []) wl_X0_81 hd_X0_no (ci := 0) rfl 61 hC hF.1 (met_X0_no hF.2) rfl ⟨Nat.le_of_ble_eq_true rfl, Nat.le_of_ble_eq_true rfl⟩ hu rfl (Nat.le_of_ble_eq_true rfl) dX0_chance_58 rfl (g_ty_i (u + c_3) (v + s_4) (Nat.le_refl _) (Nat.le_refl _) (fun x_9 M_8 hF => ?_))
    refine g_i2l 62 hC dX0_chance_61 rfl ?_
    exact g_lreturn hC ⟨_, rfl, hF⟩ dX0_chance_62 hu.1 hu.2
def F_X0_chance_b24 (Q : Int64 → gM → Prop)  (Lc Ls : Nat)  (a0 : Nat) (x1 : Int32) (x2 : Int32) (x3 : Int32) (x4 : Int32) (t0 : Nat) (u v : Nat) (M : gM) : Prop :=
  F_X0_chance_b25 Q Lc Ls a0 x1 x2 x3 x4 t0 (0 : Int32) u v M
theorem w_X0_chance_b24 {G : gG} {Q : Int64 → gM → Prop} {Lc Ls : Nat} (hC : gCx G cX0_chance 6 RX0 (some .long) (gQj Q) (rm_X0_chance Lc Ls)) (hT : gTx G (fun _ _ _ => False) (rm_X0_chance Lc Ls) (tableOf [(0, 49, 50, 97)]))  (a0 : Nat) (x1 : Int32) (x2 : Int32) (x3 : Int32) (x4 : Int32) (t0 : Nat)  (u v : Nat) (hu : u ≤ Lc ∧ v ≤ Ls) (M : gM) (hF : F_X0_chance_b24 Q Lc Ls a0 x1 x2 x3 x4 t0 u v M) : gAt G u v M [(0, .ref a0), (1, .int x1), (2, .int x2), (3, .int x3), (4, .int x4)] 24 [.ref t0] := by
  unfold F_X0_chance_b24 at hF
  refine g_iconst 25 hC (0 : Int32) dX0_chance_24 (by decide) rfl ?_
  exact w_X0_chance_b25 hC hT _ _ _ _ _ _ _ _ _ hu _ hF
def F_X0_chance (Lc Ls : Nat) (M : gM) (a0 : Nat) (x1 : Int32) (x2 : Int32) (x3 : Int32) (x4 : Int32) (Q : Int64 → gM → Prop)  : Prop :=
  rc M 0 a0 ∧ F_X0_isLeft M a0 x1 (0 : Int32) x2 fun x_2 M_1 =>
  ((x_2 = 0 →
    F_X0_chance_b24 Q Lc Ls a0 x1 x2 x3 x4 a0 0 0 M_1) ∧
    (¬ x_2 = 0 →
    rc M_1 0 a0 ∧ F_X0_isState M_1 a0 x1 x3 fun x_4 M_3 =>
    ((x_4 = 0 →
      F_X0_chance_b24 Q Lc Ls a0 x1 x2 x3 x4 a0 0 0 M_3) ∧
      (¬ x_4 = 0 →
      F_X0_chance_b25 Q Lc Ls a0 x1 x2 x3 x4 a0 (1 : Int32) 0 0 M_3))))
theorem met_X0_chance {M : gM} {a0 : Nat} {x1 : Int32} {x2 : Int32} {x3 : Int32} {x4 : Int32} {Q : Int64 → gM → Prop} {Lc Ls : Nat} (hF : F_X0_chance Lc Ls M a0 x1 x2 x3 x4 Q) : gMx yX0_chance (wsW_ yX0_chance cX0_chance 6 (some .long) [(0, 49, 50, 97)]) (rm_X0_chance Lc Ls) M [.ref a0, .int x1, .int x2, .int x3, .int x4] (gQj Q) (fun _ _ _ => False) := by
  refine gMetH (bytes := cX0_chance) (maxL := 6) (ret := (some .long)) (hh := [(0, 49, 50, 97)]) rfl rfl (by decide) (Nat.le_of_ble_eq_true rfl) (lv := [(0, .ref a0), (1, .int x1), (2, .int x2), (3, .int x3), (4, .int x4)]) rfl (fun G hC hT hin => ?_)
  have hu : 0 ≤ Lc ∧ 0 ≤ Ls := ⟨Nat.zero_le _, Nat.zero_le _⟩
  unfold F_X0_chance at hF
  refine g_aload_n 1 hC dX0_chance_0 rfl 0 rfl rfl ?_
  refine g_aload_n 2 hC dX0_chance_1 rfl 0 rfl rfl ?_
  refine g_iload_n 3 hC dX0_chance_2 rfl 1 rfl rfl ?_
  refine g_iconst 4 hC (0 : Int32) dX0_chance_3 (by decide) rfl ?_
  refine g_iload_n 5 hC dX0_chance_4 rfl 2 rfl rfl ?_
  refine g_cV (rest := [_]) wl_X0_239 hd_X0_isLeft (ci := 0) rfl 8 hC hF.1 (met_X0_isLeft hF.2) rfl ⟨Nat.le_of_ble_eq_true rfl, Nat.le_of_ble_eq_true rfl⟩ hu rfl (Nat.le_of_ble_eq_true rfl) dX0_chance_5 rfl (g_ty_i 0 0 (Nat.le_refl _) (Nat.le_refl _) (fun x_2 M_1 hF => ?_))
  refine g_if_eq 11 24 hC dX0_chance_8 (by decide) rfl (fun c => ?_) (fun c => ?_)
  · have hF := hF.1 c
    exact w_X0_chance_b24 hC hT _ _ _ _ _ _ _ _ hu _ hF
  · have hF := hF.2 c
    refine g_aload_n 12 hC dX0_chance_11 rfl 0 rfl rfl ?_
    refine g_iload_n 13 hC dX0_chance_12 rfl 1 rfl rfl ?_
    refine g_iload_n 14 hC dX0_chance_13 rfl 3 rfl rfl ?_
    refine g_cV (rest := [_]) wl_X0_234 hd_X0_isState (ci := 0) rfl 17 hC hF.1 (met_X0_isState hF.2) rfl ⟨Nat.le_of_ble_eq_true rfl, Nat.le_of_ble_eq_true rfl⟩ hu rfl (Nat.le_of_ble_eq_true rfl) dX0_chance_14 rfl (g_ty_i 0 0 (Nat.le_refl _) (Nat.le_refl _) (fun x_4 M_3 hF => ?_))
    refine g_if_eq 20 24 hC dX0_chance_17 (by decide) rfl (fun c => ?_) (fun c => ?_)
    · have hF := hF.1 c
      exact w_X0_chance_b24 hC hT _ _ _ _ _ _ _ _ hu _ hF
    · have hF := hF.2 c
      refine g_iconst 21 hC (1 : Int32) dX0_chance_20 (by decide) rfl ?_
      refine g_goto 25 hC dX0_chance_21 (by decide) ?_
      exact w_X0_chance_b25 hC hT _ _ _ _ _ _ _ _ _ hu _ hF
abbrev rm_X0_reach (Lc Ls : Nat) : Room := { frames := 12, cells := Lc, slots := Ls, locals := 10350 }
def F_X0_reach_b61 (Q : Int32 → gM → Prop)  (Lc Ls : Nat) (K37 : Int32 → Int32 → Nat → Nat → gM → Prop) (a0 : Nat) (a5 : Nat) (x7 : Int32) (t0 : Int32) (t1 : Int32) (u v : Nat) (M : gM) : Prop :=
  K37 (t0 + t1) (x7 + (1 : Int32)) u v M
theorem w_X0_reach_b61 {G : gG} {Q : Int32 → gM → Prop} {Lc Ls : Nat} (hC : gCx G cX0_reach 8 RX0 (some .int) (gQi Q) (rm_X0_reach Lc Ls)) (hT : gTx G (fun _ _ _ => False) (rm_X0_reach Lc Ls) (tableOf [(0, 72, 73, 97)])) (K37 : Int32 → Int32 → Nat → Nat → gM → Prop) (a0 : Nat) (a5 : Nat) (x7 : Int32) (t0 : Int32) (t1 : Int32) (hK37 : ∀ x6' x7' u' v' (_ : u' ≤ Lc ∧ v' ≤ Ls) M', K37 x6' x7' u' v' M' → gAt G u' v' M' [(0, .ref a0), (5, .ref a5), (6, .int x6'), (7, .int x7')] 37 []) (u v : Nat) (hu : u ≤ Lc ∧ v ≤ Ls) (M : gM) (hF : F_X0_reach_b61 Q Lc Ls K37 a0 a5 x7 t0 t1 u v M) : gAt G u v M [(0, .ref a0), (5, .ref a5), (7, .int x7)] 61 [.int t1, .int t0] := by
  unfold F_X0_reach_b61 at hF
  refine g_iadd 62 hC dX0_reach_61 rfl ?_
  refine g_istore 64 hC (lv' := [(6, .int _), (0, .ref _), (5, .ref _), (7, .int _)]) dX0_reach_62 rfl (by decide) rfl ?_
  refine g_iinc 67 hC (x7 + (1 : Int32)) (lv' := [(7, .int _), (6, .int _), (0, .ref _), (5, .ref _)]) dX0_reach_64 rfl 3 rfl rfl (by decide) rfl ?_
  refine g_goto 37 hC dX0_reach_67 (by decide) ?_
  refine g_sub [2, 3, 1, 0] rfl ?_
  exact hK37 _ _ _ _ hu _ hF
def F_X0_reach_b37 (Q : Int32 → gM → Prop)  (Lc Ls : Nat)  (a0 : Nat) (a5 : Nat) : Nat → Int32 → Int32 → Nat → Nat → gM → Prop
  | 0, _, _, _, _, _ => False
  | n + 1, x6, x7, u, v, M =>
    (((125 : Int32) ≤ x7 →
      Q x6 M) ∧
      (¬ (125 : Int32) ≤ x7 →
      aJ M a5 x7 fun j_1 =>
      ((j_1 ≤ (0 : Int64) →
        F_X0_reach_b61 Q Lc Ls (F_X0_reach_b37 Q Lc Ls a0 a5 n) a0 a5 x7 x6 (0 : Int32) u v M) ∧
        (¬ j_1 ≤ (0 : Int64) →
        F_X0_reach_b61 Q Lc Ls (F_X0_reach_b37 Q Lc Ls a0 a5 n) a0 a5 x7 x6 (1 : Int32) u v M))))
theorem w_X0_reach_b37 {G : gG} {Q : Int32 → gM → Prop} {Lc Ls : Nat} (hC : gCx G cX0_reach 8 RX0 (some .int) (gQi Q) (rm_X0_reach Lc Ls)) (hT : gTx G (fun _ _ _ => False) (rm_X0_reach Lc Ls) (tableOf [(0, 72, 73, 97)]))  (a0 : Nat) (a5 : Nat)  : ∀ (n : Nat) (x6 : Int32) (x7 : Int32) (u v : Nat) (hu : u ≤ Lc ∧ v ≤ Ls) (M : gM), F_X0_reach_b37 Q Lc Ls a0 a5 n x6 x7 u v M → gAt G u v M [(0, .ref a0), (5, .ref a5), (6, .int x6), (7, .int x7)] 37 [] := by
  intro n
  induction n with
  | zero =>
    intro x6 x7 u v hu M hF
    exact hF.elim
  | succ n ih =>
    intro x6 x7 u v hu M hF
    have hK37 := ih
    unfold F_X0_reach_b37 at hF
    refine g_iload 39 hC dX0_reach_37 rfl 3 rfl ?_
    refine g_bipush 41 hC (125 : Int32) dX0_reach_39 (by decide) rfl ?_
    refine g_icmp_ge 44 70 hC dX0_reach_41 (by decide) rfl (fun c => ?_) (fun c => ?_)
    · have hF := hF.1 c
      refine g_iload 72 hC dX0_reach_70 rfl 2 rfl ?_
      exact g_ireturn hC ⟨_, rfl, hF⟩ dX0_reach_72 hu.1 hu.2
    · have hF := hF.2 c
      refine g_iload 46 hC dX0_reach_44 rfl 2 rfl ?_
      refine g_aload 48 hC dX0_reach_46 rfl 1 rfl ?_
      refine g_iload 50 hC dX0_reach_48 rfl 3 rfl ?_
      refine g_lald 51 hC hF dX0_reach_50 rfl (fun j_1 hF => ?_)
      refine g_lconst 52 hC (0 : Int64) dX0_reach_51 (by decide) rfl ?_
      refine g_lcmp_le 56 60 hC dX0_reach_52 rfl dX0_reach_53 (by decide) rfl (fun c => ?_) (fun c => ?_)
      · have hF := hF.1 c
        refine g_iconst 61 hC (0 : Int32) dX0_reach_60 (by decide) rfl ?_
        refine g_sub [0, 1, 3] rfl ?_
        exact w_X0_reach_b61 hC hT _ _ _ _ _ _ hK37 _ _ hu _ hF
      · have hF := hF.2 c
        refine g_iconst 57 hC (1 : Int32) dX0_reach_56 (by decide) rfl ?_
        refine g_goto 61 hC dX0_reach_57 (by decide) ?_
        refine g_sub [0, 1, 3] rfl ?_
        exact w_X0_reach_b61 hC hT _ _ _ _ _ _ hK37 _ _ hu _ hF
def F_X0_reach (Lc Ls : Nat) (M : gM) (a0 : Nat) (x1 : Int32) (x2 : Int32) (x3 : Int32) (Q : Int32 → gM → Prop)  : Prop :=
  rc M 0 a0 ∧ F_X0_isLeft M a0 x1 (0 : Int32) x2 fun x_2 M_1 =>
  ∃ c_5 s_6, (0 + c_5 ≤ Lc ∧ 0 + s_6 ≤ Ls) ∧
  rc M_1 0 a0 ∧ F_X0_ruleFor c_5 s_6 M_1 a0 x_2 x3 (fun a_4 M_3 =>
  gN M_3 0 a0 0 fun a_12 =>
    gN M_3 1 a_12 0 fun a_13 =>
    aN M_3 (.object "SendTheBox$House") a_13 x1 fun a_14 =>
    ∃ c_17 s_18, ((0 + c_5) + c_17 ≤ Lc ∧ (0 + s_6) + s_18 ≤ Ls) ∧
    rc M_3 12 a_14 ∧ F_X12_chances c_17 s_18 M_3 a_14 a_4 x2 fun a_16 M_15 =>
    ∃ n_19, F_X0_reach_b37 Q Lc Ls a0 a_16 n_19 (0 : Int32) (0 : Int32) ((0 + c_5) + c_17) ((0 + s_6) + s_18) M_15) (fun E_ q_7 M_8 =>
    (E_ = "SendTheBox$Refused" ∧
    gI M_8 4 q_7 6 fun x_9 =>
    rc M_8 0 a0 ∧ F_X0_no M_8 a0 x_9 fun x_11 M_10 =>
    Q x_11 M_10))
theorem met_X0_reach {M : gM} {a0 : Nat} {x1 : Int32} {x2 : Int32} {x3 : Int32} {Q : Int32 → gM → Prop} {Lc Ls : Nat} (hF : F_X0_reach Lc Ls M a0 x1 x2 x3 Q) : gMx yX0_reach (wsW_ yX0_reach cX0_reach 8 (some .int) [(0, 72, 73, 97)]) (rm_X0_reach Lc Ls) M [.ref a0, .int x1, .int x2, .int x3] (gQi Q) (fun _ _ _ => False) := by
  refine gMetH (bytes := cX0_reach) (maxL := 8) (ret := (some .int)) (hh := [(0, 72, 73, 97)]) rfl rfl (by decide) (Nat.le_of_ble_eq_true rfl) (lv := [(0, .ref a0), (1, .int x1), (2, .int x2), (3, .int x3)]) rfl (fun G hC hT hin => ?_)
  have hu : 0 ≤ Lc ∧ 0 ≤ Ls := ⟨Nat.zero_le _, Nat.zero_le _⟩
  unfold F_X0_reach at hF
  refine g_aload_n 1 hC dX0_reach_0 rfl 0 rfl rfl ?_
  refine g_aload_n 2 hC dX0_reach_1 rfl 0 rfl rfl ?_
  refine g_iload_n 3 hC dX0_reach_2 rfl 1 rfl rfl ?_
  refine g_iconst 4 hC (0 : Int32) dX0_reach_3 (by decide) rfl ?_
  refine g_iload_n 5 hC dX0_reach_4 rfl 2 rfl rfl ?_
  refine g_cV (rest := [_]) wl_X0_239 hd_X0_isLeft (ci := 0) rfl 8 hC hF.1 (met_X0_isLeft hF.2) rfl ⟨Nat.le_of_ble_eq_true rfl, Nat.le_of_ble_eq_true rfl⟩ hu rfl (Nat.le_of_ble_eq_true rfl) dX0_reach_5 rfl (g_ty_i 0 0 (Nat.le_refl _) (Nat.le_refl _) (fun x_2 M_1 hF => ?_))
  refine g_iload_n 9 hC dX0_reach_8 rfl 3 rfl rfl ?_
  obtain ⟨c_5, s_6, hu, hF⟩ := hF
  refine g_xV (rest := []) wl_X0_276 hd_X0_ruleFor (ci := 0) rfl 12 hC hF.1 (met_X0_ruleFor hF.2) rfl ⟨Nat.le_of_ble_eq_true rfl, Nat.le_of_ble_eq_true rfl⟩ hu rfl (Nat.le_of_ble_eq_true rfl) dX0_reach_9 rfl (g_ty_a (0 + c_5) (0 + s_6) (Nat.le_refl _) (Nat.le_refl _) (fun a_4 M_3 hF => ?_)) (g_tx (0 + c_5) (0 + s_6) (Nat.le_refl _) (Nat.le_refl _) (fun E_ q_7 M_8 hF => ?_))
  · have hF := hF
    refine g_astore 14 hC (lv' := [(4, .ref _), (0, .ref _), (1, .int _), (2, .int _), (3, .int _)]) dX0_reach_12 rfl (by decide) rfl ?_
    refine g_aload_n 15 hC dX0_reach_14 rfl 1 rfl rfl ?_
    refine gf_X0_20_0N 18 hC hF dX0_reach_15 rfl (fun a_12 hF => ?_)
    refine gf_X0_49_1N 21 hC hF dX0_reach_18 rfl (fun a_13 hF => ?_)
    refine g_iload_n 22 hC dX0_reach_21 rfl 2 rfl rfl ?_
    refine g_aaldN 23 hC hF (by decide) rfl (fun _ _ _ => rfl) dX0_reach_22 rfl (fun a_14 hF => ?_)
    refine g_aload 25 hC dX0_reach_23 rfl 0 rfl ?_
    refine g_iload_n 26 hC dX0_reach_25 rfl 3 rfl rfl ?_
    obtain ⟨c_17, s_18, hu, hF⟩ := hF
    refine g_cV (rest := []) wl_X0_280 hd_X12_chances (ci := 12) rfl 29 hC hF.1 (met_X12_chances hF.2) rfl ⟨Nat.le_of_ble_eq_true rfl, Nat.le_of_ble_eq_true rfl⟩ hu rfl (Nat.le_of_ble_eq_true rfl) dX0_reach_26 rfl (g_ty_a ((0 + c_5) + c_17) ((0 + s_6) + s_18) (Nat.le_refl _) (Nat.le_refl _) (fun a_16 M_15 hF => ?_))
    refine g_astore 31 hC (lv' := [(5, .ref _), (4, .ref _), (0, .ref _), (1, .int _), (2, .int _), (3, .int _)]) dX0_reach_29 rfl (by decide) rfl ?_
    refine g_iconst 32 hC (0 : Int32) dX0_reach_31 (by decide) rfl ?_
    refine g_istore 34 hC (lv' := [(6, .int _), (5, .ref _), (4, .ref _), (0, .ref _), (1, .int _), (2, .int _), (3, .int _)]) dX0_reach_32 rfl (by decide) rfl ?_
    refine g_iconst 35 hC (0 : Int32) dX0_reach_34 (by decide) rfl ?_
    refine g_istore 37 hC (lv' := [(7, .int _), (6, .int _), (5, .ref _), (4, .ref _), (0, .ref _), (1, .int _), (2, .int _), (3, .int _)]) dX0_reach_35 rfl (by decide) rfl ?_
    refine g_sub [4, 2, 1, 0] rfl ?_
    obtain ⟨n_19, hF⟩ := hF
    exact w_X0_reach_b37 hC hT _ _ n_19 _ _ _ _ hu _ hF
  · have hF := hF
    obtain ⟨hE_, hF⟩ := hF
    rw [hE_]
    refine g_catch hC hT [] ⟨0, 72, 73, 97⟩ [] rfl (fun _ h => absurd h List.not_mem_nil) rfl (by decide) q279 q305 73 rfl ?_
    refine g_astore 75 hC (lv' := [(4, .ref _), (0, .ref _), (1, .int _), (2, .int _), (3, .int _)]) dX0_reach_73 rfl (by decide) rfl ?_
    refine g_aload_n 76 hC dX0_reach_75 rfl 1 rfl rfl ?_
    refine g_aload 78 hC dX0_reach_76 rfl 0 rfl ?_
    refine gf_X0_110_4I 81 hC hF dX0_reach_78 rfl (fun x_9 hF => ?_)
    refine g_cV (rest := []) wl_X0_81 hd_X0_no (ci := 0) rfl 84 hC hF.1 (met_X0_no hF.2) rfl ⟨Nat.le_of_ble_eq_true rfl, Nat.le_of_ble_eq_true rfl⟩ hu rfl (Nat.le_of_ble_eq_true rfl) dX0_reach_81 rfl (g_ty_i (0 + c_5) (0 + s_6) (Nat.le_refl _) (Nat.le_refl _) (fun x_11 M_10 hF => ?_))
    exact g_ireturn hC ⟨_, rfl, hF⟩ dX0_reach_84 hu.1 hu.2
theorem hd_X12_sums : yX12_sums.cls = RX12 ∧ yX12_sums.cls ≠ "java/lang/invoke/MethodHandle" ∧ yX12_sums.cls ≠ "java/lang/invoke/VarHandle" ∧ (parseMethodDescriptor yX12_sums.desc).map (fun d => d.parameters.length) = some 2 := by decide +kernel
theorem wl_X0_284 : GoodIn lw_all (wsV RX0 284 RX12 yX12_sums (ws_ yX12_sums cX12_sums 15 (some .long))) := lw_V q1196 q1197 q1198 q92 q1199
abbrev rm_X0_held (Lc Ls : Nat) : Room := { frames := 13, cells := Lc, slots := Ls, locals := 10384 }
def F_X0_held (Lc Ls : Nat) (M : gM) (a0 : Nat) (x1 : Int32) (x2 : Int32) (x3 : Int32) (Q : Int64 → gM → Prop)  : Prop :=
  rc M 0 a0 ∧ F_X0_isSort M a0 x1 x2 fun x_2 M_1 =>
  ∃ c_5 s_6, (0 + c_5 ≤ Lc ∧ 0 + s_6 ≤ Ls) ∧
  rc M_1 0 a0 ∧ F_X0_ruleFor c_5 s_6 M_1 a0 x_2 x3 (fun a_4 M_3 =>
  gN M_3 0 a0 0 fun a_12 =>
    gN M_3 1 a_12 0 fun a_13 =>
    aN M_3 (.object "SendTheBox$House") a_13 x1 fun a_14 =>
    ∃ c_17 s_18, ((0 + c_5) + c_17 ≤ Lc ∧ (0 + s_6) + s_18 ≤ Ls) ∧
    rc M_3 12 a_14 ∧ F_X12_sums c_17 s_18 M_3 a_14 a_4 x2 fun j_16 M_15 =>
    Q j_16 M_15) (fun E_ q_7 M_8 =>
    (E_ = "SendTheBox$Refused" ∧
    gI M_8 4 q_7 6 fun x_9 =>
    rc M_8 0 a0 ∧ F_X0_no M_8 a0 x_9 fun x_11 M_10 =>
    Q x_11.toInt64 M_10))
theorem met_X0_held {M : gM} {a0 : Nat} {x1 : Int32} {x2 : Int32} {x3 : Int32} {Q : Int64 → gM → Prop} {Lc Ls : Nat} (hF : F_X0_held Lc Ls M a0 x1 x2 x3 Q) : gMx yX0_held (wsW_ yX0_held cX0_held 5 (some .long) [(0, 28, 29, 97)]) (rm_X0_held Lc Ls) M [.ref a0, .int x1, .int x2, .int x3] (gQj Q) (fun _ _ _ => False) := by
  refine gMetH (bytes := cX0_held) (maxL := 5) (ret := (some .long)) (hh := [(0, 28, 29, 97)]) rfl rfl (by decide) (Nat.le_of_ble_eq_true rfl) (lv := [(0, .ref a0), (1, .int x1), (2, .int x2), (3, .int x3)]) rfl (fun G hC hT hin => ?_)
  have hu : 0 ≤ Lc ∧ 0 ≤ Ls := ⟨Nat.zero_le _, Nat.zero_le _⟩
  unfold F_X0_held at hF
  refine g_aload_n 1 hC dX0_held_0 rfl 0 rfl rfl ?_
  refine g_aload_n 2 hC dX0_held_1 rfl 0 rfl rfl ?_
  refine g_iload_n 3 hC dX0_held_2 rfl 1 rfl rfl ?_
  refine g_iload_n 4 hC dX0_held_3 rfl 2 rfl rfl ?_
  refine g_cV (rest := [_]) wl_X0_214 hd_X0_isSort (ci := 0) rfl 7 hC hF.1 (met_X0_isSort hF.2) rfl ⟨Nat.le_of_ble_eq_true rfl, Nat.le_of_ble_eq_true rfl⟩ hu rfl (Nat.le_of_ble_eq_true rfl) dX0_held_4 rfl (g_ty_i 0 0 (Nat.le_refl _) (Nat.le_refl _) (fun x_2 M_1 hF => ?_))
  refine g_iload_n 8 hC dX0_held_7 rfl 3 rfl rfl ?_
  obtain ⟨c_5, s_6, hu, hF⟩ := hF
  refine g_xV (rest := []) wl_X0_276 hd_X0_ruleFor (ci := 0) rfl 11 hC hF.1 (met_X0_ruleFor hF.2) rfl ⟨Nat.le_of_ble_eq_true rfl, Nat.le_of_ble_eq_true rfl⟩ hu rfl (Nat.le_of_ble_eq_true rfl) dX0_held_8 rfl (g_ty_a (0 + c_5) (0 + s_6) (Nat.le_refl _) (Nat.le_refl _) (fun a_4 M_3 hF => ?_)) (g_tx (0 + c_5) (0 + s_6) (Nat.le_refl _) (Nat.le_refl _) (fun E_ q_7 M_8 hF => ?_))
  · have hF := hF
    refine g_astore 13 hC (lv' := [(4, .ref _), (0, .ref _), (1, .int _), (2, .int _), (3, .int _)]) dX0_held_11 rfl (by decide) rfl ?_
    refine g_aload_n 14 hC dX0_held_13 rfl 1 rfl rfl ?_
    refine gf_X0_20_0N 17 hC hF dX0_held_14 rfl (fun a_12 hF => ?_)
    refine gf_X0_49_1N 20 hC hF dX0_held_17 rfl (fun a_13 hF => ?_)
    refine g_iload_n 21 hC dX0_held_20 rfl 2 rfl rfl ?_
    refine g_aaldN 22 hC hF (by decide) rfl (fun _ _ _ => rfl) dX0_held_21 rfl (fun a_14 hF => ?_)
    refine g_aload 24 hC dX0_held_22 rfl 0 rfl ?_
    refine g_iload_n 25 hC dX0_held_24 rfl 3 rfl rfl ?_
    obtain ⟨c_17, s_18, hu, hF⟩ := hF
    refine g_cV (rest := []) wl_X0_284 hd_X12_sums (ci := 12) rfl 28 hC hF.1 (met_X12_sums hF.2) rfl ⟨Nat.le_of_ble_eq_true rfl, Nat.le_of_ble_eq_true rfl⟩ hu rfl (Nat.le_of_ble_eq_true rfl) dX0_held_25 rfl (g_ty_j ((0 + c_5) + c_17) ((0 + s_6) + s_18) (Nat.le_refl _) (Nat.le_refl _) (fun j_16 M_15 hF => ?_))
    exact g_lreturn hC ⟨_, rfl, hF⟩ dX0_held_28 hu.1 hu.2
  · have hF := hF
    obtain ⟨hE_, hF⟩ := hF
    rw [hE_]
    refine g_catch hC hT [] ⟨0, 28, 29, 97⟩ [] rfl (fun _ h => absurd h List.not_mem_nil) rfl (by decide) q279 q305 29 rfl ?_
    refine g_astore 31 hC (lv' := [(4, .ref _), (0, .ref _), (1, .int _), (2, .int _), (3, .int _)]) dX0_held_29 rfl (by decide) rfl ?_
    refine g_aload_n 32 hC dX0_held_31 rfl 1 rfl rfl ?_
    refine g_aload 34 hC dX0_held_32 rfl 0 rfl ?_
    refine gf_X0_110_4I 37 hC hF dX0_held_34 rfl (fun x_9 hF => ?_)
    refine g_cV (rest := []) wl_X0_81 hd_X0_no (ci := 0) rfl 40 hC hF.1 (met_X0_no hF.2) rfl ⟨Nat.le_of_ble_eq_true rfl, Nat.le_of_ble_eq_true rfl⟩ hu rfl (Nat.le_of_ble_eq_true rfl) dX0_held_37 rfl (g_ty_i (0 + c_5) (0 + s_6) (Nat.le_refl _) (Nat.le_refl _) (fun x_11 M_10 hF => ?_))
    refine g_i2l 41 hC dX0_held_40 rfl ?_
    exact g_lreturn hC ⟨_, rfl, hF⟩ dX0_held_41 hu.1 hu.2
abbrev rm_X0_boxes (Lc Ls : Nat) : Room := { frames := 13, cells := Lc, slots := Ls, locals := 10384 }
def F_X0_boxes (Lc Ls : Nat) (M : gM) (a0 : Nat) (x1 : Int32) (x2 : Int32) (Q : Int64 → gM → Prop)  : Prop :=
  rc M 0 a0 ∧ F_X0_isHouse M a0 x1 fun x_2 M_1 =>
  ∃ c_5 s_6, (0 + c_5 ≤ Lc ∧ 0 + s_6 ≤ Ls) ∧
  rc M_1 0 a0 ∧ F_X0_ruleFor c_5 s_6 M_1 a0 x_2 x2 (fun a_4 M_3 =>
  gN M_3 0 a0 0 fun a_12 =>
    gN M_3 1 a_12 0 fun a_13 =>
    aN M_3 (.object "SendTheBox$House") a_13 x1 fun a_14 =>
    ∃ c_17 s_18, ((0 + c_5) + c_17 ≤ Lc ∧ (0 + s_6) + s_18 ≤ Ls) ∧
    rc M_3 12 a_14 ∧ F_X12_sums c_17 s_18 M_3 a_14 a_4 (-1 : Int32) fun j_16 M_15 =>
    Q j_16 M_15) (fun E_ q_7 M_8 =>
    (E_ = "SendTheBox$Refused" ∧
    gI M_8 4 q_7 6 fun x_9 =>
    rc M_8 0 a0 ∧ F_X0_no M_8 a0 x_9 fun x_11 M_10 =>
    Q x_11.toInt64 M_10))
theorem met_X0_boxes {M : gM} {a0 : Nat} {x1 : Int32} {x2 : Int32} {Q : Int64 → gM → Prop} {Lc Ls : Nat} (hF : F_X0_boxes Lc Ls M a0 x1 x2 Q) : gMx yX0_boxes (wsW_ yX0_boxes cX0_boxes 4 (some .long) [(0, 25, 26, 97)]) (rm_X0_boxes Lc Ls) M [.ref a0, .int x1, .int x2] (gQj Q) (fun _ _ _ => False) := by
  refine gMetH (bytes := cX0_boxes) (maxL := 4) (ret := (some .long)) (hh := [(0, 25, 26, 97)]) rfl rfl (by decide) (Nat.le_of_ble_eq_true rfl) (lv := [(0, .ref a0), (1, .int x1), (2, .int x2)]) rfl (fun G hC hT hin => ?_)
  have hu : 0 ≤ Lc ∧ 0 ≤ Ls := ⟨Nat.zero_le _, Nat.zero_le _⟩
  unfold F_X0_boxes at hF
  refine g_aload_n 1 hC dX0_boxes_0 rfl 0 rfl rfl ?_
  refine g_aload_n 2 hC dX0_boxes_1 rfl 0 rfl rfl ?_
  refine g_iload_n 3 hC dX0_boxes_2 rfl 1 rfl rfl ?_
  refine g_cV (rest := [_]) wl_X0_45 hd_X0_isHouse (ci := 0) rfl 6 hC hF.1 (met_X0_isHouse hF.2) rfl ⟨Nat.le_of_ble_eq_true rfl, Nat.le_of_ble_eq_true rfl⟩ hu rfl (Nat.le_of_ble_eq_true rfl) dX0_boxes_3 rfl (g_ty_i 0 0 (Nat.le_refl _) (Nat.le_refl _) (fun x_2 M_1 hF => ?_))
  refine g_iload_n 7 hC dX0_boxes_6 rfl 2 rfl rfl ?_
  obtain ⟨c_5, s_6, hu, hF⟩ := hF
  refine g_xV (rest := []) wl_X0_276 hd_X0_ruleFor (ci := 0) rfl 10 hC hF.1 (met_X0_ruleFor hF.2) rfl ⟨Nat.le_of_ble_eq_true rfl, Nat.le_of_ble_eq_true rfl⟩ hu rfl (Nat.le_of_ble_eq_true rfl) dX0_boxes_7 rfl (g_ty_a (0 + c_5) (0 + s_6) (Nat.le_refl _) (Nat.le_refl _) (fun a_4 M_3 hF => ?_)) (g_tx (0 + c_5) (0 + s_6) (Nat.le_refl _) (Nat.le_refl _) (fun E_ q_7 M_8 hF => ?_))
  · have hF := hF
    refine g_astore_n 11 hC (lv' := [(3, .ref _), (0, .ref _), (1, .int _), (2, .int _)]) dX0_boxes_10 rfl rfl (by decide) rfl ?_
    refine g_aload_n 12 hC dX0_boxes_11 rfl 1 rfl rfl ?_
    refine gf_X0_20_0N 15 hC hF dX0_boxes_12 rfl (fun a_12 hF => ?_)
    refine gf_X0_49_1N 18 hC hF dX0_boxes_15 rfl (fun a_13 hF => ?_)
    refine g_iload_n 19 hC dX0_boxes_18 rfl 2 rfl rfl ?_
    refine g_aaldN 20 hC hF (by decide) rfl (fun _ _ _ => rfl) dX0_boxes_19 rfl (fun a_14 hF => ?_)
    refine g_aload_n 21 hC dX0_boxes_20 rfl 0 rfl rfl ?_
    refine g_iconst 22 hC (-1 : Int32) dX0_boxes_21 (by decide) rfl ?_
    obtain ⟨c_17, s_18, hu, hF⟩ := hF
    refine g_cV (rest := []) wl_X0_284 hd_X12_sums (ci := 12) rfl 25 hC hF.1 (met_X12_sums hF.2) rfl ⟨Nat.le_of_ble_eq_true rfl, Nat.le_of_ble_eq_true rfl⟩ hu rfl (Nat.le_of_ble_eq_true rfl) dX0_boxes_22 rfl (g_ty_j ((0 + c_5) + c_17) ((0 + s_6) + s_18) (Nat.le_refl _) (Nat.le_refl _) (fun j_16 M_15 hF => ?_))
    exact g_lreturn hC ⟨_, rfl, hF⟩ dX0_boxes_25 hu.1 hu.2
  · have hF := hF
    obtain ⟨hE_, hF⟩ := hF
    rw [hE_]
    refine g_catch hC hT [] ⟨0, 25, 26, 97⟩ [] rfl (fun _ h => absurd h List.not_mem_nil) rfl (by decide) q279 q305 26 rfl ?_
    refine g_astore_n 27 hC (lv' := [(3, .ref _), (0, .ref _), (1, .int _), (2, .int _)]) dX0_boxes_26 rfl rfl (by decide) rfl ?_
    refine g_aload_n 28 hC dX0_boxes_27 rfl 1 rfl rfl ?_
    refine g_aload_n 29 hC dX0_boxes_28 rfl 0 rfl rfl ?_
    refine gf_X0_110_4I 32 hC hF dX0_boxes_29 rfl (fun x_9 hF => ?_)
    refine g_cV (rest := []) wl_X0_81 hd_X0_no (ci := 0) rfl 35 hC hF.1 (met_X0_no hF.2) rfl ⟨Nat.le_of_ble_eq_true rfl, Nat.le_of_ble_eq_true rfl⟩ hu rfl (Nat.le_of_ble_eq_true rfl) dX0_boxes_32 rfl (g_ty_i (0 + c_5) (0 + s_6) (Nat.le_refl _) (Nat.le_refl _) (fun x_11 M_10 hF => ?_))
    refine g_i2l 36 hC dX0_boxes_35 rfl ?_
    exact g_lreturn hC ⟨_, rfl, hF⟩ dX0_boxes_36 hu.1 hu.2
abbrev rm_X0_plain (Lc Ls : Nat) : Room := { frames := 12, cells := Lc, slots := Ls, locals := 10349 }
def F_X0_plain_b99 (Q : Int32 → gM → Prop)  (Lc Ls : Nat) (K47 : Int32 → Int64 → Int32 → Nat → Nat → gM → Prop) (a2 : Nat) (x3 : Int32) (j4 : Int64) (x6 : Int32) (x7 : Int32)  (u v : Nat) (M : gM) : Prop :=
  K47 x3 j4 (x7 + (1 : Int32)) u v M
theorem w_X0_plain_b99 {G : gG} {Q : Int32 → gM → Prop} {Lc Ls : Nat} (hC : gCx G cX0_plain 10 RX0 (some .int) (gQi Q) (rm_X0_plain Lc Ls)) (K47 : Int32 → Int64 → Int32 → Nat → Nat → gM → Prop) (a2 : Nat) (x3 : Int32) (j4 : Int64) (x6 : Int32) (x7 : Int32)  (hK47 : ∀ x3' j4' x7' u' v' (_ : u' ≤ Lc ∧ v' ≤ Ls) M', K47 x3' j4' x7' u' v' M' → gAt G u' v' M' [(2, .ref a2), (3, .int x3'), (4, .long j4'), (6, .int x6), (7, .int x7')] 47 []) (u v : Nat) (hu : u ≤ Lc ∧ v ≤ Ls) (M : gM) (hF : F_X0_plain_b99 Q Lc Ls K47 a2 x3 j4 x6 x7 u v M) : gAt G u v M [(2, .ref a2), (3, .int x3), (4, .long j4), (6, .int x6), (7, .int x7)] 99 [] := by
  unfold F_X0_plain_b99 at hF
  refine g_iinc 102 hC (x7 + (1 : Int32)) (lv' := [(7, .int _), (2, .ref _), (3, .int _), (4, .long _), (6, .int _)]) dX0_plain_99 rfl 4 rfl rfl (by decide) rfl ?_
  refine g_goto 47 hC dX0_plain_102 (by decide) ?_
  refine g_sub [1, 2, 3, 4, 0] rfl ?_
  exact hK47 _ _ _ _ _ hu _ hF
def F_X0_plain_b92 (Q : Int32 → gM → Prop)  (Lc Ls : Nat) (K47 : Int32 → Int64 → Int32 → Nat → Nat → gM → Prop) (a2 : Nat) (x6 : Int32) (x7 : Int32) (j8 : Int64)  (u v : Nat) (M : gM) : Prop :=
  F_X0_plain_b99 Q Lc Ls K47 a2 x7 j8 x6 x7 u v M
theorem w_X0_plain_b92 {G : gG} {Q : Int32 → gM → Prop} {Lc Ls : Nat} (hC : gCx G cX0_plain 10 RX0 (some .int) (gQi Q) (rm_X0_plain Lc Ls)) (K47 : Int32 → Int64 → Int32 → Nat → Nat → gM → Prop) (a2 : Nat) (x6 : Int32) (x7 : Int32) (j8 : Int64)  (hK47 : ∀ x3' j4' x7' u' v' (_ : u' ≤ Lc ∧ v' ≤ Ls) M', K47 x3' j4' x7' u' v' M' → gAt G u' v' M' [(2, .ref a2), (3, .int x3'), (4, .long j4'), (6, .int x6), (7, .int x7')] 47 []) (u v : Nat) (hu : u ≤ Lc ∧ v ≤ Ls) (M : gM) (hF : F_X0_plain_b92 Q Lc Ls K47 a2 x6 x7 j8 u v M) : gAt G u v M [(2, .ref a2), (6, .int x6), (7, .int x7), (8, .long j8)] 92 [] := by
  unfold F_X0_plain_b92 at hF
  refine g_lload 94 hC dX0_plain_92 rfl 3 rfl ?_
  refine g_lstore 96 hC (lv' := [(4, .long _), (2, .ref _), (6, .int _), (7, .int _), (8, .long _)]) dX0_plain_94 rfl (by decide) rfl ?_
  refine g_iload 98 hC dX0_plain_96 rfl 3 rfl ?_
  refine g_istore_n 99 hC (lv' := [(3, .int _), (4, .long _), (2, .ref _), (6, .int _), (7, .int _), (8, .long _)]) dX0_plain_98 rfl rfl (by decide) rfl ?_
  refine g_sub [2, 0, 1, 3, 4] rfl ?_
  exact w_X0_plain_b99 hC _ _ _ _ _ _ hK47 _ _ hu _ hF
def F_X0_plain_b47 (Q : Int32 → gM → Prop)  (Lc Ls : Nat)  (a2 : Nat) (x6 : Int32) : Nat → Int32 → Int64 → Int32 → Nat → Nat → gM → Prop
  | 0, _, _, _, _, _, _ => False
  | n + 1, x3, j4, x7, u, v, M =>
    (((if x6 < (99 : Int32) then x6 else (99 : Int32)) < x7 →
      Q x3 M) ∧
      (¬ (if x6 < (99 : Int32) then x6 else (99 : Int32)) < x7 →
      nO M u v Lc Ls 6 1 fun a_1 M_2 =>
      F_X6_init M_2 a_1 x7 fun M_3 =>
      gI M_3 12 a2 0 fun x_5 =>
      ∃ c_8 s_9, ((u + 1) + c_8 ≤ Lc ∧ (v + 1) + s_9 ≤ Ls) ∧
      rc M_3 12 a2 ∧ F_X12_mean c_8 s_9 M_3 a2 a_1 x_5 (0 : Int32) fun j_7 M_6 =>
      ((x3 = (-1 : Int32) →
        F_X0_plain_b92 Q Lc Ls (F_X0_plain_b47 Q Lc Ls a2 x6 n) a2 x6 x7 j_7 ((u + 1) + c_8) ((v + 1) + s_9) M_6) ∧
        (¬ x3 = (-1 : Int32) →
        ((j4 ≤ j_7 →
          F_X0_plain_b99 Q Lc Ls (F_X0_plain_b47 Q Lc Ls a2 x6 n) a2 x3 j4 x6 x7 ((u + 1) + c_8) ((v + 1) + s_9) M_6) ∧
          (¬ j4 ≤ j_7 →
          F_X0_plain_b92 Q Lc Ls (F_X0_plain_b47 Q Lc Ls a2 x6 n) a2 x6 x7 j_7 ((u + 1) + c_8) ((v + 1) + s_9) M_6))))))
theorem w_X0_plain_b47 {G : gG} {Q : Int32 → gM → Prop} {Lc Ls : Nat} (hC : gCx G cX0_plain 10 RX0 (some .int) (gQi Q) (rm_X0_plain Lc Ls))  (a2 : Nat) (x6 : Int32)  : ∀ (n : Nat) (x3 : Int32) (j4 : Int64) (x7 : Int32) (u v : Nat) (hu : u ≤ Lc ∧ v ≤ Ls) (M : gM), F_X0_plain_b47 Q Lc Ls a2 x6 n x3 j4 x7 u v M → gAt G u v M [(2, .ref a2), (3, .int x3), (4, .long j4), (6, .int x6), (7, .int x7)] 47 [] := by
  intro n
  induction n with
  | zero =>
    intro x3 j4 x7 u v hu M hF
    exact hF.elim
  | succ n ih =>
    intro x3 j4 x7 u v hu M hF
    have hK47 := ih
    unfold F_X0_plain_b47 at hF
    refine g_iload 49 hC dX0_plain_47 rfl 4 rfl ?_
    refine g_bipush 51 hC (99 : Int32) dX0_plain_49 (by decide) rfl ?_
    refine g_iload 53 hC dX0_plain_51 rfl 3 rfl ?_
    refine g_min 56 hC q1209 (Nat.le_of_ble_eq_true rfl) (Nat.le_of_ble_eq_true rfl) hu dX0_plain_53 rfl ?_
    refine g_icmp_gt 59 105 hC dX0_plain_56 (by decide) rfl (fun c => ?_) (fun c => ?_)
    · have hF := hF.1 c
      refine g_iload_n 106 hC dX0_plain_105 rfl 1 rfl rfl ?_
      exact g_ireturn hC ⟨_, rfl, hF⟩ dX0_plain_106 hu.1 hu.2
    · have hF := hF.2 c
      refine g_aload_n 60 hC dX0_plain_59 rfl 0 rfl rfl ?_
      have hu := hF.1
      refine g_new (C := RX6) (T := TX6) (N := 1) (ci := 6) in_X6 tyX6_ok (by decide) rfl q428 q429 q85 63 hC hF dX0_plain_60 rfl (fun a_1 M_2 hF => ?_)
      refine g_dup 64 hC dX0_plain_63 rfl rfl ?_
      refine g_iload 66 hC dX0_plain_64 rfl 4 rfl ?_
      refine g_cI (rest := [_, _]) q432 q85 q430 q431 rfl hd_X6_init 69 hC (met_X6_init hF) rfl ⟨Nat.le_of_ble_eq_true rfl, Nat.le_of_ble_eq_true rfl⟩ hu rfl (Nat.le_of_ble_eq_true rfl) dX0_plain_66 rfl (g_ty_v (u + 1) (v + 1) (Nat.le_refl _) (Nat.le_refl _) (fun M_3 hF => ?_))
      refine g_aload_n 70 hC dX0_plain_69 rfl 0 rfl rfl ?_
      refine gf_X0_62_12I 73 hC hF dX0_plain_70 rfl (fun x_5 hF => ?_)
      refine g_iconst 74 hC (0 : Int32) dX0_plain_73 (by decide) rfl ?_
      obtain ⟨c_8, s_9, hu, hF⟩ := hF
      refine g_cV (rest := []) wl_X0_260 hd_X12_mean (ci := 12) rfl 77 hC hF.1 (met_X12_mean hF.2) rfl ⟨Nat.le_of_ble_eq_true rfl, Nat.le_of_ble_eq_true rfl⟩ hu rfl (Nat.le_of_ble_eq_true rfl) dX0_plain_74 rfl (g_ty_j ((u + 1) + c_8) ((v + 1) + s_9) (Nat.le_refl _) (Nat.le_refl _) (fun j_7 M_6 hF => ?_))
      refine g_lstore 79 hC (lv' := [(8, .long _), (2, .ref _), (3, .int _), (4, .long _), (6, .int _), (7, .int _)]) dX0_plain_77 rfl (by decide) rfl ?_
      refine g_iload_n 80 hC dX0_plain_79 rfl 2 rfl rfl ?_
      refine g_iconst 81 hC (-1 : Int32) dX0_plain_80 (by decide) rfl ?_
      refine g_icmp_eq 84 92 hC dX0_plain_81 (by decide) rfl (fun c => ?_) (fun c => ?_)
      · have hF := hF.1 c
        refine g_sub [1, 4, 5, 0] rfl ?_
        exact w_X0_plain_b92 hC _ _ _ _ _ hK47 _ _ hu _ hF
      · have hF := hF.2 c
        refine g_lload 86 hC dX0_plain_84 rfl 0 rfl ?_
        refine g_lload 88 hC dX0_plain_86 rfl 3 rfl ?_
        refine g_lcmp_ge 92 99 hC dX0_plain_88 rfl dX0_plain_89 (by decide) rfl (fun c => ?_) (fun c => ?_)
        · have hF := hF.1 c
          refine g_sub [1, 2, 3, 4, 5] rfl ?_
          exact w_X0_plain_b99 hC _ _ _ _ _ _ hK47 _ _ hu _ hF
        · have hF := hF.2 c
          refine g_sub [1, 4, 5, 0] rfl ?_
          exact w_X0_plain_b92 hC _ _ _ _ _ hK47 _ _ hu _ hF
def F_X0_plain (Lc Ls : Nat) (M : gM) (a0 : Nat) (x1 : Int32) (Q : Int32 → gM → Prop)  : Prop :=
  rc M 0 a0 ∧ F_X0_isHouse M a0 x1 fun x_2 M_1 =>
  ((¬ x_2 = 0 →
    gN M_1 0 a0 0 fun a_3 =>
    gN M_1 1 a_3 0 fun a_4 =>
    aN M_1 (.object "SendTheBox$House") a_4 x1 fun a_5 =>
    rc M_1 12 a_5 ∧ F_X12_states M_1 a_5 fun x_7 M_6 =>
    rc M_6 12 a_5 ∧ F_X12_space M_6 a_5 (x_7 - (1 : Int32)) fun x_9 M_8 =>
    ∃ n_10, F_X0_plain_b47 Q Lc Ls a_5 (x_9 + (1 : Int32)) n_10 (-1 : Int32) (0 : Int64) (0 : Int32) 0 0 M_8) ∧
    (x_2 = 0 →
    rc M_1 0 a0 ∧ F_X0_no M_1 a0 (-2 : Int32) fun x_12 M_11 =>
    Q x_12 M_11))
theorem met_X0_plain {M : gM} {a0 : Nat} {x1 : Int32} {Q : Int32 → gM → Prop} {Lc Ls : Nat} (hF : F_X0_plain Lc Ls M a0 x1 Q) : gMt yX0_plain (ws_ yX0_plain cX0_plain 10 (some .int)) (rm_X0_plain Lc Ls) M [.ref a0, .int x1] (gQi Q) := by
  refine gMet (bytes := cX0_plain) (maxL := 10) (ret := (some .int)) rfl rfl (by decide) (Nat.le_of_ble_eq_true rfl) (lv := [(0, .ref a0), (1, .int x1)]) rfl (fun G hC hin => ?_)
  have hu : 0 ≤ Lc ∧ 0 ≤ Ls := ⟨Nat.zero_le _, Nat.zero_le _⟩
  unfold F_X0_plain at hF
  refine g_aload_n 1 hC dX0_plain_0 rfl 0 rfl rfl ?_
  refine g_iload_n 2 hC dX0_plain_1 rfl 1 rfl rfl ?_
  refine g_cV (rest := []) wl_X0_45 hd_X0_isHouse (ci := 0) rfl 5 hC hF.1 (met_X0_isHouse hF.2) rfl ⟨Nat.le_of_ble_eq_true rfl, Nat.le_of_ble_eq_true rfl⟩ hu rfl (Nat.le_of_ble_eq_true rfl) dX0_plain_2 rfl (g_ty_i 0 0 (Nat.le_refl _) (Nat.le_refl _) (fun x_2 M_1 hF => ?_))
  refine g_if_ne 8 15 hC dX0_plain_5 (by decide) rfl (fun c => ?_) (fun c => ?_)
  · have hF := hF.1 c
    refine g_aload_n 16 hC dX0_plain_15 rfl 0 rfl rfl ?_
    refine gf_X0_20_0N 19 hC hF dX0_plain_16 rfl (fun a_3 hF => ?_)
    refine gf_X0_49_1N 22 hC hF dX0_plain_19 rfl (fun a_4 hF => ?_)
    refine g_iload_n 23 hC dX0_plain_22 rfl 1 rfl rfl ?_
    refine g_aaldN 24 hC hF (by decide) rfl (fun _ _ _ => rfl) dX0_plain_23 rfl (fun a_5 hF => ?_)
    refine g_astore_n 25 hC (lv' := [(2, .ref _), (0, .ref _), (1, .int _)]) dX0_plain_24 rfl rfl (by decide) rfl ?_
    refine g_iconst 26 hC (-1 : Int32) dX0_plain_25 (by decide) rfl ?_
    refine g_istore_n 27 hC (lv' := [(3, .int _), (2, .ref _), (0, .ref _), (1, .int _)]) dX0_plain_26 rfl rfl (by decide) rfl ?_
    refine g_lconst 28 hC (0 : Int64) dX0_plain_27 (by decide) rfl ?_
    refine g_lstore 30 hC (lv' := [(4, .long _), (3, .int _), (2, .ref _), (0, .ref _), (1, .int _)]) dX0_plain_28 rfl (by decide) rfl ?_
    refine g_aload_n 31 hC dX0_plain_30 rfl 2 rfl rfl ?_
    refine g_aload_n 32 hC dX0_plain_31 rfl 2 rfl rfl ?_
    refine g_cV (rest := [_]) wl_X0_58 hd_X12_states (ci := 12) rfl 35 hC hF.1 (met_X12_states hF.2) rfl ⟨Nat.le_of_ble_eq_true rfl, Nat.le_of_ble_eq_true rfl⟩ hu rfl (Nat.le_of_ble_eq_true rfl) dX0_plain_32 rfl (g_ty_i 0 0 (Nat.le_refl _) (Nat.le_refl _) (fun x_7 M_6 hF => ?_))
    refine g_iconst 36 hC (1 : Int32) dX0_plain_35 (by decide) rfl ?_
    refine g_isub 37 hC dX0_plain_36 rfl ?_
    refine g_cV (rest := []) wl_X0_237 hd_X12_space (ci := 12) rfl 40 hC hF.1 (met_X12_space hF.2) rfl ⟨Nat.le_of_ble_eq_true rfl, Nat.le_of_ble_eq_true rfl⟩ hu rfl (Nat.le_of_ble_eq_true rfl) dX0_plain_37 rfl (g_ty_i 0 0 (Nat.le_refl _) (Nat.le_refl _) (fun x_9 M_8 hF => ?_))
    refine g_iconst 41 hC (1 : Int32) dX0_plain_40 (by decide) rfl ?_
    refine g_iadd 42 hC dX0_plain_41 rfl ?_
    refine g_istore 44 hC (lv' := [(6, .int _), (4, .long _), (3, .int _), (2, .ref _), (0, .ref _), (1, .int _)]) dX0_plain_42 rfl (by decide) rfl ?_
    refine g_iconst 45 hC (0 : Int32) dX0_plain_44 (by decide) rfl ?_
    refine g_istore 47 hC (lv' := [(7, .int _), (6, .int _), (4, .long _), (3, .int _), (2, .ref _), (0, .ref _), (1, .int _)]) dX0_plain_45 rfl (by decide) rfl ?_
    refine g_sub [4, 3, 2, 1, 0] rfl ?_
    obtain ⟨n_10, hF⟩ := hF
    exact w_X0_plain_b47 hC _ _ n_10 _ _ _ _ _ hu _ hF
  · have hF := hF.2 c
    refine g_aload_n 9 hC dX0_plain_8 rfl 0 rfl rfl ?_
    refine g_bipush 11 hC (-2 : Int32) dX0_plain_9 (by decide) rfl ?_
    refine g_cV (rest := []) wl_X0_81 hd_X0_no (ci := 0) rfl 14 hC hF.1 (met_X0_no hF.2) rfl ⟨Nat.le_of_ble_eq_true rfl, Nat.le_of_ble_eq_true rfl⟩ hu rfl (Nat.le_of_ble_eq_true rfl) dX0_plain_11 rfl (g_ty_i 0 0 (Nat.le_refl _) (Nat.le_refl _) (fun x_12 M_11 hF => ?_))
    exact g_ireturn hC ⟨_, rfl, hF⟩ dX0_plain_14 hu.1 hu.2
abbrev rm_X0_every (Lc Ls : Nat) : Room := { frames := 12, cells := Lc, slots := Ls, locals := 10349 }
def F_X0_every_b80 (Q : Int32 → gM → Prop)  (Lc Ls : Nat) (K33 : Int32 → Int64 → Int32 → Nat → Nat → gM → Prop) (a2 : Nat) (x3 : Int32) (j4 : Int64) (x6 : Int32)  (u v : Nat) (M : gM) : Prop :=
  K33 x3 j4 (x6 + (1 : Int32)) u v M
theorem w_X0_every_b80 {G : gG} {Q : Int32 → gM → Prop} {Lc Ls : Nat} (hC : gCx G cX0_every 9 RX0 (some .int) (gQi Q) (rm_X0_every Lc Ls)) (K33 : Int32 → Int64 → Int32 → Nat → Nat → gM → Prop) (a2 : Nat) (x3 : Int32) (j4 : Int64) (x6 : Int32)  (hK33 : ∀ x3' j4' x6' u' v' (_ : u' ≤ Lc ∧ v' ≤ Ls) M', K33 x3' j4' x6' u' v' M' → gAt G u' v' M' [(2, .ref a2), (3, .int x3'), (4, .long j4'), (6, .int x6')] 33 []) (u v : Nat) (hu : u ≤ Lc ∧ v ≤ Ls) (M : gM) (hF : F_X0_every_b80 Q Lc Ls K33 a2 x3 j4 x6 u v M) : gAt G u v M [(2, .ref a2), (3, .int x3), (4, .long j4), (6, .int x6)] 80 [] := by
  unfold F_X0_every_b80 at hF
  refine g_iinc 83 hC (x6 + (1 : Int32)) (lv' := [(6, .int _), (2, .ref _), (3, .int _), (4, .long _)]) dX0_every_80 rfl 3 rfl rfl (by decide) rfl ?_
  refine g_goto 33 hC dX0_every_83 (by decide) ?_
  refine g_sub [1, 2, 3, 0] rfl ?_
  exact hK33 _ _ _ _ _ hu _ hF
def F_X0_every_b73 (Q : Int32 → gM → Prop)  (Lc Ls : Nat) (K33 : Int32 → Int64 → Int32 → Nat → Nat → gM → Prop) (a2 : Nat) (x6 : Int32) (j7 : Int64)  (u v : Nat) (M : gM) : Prop :=
  F_X0_every_b80 Q Lc Ls K33 a2 x6 j7 x6 u v M
theorem w_X0_every_b73 {G : gG} {Q : Int32 → gM → Prop} {Lc Ls : Nat} (hC : gCx G cX0_every 9 RX0 (some .int) (gQi Q) (rm_X0_every Lc Ls)) (K33 : Int32 → Int64 → Int32 → Nat → Nat → gM → Prop) (a2 : Nat) (x6 : Int32) (j7 : Int64)  (hK33 : ∀ x3' j4' x6' u' v' (_ : u' ≤ Lc ∧ v' ≤ Ls) M', K33 x3' j4' x6' u' v' M' → gAt G u' v' M' [(2, .ref a2), (3, .int x3'), (4, .long j4'), (6, .int x6')] 33 []) (u v : Nat) (hu : u ≤ Lc ∧ v ≤ Ls) (M : gM) (hF : F_X0_every_b73 Q Lc Ls K33 a2 x6 j7 u v M) : gAt G u v M [(2, .ref a2), (6, .int x6), (7, .long j7)] 73 [] := by
  unfold F_X0_every_b73 at hF
  refine g_lload 75 hC dX0_every_73 rfl 2 rfl ?_
  refine g_lstore 77 hC (lv' := [(4, .long _), (2, .ref _), (6, .int _), (7, .long _)]) dX0_every_75 rfl (by decide) rfl ?_
  refine g_iload 79 hC dX0_every_77 rfl 2 rfl ?_
  refine g_istore_n 80 hC (lv' := [(3, .int _), (4, .long _), (2, .ref _), (6, .int _), (7, .long _)]) dX0_every_79 rfl rfl (by decide) rfl ?_
  refine g_sub [2, 0, 1, 3] rfl ?_
  exact w_X0_every_b80 hC _ _ _ _ _ hK33 _ _ hu _ hF
def F_X0_every_b33 (Q : Int32 → gM → Prop)  (Lc Ls : Nat)  (a2 : Nat) : Nat → Int32 → Int64 → Int32 → Nat → Nat → gM → Prop
  | 0, _, _, _, _, _, _ => False
  | n + 1, x3, j4, x6, u, v, M =>
    (((6 : Int32) < x6 →
      Q x3 M) ∧
      (¬ (6 : Int32) < x6 →
      nO M u v Lc Ls 7 1 fun a_1 M_2 =>
      F_X7_init M_2 a_1 x6 fun M_3 =>
      gI M_3 12 a2 0 fun x_5 =>
      ∃ c_8 s_9, ((u + 1) + c_8 ≤ Lc ∧ (v + 1) + s_9 ≤ Ls) ∧
      rc M_3 12 a2 ∧ F_X12_mean c_8 s_9 M_3 a2 a_1 x_5 (0 : Int32) fun j_7 M_6 =>
      ((x3 = (-1 : Int32) →
        F_X0_every_b73 Q Lc Ls (F_X0_every_b33 Q Lc Ls a2 n) a2 x6 j_7 ((u + 1) + c_8) ((v + 1) + s_9) M_6) ∧
        (¬ x3 = (-1 : Int32) →
        ((j4 ≤ j_7 →
          F_X0_every_b80 Q Lc Ls (F_X0_every_b33 Q Lc Ls a2 n) a2 x3 j4 x6 ((u + 1) + c_8) ((v + 1) + s_9) M_6) ∧
          (¬ j4 ≤ j_7 →
          F_X0_every_b73 Q Lc Ls (F_X0_every_b33 Q Lc Ls a2 n) a2 x6 j_7 ((u + 1) + c_8) ((v + 1) + s_9) M_6))))))
theorem w_X0_every_b33 {G : gG} {Q : Int32 → gM → Prop} {Lc Ls : Nat} (hC : gCx G cX0_every 9 RX0 (some .int) (gQi Q) (rm_X0_every Lc Ls))  (a2 : Nat)  : ∀ (n : Nat) (x3 : Int32) (j4 : Int64) (x6 : Int32) (u v : Nat) (hu : u ≤ Lc ∧ v ≤ Ls) (M : gM), F_X0_every_b33 Q Lc Ls a2 n x3 j4 x6 u v M → gAt G u v M [(2, .ref a2), (3, .int x3), (4, .long j4), (6, .int x6)] 33 [] := by
  intro n
  induction n with
  | zero =>
    intro x3 j4 x6 u v hu M hF
    exact hF.elim
  | succ n ih =>
    intro x3 j4 x6 u v hu M hF
    have hK33 := ih
    unfold F_X0_every_b33 at hF
    refine g_iload 35 hC dX0_every_33 rfl 3 rfl ?_
    refine g_bipush 37 hC (6 : Int32) dX0_every_35 (by decide) rfl ?_
    refine g_icmp_gt 40 86 hC dX0_every_37 (by decide) rfl (fun c => ?_) (fun c => ?_)
    · have hF := hF.1 c
      refine g_iload_n 87 hC dX0_every_86 rfl 1 rfl rfl ?_
      exact g_ireturn hC ⟨_, rfl, hF⟩ dX0_every_87 hu.1 hu.2
    · have hF := hF.2 c
      refine g_aload_n 41 hC dX0_every_40 rfl 0 rfl rfl ?_
      have hu := hF.1
      refine g_new (C := RX7) (T := TX7) (N := 1) (ci := 7) in_X7 tyX7_ok (by decide) rfl q442 q443 q86 44 hC hF dX0_every_41 rfl (fun a_1 M_2 hF => ?_)
      refine g_dup 45 hC dX0_every_44 rfl rfl ?_
      refine g_iload 47 hC dX0_every_45 rfl 3 rfl ?_
      refine g_cI (rest := [_, _]) q446 q86 q444 q445 rfl hd_X7_init 50 hC (met_X7_init hF) rfl ⟨Nat.le_of_ble_eq_true rfl, Nat.le_of_ble_eq_true rfl⟩ hu rfl (Nat.le_of_ble_eq_true rfl) dX0_every_47 rfl (g_ty_v (u + 1) (v + 1) (Nat.le_refl _) (Nat.le_refl _) (fun M_3 hF => ?_))
      refine g_aload_n 51 hC dX0_every_50 rfl 0 rfl rfl ?_
      refine gf_X0_62_12I 54 hC hF dX0_every_51 rfl (fun x_5 hF => ?_)
      refine g_iconst 55 hC (0 : Int32) dX0_every_54 (by decide) rfl ?_
      obtain ⟨c_8, s_9, hu, hF⟩ := hF
      refine g_cV (rest := []) wl_X0_260 hd_X12_mean (ci := 12) rfl 58 hC hF.1 (met_X12_mean hF.2) rfl ⟨Nat.le_of_ble_eq_true rfl, Nat.le_of_ble_eq_true rfl⟩ hu rfl (Nat.le_of_ble_eq_true rfl) dX0_every_55 rfl (g_ty_j ((u + 1) + c_8) ((v + 1) + s_9) (Nat.le_refl _) (Nat.le_refl _) (fun j_7 M_6 hF => ?_))
      refine g_lstore 60 hC (lv' := [(7, .long _), (2, .ref _), (3, .int _), (4, .long _), (6, .int _)]) dX0_every_58 rfl (by decide) rfl ?_
      refine g_iload_n 61 hC dX0_every_60 rfl 2 rfl rfl ?_
      refine g_iconst 62 hC (-1 : Int32) dX0_every_61 (by decide) rfl ?_
      refine g_icmp_eq 65 73 hC dX0_every_62 (by decide) rfl (fun c => ?_) (fun c => ?_)
      · have hF := hF.1 c
        refine g_sub [1, 4, 0] rfl ?_
        exact w_X0_every_b73 hC _ _ _ _ hK33 _ _ hu _ hF
      · have hF := hF.2 c
        refine g_lload 67 hC dX0_every_65 rfl 0 rfl ?_
        refine g_lload 69 hC dX0_every_67 rfl 3 rfl ?_
        refine g_lcmp_ge 73 80 hC dX0_every_69 rfl dX0_every_70 (by decide) rfl (fun c => ?_) (fun c => ?_)
        · have hF := hF.1 c
          refine g_sub [1, 2, 3, 4] rfl ?_
          exact w_X0_every_b80 hC _ _ _ _ _ hK33 _ _ hu _ hF
        · have hF := hF.2 c
          refine g_sub [1, 4, 0] rfl ?_
          exact w_X0_every_b73 hC _ _ _ _ hK33 _ _ hu _ hF
def F_X0_every (Lc Ls : Nat) (M : gM) (a0 : Nat) (x1 : Int32) (Q : Int32 → gM → Prop)  : Prop :=
  rc M 0 a0 ∧ F_X0_isHouse M a0 x1 fun x_2 M_1 =>
  ((¬ x_2 = 0 →
    gN M_1 0 a0 0 fun a_3 =>
    gN M_1 1 a_3 0 fun a_4 =>
    aN M_1 (.object "SendTheBox$House") a_4 x1 fun a_5 =>
    ∃ n_6, F_X0_every_b33 Q Lc Ls a_5 n_6 (-1 : Int32) (0 : Int64) (1 : Int32) 0 0 M_1) ∧
    (x_2 = 0 →
    rc M_1 0 a0 ∧ F_X0_no M_1 a0 (-2 : Int32) fun x_8 M_7 =>
    Q x_8 M_7))
theorem met_X0_every {M : gM} {a0 : Nat} {x1 : Int32} {Q : Int32 → gM → Prop} {Lc Ls : Nat} (hF : F_X0_every Lc Ls M a0 x1 Q) : gMt yX0_every (ws_ yX0_every cX0_every 9 (some .int)) (rm_X0_every Lc Ls) M [.ref a0, .int x1] (gQi Q) := by
  refine gMet (bytes := cX0_every) (maxL := 9) (ret := (some .int)) rfl rfl (by decide) (Nat.le_of_ble_eq_true rfl) (lv := [(0, .ref a0), (1, .int x1)]) rfl (fun G hC hin => ?_)
  have hu : 0 ≤ Lc ∧ 0 ≤ Ls := ⟨Nat.zero_le _, Nat.zero_le _⟩
  unfold F_X0_every at hF
  refine g_aload_n 1 hC dX0_every_0 rfl 0 rfl rfl ?_
  refine g_iload_n 2 hC dX0_every_1 rfl 1 rfl rfl ?_
  refine g_cV (rest := []) wl_X0_45 hd_X0_isHouse (ci := 0) rfl 5 hC hF.1 (met_X0_isHouse hF.2) rfl ⟨Nat.le_of_ble_eq_true rfl, Nat.le_of_ble_eq_true rfl⟩ hu rfl (Nat.le_of_ble_eq_true rfl) dX0_every_2 rfl (g_ty_i 0 0 (Nat.le_refl _) (Nat.le_refl _) (fun x_2 M_1 hF => ?_))
  refine g_if_ne 8 15 hC dX0_every_5 (by decide) rfl (fun c => ?_) (fun c => ?_)
  · have hF := hF.1 c
    refine g_aload_n 16 hC dX0_every_15 rfl 0 rfl rfl ?_
    refine gf_X0_20_0N 19 hC hF dX0_every_16 rfl (fun a_3 hF => ?_)
    refine gf_X0_49_1N 22 hC hF dX0_every_19 rfl (fun a_4 hF => ?_)
    refine g_iload_n 23 hC dX0_every_22 rfl 1 rfl rfl ?_
    refine g_aaldN 24 hC hF (by decide) rfl (fun _ _ _ => rfl) dX0_every_23 rfl (fun a_5 hF => ?_)
    refine g_astore_n 25 hC (lv' := [(2, .ref _), (0, .ref _), (1, .int _)]) dX0_every_24 rfl rfl (by decide) rfl ?_
    refine g_iconst 26 hC (-1 : Int32) dX0_every_25 (by decide) rfl ?_
    refine g_istore_n 27 hC (lv' := [(3, .int _), (2, .ref _), (0, .ref _), (1, .int _)]) dX0_every_26 rfl rfl (by decide) rfl ?_
    refine g_lconst 28 hC (0 : Int64) dX0_every_27 (by decide) rfl ?_
    refine g_lstore 30 hC (lv' := [(4, .long _), (3, .int _), (2, .ref _), (0, .ref _), (1, .int _)]) dX0_every_28 rfl (by decide) rfl ?_
    refine g_iconst 31 hC (1 : Int32) dX0_every_30 (by decide) rfl ?_
    refine g_istore 33 hC (lv' := [(6, .int _), (4, .long _), (3, .int _), (2, .ref _), (0, .ref _), (1, .int _)]) dX0_every_31 rfl (by decide) rfl ?_
    refine g_sub [3, 2, 1, 0] rfl ?_
    obtain ⟨n_6, hF⟩ := hF
    exact w_X0_every_b33 hC _ n_6 _ _ _ _ _ hu _ hF
  · have hF := hF.2 c
    refine g_aload_n 9 hC dX0_every_8 rfl 0 rfl rfl ?_
    refine g_bipush 11 hC (-2 : Int32) dX0_every_9 (by decide) rfl ?_
    refine g_cV (rest := []) wl_X0_81 hd_X0_no (ci := 0) rfl 14 hC hF.1 (met_X0_no hF.2) rfl ⟨Nat.le_of_ble_eq_true rfl, Nat.le_of_ble_eq_true rfl⟩ hu rfl (Nat.le_of_ble_eq_true rfl) dX0_every_11 rfl (g_ty_i 0 0 (Nat.le_refl _) (Nat.le_refl _) (fun x_8 M_7 hF => ?_))
    exact g_ireturn hC ⟨_, rfl, hF⟩ dX0_every_14 hu.1 hu.2
theorem hd_X12_promised : yX12_promised.cls = RX12 ∧ yX12_promised.cls ≠ "java/lang/invoke/MethodHandle" ∧ yX12_promised.cls ≠ "java/lang/invoke/VarHandle" ∧ (parseMethodDescriptor yX12_promised.desc).map (fun d => d.parameters.length) = some 1 := by decide +kernel
theorem wl_X0_293 : GoodIn lw_all (wsV RX0 293 RX12 yX12_promised (ws_ yX12_promised cX12_promised 5 (some .long))) := lw_V q1218 q1219 q1220 q92 q1221
abbrev rm_X0_promise (Lc Ls : Nat) : Room := { frames := 7, cells := Lc, slots := Ls, locals := 158 }
def F_X0_promise (Lc Ls : Nat) (M : gM) (a0 : Nat) (x1 : Int32) (x2 : Int32) (Q : Int64 → gM → Prop)  : Prop :=
  rc M 0 a0 ∧ F_X0_isLeft M a0 x1 (1 : Int32) x2 fun x_2 M_1 =>
  ((¬ x_2 = 0 →
    gN M_1 0 a0 0 fun a_3 =>
    gN M_1 1 a_3 0 fun a_4 =>
    aN M_1 (.object "SendTheBox$House") a_4 x1 fun a_5 =>
    ∃ c_8 s_9, (0 + c_8 ≤ Lc ∧ 0 + s_9 ≤ Ls) ∧
    rc M_1 12 a_5 ∧ F_X12_promised c_8 s_9 M_1 a_5 x2 fun j_7 M_6 =>
    gI M_6 12 a_5 0 fun x_10 =>
    ∃ c_13 s_14, ((0 + c_8) + c_13 ≤ Lc ∧ (0 + s_9) + s_14 ≤ Ls) ∧
    rc M_6 12 a_5 ∧ F_X12_cost c_13 s_14 M_6 a_5 x_10 (0 : Int32) fun j_12 M_11 =>
    Q (j_7 - j_12) M_11) ∧
    (x_2 = 0 →
    rc M_1 0 a0 ∧ F_X0_no M_1 a0 (-2 : Int32) fun x_16 M_15 =>
    Q x_16.toInt64 M_15))
theorem met_X0_promise {M : gM} {a0 : Nat} {x1 : Int32} {x2 : Int32} {Q : Int64 → gM → Prop} {Lc Ls : Nat} (hF : F_X0_promise Lc Ls M a0 x1 x2 Q) : gMt yX0_promise (ws_ yX0_promise cX0_promise 4 (some .long)) (rm_X0_promise Lc Ls) M [.ref a0, .int x1, .int x2] (gQj Q) := by
  refine gMet (bytes := cX0_promise) (maxL := 4) (ret := (some .long)) rfl rfl (by decide) (Nat.le_of_ble_eq_true rfl) (lv := [(0, .ref a0), (1, .int x1), (2, .int x2)]) rfl (fun G hC hin => ?_)
  have hu : 0 ≤ Lc ∧ 0 ≤ Ls := ⟨Nat.zero_le _, Nat.zero_le _⟩
  unfold F_X0_promise at hF
  refine g_aload_n 1 hC dX0_promise_0 rfl 0 rfl rfl ?_
  refine g_iload_n 2 hC dX0_promise_1 rfl 1 rfl rfl ?_
  refine g_iconst 3 hC (1 : Int32) dX0_promise_2 (by decide) rfl ?_
  refine g_iload_n 4 hC dX0_promise_3 rfl 2 rfl rfl ?_
  refine g_cV (rest := []) wl_X0_239 hd_X0_isLeft (ci := 0) rfl 7 hC hF.1 (met_X0_isLeft hF.2) rfl ⟨Nat.le_of_ble_eq_true rfl, Nat.le_of_ble_eq_true rfl⟩ hu rfl (Nat.le_of_ble_eq_true rfl) dX0_promise_4 rfl (g_ty_i 0 0 (Nat.le_refl _) (Nat.le_refl _) (fun x_2 M_1 hF => ?_))
  refine g_if_ne 10 18 hC dX0_promise_7 (by decide) rfl (fun c => ?_) (fun c => ?_)
  · have hF := hF.1 c
    refine g_aload_n 19 hC dX0_promise_18 rfl 0 rfl rfl ?_
    refine gf_X0_20_0N 22 hC hF dX0_promise_19 rfl (fun a_3 hF => ?_)
    refine gf_X0_49_1N 25 hC hF dX0_promise_22 rfl (fun a_4 hF => ?_)
    refine g_iload_n 26 hC dX0_promise_25 rfl 1 rfl rfl ?_
    refine g_aaldN 27 hC hF (by decide) rfl (fun _ _ _ => rfl) dX0_promise_26 rfl (fun a_5 hF => ?_)
    refine g_astore_n 28 hC (lv' := [(3, .ref _), (0, .ref _), (1, .int _), (2, .int _)]) dX0_promise_27 rfl rfl (by decide) rfl ?_
    refine g_aload_n 29 hC dX0_promise_28 rfl 0 rfl rfl ?_
    refine g_iload_n 30 hC dX0_promise_29 rfl 3 rfl rfl ?_
    obtain ⟨c_8, s_9, hu, hF⟩ := hF
    refine g_cV (rest := []) wl_X0_293 hd_X12_promised (ci := 12) rfl 33 hC hF.1 (met_X12_promised hF.2) rfl ⟨Nat.le_of_ble_eq_true rfl, Nat.le_of_ble_eq_true rfl⟩ hu rfl (Nat.le_of_ble_eq_true rfl) dX0_promise_30 rfl (g_ty_j (0 + c_8) (0 + s_9) (Nat.le_refl _) (Nat.le_refl _) (fun j_7 M_6 hF => ?_))
    refine g_aload_n 34 hC dX0_promise_33 rfl 0 rfl rfl ?_
    refine g_aload_n 35 hC dX0_promise_34 rfl 0 rfl rfl ?_
    refine gf_X0_62_12I 38 hC hF dX0_promise_35 rfl (fun x_10 hF => ?_)
    refine g_iconst 39 hC (0 : Int32) dX0_promise_38 (by decide) rfl ?_
    obtain ⟨c_13, s_14, hu, hF⟩ := hF
    refine g_cV (rest := [_]) wl_X0_246 hd_X12_cost (ci := 12) rfl 42 hC hF.1 (met_X12_cost hF.2) rfl ⟨Nat.le_of_ble_eq_true rfl, Nat.le_of_ble_eq_true rfl⟩ hu rfl (Nat.le_of_ble_eq_true rfl) dX0_promise_39 rfl (g_ty_j ((0 + c_8) + c_13) ((0 + s_9) + s_14) (Nat.le_refl _) (Nat.le_refl _) (fun j_12 M_11 hF => ?_))
    refine g_lsub 43 hC dX0_promise_42 rfl ?_
    exact g_lreturn hC ⟨_, rfl, hF⟩ dX0_promise_43 hu.1 hu.2
  · have hF := hF.2 c
    refine g_aload_n 11 hC dX0_promise_10 rfl 0 rfl rfl ?_
    refine g_bipush 13 hC (-2 : Int32) dX0_promise_11 (by decide) rfl ?_
    refine g_cV (rest := []) wl_X0_81 hd_X0_no (ci := 0) rfl 16 hC hF.1 (met_X0_no hF.2) rfl ⟨Nat.le_of_ble_eq_true rfl, Nat.le_of_ble_eq_true rfl⟩ hu rfl (Nat.le_of_ble_eq_true rfl) dX0_promise_13 rfl (g_ty_i 0 0 (Nat.le_refl _) (Nat.le_refl _) (fun x_16 M_15 hF => ?_))
    refine g_i2l 17 hC dX0_promise_16 rfl ?_
    exact g_lreturn hC ⟨_, rfl, hF⟩ dX0_promise_17 hu.1 hu.2
abbrev rm_X0_firstRoom (Lc Ls : Nat) : Room := { frames := 7, cells := Lc, slots := Ls, locals := 158 }
def F_X0_firstRoom_b44 (Q : Int32 → gM → Prop)  (Lc Ls : Nat) (K4 : Int32 → Int32 → Nat → Nat → gM → Prop) (a0 : Nat) (x1 : Int32) (x2 : Int32) (x3 : Int32)  (u v : Nat) (M : gM) : Prop :=
  K4 x2 (x3 + (1 : Int32)) u v M
theorem w_X0_firstRoom_b44 {G : gG} {Q : Int32 → gM → Prop} {Lc Ls : Nat} (hC : gCx G cX0_firstRoom 4 RX0 (some .int) (gQi Q) (rm_X0_firstRoom Lc Ls)) (K4 : Int32 → Int32 → Nat → Nat → gM → Prop) (a0 : Nat) (x1 : Int32) (x2 : Int32) (x3 : Int32)  (hK4 : ∀ x2' x3' u' v' (_ : u' ≤ Lc ∧ v' ≤ Ls) M', K4 x2' x3' u' v' M' → gAt G u' v' M' [(0, .ref a0), (1, .int x1), (2, .int x2'), (3, .int x3')] 4 []) (u v : Nat) (hu : u ≤ Lc ∧ v ≤ Ls) (M : gM) (hF : F_X0_firstRoom_b44 Q Lc Ls K4 a0 x1 x2 x3 u v M) : gAt G u v M [(0, .ref a0), (1, .int x1), (2, .int x2), (3, .int x3)] 44 [] := by
  unfold F_X0_firstRoom_b44 at hF
  refine g_iinc 47 hC (x3 + (1 : Int32)) (lv' := [(3, .int _), (0, .ref _), (1, .int _), (2, .int _)]) dX0_firstRoom_44 rfl 3 rfl rfl (by decide) rfl ?_
  refine g_goto 4 hC dX0_firstRoom_47 (by decide) ?_
  refine g_sub [1, 2, 3, 0] rfl ?_
  exact hK4 _ _ _ _ hu _ hF
def F_X0_firstRoom_b43 (Q : Int32 → gM → Prop)  (Lc Ls : Nat) (K4 : Int32 → Int32 → Nat → Nat → gM → Prop) (a0 : Nat) (x1 : Int32) (x3 : Int32) (t0 : Int32) (u v : Nat) (M : gM) : Prop :=
  F_X0_firstRoom_b44 Q Lc Ls K4 a0 x1 t0 x3 u v M
theorem w_X0_firstRoom_b43 {G : gG} {Q : Int32 → gM → Prop} {Lc Ls : Nat} (hC : gCx G cX0_firstRoom 4 RX0 (some .int) (gQi Q) (rm_X0_firstRoom Lc Ls)) (K4 : Int32 → Int32 → Nat → Nat → gM → Prop) (a0 : Nat) (x1 : Int32) (x3 : Int32) (t0 : Int32) (hK4 : ∀ x2' x3' u' v' (_ : u' ≤ Lc ∧ v' ≤ Ls) M', K4 x2' x3' u' v' M' → gAt G u' v' M' [(0, .ref a0), (1, .int x1), (2, .int x2'), (3, .int x3')] 4 []) (u v : Nat) (hu : u ≤ Lc ∧ v ≤ Ls) (M : gM) (hF : F_X0_firstRoom_b43 Q Lc Ls K4 a0 x1 x3 t0 u v M) : gAt G u v M [(0, .ref a0), (1, .int x1), (3, .int x3)] 43 [.int t0] := by
  unfold F_X0_firstRoom_b43 at hF
  refine g_istore_n 44 hC (lv' := [(2, .int _), (0, .ref _), (1, .int _), (3, .int _)]) dX0_firstRoom_43 rfl rfl (by decide) rfl ?_
  refine g_sub [1, 2, 0, 3] rfl ?_
  exact w_X0_firstRoom_b44 hC _ _ _ _ _ hK4 _ _ hu _ hF
def F_X0_firstRoom_b4 (Q : Int32 → gM → Prop)  (Lc Ls : Nat)  (a0 : Nat) (x1 : Int32) : Nat → Int32 → Int32 → Nat → Nat → gM → Prop
  | 0, _, _, _, _, _ => False
  | n + 1, x2, x3, u, v, M =>
    rc M 12 a0 ∧ F_X12_states M a0 fun x_2 M_1 =>
    ((x_2 ≤ x3 →
      Q x2 M_1) ∧
      (¬ x_2 ≤ x3 →
      ∃ c_5 s_6, (u + c_5 ≤ Lc ∧ v + s_6 ≤ Ls) ∧
      rc M_1 12 a0 ∧ F_X12_best c_5 s_6 M_1 a0 x1 x3 fun x_4 M_3 =>
      ((x_4 = 0 →
        F_X0_firstRoom_b44 Q Lc Ls (F_X0_firstRoom_b4 Q Lc Ls a0 x1 n) a0 x1 x2 x3 (u + c_5) (v + s_6) M_3) ∧
        (¬ x_4 = 0 →
        ((¬ x2 = (-1 : Int32) →
          rc M_3 12 a0 ∧ F_X12_space M_3 a0 x3 fun x_8 M_7 =>
          F_X0_firstRoom_b43 Q Lc Ls (F_X0_firstRoom_b4 Q Lc Ls a0 x1 n) a0 x1 x3 (if x_8 < x2 then x_8 else x2) (u + c_5) (v + s_6) M_7) ∧
          (x2 = (-1 : Int32) →
          rc M_3 12 a0 ∧ F_X12_space M_3 a0 x3 fun x_10 M_9 =>
          F_X0_firstRoom_b43 Q Lc Ls (F_X0_firstRoom_b4 Q Lc Ls a0 x1 n) a0 x1 x3 x_10 (u + c_5) (v + s_6) M_9))))))
theorem w_X0_firstRoom_b4 {G : gG} {Q : Int32 → gM → Prop} {Lc Ls : Nat} (hC : gCx G cX0_firstRoom 4 RX0 (some .int) (gQi Q) (rm_X0_firstRoom Lc Ls))  (a0 : Nat) (x1 : Int32)  : ∀ (n : Nat) (x2 : Int32) (x3 : Int32) (u v : Nat) (hu : u ≤ Lc ∧ v ≤ Ls) (M : gM), F_X0_firstRoom_b4 Q Lc Ls a0 x1 n x2 x3 u v M → gAt G u v M [(0, .ref a0), (1, .int x1), (2, .int x2), (3, .int x3)] 4 [] := by
  intro n
  induction n with
  | zero =>
    intro x2 x3 u v hu M hF
    exact hF.elim
  | succ n ih =>
    intro x2 x3 u v hu M hF
    have hK4 := ih
    unfold F_X0_firstRoom_b4 at hF
    refine g_iload_n 5 hC dX0_firstRoom_4 rfl 3 rfl rfl ?_
    refine g_aload_n 6 hC dX0_firstRoom_5 rfl 0 rfl rfl ?_
    refine g_cV (rest := [_]) wl_X0_58 hd_X12_states (ci := 12) rfl 9 hC hF.1 (met_X12_states hF.2) rfl ⟨Nat.le_of_ble_eq_true rfl, Nat.le_of_ble_eq_true rfl⟩ hu rfl (Nat.le_of_ble_eq_true rfl) dX0_firstRoom_6 rfl (g_ty_i u v (Nat.le_refl _) (Nat.le_refl _) (fun x_2 M_1 hF => ?_))
    refine g_icmp_ge 12 50 hC dX0_firstRoom_9 (by decide) rfl (fun c => ?_) (fun c => ?_)
    · have hF := hF.1 c
      refine g_iload_n 51 hC dX0_firstRoom_50 rfl 2 rfl rfl ?_
      exact g_ireturn hC ⟨_, rfl, hF⟩ dX0_firstRoom_51 hu.1 hu.2
    · have hF := hF.2 c
      refine g_aload_n 13 hC dX0_firstRoom_12 rfl 0 rfl rfl ?_
      refine g_iload_n 14 hC dX0_firstRoom_13 rfl 1 rfl rfl ?_
      refine g_iload_n 15 hC dX0_firstRoom_14 rfl 3 rfl rfl ?_
      obtain ⟨c_5, s_6, hu, hF⟩ := hF
      refine g_cV (rest := []) wl_X0_250 hd_X12_best (ci := 12) rfl 18 hC hF.1 (met_X12_best hF.2) rfl ⟨Nat.le_of_ble_eq_true rfl, Nat.le_of_ble_eq_true rfl⟩ hu rfl (Nat.le_of_ble_eq_true rfl) dX0_firstRoom_15 rfl (g_ty_i (u + c_5) (v + s_6) (Nat.le_refl _) (Nat.le_refl _) (fun x_4 M_3 hF => ?_))
      refine g_if_eq 21 44 hC dX0_firstRoom_18 (by decide) rfl (fun c => ?_) (fun c => ?_)
      · have hF := hF.1 c
        exact w_X0_firstRoom_b44 hC _ _ _ _ _ hK4 _ _ hu _ hF
      · have hF := hF.2 c
        refine g_iload_n 22 hC dX0_firstRoom_21 rfl 2 rfl rfl ?_
        refine g_iconst 23 hC (-1 : Int32) dX0_firstRoom_22 (by decide) rfl ?_
        refine g_icmp_ne 26 34 hC dX0_firstRoom_23 (by decide) rfl (fun c => ?_) (fun c => ?_)
        · have hF := hF.1 c
          refine g_iload_n 35 hC dX0_firstRoom_34 rfl 2 rfl rfl ?_
          refine g_aload_n 36 hC dX0_firstRoom_35 rfl 0 rfl rfl ?_
          refine g_iload_n 37 hC dX0_firstRoom_36 rfl 3 rfl rfl ?_
          refine g_cV (rest := [_]) wl_X0_237 hd_X12_space (ci := 12) rfl 40 hC hF.1 (met_X12_space hF.2) rfl ⟨Nat.le_of_ble_eq_true rfl, Nat.le_of_ble_eq_true rfl⟩ hu rfl (Nat.le_of_ble_eq_true rfl) dX0_firstRoom_37 rfl (g_ty_i (u + c_5) (v + s_6) (Nat.le_refl _) (Nat.le_refl _) (fun x_8 M_7 hF => ?_))
          refine g_min 43 hC q1209 (Nat.le_of_ble_eq_true rfl) (Nat.le_of_ble_eq_true rfl) hu dX0_firstRoom_40 rfl ?_
          refine g_sub [0, 1, 3] rfl ?_
          exact w_X0_firstRoom_b43 hC _ _ _ _ _ hK4 _ _ hu _ hF
        · have hF := hF.2 c
          refine g_aload_n 27 hC dX0_firstRoom_26 rfl 0 rfl rfl ?_
          refine g_iload_n 28 hC dX0_firstRoom_27 rfl 3 rfl rfl ?_
          refine g_cV (rest := []) wl_X0_237 hd_X12_space (ci := 12) rfl 31 hC hF.1 (met_X12_space hF.2) rfl ⟨Nat.le_of_ble_eq_true rfl, Nat.le_of_ble_eq_true rfl⟩ hu rfl (Nat.le_of_ble_eq_true rfl) dX0_firstRoom_28 rfl (g_ty_i (u + c_5) (v + s_6) (Nat.le_refl _) (Nat.le_refl _) (fun x_10 M_9 hF => ?_))
          refine g_goto 43 hC dX0_firstRoom_31 (by decide) ?_
          refine g_sub [0, 1, 3] rfl ?_
          exact w_X0_firstRoom_b43 hC _ _ _ _ _ hK4 _ _ hu _ hF
def F_X0_firstRoom (Lc Ls : Nat) (M : gM) (a0 : Nat) (x1 : Int32) (Q : Int32 → gM → Prop)  : Prop :=
  ∃ n_1, F_X0_firstRoom_b4 Q Lc Ls a0 x1 n_1 (-1 : Int32) (0 : Int32) 0 0 M
theorem met_X0_firstRoom {M : gM} {a0 : Nat} {x1 : Int32} {Q : Int32 → gM → Prop} {Lc Ls : Nat} (hF : F_X0_firstRoom Lc Ls M a0 x1 Q) : gMt yX0_firstRoom (ws_ yX0_firstRoom cX0_firstRoom 4 (some .int)) (rm_X0_firstRoom Lc Ls) M [.ref a0, .int x1] (gQi Q) := by
  refine gMet (bytes := cX0_firstRoom) (maxL := 4) (ret := (some .int)) rfl rfl (by decide) (Nat.le_of_ble_eq_true rfl) (lv := [(0, .ref a0), (1, .int x1)]) rfl (fun G hC hin => ?_)
  have hu : 0 ≤ Lc ∧ 0 ≤ Ls := ⟨Nat.zero_le _, Nat.zero_le _⟩
  unfold F_X0_firstRoom at hF
  refine g_iconst 1 hC (-1 : Int32) dX0_firstRoom_0 (by decide) rfl ?_
  refine g_istore_n 2 hC (lv' := [(2, .int _), (0, .ref _), (1, .int _)]) dX0_firstRoom_1 rfl rfl (by decide) rfl ?_
  refine g_iconst 3 hC (0 : Int32) dX0_firstRoom_2 (by decide) rfl ?_
  refine g_istore_n 4 hC (lv' := [(3, .int _), (2, .int _), (0, .ref _), (1, .int _)]) dX0_firstRoom_3 rfl rfl (by decide) rfl ?_
  refine g_sub [2, 3, 1, 0] rfl ?_
  obtain ⟨n_1, hF⟩ := hF
  exact w_X0_firstRoom_b4 hC _ _ n_1 _ _ _ _ hu _ hF
abbrev rm_X0_odd (Lc Ls : Nat) : Room := { frames := 7, cells := Lc, slots := Ls, locals := 158 }
def F_X0_odd_b38 (Q : Int32 → gM → Prop)  (Lc Ls : Nat) (K2 : Int32 → Nat → Nat → gM → Prop) (a0 : Nat) (x1 : Int32) (x2 : Int32) (x3 : Int32) (t0 : Int32) (t1 : Int32) (u v : Nat) (M : gM) : Prop :=
  ((t0 = t1 →
    K2 (x3 + (1 : Int32)) u v M) ∧
    (¬ t0 = t1 →
    Q x3 M))
theorem w_X0_odd_b38 {G : gG} {Q : Int32 → gM → Prop} {Lc Ls : Nat} (hC : gCx G cX0_odd 4 RX0 (some .int) (gQi Q) (rm_X0_odd Lc Ls)) (K2 : Int32 → Nat → Nat → gM → Prop) (a0 : Nat) (x1 : Int32) (x2 : Int32) (x3 : Int32) (t0 : Int32) (t1 : Int32) (hK2 : ∀ x3' u' v' (_ : u' ≤ Lc ∧ v' ≤ Ls) M', K2 x3' u' v' M' → gAt G u' v' M' [(0, .ref a0), (1, .int x1), (2, .int x2), (3, .int x3')] 2 []) (u v : Nat) (hu : u ≤ Lc ∧ v ≤ Ls) (M : gM) (hF : F_X0_odd_b38 Q Lc Ls K2 a0 x1 x2 x3 t0 t1 u v M) : gAt G u v M [(0, .ref a0), (1, .int x1), (2, .int x2), (3, .int x3)] 38 [.int t1, .int t0] := by
  unfold F_X0_odd_b38 at hF
  refine g_icmp_eq 41 43 hC dX0_odd_38 (by decide) rfl (fun c => ?_) (fun c => ?_)
  · have hF := hF.1 c
    refine g_iinc 46 hC (x3 + (1 : Int32)) (lv' := [(3, .int _), (0, .ref _), (1, .int _), (2, .int _)]) dX0_odd_43 rfl 3 rfl rfl (by decide) rfl ?_
    refine g_goto 2 hC dX0_odd_46 (by decide) ?_
    refine g_sub [1, 2, 3, 0] rfl ?_
    exact hK2 _ _ _ hu _ hF
  · have hF := hF.2 c
    refine g_iload_n 42 hC dX0_odd_41 rfl 3 rfl rfl ?_
    exact g_ireturn hC ⟨_, rfl, hF⟩ dX0_odd_42 hu.1 hu.2
def F_X0_odd_b24 (Q : Int32 → gM → Prop)  (Lc Ls : Nat) (K2 : Int32 → Nat → Nat → gM → Prop) (a0 : Nat) (x1 : Int32) (x2 : Int32) (x3 : Int32) (t0 : Int32) (u v : Nat) (M : gM) : Prop :=
  rc M 12 a0 ∧ F_X12_space M a0 x3 fun x_2 M_1 =>
  ((x_2 < x2 →
    F_X0_odd_b38 Q Lc Ls K2 a0 x1 x2 x3 t0 (0 : Int32) u v M_1) ∧
    (¬ x_2 < x2 →
    F_X0_odd_b38 Q Lc Ls K2 a0 x1 x2 x3 t0 (1 : Int32) u v M_1))
theorem w_X0_odd_b24 {G : gG} {Q : Int32 → gM → Prop} {Lc Ls : Nat} (hC : gCx G cX0_odd 4 RX0 (some .int) (gQi Q) (rm_X0_odd Lc Ls)) (K2 : Int32 → Nat → Nat → gM → Prop) (a0 : Nat) (x1 : Int32) (x2 : Int32) (x3 : Int32) (t0 : Int32) (hK2 : ∀ x3' u' v' (_ : u' ≤ Lc ∧ v' ≤ Ls) M', K2 x3' u' v' M' → gAt G u' v' M' [(0, .ref a0), (1, .int x1), (2, .int x2), (3, .int x3')] 2 []) (u v : Nat) (hu : u ≤ Lc ∧ v ≤ Ls) (M : gM) (hF : F_X0_odd_b24 Q Lc Ls K2 a0 x1 x2 x3 t0 u v M) : gAt G u v M [(0, .ref a0), (1, .int x1), (2, .int x2), (3, .int x3)] 24 [.int t0] := by
  unfold F_X0_odd_b24 at hF
  refine g_aload_n 25 hC dX0_odd_24 rfl 0 rfl rfl ?_
  refine g_iload_n 26 hC dX0_odd_25 rfl 3 rfl rfl ?_
  refine g_cV (rest := [_]) wl_X0_237 hd_X12_space (ci := 12) rfl 29 hC hF.1 (met_X12_space hF.2) rfl ⟨Nat.le_of_ble_eq_true rfl, Nat.le_of_ble_eq_true rfl⟩ hu rfl (Nat.le_of_ble_eq_true rfl) dX0_odd_26 rfl (g_ty_i u v (Nat.le_refl _) (Nat.le_refl _) (fun x_2 M_1 hF => ?_))
  refine g_iload_n 30 hC dX0_odd_29 rfl 2 rfl rfl ?_
  refine g_icmp_lt 33 37 hC dX0_odd_30 (by decide) rfl (fun c => ?_) (fun c => ?_)
  · have hF := hF.1 c
    refine g_iconst 38 hC (0 : Int32) dX0_odd_37 (by decide) rfl ?_
    exact w_X0_odd_b38 hC _ _ _ _ _ _ _ hK2 _ _ hu _ hF
  · have hF := hF.2 c
    refine g_iconst 34 hC (1 : Int32) dX0_odd_33 (by decide) rfl ?_
    refine g_goto 38 hC dX0_odd_34 (by decide) ?_
    exact w_X0_odd_b38 hC _ _ _ _ _ _ _ hK2 _ _ hu _ hF
def F_X0_odd_b2 (Q : Int32 → gM → Prop)  (Lc Ls : Nat)  (a0 : Nat) (x1 : Int32) (x2 : Int32) : Nat → Int32 → Nat → Nat → gM → Prop
  | 0, _, _, _, _ => False
  | n + 1, x3, u, v, M =>
    rc M 12 a0 ∧ F_X12_states M a0 fun x_2 M_1 =>
    ((x_2 ≤ x3 →
      Q (-1 : Int32) M_1) ∧
      (¬ x_2 ≤ x3 →
      ∃ c_5 s_6, (u + c_5 ≤ Lc ∧ v + s_6 ≤ Ls) ∧
      rc M_1 12 a0 ∧ F_X12_best c_5 s_6 M_1 a0 x1 x3 fun x_4 M_3 =>
      ((x_4 = 0 →
        F_X0_odd_b24 Q Lc Ls (F_X0_odd_b2 Q Lc Ls a0 x1 x2 n) a0 x1 x2 x3 (0 : Int32) (u + c_5) (v + s_6) M_3) ∧
        (¬ x_4 = 0 →
        F_X0_odd_b24 Q Lc Ls (F_X0_odd_b2 Q Lc Ls a0 x1 x2 n) a0 x1 x2 x3 (1 : Int32) (u + c_5) (v + s_6) M_3))))
theorem w_X0_odd_b2 {G : gG} {Q : Int32 → gM → Prop} {Lc Ls : Nat} (hC : gCx G cX0_odd 4 RX0 (some .int) (gQi Q) (rm_X0_odd Lc Ls))  (a0 : Nat) (x1 : Int32) (x2 : Int32)  : ∀ (n : Nat) (x3 : Int32) (u v : Nat) (hu : u ≤ Lc ∧ v ≤ Ls) (M : gM), F_X0_odd_b2 Q Lc Ls a0 x1 x2 n x3 u v M → gAt G u v M [(0, .ref a0), (1, .int x1), (2, .int x2), (3, .int x3)] 2 [] := by
  intro n
  induction n with
  | zero =>
    intro x3 u v hu M hF
    exact hF.elim
  | succ n ih =>
    intro x3 u v hu M hF
    have hK2 := ih
    unfold F_X0_odd_b2 at hF
    refine g_iload_n 3 hC dX0_odd_2 rfl 3 rfl rfl ?_
    refine g_aload_n 4 hC dX0_odd_3 rfl 0 rfl rfl ?_
    refine g_cV (rest := [_]) wl_X0_58 hd_X12_states (ci := 12) rfl 7 hC hF.1 (met_X12_states hF.2) rfl ⟨Nat.le_of_ble_eq_true rfl, Nat.le_of_ble_eq_true rfl⟩ hu rfl (Nat.le_of_ble_eq_true rfl) dX0_odd_4 rfl (g_ty_i u v (Nat.le_refl _) (Nat.le_refl _) (fun x_2 M_1 hF => ?_))
    refine g_icmp_ge 10 49 hC dX0_odd_7 (by decide) rfl (fun c => ?_) (fun c => ?_)
    · have hF := hF.1 c
      refine g_iconst 50 hC (-1 : Int32) dX0_odd_49 (by decide) rfl ?_
      exact g_ireturn hC ⟨_, rfl, hF⟩ dX0_odd_50 hu.1 hu.2
    · have hF := hF.2 c
      refine g_aload_n 11 hC dX0_odd_10 rfl 0 rfl rfl ?_
      refine g_iload_n 12 hC dX0_odd_11 rfl 1 rfl rfl ?_
      refine g_iload_n 13 hC dX0_odd_12 rfl 3 rfl rfl ?_
      obtain ⟨c_5, s_6, hu, hF⟩ := hF
      refine g_cV (rest := []) wl_X0_250 hd_X12_best (ci := 12) rfl 16 hC hF.1 (met_X12_best hF.2) rfl ⟨Nat.le_of_ble_eq_true rfl, Nat.le_of_ble_eq_true rfl⟩ hu rfl (Nat.le_of_ble_eq_true rfl) dX0_odd_13 rfl (g_ty_i (u + c_5) (v + s_6) (Nat.le_refl _) (Nat.le_refl _) (fun x_4 M_3 hF => ?_))
      refine g_if_eq 19 23 hC dX0_odd_16 (by decide) rfl (fun c => ?_) (fun c => ?_)
      · have hF := hF.1 c
        refine g_iconst 24 hC (0 : Int32) dX0_odd_23 (by decide) rfl ?_
        exact w_X0_odd_b24 hC _ _ _ _ _ _ hK2 _ _ hu _ hF
      · have hF := hF.2 c
        refine g_iconst 20 hC (1 : Int32) dX0_odd_19 (by decide) rfl ?_
        refine g_goto 24 hC dX0_odd_20 (by decide) ?_
        exact w_X0_odd_b24 hC _ _ _ _ _ _ hK2 _ _ hu _ hF
def F_X0_odd (Lc Ls : Nat) (M : gM) (a0 : Nat) (x1 : Int32) (x2 : Int32) (Q : Int32 → gM → Prop)  : Prop :=
  ∃ n_1, F_X0_odd_b2 Q Lc Ls a0 x1 x2 n_1 (0 : Int32) 0 0 M
theorem met_X0_odd {M : gM} {a0 : Nat} {x1 : Int32} {x2 : Int32} {Q : Int32 → gM → Prop} {Lc Ls : Nat} (hF : F_X0_odd Lc Ls M a0 x1 x2 Q) : gMt yX0_odd (ws_ yX0_odd cX0_odd 4 (some .int)) (rm_X0_odd Lc Ls) M [.ref a0, .int x1, .int x2] (gQi Q) := by
  refine gMet (bytes := cX0_odd) (maxL := 4) (ret := (some .int)) rfl rfl (by decide) (Nat.le_of_ble_eq_true rfl) (lv := [(0, .ref a0), (1, .int x1), (2, .int x2)]) rfl (fun G hC hin => ?_)
  have hu : 0 ≤ Lc ∧ 0 ≤ Ls := ⟨Nat.zero_le _, Nat.zero_le _⟩
  unfold F_X0_odd at hF
  refine g_iconst 1 hC (0 : Int32) dX0_odd_0 (by decide) rfl ?_
  refine g_istore_n 2 hC (lv' := [(3, .int _), (0, .ref _), (1, .int _), (2, .int _)]) dX0_odd_1 rfl rfl (by decide) rfl ?_
  refine g_sub [1, 2, 3, 0] rfl ?_
  obtain ⟨n_1, hF⟩ := hF
  exact w_X0_odd_b2 hC _ _ _ n_1 _ _ _ hu _ hF
theorem hd_X0_odd : yX0_odd.cls ≠ "java/lang/invoke/MethodHandle" ∧ yX0_odd.cls ≠ "java/lang/invoke/VarHandle" ∧ (parseMethodDescriptor yX0_odd.desc).map (fun d => d.parameters.length) = some 3 := by decide +kernel
theorem wl_X0_300 : GoodIn lw_all (va_wsS RX0 300 yX0_odd (ws_ yX0_odd cX0_odd 4 (some .int))) := lw_S q1233 q1234 q69 q1235
theorem hd_X0_firstRoom : yX0_firstRoom.cls ≠ "java/lang/invoke/MethodHandle" ∧ yX0_firstRoom.cls ≠ "java/lang/invoke/VarHandle" ∧ (parseMethodDescriptor yX0_firstRoom.desc).map (fun d => d.parameters.length) = some 2 := by decide +kernel
theorem wl_X0_296 : GoodIn lw_all (va_wsS RX0 296 yX0_firstRoom (ws_ yX0_firstRoom cX0_firstRoom 4 (some .int))) := lw_S q1230 q1231 q69 q1232
abbrev rm_X0_shape (Lc Ls : Nat) : Room := { frames := 8, cells := Lc, slots := Ls, locals := 181 }
def F_X0_shape_b37 (Q : Int32 → gM → Prop)  (Lc Ls : Nat)  (x2 : Int32) (a3 : Nat) (x4 : Int32) : Nat → Int32 → Nat → Nat → gM → Prop
  | 0, _, _, _, _ => False
  | n + 1, x5, u, v, M =>
    ((x4 < x5 →
      Q (-1 : Int32) M) ∧
      (¬ x4 < x5 →
      ∃ c_3 s_4, (u + c_3 ≤ Lc ∧ v + s_4 ≤ Ls) ∧
      F_X0_odd c_3 s_4 M a3 x2 x5 fun x_2 M_1 =>
      ((¬ x_2 = (-1 : Int32) →
        (F_X0_shape_b37 Q Lc Ls x2 a3 x4 n) (x5 + (1 : Int32)) (u + c_3) (v + s_4) M_1) ∧
        (x_2 = (-1 : Int32) →
        Q x5 M_1))))
theorem w_X0_shape_b37 {G : gG} {Q : Int32 → gM → Prop} {Lc Ls : Nat} (hC : gCx G cX0_shape 6 RX0 (some .int) (gQi Q) (rm_X0_shape Lc Ls))  (x2 : Int32) (a3 : Nat) (x4 : Int32)  : ∀ (n : Nat) (x5 : Int32) (u v : Nat) (hu : u ≤ Lc ∧ v ≤ Ls) (M : gM), F_X0_shape_b37 Q Lc Ls x2 a3 x4 n x5 u v M → gAt G u v M [(2, .int x2), (3, .ref a3), (4, .int x4), (5, .int x5)] 37 [] := by
  intro n
  induction n with
  | zero =>
    intro x5 u v hu M hF
    exact hF.elim
  | succ n ih =>
    intro x5 u v hu M hF
    have hK37 := ih
    unfold F_X0_shape_b37 at hF
    refine g_iload 39 hC dX0_shape_37 rfl 3 rfl ?_
    refine g_iload 41 hC dX0_shape_39 rfl 2 rfl ?_
    refine g_icmp_gt 44 64 hC dX0_shape_41 (by decide) rfl (fun c => ?_) (fun c => ?_)
    · have hF := hF.1 c
      refine g_iconst 65 hC (-1 : Int32) dX0_shape_64 (by decide) rfl ?_
      exact g_ireturn hC ⟨_, rfl, hF⟩ dX0_shape_65 hu.1 hu.2
    · have hF := hF.2 c
      refine g_aload_n 45 hC dX0_shape_44 rfl 1 rfl rfl ?_
      refine g_iload_n 46 hC dX0_shape_45 rfl 0 rfl rfl ?_
      refine g_iload 48 hC dX0_shape_46 rfl 3 rfl ?_
      obtain ⟨c_3, s_4, hu, hF⟩ := hF
      refine g_cS (rest := []) wl_X0_300 hd_X0_odd 51 hC (met_X0_odd hF) rfl ⟨Nat.le_of_ble_eq_true rfl, Nat.le_of_ble_eq_true rfl⟩ hu rfl (Nat.le_of_ble_eq_true rfl) dX0_shape_48 rfl (g_ty_i (u + c_3) (v + s_4) (Nat.le_refl _) (Nat.le_refl _) (fun x_2 M_1 hF => ?_))
      refine g_iconst 52 hC (-1 : Int32) dX0_shape_51 (by decide) rfl ?_
      refine g_icmp_ne 55 58 hC dX0_shape_52 (by decide) rfl (fun c => ?_) (fun c => ?_)
      · have hF := hF.1 c
        refine g_iinc 61 hC (x5 + (1 : Int32)) (lv' := [(5, .int _), (2, .int _), (3, .ref _), (4, .int _)]) dX0_shape_58 rfl 3 rfl rfl (by decide) rfl ?_
        refine g_goto 37 hC dX0_shape_61 (by decide) ?_
        refine g_sub [1, 2, 3, 0] rfl ?_
        exact hK37 _ _ _ hu _ hF
      · have hF := hF.2 c
        refine g_iload 57 hC dX0_shape_55 rfl 3 rfl ?_
        exact g_ireturn hC ⟨_, rfl, hF⟩ dX0_shape_57 hu.1 hu.2
def F_X0_shape (Lc Ls : Nat) (M : gM) (a0 : Nat) (x1 : Int32) (x2 : Int32) (Q : Int32 → gM → Prop)  : Prop :=
  rc M 0 a0 ∧ F_X0_isLeft M a0 x1 (1 : Int32) x2 fun x_2 M_1 =>
  ((¬ x_2 = 0 →
    gN M_1 0 a0 0 fun a_3 =>
    gN M_1 1 a_3 0 fun a_4 =>
    aN M_1 (.object "SendTheBox$House") a_4 x1 fun a_5 =>
    ∃ c_8 s_9, (0 + c_8 ≤ Lc ∧ 0 + s_9 ≤ Ls) ∧
    F_X0_firstRoom c_8 s_9 M_1 a_5 x2 fun x_7 M_6 =>
    ∃ n_10, F_X0_shape_b37 Q Lc Ls x2 a_5 x_7 n_10 (0 : Int32) (0 + c_8) (0 + s_9) M_6) ∧
    (x_2 = 0 →
    rc M_1 0 a0 ∧ F_X0_no M_1 a0 (-2 : Int32) fun x_12 M_11 =>
    Q x_12 M_11))
theorem met_X0_shape {M : gM} {a0 : Nat} {x1 : Int32} {x2 : Int32} {Q : Int32 → gM → Prop} {Lc Ls : Nat} (hF : F_X0_shape Lc Ls M a0 x1 x2 Q) : gMt yX0_shape (ws_ yX0_shape cX0_shape 6 (some .int)) (rm_X0_shape Lc Ls) M [.ref a0, .int x1, .int x2] (gQi Q) := by
  refine gMet (bytes := cX0_shape) (maxL := 6) (ret := (some .int)) rfl rfl (by decide) (Nat.le_of_ble_eq_true rfl) (lv := [(0, .ref a0), (1, .int x1), (2, .int x2)]) rfl (fun G hC hin => ?_)
  have hu : 0 ≤ Lc ∧ 0 ≤ Ls := ⟨Nat.zero_le _, Nat.zero_le _⟩
  unfold F_X0_shape at hF
  refine g_aload_n 1 hC dX0_shape_0 rfl 0 rfl rfl ?_
  refine g_iload_n 2 hC dX0_shape_1 rfl 1 rfl rfl ?_
  refine g_iconst 3 hC (1 : Int32) dX0_shape_2 (by decide) rfl ?_
  refine g_iload_n 4 hC dX0_shape_3 rfl 2 rfl rfl ?_
  refine g_cV (rest := []) wl_X0_239 hd_X0_isLeft (ci := 0) rfl 7 hC hF.1 (met_X0_isLeft hF.2) rfl ⟨Nat.le_of_ble_eq_true rfl, Nat.le_of_ble_eq_true rfl⟩ hu rfl (Nat.le_of_ble_eq_true rfl) dX0_shape_4 rfl (g_ty_i 0 0 (Nat.le_refl _) (Nat.le_refl _) (fun x_2 M_1 hF => ?_))
  refine g_if_ne 10 17 hC dX0_shape_7 (by decide) rfl (fun c => ?_) (fun c => ?_)
  · have hF := hF.1 c
    refine g_aload_n 18 hC dX0_shape_17 rfl 0 rfl rfl ?_
    refine gf_X0_20_0N 21 hC hF dX0_shape_18 rfl (fun a_3 hF => ?_)
    refine gf_X0_49_1N 24 hC hF dX0_shape_21 rfl (fun a_4 hF => ?_)
    refine g_iload_n 25 hC dX0_shape_24 rfl 1 rfl rfl ?_
    refine g_aaldN 26 hC hF (by decide) rfl (fun _ _ _ => rfl) dX0_shape_25 rfl (fun a_5 hF => ?_)
    refine g_astore_n 27 hC (lv' := [(3, .ref _), (0, .ref _), (1, .int _), (2, .int _)]) dX0_shape_26 rfl rfl (by decide) rfl ?_
    refine g_aload_n 28 hC dX0_shape_27 rfl 0 rfl rfl ?_
    refine g_iload_n 29 hC dX0_shape_28 rfl 3 rfl rfl ?_
    obtain ⟨c_8, s_9, hu, hF⟩ := hF
    refine g_cS (rest := []) wl_X0_296 hd_X0_firstRoom 32 hC (met_X0_firstRoom hF) rfl ⟨Nat.le_of_ble_eq_true rfl, Nat.le_of_ble_eq_true rfl⟩ hu rfl (Nat.le_of_ble_eq_true rfl) dX0_shape_29 rfl (g_ty_i (0 + c_8) (0 + s_9) (Nat.le_refl _) (Nat.le_refl _) (fun x_7 M_6 hF => ?_))
    refine g_istore 34 hC (lv' := [(4, .int _), (3, .ref _), (0, .ref _), (1, .int _), (2, .int _)]) dX0_shape_32 rfl (by decide) rfl ?_
    refine g_iconst 35 hC (0 : Int32) dX0_shape_34 (by decide) rfl ?_
    refine g_istore 37 hC (lv' := [(5, .int _), (4, .int _), (3, .ref _), (0, .ref _), (1, .int _), (2, .int _)]) dX0_shape_35 rfl (by decide) rfl ?_
    refine g_sub [5, 2, 1, 0] rfl ?_
    obtain ⟨n_10, hF⟩ := hF
    exact w_X0_shape_b37 hC _ _ _ n_10 _ _ _ hu _ hF
  · have hF := hF.2 c
    refine g_aload_n 11 hC dX0_shape_10 rfl 0 rfl rfl ?_
    refine g_bipush 13 hC (-2 : Int32) dX0_shape_11 (by decide) rfl ?_
    refine g_cV (rest := []) wl_X0_81 hd_X0_no (ci := 0) rfl 16 hC hF.1 (met_X0_no hF.2) rfl ⟨Nat.le_of_ble_eq_true rfl, Nat.le_of_ble_eq_true rfl⟩ hu rfl (Nat.le_of_ble_eq_true rfl) dX0_shape_13 rfl (g_ty_i 0 0 (Nat.le_refl _) (Nat.le_refl _) (fun x_12 M_11 hF => ?_))
    exact g_ireturn hC ⟨_, rfl, hF⟩ dX0_shape_16 hu.1 hu.2
abbrev rm_X0_odd_2 (Lc Ls : Nat) : Room := { frames := 8, cells := Lc, slots := Ls, locals := 181 }
def F_X0_odd_2 (Lc Ls : Nat) (M : gM) (a0 : Nat) (x1 : Int32) (x2 : Int32) (Q : Int32 → gM → Prop)  : Prop :=
  rc M 0 a0 ∧ F_X0_isLeft M a0 x1 (1 : Int32) x2 fun x_2 M_1 =>
  ((¬ x_2 = 0 →
    gN M_1 0 a0 0 fun a_3 =>
    gN M_1 1 a_3 0 fun a_4 =>
    aN M_1 (.object "SendTheBox$House") a_4 x1 fun a_5 =>
    ∃ c_8 s_9, (0 + c_8 ≤ Lc ∧ 0 + s_9 ≤ Ls) ∧
    F_X0_firstRoom c_8 s_9 M_1 a_5 x2 fun x_7 M_6 =>
    ((¬ x_7 = (-1 : Int32) →
      ∃ c_12 s_13, ((0 + c_8) + c_12 ≤ Lc ∧ (0 + s_9) + s_13 ≤ Ls) ∧
      F_X0_odd c_12 s_13 M_6 a_5 x2 x_7 fun x_11 M_10 =>
      Q x_11 M_10) ∧
      (x_7 = (-1 : Int32) →
      Q (-1 : Int32) M_6))) ∧
    (x_2 = 0 →
    rc M_1 0 a0 ∧ F_X0_no M_1 a0 (-2 : Int32) fun x_15 M_14 =>
    Q x_15 M_14))
theorem met_X0_odd_2 {M : gM} {a0 : Nat} {x1 : Int32} {x2 : Int32} {Q : Int32 → gM → Prop} {Lc Ls : Nat} (hF : F_X0_odd_2 Lc Ls M a0 x1 x2 Q) : gMt yX0_odd_2 (ws_ yX0_odd_2 cX0_odd_2 5 (some .int)) (rm_X0_odd_2 Lc Ls) M [.ref a0, .int x1, .int x2] (gQi Q) := by
  refine gMet (bytes := cX0_odd_2) (maxL := 5) (ret := (some .int)) rfl rfl (by decide) (Nat.le_of_ble_eq_true rfl) (lv := [(0, .ref a0), (1, .int x1), (2, .int x2)]) rfl (fun G hC hin => ?_)
  have hu : 0 ≤ Lc ∧ 0 ≤ Ls := ⟨Nat.zero_le _, Nat.zero_le _⟩
  unfold F_X0_odd_2 at hF
  refine g_aload_n 1 hC dX0_odd_2_0 rfl 0 rfl rfl ?_
  refine g_iload_n 2 hC dX0_odd_2_1 rfl 1 rfl rfl ?_
  refine g_iconst 3 hC (1 : Int32) dX0_odd_2_2 (by decide) rfl ?_
  refine g_iload_n 4 hC dX0_odd_2_3 rfl 2 rfl rfl ?_
  refine g_cV (rest := []) wl_X0_239 hd_X0_isLeft (ci := 0) rfl 7 hC hF.1 (met_X0_isLeft hF.2) rfl ⟨Nat.le_of_ble_eq_true rfl, Nat.le_of_ble_eq_true rfl⟩ hu rfl (Nat.le_of_ble_eq_true rfl) dX0_odd_2_4 rfl (g_ty_i 0 0 (Nat.le_refl _) (Nat.le_refl _) (fun x_2 M_1 hF => ?_))
  refine g_if_ne 10 17 hC dX0_odd_2_7 (by decide) rfl (fun c => ?_) (fun c => ?_)
  · have hF := hF.1 c
    refine g_aload_n 18 hC dX0_odd_2_17 rfl 0 rfl rfl ?_
    refine gf_X0_20_0N 21 hC hF dX0_odd_2_18 rfl (fun a_3 hF => ?_)
    refine gf_X0_49_1N 24 hC hF dX0_odd_2_21 rfl (fun a_4 hF => ?_)
    refine g_iload_n 25 hC dX0_odd_2_24 rfl 1 rfl rfl ?_
    refine g_aaldN 26 hC hF (by decide) rfl (fun _ _ _ => rfl) dX0_odd_2_25 rfl (fun a_5 hF => ?_)
    refine g_astore_n 27 hC (lv' := [(3, .ref _), (0, .ref _), (1, .int _), (2, .int _)]) dX0_odd_2_26 rfl rfl (by decide) rfl ?_
    refine g_aload_n 28 hC dX0_odd_2_27 rfl 0 rfl rfl ?_
    refine g_iload_n 29 hC dX0_odd_2_28 rfl 3 rfl rfl ?_
    obtain ⟨c_8, s_9, hu, hF⟩ := hF
    refine g_cS (rest := []) wl_X0_296 hd_X0_firstRoom 32 hC (met_X0_firstRoom hF) rfl ⟨Nat.le_of_ble_eq_true rfl, Nat.le_of_ble_eq_true rfl⟩ hu rfl (Nat.le_of_ble_eq_true rfl) dX0_odd_2_29 rfl (g_ty_i (0 + c_8) (0 + s_9) (Nat.le_refl _) (Nat.le_refl _) (fun x_7 M_6 hF => ?_))
    refine g_istore 34 hC (lv' := [(4, .int _), (3, .ref _), (0, .ref _), (1, .int _), (2, .int _)]) dX0_odd_2_32 rfl (by decide) rfl ?_
    refine g_iload 36 hC dX0_odd_2_34 rfl 0 rfl ?_
    refine g_iconst 37 hC (-1 : Int32) dX0_odd_2_36 (by decide) rfl ?_
    refine g_icmp_ne 40 44 hC dX0_odd_2_37 (by decide) rfl (fun c => ?_) (fun c => ?_)
    · have hF := hF.1 c
      refine g_aload_n 45 hC dX0_odd_2_44 rfl 1 rfl rfl ?_
      refine g_iload_n 46 hC dX0_odd_2_45 rfl 4 rfl rfl ?_
      refine g_iload 48 hC dX0_odd_2_46 rfl 0 rfl ?_
      obtain ⟨c_12, s_13, hu, hF⟩ := hF
      refine g_cS (rest := []) wl_X0_300 hd_X0_odd 51 hC (met_X0_odd hF) rfl ⟨Nat.le_of_ble_eq_true rfl, Nat.le_of_ble_eq_true rfl⟩ hu rfl (Nat.le_of_ble_eq_true rfl) dX0_odd_2_48 rfl (g_ty_i ((0 + c_8) + c_12) ((0 + s_9) + s_13) (Nat.le_refl _) (Nat.le_refl _) (fun x_11 M_10 hF => ?_))
      exact g_ireturn hC ⟨_, rfl, hF⟩ dX0_odd_2_51 hu.1 hu.2
    · have hF := hF.2 c
      refine g_iconst 41 hC (-1 : Int32) dX0_odd_2_40 (by decide) rfl ?_
      refine g_goto 51 hC dX0_odd_2_41 (by decide) ?_
      exact g_ireturn hC ⟨_, rfl, hF⟩ dX0_odd_2_51 hu.1 hu.2
  · have hF := hF.2 c
    refine g_aload_n 11 hC dX0_odd_2_10 rfl 0 rfl rfl ?_
    refine g_bipush 13 hC (-2 : Int32) dX0_odd_2_11 (by decide) rfl ?_
    refine g_cV (rest := []) wl_X0_81 hd_X0_no (ci := 0) rfl 16 hC hF.1 (met_X0_no hF.2) rfl ⟨Nat.le_of_ble_eq_true rfl, Nat.le_of_ble_eq_true rfl⟩ hu rfl (Nat.le_of_ble_eq_true rfl) dX0_odd_2_13 rfl (g_ty_i 0 0 (Nat.le_refl _) (Nat.le_refl _) (fun x_15 M_14 hF => ?_))
    exact g_ireturn hC ⟨_, rfl, hF⟩ dX0_odd_2_16 hu.1 hu.2
abbrev rm_X0_judge (Lc Ls : Nat) : Room := { frames := 9, cells := Lc, slots := Ls, locals := 10277 }
def F_X0_judge_b16 (Q : Int32 → gM → Prop)  (Lc Ls : Nat)  (a0 : Nat)  (u v : Nat) (M : gM) : Prop :=
  rc M 0 a0 ∧ F_X0_no M a0 (-2 : Int32) fun x_2 M_1 =>
  Q x_2 M_1
theorem w_X0_judge_b16 {G : gG} {Q : Int32 → gM → Prop} {Lc Ls : Nat} (hC : gCx G cX0_judge 11 RX0 (some .int) (gQi Q) (rm_X0_judge Lc Ls)) (hT : gTx G (fun _ _ _ => False) (rm_X0_judge Lc Ls) (tableOf [(34, 146, 147, 97), (34, 146, 159, 113)]))  (a0 : Nat)   (u v : Nat) (hu : u ≤ Lc ∧ v ≤ Ls) (M : gM) (hF : F_X0_judge_b16 Q Lc Ls a0 u v M) : gAt G u v M [(0, .ref a0)] 16 [] := by
  unfold F_X0_judge_b16 at hF
  refine g_aload_n 17 hC dX0_judge_16 rfl 0 rfl rfl ?_
  refine g_bipush 19 hC (-2 : Int32) dX0_judge_17 (by decide) rfl ?_
  refine g_cV (rest := []) wl_X0_81 hd_X0_no (ci := 0) rfl 22 hC hF.1 (met_X0_no hF.2) rfl ⟨Nat.le_of_ble_eq_true rfl, Nat.le_of_ble_eq_true rfl⟩ hu rfl (Nat.le_of_ble_eq_true rfl) dX0_judge_19 rfl (g_ty_i u v (Nat.le_refl _) (Nat.le_refl _) (fun x_2 M_1 hF => ?_))
  exact g_ireturn hC ⟨_, rfl, hF⟩ dX0_judge_22 hu.1 hu.2
def F_X0_judge_b110 (Q : Int32 → gM → Prop)  (Lc Ls : Nat) (K50 : Int32 → Int32 → Int32 → Nat → Nat → gM → Prop) (a0 : Nat) (x2 : Int32) (a4 : Nat) (a5 : Nat) (x6 : Int32) (x7 : Int32) (x8 : Int32)  (u v : Nat) (M : gM) : Prop :=
  K50 x6 x7 (x8 + (1 : Int32)) u v M
theorem w_X0_judge_b110 {G : gG} {Q : Int32 → gM → Prop} {Lc Ls : Nat} (hC : gCx G cX0_judge 11 RX0 (some .int) (gQi Q) (rm_X0_judge Lc Ls)) (hT : gTx G (fun _ _ _ => False) (rm_X0_judge Lc Ls) (tableOf [(34, 146, 147, 97), (34, 146, 159, 113)])) (K50 : Int32 → Int32 → Int32 → Nat → Nat → gM → Prop) (a0 : Nat) (x2 : Int32) (a4 : Nat) (a5 : Nat) (x6 : Int32) (x7 : Int32) (x8 : Int32)  (hK50 : ∀ x6' x7' x8' u' v' (_ : u' ≤ Lc ∧ v' ≤ Ls) M', K50 x6' x7' x8' u' v' M' → gAt G u' v' M' [(0, .ref a0), (2, .int x2), (4, .ref a4), (5, .ref a5), (6, .int x6'), (7, .int x7'), (8, .int x8')] 50 []) (u v : Nat) (hu : u ≤ Lc ∧ v ≤ Ls) (M : gM) (hF : F_X0_judge_b110 Q Lc Ls K50 a0 x2 a4 a5 x6 x7 x8 u v M) : gAt G u v M [(0, .ref a0), (2, .int x2), (4, .ref a4), (5, .ref a5), (6, .int x6), (7, .int x7), (8, .int x8)] 110 [] := by
  unfold F_X0_judge_b110 at hF
  refine g_iinc 113 hC (x8 + (1 : Int32)) (lv' := [(8, .int _), (0, .ref _), (2, .int _), (4, .ref _), (5, .ref _), (6, .int _), (7, .int _)]) dX0_judge_110 rfl 6 rfl rfl (by decide) rfl ?_
  refine g_goto 50 hC dX0_judge_113 (by decide) ?_
  refine g_sub [1, 2, 3, 4, 5, 6, 0] rfl ?_
  exact hK50 _ _ _ _ _ hu _ hF
def F_X0_judge_b89 (Q : Int32 → gM → Prop)  (Lc Ls : Nat) (K50 : Int32 → Int32 → Int32 → Nat → Nat → gM → Prop) (a0 : Nat) (x2 : Int32) (a4 : Nat) (a5 : Nat) (x6 : Int32) (x8 : Int32)  (u v : Nat) (M : gM) : Prop :=
  F_X0_judge_b110 Q Lc Ls K50 a0 x2 a4 a5 x6 (1 : Int32) x8 u v M
theorem w_X0_judge_b89 {G : gG} {Q : Int32 → gM → Prop} {Lc Ls : Nat} (hC : gCx G cX0_judge 11 RX0 (some .int) (gQi Q) (rm_X0_judge Lc Ls)) (hT : gTx G (fun _ _ _ => False) (rm_X0_judge Lc Ls) (tableOf [(34, 146, 147, 97), (34, 146, 159, 113)])) (K50 : Int32 → Int32 → Int32 → Nat → Nat → gM → Prop) (a0 : Nat) (x2 : Int32) (a4 : Nat) (a5 : Nat) (x6 : Int32) (x8 : Int32)  (hK50 : ∀ x6' x7' x8' u' v' (_ : u' ≤ Lc ∧ v' ≤ Ls) M', K50 x6' x7' x8' u' v' M' → gAt G u' v' M' [(0, .ref a0), (2, .int x2), (4, .ref a4), (5, .ref a5), (6, .int x6'), (7, .int x7'), (8, .int x8')] 50 []) (u v : Nat) (hu : u ≤ Lc ∧ v ≤ Ls) (M : gM) (hF : F_X0_judge_b89 Q Lc Ls K50 a0 x2 a4 a5 x6 x8 u v M) : gAt G u v M [(0, .ref a0), (2, .int x2), (4, .ref a4), (5, .ref a5), (6, .int x6), (8, .int x8)] 89 [] := by
  unfold F_X0_judge_b89 at hF
  refine g_iconst 90 hC (1 : Int32) dX0_judge_89 (by decide) rfl ?_
  refine g_istore 92 hC (lv' := [(7, .int _), (0, .ref _), (2, .int _), (4, .ref _), (5, .ref _), (6, .int _), (8, .int _)]) dX0_judge_90 rfl (by decide) rfl ?_
  refine g_goto 110 hC dX0_judge_92 (by decide) ?_
  refine g_sub [1, 2, 3, 4, 5, 0, 6] rfl ?_
  exact w_X0_judge_b110 hC hT _ _ _ _ _ _ _ _ hK50 _ _ hu _ hF
def F_X0_judge_b50 (Q : Int32 → gM → Prop)  (Lc Ls : Nat)  (a0 : Nat) (x2 : Int32) (a4 : Nat) (a5 : Nat) : Nat → Int32 → Int32 → Int32 → Nat → Nat → gM → Prop
  | 0, _, _, _, _, _, _ => False
  | n + 1, x6, x7, x8, u, v, M =>
    gI M 12 a4 4 fun x_1 =>
    ((x_1 ≤ x8 →
      ((¬ x7 = (1 : Int32) →
        rc M 12 a4 ∧ F_X12_space M a4 x6 fun x_3 M_2 =>
        gI M_2 12 a4 2 fun x_4 =>
        ((x_3 ≤ x_4 →
          Q (0 : Int32) M_2) ∧
          (¬ x_3 ≤ x_4 →
          Q (2 : Int32) M_2))) ∧
        (x7 = (1 : Int32) →
        Q (1 : Int32) M))) ∧
      (¬ x_1 ≤ x8 →
      ∃ c_7 s_8, (u + c_7 ≤ Lc ∧ v + s_8 ≤ Ls) ∧
      F_X0_elementOf c_7 s_8 M a5 x8 (fun j_6 M_5 =>
      ((j_6 < (0 : Int64) →
          F_X0_judge_b89 Q Lc Ls (F_X0_judge_b50 Q Lc Ls a0 x2 a4 a5 n) a0 x2 a4 a5 x6 x8 (u + c_7) (v + s_8) M_5) ∧
          (¬ j_6 < (0 : Int64) →
          F_X0_standing M_5 x2 x8 fun x_14 M_13 =>
          ((j_6 ≤ x_14.toInt64 →
            aI M_13 .int (gl M_13 0) x8 fun x_15 =>
            F_X0_judge_b110 Q Lc Ls (F_X0_judge_b50 Q Lc Ls a0 x2 a4 a5 n) a0 x2 a4 a5 (x6 + (j_6.toInt32 * x_15)) x7 x8 (u + c_7) (v + s_8) M_13) ∧
            (¬ j_6 ≤ x_14.toInt64 →
            F_X0_judge_b89 Q Lc Ls (F_X0_judge_b50 Q Lc Ls a0 x2 a4 a5 n) a0 x2 a4 a5 x6 x8 (u + c_7) (v + s_8) M_13))))) (fun E_ q_9 M_10 =>
        (E_ = "java/lang/ArrayIndexOutOfBoundsException" ∧
        rc M_10 0 a0 ∧ F_X0_no M_10 a0 (-2 : Int32) fun x_12 M_11 =>
        Q x_12 M_11))))
theorem w_X0_judge_b50 {G : gG} {Q : Int32 → gM → Prop} {Lc Ls : Nat} (hC : gCx G cX0_judge 11 RX0 (some .int) (gQi Q) (rm_X0_judge Lc Ls)) (hT : gTx G (fun _ _ _ => False) (rm_X0_judge Lc Ls) (tableOf [(34, 146, 147, 97), (34, 146, 159, 113)]))  (a0 : Nat) (x2 : Int32) (a4 : Nat) (a5 : Nat)  : ∀ (n : Nat) (x6 : Int32) (x7 : Int32) (x8 : Int32) (u v : Nat) (hu : u ≤ Lc ∧ v ≤ Ls) (M : gM), F_X0_judge_b50 Q Lc Ls a0 x2 a4 a5 n x6 x7 x8 u v M → gAt G u v M [(0, .ref a0), (2, .int x2), (4, .ref a4), (5, .ref a5), (6, .int x6), (7, .int x7), (8, .int x8)] 50 [] := by
  intro n
  induction n with
  | zero =>
    intro x6 x7 x8 u v hu M hF
    exact hF.elim
  | succ n ih =>
    intro x6 x7 x8 u v hu M hF
    have hK50 := ih
    unfold F_X0_judge_b50 at hF
    refine g_iload 52 hC dX0_judge_50 rfl 6 rfl ?_
    refine g_aload 54 hC dX0_judge_52 rfl 2 rfl ?_
    refine gf_X0_53_12I 57 hC hF dX0_judge_54 rfl (fun x_1 hF => ?_)
    refine g_icmp_ge 60 116 hC dX0_judge_57 (by decide) rfl (fun c => ?_) (fun c => ?_)
    · have hF := hF.1 c
      refine g_iload 118 hC dX0_judge_116 rfl 5 rfl ?_
      refine g_iconst 119 hC (1 : Int32) dX0_judge_118 (by decide) rfl ?_
      refine g_icmp_ne 122 126 hC dX0_judge_119 (by decide) rfl (fun c => ?_) (fun c => ?_)
      · have hF := hF.1 c
        refine g_aload 128 hC dX0_judge_126 rfl 2 rfl ?_
        refine g_iload 130 hC dX0_judge_128 rfl 4 rfl ?_
        refine g_cV (rest := []) wl_X0_237 hd_X12_space (ci := 12) rfl 133 hC hF.1 (met_X12_space hF.2) rfl ⟨Nat.le_of_ble_eq_true rfl, Nat.le_of_ble_eq_true rfl⟩ hu rfl (Nat.le_of_ble_eq_true rfl) dX0_judge_130 rfl (g_ty_i u v (Nat.le_refl _) (Nat.le_refl _) (fun x_3 M_2 hF => ?_))
        refine g_aload 135 hC dX0_judge_133 rfl 2 rfl ?_
        refine gf_X0_208_12I 138 hC hF dX0_judge_135 rfl (fun x_4 hF => ?_)
        refine g_icmp_le 141 145 hC dX0_judge_138 (by decide) rfl (fun c => ?_) (fun c => ?_)
        · have hF := hF.1 c
          refine g_iconst 146 hC (0 : Int32) dX0_judge_145 (by decide) rfl ?_
          exact g_ireturn hC ⟨_, rfl, hF⟩ dX0_judge_146 hu.1 hu.2
        · have hF := hF.2 c
          refine g_iconst 142 hC (2 : Int32) dX0_judge_141 (by decide) rfl ?_
          refine g_goto 146 hC dX0_judge_142 (by decide) ?_
          exact g_ireturn hC ⟨_, rfl, hF⟩ dX0_judge_146 hu.1 hu.2
      · have hF := hF.2 c
        refine g_iconst 123 hC (1 : Int32) dX0_judge_122 (by decide) rfl ?_
        refine g_goto 146 hC dX0_judge_123 (by decide) ?_
        exact g_ireturn hC ⟨_, rfl, hF⟩ dX0_judge_146 hu.1 hu.2
    · have hF := hF.2 c
      refine g_aload 62 hC dX0_judge_60 rfl 3 rfl ?_
      refine g_iload 64 hC dX0_judge_62 rfl 6 rfl ?_
      obtain ⟨c_7, s_8, hu, hF⟩ := hF
      refine g_xS (rest := []) wl_X0_127 hd_X0_elementOf 67 hC (met_X0_elementOf hF) rfl ⟨Nat.le_of_ble_eq_true rfl, Nat.le_of_ble_eq_true rfl⟩ hu rfl (Nat.le_of_ble_eq_true rfl) dX0_judge_64 rfl (g_ty_j (u + c_7) (v + s_8) (Nat.le_refl _) (Nat.le_refl _) (fun j_6 M_5 hF => ?_)) (g_tx (u + c_7) (v + s_8) (Nat.le_refl _) (Nat.le_refl _) (fun E_ q_9 M_10 hF => ?_))
      · have hF := hF
        refine g_lstore 69 hC (lv' := [(9, .long _), (0, .ref _), (2, .int _), (4, .ref _), (5, .ref _), (6, .int _), (7, .int _), (8, .int _)]) dX0_judge_67 rfl (by decide) rfl ?_
        refine g_lload 71 hC dX0_judge_69 rfl 0 rfl ?_
        refine g_lconst 72 hC (0 : Int64) dX0_judge_71 (by decide) rfl ?_
        refine g_lcmp_lt 76 89 hC dX0_judge_72 rfl dX0_judge_73 (by decide) rfl (fun c => ?_) (fun c => ?_)
        · have hF := hF.1 c
          refine g_sub [1, 2, 3, 4, 5, 7] rfl ?_
          exact w_X0_judge_b89 hC hT _ _ _ _ _ _ _ hK50 _ _ hu _ hF
        · have hF := hF.2 c
          refine g_lload 78 hC dX0_judge_76 rfl 0 rfl ?_
          refine g_iload_n 79 hC dX0_judge_78 rfl 2 rfl rfl ?_
          refine g_iload 81 hC dX0_judge_79 rfl 7 rfl ?_
          refine g_cS (rest := [_]) wl_X0_7 hd_X0_standing 84 hC (met_X0_standing hF) rfl ⟨Nat.le_of_ble_eq_true rfl, Nat.le_of_ble_eq_true rfl⟩ hu rfl (Nat.le_of_ble_eq_true rfl) dX0_judge_81 rfl (g_ty_i (u + c_7) (v + s_8) (Nat.le_refl _) (Nat.le_refl _) (fun x_14 M_13 hF => ?_))
          refine g_i2l 85 hC dX0_judge_84 rfl ?_
          refine g_lcmp_le 89 95 hC dX0_judge_85 rfl dX0_judge_86 (by decide) rfl (fun c => ?_) (fun c => ?_)
          · have hF := hF.1 c
            refine g_iload 97 hC dX0_judge_95 rfl 5 rfl ?_
            refine g_lload 99 hC dX0_judge_97 rfl 0 rfl ?_
            refine g_l2i 100 hC dX0_judge_99 rfl ?_
            refine g_getsP 103 hC q966 dX0_judge_100 rfl ?_
            refine g_iload 105 hC dX0_judge_103 rfl 7 rfl ?_
            refine g_iald 106 hC hF dX0_judge_105 rfl (fun x_15 hF => ?_)
            refine g_imul 107 hC dX0_judge_106 rfl ?_
            refine g_iadd 108 hC dX0_judge_107 rfl ?_
            refine g_istore 110 hC (lv' := [(6, .int _), (9, .long _), (0, .ref _), (2, .int _), (4, .ref _), (5, .ref _), (7, .int _), (8, .int _)]) dX0_judge_108 rfl (by decide) rfl ?_
            refine g_sub [2, 3, 4, 5, 0, 6, 7] rfl ?_
            exact w_X0_judge_b110 hC hT _ _ _ _ _ _ _ _ hK50 _ _ hu _ hF
          · have hF := hF.2 c
            refine g_sub [1, 2, 3, 4, 5, 7] rfl ?_
            exact w_X0_judge_b89 hC hT _ _ _ _ _ _ _ hK50 _ _ hu _ hF
      · have hF := hF
        obtain ⟨hE_, hF⟩ := hF
        rw [hE_]
        refine g_catch hC hT [⟨34, 146, 147, 97⟩] ⟨34, 146, 159, 113⟩ [] rfl (List.forall_mem_cons.mpr ⟨Or.inr ⟨by decide, _, q279, nc_ArrayIndexOutOfBoundsException_Refused⟩, (fun _ h => absurd h List.not_mem_nil)⟩) rfl (by decide) q280 q295 159 rfl ?_
        refine g_astore 161 hC (lv' := [(5, .ref _), (0, .ref _), (2, .int _), (4, .ref _), (6, .int _), (7, .int _), (8, .int _)]) dX0_judge_159 rfl (by decide) rfl ?_
        refine g_aload_n 162 hC dX0_judge_161 rfl 1 rfl rfl ?_
        refine g_bipush 164 hC (-2 : Int32) dX0_judge_162 (by decide) rfl ?_
        refine g_cV (rest := []) wl_X0_81 hd_X0_no (ci := 0) rfl 167 hC hF.1 (met_X0_no hF.2) rfl ⟨Nat.le_of_ble_eq_true rfl, Nat.le_of_ble_eq_true rfl⟩ hu rfl (Nat.le_of_ble_eq_true rfl) dX0_judge_164 rfl (g_ty_i (u + c_7) (v + s_8) (Nat.le_refl _) (Nat.le_refl _) (fun x_12 M_11 hF => ?_))
        exact g_ireturn hC ⟨_, rfl, hF⟩ dX0_judge_167 hu.1 hu.2
def F_X0_judge (Lc Ls : Nat) (M : gM) (a0 : Nat) (x1 : Int32) (x2 : Int32) (x3 : Int32) (Q : Int32 → gM → Prop)  : Prop :=
  rc M 0 a0 ∧ F_X0_isState M a0 x1 x2 fun x_2 M_1 =>
  ((x_2 = 0 →
    F_X0_judge_b16 Q Lc Ls a0 0 0 M_1) ∧
    (¬ x_2 = 0 →
    F_X0_isShelf M_1 x3 fun x_4 M_3 =>
    ((¬ x_4 = 0 →
      gN M_3 0 a0 0 fun a_5 =>
      gN M_3 1 a_5 0 fun a_6 =>
      aN M_3 (.object "SendTheBox$House") a_6 x1 fun a_7 =>
      ∃ c_10 s_11, (0 + c_10 ≤ Lc ∧ 0 + s_11 ≤ Ls) ∧
      rc M_3 0 a0 ∧ F_X0_rowIn c_10 s_11 M_3 a0 x3 (fun a_9 M_8 =>
      ∃ n_17, F_X0_judge_b50 Q Lc Ls a0 x2 a_7 a_9 n_17 (0 : Int32) (0 : Int32) (0 : Int32) (0 + c_10) (0 + s_11) M_8) (fun E_ q_12 M_13 =>
        (E_ = "SendTheBox$Refused" ∧
        gI M_13 4 q_12 6 fun x_14 =>
        rc M_13 0 a0 ∧ F_X0_no M_13 a0 x_14 fun x_16 M_15 =>
        Q x_16 M_15))) ∧
      (x_4 = 0 →
      F_X0_judge_b16 Q Lc Ls a0 0 0 M_3))))
theorem met_X0_judge {M : gM} {a0 : Nat} {x1 : Int32} {x2 : Int32} {x3 : Int32} {Q : Int32 → gM → Prop} {Lc Ls : Nat} (hF : F_X0_judge Lc Ls M a0 x1 x2 x3 Q) : gMx yX0_judge (wsW_ yX0_judge cX0_judge 11 (some .int) [(34, 146, 147, 97), (34, 146, 159, 113)]) (rm_X0_judge Lc Ls) M [.ref a0, .int x1, .int x2, .int x3] (gQi Q) (fun _ _ _ => False) := by
  refine gMetH (bytes := cX0_judge) (maxL := 11) (ret := (some .int)) (hh := [(34, 146, 147, 97), (34, 146, 159, 113)]) rfl rfl (by decide) (Nat.le_of_ble_eq_true rfl) (lv := [(0, .ref a0), (1, .int x1), (2, .int x2), (3, .int x3)]) rfl (fun G hC hT hin => ?_)
  have hu : 0 ≤ Lc ∧ 0 ≤ Ls := ⟨Nat.zero_le _, Nat.zero_le _⟩
  unfold F_X0_judge at hF
  refine g_aload_n 1 hC dX0_judge_0 rfl 0 rfl rfl ?_
  refine g_iload_n 2 hC dX0_judge_1 rfl 1 rfl rfl ?_
  refine g_iload_n 3 hC dX0_judge_2 rfl 2 rfl rfl ?_
  refine g_cV (rest := []) wl_X0_234 hd_X0_isState (ci := 0) rfl 6 hC hF.1 (met_X0_isState hF.2) rfl ⟨Nat.le_of_ble_eq_true rfl, Nat.le_of_ble_eq_true rfl⟩ hu rfl (Nat.le_of_ble_eq_true rfl) dX0_judge_3 rfl (g_ty_i 0 0 (Nat.le_refl _) (Nat.le_refl _) (fun x_2 M_1 hF => ?_))
  refine g_if_eq 9 16 hC dX0_judge_6 (by decide) rfl (fun c => ?_) (fun c => ?_)
  · have hF := hF.1 c
    refine g_sub [0] rfl ?_
    exact w_X0_judge_b16 hC hT _ _ _ hu _ hF
  · have hF := hF.2 c
    refine g_iload_n 10 hC dX0_judge_9 rfl 3 rfl rfl ?_
    refine g_cS (rest := []) wl_X0_78 hd_X0_isShelf 13 hC (met_X0_isShelf hF) rfl ⟨Nat.le_of_ble_eq_true rfl, Nat.le_of_ble_eq_true rfl⟩ hu rfl (Nat.le_of_ble_eq_true rfl) dX0_judge_10 rfl (g_ty_i 0 0 (Nat.le_refl _) (Nat.le_refl _) (fun x_4 M_3 hF => ?_))
    refine g_if_ne 16 23 hC dX0_judge_13 (by decide) rfl (fun c => ?_) (fun c => ?_)
    · have hF := hF.1 c
      refine g_aload_n 24 hC dX0_judge_23 rfl 0 rfl rfl ?_
      refine gf_X0_20_0N 27 hC hF dX0_judge_24 rfl (fun a_5 hF => ?_)
      refine gf_X0_49_1N 30 hC hF dX0_judge_27 rfl (fun a_6 hF => ?_)
      refine g_iload_n 31 hC dX0_judge_30 rfl 1 rfl rfl ?_
      refine g_aaldN 32 hC hF (by decide) rfl (fun _ _ _ => rfl) dX0_judge_31 rfl (fun a_7 hF => ?_)
      refine g_astore 34 hC (lv' := [(4, .ref _), (0, .ref _), (1, .int _), (2, .int _), (3, .int _)]) dX0_judge_32 rfl (by decide) rfl ?_
      refine g_aload_n 35 hC dX0_judge_34 rfl 1 rfl rfl ?_
      refine g_iload_n 36 hC dX0_judge_35 rfl 4 rfl rfl ?_
      obtain ⟨c_10, s_11, hu, hF⟩ := hF
      refine g_xV (rest := []) wl_X0_102 hd_X0_rowIn (ci := 0) rfl 39 hC hF.1 (met_X0_rowIn hF.2) rfl ⟨Nat.le_of_ble_eq_true rfl, Nat.le_of_ble_eq_true rfl⟩ hu rfl (Nat.le_of_ble_eq_true rfl) dX0_judge_36 rfl (g_ty_a (0 + c_10) (0 + s_11) (Nat.le_refl _) (Nat.le_refl _) (fun a_9 M_8 hF => ?_)) (g_tx (0 + c_10) (0 + s_11) (Nat.le_refl _) (Nat.le_refl _) (fun E_ q_12 M_13 hF => ?_))
      · have hF := hF
        refine g_astore 41 hC (lv' := [(5, .ref _), (4, .ref _), (0, .ref _), (1, .int _), (2, .int _), (3, .int _)]) dX0_judge_39 rfl (by decide) rfl ?_
        refine g_iconst 42 hC (0 : Int32) dX0_judge_41 (by decide) rfl ?_
        refine g_istore 44 hC (lv' := [(6, .int _), (5, .ref _), (4, .ref _), (0, .ref _), (1, .int _), (2, .int _), (3, .int _)]) dX0_judge_42 rfl (by decide) rfl ?_
        refine g_iconst 45 hC (0 : Int32) dX0_judge_44 (by decide) rfl ?_
        refine g_istore 47 hC (lv' := [(7, .int _), (6, .int _), (5, .ref _), (4, .ref _), (0, .ref _), (1, .int _), (2, .int _), (3, .int _)]) dX0_judge_45 rfl (by decide) rfl ?_
        refine g_iconst 48 hC (0 : Int32) dX0_judge_47 (by decide) rfl ?_
        refine g_istore 50 hC (lv' := [(8, .int _), (7, .int _), (6, .int _), (5, .ref _), (4, .ref _), (0, .ref _), (1, .int _), (2, .int _), (3, .int _)]) dX0_judge_48 rfl (by decide) rfl ?_
        refine g_sub [5, 7, 4, 3, 2, 1, 0] rfl ?_
        obtain ⟨n_17, hF⟩ := hF
        exact w_X0_judge_b50 hC hT _ _ _ _ n_17 _ _ _ _ _ hu _ hF
      · have hF := hF
        obtain ⟨hE_, hF⟩ := hF
        rw [hE_]
        refine g_catch hC hT [] ⟨34, 146, 147, 97⟩ [⟨34, 146, 159, 113⟩] rfl (fun _ h => absurd h List.not_mem_nil) rfl (by decide) q279 q305 147 rfl ?_
        refine g_astore 149 hC (lv' := [(5, .ref _), (4, .ref _), (0, .ref _), (1, .int _), (2, .int _), (3, .int _)]) dX0_judge_147 rfl (by decide) rfl ?_
        refine g_aload_n 150 hC dX0_judge_149 rfl 2 rfl rfl ?_
        refine g_aload 152 hC dX0_judge_150 rfl 0 rfl ?_
        refine gf_X0_110_4I 155 hC hF dX0_judge_152 rfl (fun x_14 hF => ?_)
        refine g_cV (rest := []) wl_X0_81 hd_X0_no (ci := 0) rfl 158 hC hF.1 (met_X0_no hF.2) rfl ⟨Nat.le_of_ble_eq_true rfl, Nat.le_of_ble_eq_true rfl⟩ hu rfl (Nat.le_of_ble_eq_true rfl) dX0_judge_155 rfl (g_ty_i (0 + c_10) (0 + s_11) (Nat.le_refl _) (Nat.le_refl _) (fun x_16 M_15 hF => ?_))
        exact g_ireturn hC ⟨_, rfl, hF⟩ dX0_judge_158 hu.1 hu.2
    · have hF := hF.2 c
      refine g_sub [0] rfl ?_
      exact w_X0_judge_b16 hC hT _ _ _ hu _ hF
theorem hd_X12_joined : yX12_joined.cls = RX12 ∧ yX12_joined.cls ≠ "java/lang/invoke/MethodHandle" ∧ yX12_joined.cls ≠ "java/lang/invoke/VarHandle" ∧ (parseMethodDescriptor yX12_joined.desc).map (fun d => d.parameters.length) = some 1 := by decide +kernel
theorem wl_X0_303 : GoodIn lw_all (wsV RX0 303 RX12 yX12_joined (ws_ yX12_joined cX12_joined 4 (some (.object "SendTheBox$House")))) := lw_V q1252 q1253 q1254 q92 q1255
abbrev rm_X0_joined (Lc Ls : Nat) : Room := { frames := 5, cells := Lc, slots := Ls, locals := 117 }
def F_X0_joined_b21 (Q : Nat → gM → Prop) (X : String → Nat → gM → Prop) (Lc Ls : Nat)    (u v : Nat) (M : gM) : Prop :=
  nO M u v Lc Ls 4 7 fun a_1 M_2 =>
  F_X4_init M_2 a_1 (-2 : Int32) fun M_3 =>
  (kd M_3 a_1 = some (true, .inl 4)) ∧
  X "SendTheBox$Refused" a_1 M_3
theorem w_X0_joined_b21 {G : gG} {Q : Nat → gM → Prop} {X : String → Nat → gM → Prop} {Lc Ls : Nat} (hC : gCx G cX0_joined 5 RX0 (some (.object "SendTheBox$House")) (gQa Q) (rm_X0_joined Lc Ls)) (hT : gTx G X (rm_X0_joined Lc Ls) [])     (u v : Nat) (hu : u ≤ Lc ∧ v ≤ Ls) (M : gM) (hF : F_X0_joined_b21 Q X Lc Ls u v M) : gAt G u v M [] 21 [] := by
  unfold F_X0_joined_b21 at hF
  have hu := hF.1
  refine g_new (C := RX4) (T := TX4) (N := 7) (ci := 4) in_X4 tyX4_ok (by decide) rfl q279 q304 q80 24 hC hF dX0_joined_21 rfl (fun a_1 M_2 hF => ?_)
  refine g_dup 25 hC dX0_joined_24 rfl rfl ?_
  refine g_bipush 27 hC (-2 : Int32) dX0_joined_25 (by decide) rfl ?_
  refine g_cI (rest := [_]) q314 q80 q312 q313 rfl hd_X4_init 30 hC (met_X4_init hF) rfl ⟨Nat.le_of_ble_eq_true rfl, Nat.le_of_ble_eq_true rfl⟩ hu rfl (Nat.le_of_ble_eq_true rfl) dX0_joined_27 rfl (g_ty_v (u + 1) (v + 7) (Nat.le_refl _) (Nat.le_refl _) (fun M_3 hF => ?_))
  refine g_athrow (ci := 4) rfl hC hF.1 dX0_joined_30 ?_
  have hF := hF.2
  exact g_out hC hT (fun _ h => absurd h List.not_mem_nil) hF hu
def F_X0_joined_b78 (Q : Nat → gM → Prop) (X : String → Nat → gM → Prop) (Lc Ls : Nat)    (u v : Nat) (M : gM) : Prop :=
  nO M u v Lc Ls 4 7 fun a_1 M_2 =>
  F_X4_init M_2 a_1 (-5 : Int32) fun M_3 =>
  (kd M_3 a_1 = some (true, .inl 4)) ∧
  X "SendTheBox$Refused" a_1 M_3
theorem w_X0_joined_b78 {G : gG} {Q : Nat → gM → Prop} {X : String → Nat → gM → Prop} {Lc Ls : Nat} (hC : gCx G cX0_joined 5 RX0 (some (.object "SendTheBox$House")) (gQa Q) (rm_X0_joined Lc Ls)) (hT : gTx G X (rm_X0_joined Lc Ls) [])     (u v : Nat) (hu : u ≤ Lc ∧ v ≤ Ls) (M : gM) (hF : F_X0_joined_b78 Q X Lc Ls u v M) : gAt G u v M [] 78 [] := by
  unfold F_X0_joined_b78 at hF
  have hu := hF.1
  refine g_new (C := RX4) (T := TX4) (N := 7) (ci := 4) in_X4 tyX4_ok (by decide) rfl q279 q304 q80 81 hC hF dX0_joined_78 rfl (fun a_1 M_2 hF => ?_)
  refine g_dup 82 hC dX0_joined_81 rfl rfl ?_
  refine g_bipush 84 hC (-5 : Int32) dX0_joined_82 (by decide) rfl ?_
  refine g_cI (rest := [_]) q314 q80 q312 q313 rfl hd_X4_init 87 hC (met_X4_init hF) rfl ⟨Nat.le_of_ble_eq_true rfl, Nat.le_of_ble_eq_true rfl⟩ hu rfl (Nat.le_of_ble_eq_true rfl) dX0_joined_84 rfl (g_ty_v (u + 1) (v + 7) (Nat.le_refl _) (Nat.le_refl _) (fun M_3 hF => ?_))
  refine g_athrow (ci := 4) rfl hC hF.1 dX0_joined_87 ?_
  have hF := hF.2
  exact g_out hC hT (fun _ h => absurd h List.not_mem_nil) hF hu
def F_X0_joined (Lc Ls : Nat) (M : gM) (a0 : Nat) (x1 : Int32) (x2 : Int32) (Q : Nat → gM → Prop) (X : String → Nat → gM → Prop) : Prop :=
  rc M 0 a0 ∧ F_X0_isHouse M a0 x1 fun x_2 M_1 =>
  ((x_2 = 0 →
    F_X0_joined_b21 Q X Lc Ls 0 0 M_1) ∧
    (¬ x_2 = 0 →
    rc M_1 0 a0 ∧ F_X0_isHouse M_1 a0 x2 fun x_4 M_3 =>
    ((x_4 = 0 →
      F_X0_joined_b21 Q X Lc Ls 0 0 M_3) ∧
      (¬ x_4 = 0 →
      ((¬ x1 = x2 →
        gN M_3 0 a0 0 fun a_5 =>
        gN M_3 1 a_5 0 fun a_6 =>
        aN M_3 (.object "SendTheBox$House") a_6 x1 fun a_7 =>
        gN M_3 0 a0 0 fun a_8 =>
        gN M_3 1 a_8 0 fun a_9 =>
        aN M_3 (.object "SendTheBox$House") a_9 x2 fun a_10 =>
        gI M_3 12 a_7 0 fun x_11 =>
        gI M_3 12 a_10 0 fun x_12 =>
        ((¬ x_11 = x_12 →
          F_X0_joined_b78 Q X Lc Ls 0 0 M_3) ∧
          (x_11 = x_12 →
          gI M_3 12 a_7 4 fun x_13 =>
          gI M_3 12 a_10 4 fun x_14 =>
          (((x_13 + x_14) ≤ (3 : Int32) →
            ∃ c_17 s_18, (0 + c_17 ≤ Lc ∧ 0 + s_18 ≤ Ls) ∧
            rc M_3 12 a_7 ∧ F_X12_joined c_17 s_18 M_3 a_7 a_10 fun a_16 M_15 =>
            Q a_16 M_15) ∧
            (¬ (x_13 + x_14) ≤ (3 : Int32) →
            F_X0_joined_b78 Q X Lc Ls 0 0 M_3))))) ∧
        (x1 = x2 →
        F_X0_joined_b21 Q X Lc Ls 0 0 M_3))))))
theorem met_X0_joined {M : gM} {a0 : Nat} {x1 : Int32} {x2 : Int32} {Q : Nat → gM → Prop} {X : String → Nat → gM → Prop} {Lc Ls : Nat} (hF : F_X0_joined Lc Ls M a0 x1 x2 Q X) : gMx yX0_joined (ws_ yX0_joined cX0_joined 5 (some (.object "SendTheBox$House"))) (rm_X0_joined Lc Ls) M [.ref a0, .int x1, .int x2] (gQa Q) X := by
  refine gMetX (bytes := cX0_joined) (maxL := 5) (ret := (some (.object "SendTheBox$House"))) rfl rfl (by decide) (Nat.le_of_ble_eq_true rfl) (lv := [(0, .ref a0), (1, .int x1), (2, .int x2)]) rfl (fun G hC hT hin => ?_)
  have hu : 0 ≤ Lc ∧ 0 ≤ Ls := ⟨Nat.zero_le _, Nat.zero_le _⟩
  unfold F_X0_joined at hF
  refine g_aload_n 1 hC dX0_joined_0 rfl 0 rfl rfl ?_
  refine g_iload_n 2 hC dX0_joined_1 rfl 1 rfl rfl ?_
  refine g_cV (rest := []) wl_X0_45 hd_X0_isHouse (ci := 0) rfl 5 hC hF.1 (met_X0_isHouse hF.2) rfl ⟨Nat.le_of_ble_eq_true rfl, Nat.le_of_ble_eq_true rfl⟩ hu rfl (Nat.le_of_ble_eq_true rfl) dX0_joined_2 rfl (g_ty_i 0 0 (Nat.le_refl _) (Nat.le_refl _) (fun x_2 M_1 hF => ?_))
  refine g_if_eq 8 21 hC dX0_joined_5 (by decide) rfl (fun c => ?_) (fun c => ?_)
  · have hF := hF.1 c
    refine g_sub [] rfl ?_
    exact w_X0_joined_b21 hC hT _ _ hu _ hF
  · have hF := hF.2 c
    refine g_aload_n 9 hC dX0_joined_8 rfl 0 rfl rfl ?_
    refine g_iload_n 10 hC dX0_joined_9 rfl 2 rfl rfl ?_
    refine g_cV (rest := []) wl_X0_45 hd_X0_isHouse (ci := 0) rfl 13 hC hF.1 (met_X0_isHouse hF.2) rfl ⟨Nat.le_of_ble_eq_true rfl, Nat.le_of_ble_eq_true rfl⟩ hu rfl (Nat.le_of_ble_eq_true rfl) dX0_joined_10 rfl (g_ty_i 0 0 (Nat.le_refl _) (Nat.le_refl _) (fun x_4 M_3 hF => ?_))
    refine g_if_eq 16 21 hC dX0_joined_13 (by decide) rfl (fun c => ?_) (fun c => ?_)
    · have hF := hF.1 c
      refine g_sub [] rfl ?_
      exact w_X0_joined_b21 hC hT _ _ hu _ hF
    · have hF := hF.2 c
      refine g_iload_n 17 hC dX0_joined_16 rfl 1 rfl rfl ?_
      refine g_iload_n 18 hC dX0_joined_17 rfl 2 rfl rfl ?_
      refine g_icmp_ne 21 31 hC dX0_joined_18 (by decide) rfl (fun c => ?_) (fun c => ?_)
      · have hF := hF.1 c
        refine g_aload_n 32 hC dX0_joined_31 rfl 0 rfl rfl ?_
        refine gf_X0_20_0N 35 hC hF dX0_joined_32 rfl (fun a_5 hF => ?_)
        refine gf_X0_49_1N 38 hC hF dX0_joined_35 rfl (fun a_6 hF => ?_)
        refine g_iload_n 39 hC dX0_joined_38 rfl 1 rfl rfl ?_
        refine g_aaldN 40 hC hF (by decide) rfl (fun _ _ _ => rfl) dX0_joined_39 rfl (fun a_7 hF => ?_)
        refine g_astore_n 41 hC (lv' := [(3, .ref _), (0, .ref _), (1, .int _), (2, .int _)]) dX0_joined_40 rfl rfl (by decide) rfl ?_
        refine g_aload_n 42 hC dX0_joined_41 rfl 1 rfl rfl ?_
        refine gf_X0_20_0N 45 hC hF dX0_joined_42 rfl (fun a_8 hF => ?_)
        refine gf_X0_49_1N 48 hC hF dX0_joined_45 rfl (fun a_9 hF => ?_)
        refine g_iload_n 49 hC dX0_joined_48 rfl 3 rfl rfl ?_
        refine g_aaldN 50 hC hF (by decide) rfl (fun _ _ _ => rfl) dX0_joined_49 rfl (fun a_10 hF => ?_)
        refine g_astore 52 hC (lv' := [(4, .ref _), (3, .ref _), (0, .ref _), (1, .int _), (2, .int _)]) dX0_joined_50 rfl (by decide) rfl ?_
        refine g_aload_n 53 hC dX0_joined_52 rfl 1 rfl rfl ?_
        refine gf_X0_62_12I 56 hC hF dX0_joined_53 rfl (fun x_11 hF => ?_)
        refine g_aload 58 hC dX0_joined_56 rfl 0 rfl ?_
        refine gf_X0_62_12I 61 hC hF dX0_joined_58 rfl (fun x_12 hF => ?_)
        refine g_icmp_ne 64 78 hC dX0_joined_61 (by decide) rfl (fun c => ?_) (fun c => ?_)
        · have hF := hF.1 c
          refine g_sub [] rfl ?_
          exact w_X0_joined_b78 hC hT _ _ hu _ hF
        · have hF := hF.2 c
          refine g_aload_n 65 hC dX0_joined_64 rfl 1 rfl rfl ?_
          refine gf_X0_53_12I 68 hC hF dX0_joined_65 rfl (fun x_13 hF => ?_)
          refine g_aload 70 hC dX0_joined_68 rfl 0 rfl ?_
          refine gf_X0_53_12I 73 hC hF dX0_joined_70 rfl (fun x_14 hF => ?_)
          refine g_iadd 74 hC dX0_joined_73 rfl ?_
          refine g_iconst 75 hC (3 : Int32) dX0_joined_74 (by decide) rfl ?_
          refine g_icmp_le 78 88 hC dX0_joined_75 (by decide) rfl (fun c => ?_) (fun c => ?_)
          · have hF := hF.1 c
            refine g_aload_n 89 hC dX0_joined_88 rfl 1 rfl rfl ?_
            refine g_aload 91 hC dX0_joined_89 rfl 0 rfl ?_
            obtain ⟨c_17, s_18, hu, hF⟩ := hF
            refine g_cV (rest := []) wl_X0_303 hd_X12_joined (ci := 12) rfl 94 hC hF.1 (met_X12_joined hF.2) rfl ⟨Nat.le_of_ble_eq_true rfl, Nat.le_of_ble_eq_true rfl⟩ hu rfl (Nat.le_of_ble_eq_true rfl) dX0_joined_91 rfl (g_ty_a (0 + c_17) (0 + s_18) (Nat.le_refl _) (Nat.le_refl _) (fun a_16 M_15 hF => ?_))
            exact g_areturn (v := some a_16) hC (Or.inl ⟨_, rfl⟩) ⟨_, rfl, hF⟩ dX0_joined_94 hu.1 hu.2
          · have hF := hF.2 c
            refine g_sub [] rfl ?_
            exact w_X0_joined_b78 hC hT _ _ hu _ hF
      · have hF := hF.2 c
        refine g_sub [] rfl ?_
        exact w_X0_joined_b21 hC hT _ _ hu _ hF
theorem hd_X0_joined : yX0_joined.cls = RX0 ∧ yX0_joined.cls ≠ "java/lang/invoke/MethodHandle" ∧ yX0_joined.cls ≠ "java/lang/invoke/VarHandle" ∧ (parseMethodDescriptor yX0_joined.desc).map (fun d => d.parameters.length) = some 2 := by decide +kernel
theorem wl_X0_307 : GoodIn lw_all (wsV RX0 307 RX0 yX0_joined (ws_ yX0_joined cX0_joined 5 (some (.object "SendTheBox$House")))) := lw_V q1248 q1250 qs26 q69 q1251
abbrev rm_X0_join (Lc Ls : Nat) : Room := { frames := 6, cells := Lc, slots := Ls, locals := 141 }
def F_X0_join (Lc Ls : Nat) (M : gM) (a0 : Nat) (x1 : Int32) (x2 : Int32) (Q : Int32 → gM → Prop)  : Prop :=
  ∃ c_3 s_4, (0 + c_3 ≤ Lc ∧ 0 + s_4 ≤ Ls) ∧
  rc M 0 a0 ∧ F_X0_joined c_3 s_4 M a0 x1 x2 (fun a_2 M_1 =>
  gN M_1 0 a0 0 fun a_10 =>
    gI M_1 1 a_10 1 fun x_11 =>
    ((¬ x_11 = (6 : Int32) →
      gN M_1 0 a0 0 fun a_12 =>
      gN M_1 1 a_12 0 fun a_13 =>
      gN M_1 0 a0 0 fun a_14 =>
      gI M_1 1 a_14 1 fun x_15 =>
      uR M_1 (.object "SendTheBox$House") 12 a_13 x_15 a_2 fun M_16 =>
      gN M_16 0 a0 0 fun a_17 =>
      gI M_16 1 a_17 1 fun x_18 =>
      pI M_16 1 a_17 1 (x_18 + (1 : Int32)) fun M_19 =>
      Q x_18 M_19) ∧
      (x_11 = (6 : Int32) →
      rc M_1 0 a0 ∧ F_X0_no M_1 a0 (-6 : Int32) fun x_21 M_20 =>
      Q x_21 M_20))) (fun E_ q_5 M_6 =>
    (E_ = "SendTheBox$Refused" ∧
    gI M_6 4 q_5 6 fun x_7 =>
    rc M_6 0 a0 ∧ F_X0_no M_6 a0 x_7 fun x_9 M_8 =>
    Q x_9 M_8))
theorem met_X0_join {M : gM} {a0 : Nat} {x1 : Int32} {x2 : Int32} {Q : Int32 → gM → Prop} {Lc Ls : Nat} (hF : F_X0_join Lc Ls M a0 x1 x2 Q) : gMx yX0_join (wsW_ yX0_join cX0_join 4 (some .int) [(0, 25, 57, 97), (26, 56, 57, 97)]) (rm_X0_join Lc Ls) M [.ref a0, .int x1, .int x2] (gQi Q) (fun _ _ _ => False) := by
  refine gMetH (bytes := cX0_join) (maxL := 4) (ret := (some .int)) (hh := [(0, 25, 57, 97), (26, 56, 57, 97)]) rfl rfl (by decide) (Nat.le_of_ble_eq_true rfl) (lv := [(0, .ref a0), (1, .int x1), (2, .int x2)]) rfl (fun G hC hT hin => ?_)
  have hu : 0 ≤ Lc ∧ 0 ≤ Ls := ⟨Nat.zero_le _, Nat.zero_le _⟩
  unfold F_X0_join at hF
  refine g_aload_n 1 hC dX0_join_0 rfl 0 rfl rfl ?_
  refine g_iload_n 2 hC dX0_join_1 rfl 1 rfl rfl ?_
  refine g_iload_n 3 hC dX0_join_2 rfl 2 rfl rfl ?_
  obtain ⟨c_3, s_4, hu, hF⟩ := hF
  refine g_xV (rest := []) wl_X0_307 hd_X0_joined (ci := 0) rfl 6 hC hF.1 (met_X0_joined hF.2) rfl ⟨Nat.le_of_ble_eq_true rfl, Nat.le_of_ble_eq_true rfl⟩ hu rfl (Nat.le_of_ble_eq_true rfl) dX0_join_3 rfl (g_ty_a (0 + c_3) (0 + s_4) (Nat.le_refl _) (Nat.le_refl _) (fun a_2 M_1 hF => ?_)) (g_tx (0 + c_3) (0 + s_4) (Nat.le_refl _) (Nat.le_refl _) (fun E_ q_5 M_6 hF => ?_))
  · have hF := hF
    refine g_astore_n 7 hC (lv' := [(3, .ref _), (0, .ref _), (1, .int _), (2, .int _)]) dX0_join_6 rfl rfl (by decide) rfl ?_
    refine g_aload_n 8 hC dX0_join_7 rfl 1 rfl rfl ?_
    refine gf_X0_20_0N 11 hC hF dX0_join_8 rfl (fun a_10 hF => ?_)
    refine gf_X0_41_1I 14 hC hF dX0_join_11 rfl (fun x_11 hF => ?_)
    refine g_bipush 16 hC (6 : Int32) dX0_join_14 (by decide) rfl ?_
    refine g_icmp_ne 19 26 hC dX0_join_16 (by decide) rfl (fun c => ?_) (fun c => ?_)
    · have hF := hF.1 c
      refine g_aload_n 27 hC dX0_join_26 rfl 1 rfl rfl ?_
      refine gf_X0_20_0N 30 hC hF dX0_join_27 rfl (fun a_12 hF => ?_)
      refine gf_X0_49_1N 33 hC hF dX0_join_30 rfl (fun a_13 hF => ?_)
      refine g_aload_n 34 hC dX0_join_33 rfl 1 rfl rfl ?_
      refine gf_X0_20_0N 37 hC hF dX0_join_34 rfl (fun a_14 hF => ?_)
      refine gf_X0_41_1I 40 hC hF dX0_join_37 rfl (fun x_15 hF => ?_)
      refine g_aload_n 41 hC dX0_join_40 rfl 0 rfl rfl ?_
      refine g_aast (C := RX12) (by decide) rfl 42 hC hF dX0_join_41 rfl (fun M_16 hF => ?_)
      refine g_aload_n 43 hC dX0_join_42 rfl 1 rfl rfl ?_
      refine gf_X0_20_0N 46 hC hF dX0_join_43 rfl (fun a_17 hF => ?_)
      refine g_dup 47 hC dX0_join_46 rfl rfl ?_
      refine gf_X0_41_1I 50 hC hF dX0_join_47 rfl (fun x_18 hF => ?_)
      refine g_dup_x1 51 hC dX0_join_50 rfl rfl rfl ?_
      refine g_iconst 52 hC (1 : Int32) dX0_join_51 (by decide) rfl ?_
      refine g_iadd 53 hC dX0_join_52 rfl ?_
      refine g_putI (C := RX1) (T := TX1) (N := 4) (ci := 1) (k := 1) (ty := .int) in_X1 tyX1 tyX1_ok nmX1 rfl (by decide) q122 rfl rfl (fun _ _ _ => rfl) rfl rfl 56 hC hF dX0_join_53 rfl (fun M_19 hF => ?_)
      exact g_ireturn hC ⟨_, rfl, hF⟩ dX0_join_56 hu.1 hu.2
    · have hF := hF.2 c
      refine g_aload_n 20 hC dX0_join_19 rfl 1 rfl rfl ?_
      refine g_bipush 22 hC (-6 : Int32) dX0_join_20 (by decide) rfl ?_
      refine g_cV (rest := []) wl_X0_81 hd_X0_no (ci := 0) rfl 25 hC hF.1 (met_X0_no hF.2) rfl ⟨Nat.le_of_ble_eq_true rfl, Nat.le_of_ble_eq_true rfl⟩ hu rfl (Nat.le_of_ble_eq_true rfl) dX0_join_22 rfl (g_ty_i (0 + c_3) (0 + s_4) (Nat.le_refl _) (Nat.le_refl _) (fun x_21 M_20 hF => ?_))
      exact g_ireturn hC ⟨_, rfl, hF⟩ dX0_join_25 hu.1 hu.2
  · have hF := hF
    obtain ⟨hE_, hF⟩ := hF
    rw [hE_]
    refine g_catch hC hT [] ⟨0, 25, 57, 97⟩ [⟨26, 56, 57, 97⟩] rfl (fun _ h => absurd h List.not_mem_nil) rfl (by decide) q279 q305 57 rfl ?_
    refine g_astore_n 58 hC (lv' := [(3, .ref _), (0, .ref _), (1, .int _), (2, .int _)]) dX0_join_57 rfl rfl (by decide) rfl ?_
    refine g_aload_n 59 hC dX0_join_58 rfl 1 rfl rfl ?_
    refine g_aload_n 60 hC dX0_join_59 rfl 0 rfl rfl ?_
    refine gf_X0_110_4I 63 hC hF dX0_join_60 rfl (fun x_7 hF => ?_)
    refine g_cV (rest := []) wl_X0_81 hd_X0_no (ci := 0) rfl 66 hC hF.1 (met_X0_no hF.2) rfl ⟨Nat.le_of_ble_eq_true rfl, Nat.le_of_ble_eq_true rfl⟩ hu rfl (Nat.le_of_ble_eq_true rfl) dX0_join_63 rfl (g_ty_i (0 + c_3) (0 + s_4) (Nat.le_refl _) (Nat.le_refl _) (fun x_9 M_8 hF => ?_))
    exact g_ireturn hC ⟨_, rfl, hF⟩ dX0_join_66 hu.1 hu.2
abbrev rm_X0_saved (Lc Ls : Nat) : Room := { frames := 7, cells := Lc, slots := Ls, locals := 158 }
def F_X0_saved (Lc Ls : Nat) (M : gM) (a0 : Nat) (x1 : Int32) (x2 : Int32) (Q : Int64 → gM → Prop)  : Prop :=
  ∃ c_3 s_4, (0 + c_3 ≤ Lc ∧ 0 + s_4 ≤ Ls) ∧
  rc M 0 a0 ∧ F_X0_joined c_3 s_4 M a0 x1 x2 (fun a_2 M_1 =>
  gN M_1 0 a0 0 fun a_10 =>
    gN M_1 1 a_10 0 fun a_11 =>
    aN M_1 (.object "SendTheBox$House") a_11 x1 fun a_12 =>
    gN M_1 0 a0 0 fun a_13 =>
    gN M_1 1 a_13 0 fun a_14 =>
    aN M_1 (.object "SendTheBox$House") a_14 x2 fun a_15 =>
    gI M_1 12 a_12 0 fun x_16 =>
    ∃ c_19 s_20, ((0 + c_3) + c_19 ≤ Lc ∧ (0 + s_4) + s_20 ≤ Ls) ∧
    rc M_1 12 a_12 ∧ F_X12_cost c_19 s_20 M_1 a_12 x_16 (0 : Int32) fun j_18 M_17 =>
    gI M_17 12 a_12 0 fun x_21 =>
    gI M_17 12 a_15 4 fun x_22 =>
    gI M_17 12 a_15 0 fun x_23 =>
    ∃ c_26 s_27, (((0 + c_3) + c_19) + c_26 ≤ Lc ∧ ((0 + s_4) + s_20) + s_27 ≤ Ls) ∧
    rc M_17 12 a_15 ∧ F_X12_cost c_26 s_27 M_17 a_15 x_23 (0 : Int32) fun j_25 M_24 =>
    gI M_24 12 a_12 0 fun x_28 =>
    gI M_24 12 a_12 4 fun x_29 =>
    gI M_24 12 a_2 0 fun x_30 =>
    ∃ c_33 s_34, ((((0 + c_3) + c_19) + c_26) + c_33 ≤ Lc ∧ (((0 + s_4) + s_20) + s_27) + s_34 ≤ Ls) ∧
    rc M_24 12 a_2 ∧ F_X12_cost c_33 s_34 M_24 a_2 x_30 (0 : Int32) fun j_32 M_31 =>
    Q (if (((j_18 <<< ((((2 : Int32) * x_21) * x_22).toInt64 &&& 63)) + (j_25 <<< ((((2 : Int32) * x_28) * x_29).toInt64 &&& 63))) - j_32) < (0 : Int64) then (0 : Int64) else (((j_18 <<< ((((2 : Int32) * x_21) * x_22).toInt64 &&& 63)) + (j_25 <<< ((((2 : Int32) * x_28) * x_29).toInt64 &&& 63))) - j_32)) M_31) (fun E_ q_5 M_6 =>
    (E_ = "SendTheBox$Refused" ∧
    gI M_6 4 q_5 6 fun x_7 =>
    rc M_6 0 a0 ∧ F_X0_no M_6 a0 x_7 fun x_9 M_8 =>
    Q x_9.toInt64 M_8))
theorem met_X0_saved {M : gM} {a0 : Nat} {x1 : Int32} {x2 : Int32} {Q : Int64 → gM → Prop} {Lc Ls : Nat} (hF : F_X0_saved Lc Ls M a0 x1 x2 Q) : gMx yX0_saved (wsW_ yX0_saved cX0_saved 8 (some .long) [(0, 98, 99, 97)]) (rm_X0_saved Lc Ls) M [.ref a0, .int x1, .int x2] (gQj Q) (fun _ _ _ => False) := by
  refine gMetH (bytes := cX0_saved) (maxL := 8) (ret := (some .long)) (hh := [(0, 98, 99, 97)]) rfl rfl (by decide) (Nat.le_of_ble_eq_true rfl) (lv := [(0, .ref a0), (1, .int x1), (2, .int x2)]) rfl (fun G hC hT hin => ?_)
  have hu : 0 ≤ Lc ∧ 0 ≤ Ls := ⟨Nat.zero_le _, Nat.zero_le _⟩
  unfold F_X0_saved at hF
  refine g_aload_n 1 hC dX0_saved_0 rfl 0 rfl rfl ?_
  refine g_iload_n 2 hC dX0_saved_1 rfl 1 rfl rfl ?_
  refine g_iload_n 3 hC dX0_saved_2 rfl 2 rfl rfl ?_
  obtain ⟨c_3, s_4, hu, hF⟩ := hF
  refine g_xV (rest := []) wl_X0_307 hd_X0_joined (ci := 0) rfl 6 hC hF.1 (met_X0_joined hF.2) rfl ⟨Nat.le_of_ble_eq_true rfl, Nat.le_of_ble_eq_true rfl⟩ hu rfl (Nat.le_of_ble_eq_true rfl) dX0_saved_3 rfl (g_ty_a (0 + c_3) (0 + s_4) (Nat.le_refl _) (Nat.le_refl _) (fun a_2 M_1 hF => ?_)) (g_tx (0 + c_3) (0 + s_4) (Nat.le_refl _) (Nat.le_refl _) (fun E_ q_5 M_6 hF => ?_))
  · have hF := hF
    refine g_astore_n 7 hC (lv' := [(3, .ref _), (0, .ref _), (1, .int _), (2, .int _)]) dX0_saved_6 rfl rfl (by decide) rfl ?_
    refine g_aload_n 8 hC dX0_saved_7 rfl 1 rfl rfl ?_
    refine gf_X0_20_0N 11 hC hF dX0_saved_8 rfl (fun a_10 hF => ?_)
    refine gf_X0_49_1N 14 hC hF dX0_saved_11 rfl (fun a_11 hF => ?_)
    refine g_iload_n 15 hC dX0_saved_14 rfl 2 rfl rfl ?_
    refine g_aaldN 16 hC hF (by decide) rfl (fun _ _ _ => rfl) dX0_saved_15 rfl (fun a_12 hF => ?_)
    refine g_astore 18 hC (lv' := [(4, .ref _), (3, .ref _), (0, .ref _), (1, .int _), (2, .int _)]) dX0_saved_16 rfl (by decide) rfl ?_
    refine g_aload_n 19 hC dX0_saved_18 rfl 2 rfl rfl ?_
    refine gf_X0_20_0N 22 hC hF dX0_saved_19 rfl (fun a_13 hF => ?_)
    refine gf_X0_49_1N 25 hC hF dX0_saved_22 rfl (fun a_14 hF => ?_)
    refine g_iload_n 26 hC dX0_saved_25 rfl 4 rfl rfl ?_
    refine g_aaldN 27 hC hF (by decide) rfl (fun _ _ _ => rfl) dX0_saved_26 rfl (fun a_15 hF => ?_)
    refine g_astore 29 hC (lv' := [(5, .ref _), (4, .ref _), (3, .ref _), (0, .ref _), (1, .int _), (2, .int _)]) dX0_saved_27 rfl (by decide) rfl ?_
    refine g_aload 31 hC dX0_saved_29 rfl 1 rfl ?_
    refine g_aload 33 hC dX0_saved_31 rfl 1 rfl ?_
    refine gf_X0_62_12I 36 hC hF dX0_saved_33 rfl (fun x_16 hF => ?_)
    refine g_iconst 37 hC (0 : Int32) dX0_saved_36 (by decide) rfl ?_
    obtain ⟨c_19, s_20, hu, hF⟩ := hF
    refine g_cV (rest := []) wl_X0_246 hd_X12_cost (ci := 12) rfl 40 hC hF.1 (met_X12_cost hF.2) rfl ⟨Nat.le_of_ble_eq_true rfl, Nat.le_of_ble_eq_true rfl⟩ hu rfl (Nat.le_of_ble_eq_true rfl) dX0_saved_37 rfl (g_ty_j ((0 + c_3) + c_19) ((0 + s_4) + s_20) (Nat.le_refl _) (Nat.le_refl _) (fun j_18 M_17 hF => ?_))
    refine g_iconst 41 hC (2 : Int32) dX0_saved_40 (by decide) rfl ?_
    refine g_aload 43 hC dX0_saved_41 rfl 1 rfl ?_
    refine gf_X0_62_12I 46 hC hF dX0_saved_43 rfl (fun x_21 hF => ?_)
    refine g_imul 47 hC dX0_saved_46 rfl ?_
    refine g_aload 49 hC dX0_saved_47 rfl 0 rfl ?_
    refine gf_X0_53_12I 52 hC hF dX0_saved_49 rfl (fun x_22 hF => ?_)
    refine g_imul 53 hC dX0_saved_52 rfl ?_
    refine g_lshl 54 hC dX0_saved_53 rfl ?_
    refine g_aload 56 hC dX0_saved_54 rfl 0 rfl ?_
    refine g_aload 58 hC dX0_saved_56 rfl 0 rfl ?_
    refine gf_X0_62_12I 61 hC hF dX0_saved_58 rfl (fun x_23 hF => ?_)
    refine g_iconst 62 hC (0 : Int32) dX0_saved_61 (by decide) rfl ?_
    obtain ⟨c_26, s_27, hu, hF⟩ := hF
    refine g_cV (rest := [_]) wl_X0_246 hd_X12_cost (ci := 12) rfl 65 hC hF.1 (met_X12_cost hF.2) rfl ⟨Nat.le_of_ble_eq_true rfl, Nat.le_of_ble_eq_true rfl⟩ hu rfl (Nat.le_of_ble_eq_true rfl) dX0_saved_62 rfl (g_ty_j (((0 + c_3) + c_19) + c_26) (((0 + s_4) + s_20) + s_27) (Nat.le_refl _) (Nat.le_refl _) (fun j_25 M_24 hF => ?_))
    refine g_iconst 66 hC (2 : Int32) dX0_saved_65 (by decide) rfl ?_
    refine g_aload 68 hC dX0_saved_66 rfl 1 rfl ?_
    refine gf_X0_62_12I 71 hC hF dX0_saved_68 rfl (fun x_28 hF => ?_)
    refine g_imul 72 hC dX0_saved_71 rfl ?_
    refine g_aload 74 hC dX0_saved_72 rfl 1 rfl ?_
    refine gf_X0_53_12I 77 hC hF dX0_saved_74 rfl (fun x_29 hF => ?_)
    refine g_imul 78 hC dX0_saved_77 rfl ?_
    refine g_lshl 79 hC dX0_saved_78 rfl ?_
    refine g_ladd 80 hC dX0_saved_79 rfl ?_
    refine g_lstore 82 hC (lv' := [(6, .long _), (5, .ref _), (4, .ref _), (3, .ref _), (0, .ref _), (1, .int _), (2, .int _)]) dX0_saved_80 rfl (by decide) rfl ?_
    refine g_lconst 83 hC (0 : Int64) dX0_saved_82 (by decide) rfl ?_
    refine g_lload 85 hC dX0_saved_83 rfl 0 rfl ?_
    refine g_aload_n 86 hC dX0_saved_85 rfl 3 rfl rfl ?_
    refine g_aload_n 87 hC dX0_saved_86 rfl 3 rfl rfl ?_
    refine gf_X0_62_12I 90 hC hF dX0_saved_87 rfl (fun x_30 hF => ?_)
    refine g_iconst 91 hC (0 : Int32) dX0_saved_90 (by decide) rfl ?_
    obtain ⟨c_33, s_34, hu, hF⟩ := hF
    refine g_cV (rest := [_, _]) wl_X0_246 hd_X12_cost (ci := 12) rfl 94 hC hF.1 (met_X12_cost hF.2) rfl ⟨Nat.le_of_ble_eq_true rfl, Nat.le_of_ble_eq_true rfl⟩ hu rfl (Nat.le_of_ble_eq_true rfl) dX0_saved_91 rfl (g_ty_j ((((0 + c_3) + c_19) + c_26) + c_33) ((((0 + s_4) + s_20) + s_27) + s_34) (Nat.le_refl _) (Nat.le_refl _) (fun j_32 M_31 hF => ?_))
    refine g_lsub 95 hC dX0_saved_94 rfl ?_
    refine g_maxJ 98 hC q1270 (Nat.le_of_ble_eq_true rfl) (Nat.le_of_ble_eq_true rfl) hu dX0_saved_95 rfl ?_
    exact g_lreturn hC ⟨_, rfl, hF⟩ dX0_saved_98 hu.1 hu.2
  · have hF := hF
    obtain ⟨hE_, hF⟩ := hF
    rw [hE_]
    refine g_catch hC hT [] ⟨0, 98, 99, 97⟩ [] rfl (fun _ h => absurd h List.not_mem_nil) rfl (by decide) q279 q305 99 rfl ?_
    refine g_astore_n 100 hC (lv' := [(3, .ref _), (0, .ref _), (1, .int _), (2, .int _)]) dX0_saved_99 rfl rfl (by decide) rfl ?_
    refine g_aload_n 101 hC dX0_saved_100 rfl 1 rfl rfl ?_
    refine g_aload_n 102 hC dX0_saved_101 rfl 0 rfl rfl ?_
    refine gf_X0_110_4I 105 hC hF dX0_saved_102 rfl (fun x_7 hF => ?_)
    refine g_cV (rest := []) wl_X0_81 hd_X0_no (ci := 0) rfl 108 hC hF.1 (met_X0_no hF.2) rfl ⟨Nat.le_of_ble_eq_true rfl, Nat.le_of_ble_eq_true rfl⟩ hu rfl (Nat.le_of_ble_eq_true rfl) dX0_saved_105 rfl (g_ty_i (0 + c_3) (0 + s_4) (Nat.le_refl _) (Nat.le_refl _) (fun x_9 M_8 hF => ?_))
    refine g_i2l 109 hC dX0_saved_108 rfl ?_
    exact g_lreturn hC ⟨_, rfl, hF⟩ dX0_saved_109 hu.1 hu.2
theorem gf_X0_314_1I {G : gG} {cc : ByteArray} {nL : Nat} {ret : Option FieldType} {Qf : Option Value → gM → Prop} {rm : Room} {cells slots : Nat} {M : gM} {lv : List (Nat × Value)} {pc : Nat} {st : List Value} {a : Nat} (n : Nat) (hC : gCx G cc nL RX0 ret Qf rm) {κ : Int32 → Prop} (hF : gI M 1 a 2 κ) (hdg : decode cc pc = .ok (.getfield 314, 3)) (hn : pc + 3 = n) (kk : ∀ x, κ x → gAt G cells slots M lv n (.int x :: st)) : gAt G cells slots M lv pc (.ref a :: st) :=
  g_getI (C := RX1) (T := TX1) (N := 4) in_X1 rfl (by decide) q124 (fun _ _ _ => rfl) n hC hF hdg hn kk
abbrev rm_X0_seed : Room := { frames := 0, cells := 0, slots := 0, locals := 0 }
def F_X0_seed  (M : gM) (a0 : Nat) (x1 : Int32) (Q : Int32 → gM → Prop)  : Prop :=
  gN M 0 a0 0 fun a_1 =>
  gI M 1 a_1 2 fun x_2 =>
  gN M 0 a0 0 fun a_3 =>
  pI M 1 a_3 2 x1 fun M_4 =>
  Q x_2 M_4
theorem met_X0_seed {M : gM} {a0 : Nat} {x1 : Int32} {Q : Int32 → gM → Prop} (hF : F_X0_seed M a0 x1 Q) : gMt yX0_seed (ws_ yX0_seed cX0_seed 3 (some .int)) rm_X0_seed M [.ref a0, .int x1] (gQi Q) := by
  refine gMet (bytes := cX0_seed) (maxL := 3) (ret := (some .int)) rfl rfl (by decide) (Nat.le_of_ble_eq_true rfl) (lv := [(0, .ref a0), (1, .int x1)]) rfl (fun G hC hin => ?_)
  unfold F_X0_seed at hF
  refine g_aload_n 1 hC dX0_seed_0 rfl 0 rfl rfl ?_
  refine gf_X0_20_0N 4 hC hF dX0_seed_1 rfl (fun a_1 hF => ?_)
  refine gf_X0_314_1I 7 hC hF dX0_seed_4 rfl (fun x_2 hF => ?_)
  refine g_istore_n 8 hC (lv' := [(2, .int _), (0, .ref _), (1, .int _)]) dX0_seed_7 rfl rfl (by decide) rfl ?_
  refine g_aload_n 9 hC dX0_seed_8 rfl 1 rfl rfl ?_
  refine gf_X0_20_0N 12 hC hF dX0_seed_9 rfl (fun a_3 hF => ?_)
  refine g_iload_n 13 hC dX0_seed_12 rfl 2 rfl rfl ?_
  refine g_putI (C := RX1) (T := TX1) (N := 4) (ci := 1) (k := 2) (ty := .int) in_X1 tyX1 tyX1_ok nmX1 rfl (by decide) q124 rfl rfl (fun _ _ _ => rfl) rfl rfl 16 hC hF dX0_seed_13 rfl (fun M_4 hF => ?_)
  refine g_iload_n 17 hC dX0_seed_16 rfl 0 rfl rfl ?_
  exact g_ireturn hC ⟨_, rfl, hF⟩ dX0_seed_17 (Nat.zero_le _) (Nat.zero_le _)
theorem wl_X0_319 : GoodIn lw_all (wsV RX0 319 RX12 yX12_copied (ws_ yX12_copied cX12_copied 3 (some (.object "SendTheBox$House")))) := lw_V q1283 q1257 q1258 q92 q1259
theorem gf_X0_325_1R {G : gG} {cc : ByteArray} {nL : Nat} {ret : Option FieldType} {Qf : Option Value → gM → Prop} {rm : Room} {cells slots : Nat} {M : gM} {lv : List (Nat × Value)} {pc : Nat} {st : List Value} {a : Nat} (n : Nat) (hC : gCx G cc nL RX0 ret Qf rm) {κ : Option Nat → Prop} (hF : gR M 1 a 3 κ) (hdg : decode cc pc = .ok (.getfield 325, 3)) (hn : pc + 3 = n) (kk : ∀ x, κ x → gAt G cells slots M lv n (va_rf x :: st)) : gAt G cells slots M lv pc (.ref a :: st) :=
  g_getR (C := RX1) (T := TX1) (N := 4) in_X1 rfl (by decide) q126 (fun _ _ _ => rfl) n hC hF hdg hn kk
theorem gf_X0_329_14I {G : gG} {cc : ByteArray} {nL : Nat} {ret : Option FieldType} {Qf : Option Value → gM → Prop} {rm : Room} {cells slots : Nat} {M : gM} {lv : List (Nat × Value)} {pc : Nat} {st : List Value} {a : Nat} (n : Nat) (hC : gCx G cc nL RX0 ret Qf rm) {κ : Int32 → Prop} (hF : gI M 14 a 2 κ) (hdg : decode cc pc = .ok (.getfield 329, 3)) (hn : pc + 3 = n) (kk : ∀ x, κ x → gAt G cells slots M lv n (.int x :: st)) : gAt G cells slots M lv pc (.ref a :: st) :=
  g_getI (C := RX14) (T := TX14) (N := 8) in_X14 rfl (by decide) q1291 (fun _ _ _ => rfl) n hC hF hdg hn kk
abbrev rm_X0_begin (Lc Ls : Nat) : Room := { frames := 9, cells := Lc, slots := Ls, locals := 10278 }
def F_X0_begin_b15 (Q : Int32 → gM → Prop)  (Lc Ls : Nat)  (a0 : Nat)  (u v : Nat) (M : gM) : Prop :=
  rc M 0 a0 ∧ F_X0_no M a0 (-2 : Int32) fun x_2 M_1 =>
  Q x_2 M_1
theorem w_X0_begin_b15 {G : gG} {Q : Int32 → gM → Prop} {Lc Ls : Nat} (hC : gCx G cX0_begin 4 RX0 (some .int) (gQi Q) (rm_X0_begin Lc Ls)) (hT : gTx G (fun _ _ _ => False) (rm_X0_begin Lc Ls) (tableOf [(22, 63, 64, 97)]))  (a0 : Nat)   (u v : Nat) (hu : u ≤ Lc ∧ v ≤ Ls) (M : gM) (hF : F_X0_begin_b15 Q Lc Ls a0 u v M) : gAt G u v M [(0, .ref a0)] 15 [] := by
  unfold F_X0_begin_b15 at hF
  refine g_aload_n 16 hC dX0_begin_15 rfl 0 rfl rfl ?_
  refine g_bipush 18 hC (-2 : Int32) dX0_begin_16 (by decide) rfl ?_
  refine g_cV (rest := []) wl_X0_81 hd_X0_no (ci := 0) rfl 21 hC hF.1 (met_X0_no hF.2) rfl ⟨Nat.le_of_ble_eq_true rfl, Nat.le_of_ble_eq_true rfl⟩ hu rfl (Nat.le_of_ble_eq_true rfl) dX0_begin_18 rfl (g_ty_i u v (Nat.le_refl _) (Nat.le_refl _) (fun x_2 M_1 hF => ?_))
  exact g_ireturn hC ⟨_, rfl, hF⟩ dX0_begin_21 hu.1 hu.2
def F_X0_begin (Lc Ls : Nat) (M : gM) (a0 : Nat) (x1 : Int32) (x2 : Int32) (Q : Int32 → gM → Prop)  : Prop :=
  rc M 0 a0 ∧ F_X0_isHouse M a0 x1 fun x_2 M_1 =>
  ((x_2 = 0 →
    F_X0_begin_b15 Q Lc Ls a0 0 0 M_1) ∧
    (¬ x_2 = 0 →
    F_X0_isShelf M_1 x2 fun x_4 M_3 =>
    ((¬ x_4 = 0 →
      gN M_3 0 a0 0 fun a_5 =>
      nO M_3 0 0 Lc Ls 14 8 fun a_6 M_7 =>
      gN M_7 0 a0 0 fun a_8 =>
      gN M_7 1 a_8 0 fun a_9 =>
      aN M_7 (.object "SendTheBox$House") a_9 x1 fun a_10 =>
      ∃ c_13 s_14, ((0 + 1) + c_13 ≤ Lc ∧ (0 + 8) + s_14 ≤ Ls) ∧
      rc M_7 12 a_10 ∧ F_X12_copied c_13 s_14 M_7 a_10 fun a_12 M_11 =>
      ∃ c_17 s_18, (((0 + 1) + c_13) + c_17 ≤ Lc ∧ ((0 + 8) + s_14) + s_18 ≤ Ls) ∧
      rc M_11 0 a0 ∧ F_X0_ruleIn c_17 s_18 M_11 a0 x2 (fun a_16 M_15 =>
      F_X14_init M_15 a_6 a_12 a_16 fun M_24 =>
        pR M_24 1 a_5 3 (some a_6) fun M_26 =>
        gN M_26 0 a0 0 fun a_27 =>
        gR M_26 1 a_27 3 fun r_28 =>
        dN r_28 fun b_29 =>
        gI M_26 14 b_29 2 fun x_30 =>
        Q x_30 M_26) (fun E_ q_19 M_20 =>
        (E_ = "SendTheBox$Refused" ∧
        gI M_20 4 q_19 6 fun x_21 =>
        rc M_20 0 a0 ∧ F_X0_no M_20 a0 x_21 fun x_23 M_22 =>
        Q x_23 M_22))) ∧
      (x_4 = 0 →
      F_X0_begin_b15 Q Lc Ls a0 0 0 M_3))))
theorem met_X0_begin {M : gM} {a0 : Nat} {x1 : Int32} {x2 : Int32} {Q : Int32 → gM → Prop} {Lc Ls : Nat} (hF : F_X0_begin Lc Ls M a0 x1 x2 Q) : gMx yX0_begin (wsW_ yX0_begin cX0_begin 4 (some .int) [(22, 63, 64, 97)]) (rm_X0_begin Lc Ls) M [.ref a0, .int x1, .int x2] (gQi Q) (fun _ _ _ => False) := by
  refine gMetH (bytes := cX0_begin) (maxL := 4) (ret := (some .int)) (hh := [(22, 63, 64, 97)]) rfl rfl (by decide) (Nat.le_of_ble_eq_true rfl) (lv := [(0, .ref a0), (1, .int x1), (2, .int x2)]) rfl (fun G hC hT hin => ?_)
  have hu : 0 ≤ Lc ∧ 0 ≤ Ls := ⟨Nat.zero_le _, Nat.zero_le _⟩
  unfold F_X0_begin at hF
  refine g_aload_n 1 hC dX0_begin_0 rfl 0 rfl rfl ?_
  refine g_iload_n 2 hC dX0_begin_1 rfl 1 rfl rfl ?_
  refine g_cV (rest := []) wl_X0_45 hd_X0_isHouse (ci := 0) rfl 5 hC hF.1 (met_X0_isHouse hF.2) rfl ⟨Nat.le_of_ble_eq_true rfl, Nat.le_of_ble_eq_true rfl⟩ hu rfl (Nat.le_of_ble_eq_true rfl) dX0_begin_2 rfl (g_ty_i 0 0 (Nat.le_refl _) (Nat.le_refl _) (fun x_2 M_1 hF => ?_))
  refine g_if_eq 8 15 hC dX0_begin_5 (by decide) rfl (fun c => ?_) (fun c => ?_)
  · have hF := hF.1 c
    refine g_sub [0] rfl ?_
    exact w_X0_begin_b15 hC hT _ _ _ hu _ hF
  · have hF := hF.2 c
    refine g_iload_n 9 hC dX0_begin_8 rfl 2 rfl rfl ?_
    refine g_cS (rest := []) wl_X0_78 hd_X0_isShelf 12 hC (met_X0_isShelf hF) rfl ⟨Nat.le_of_ble_eq_true rfl, Nat.le_of_ble_eq_true rfl⟩ hu rfl (Nat.le_of_ble_eq_true rfl) dX0_begin_9 rfl (g_ty_i 0 0 (Nat.le_refl _) (Nat.le_refl _) (fun x_4 M_3 hF => ?_))
    refine g_if_ne 15 22 hC dX0_begin_12 (by decide) rfl (fun c => ?_) (fun c => ?_)
    · have hF := hF.1 c
      refine g_aload_n 23 hC dX0_begin_22 rfl 0 rfl rfl ?_
      refine gf_X0_20_0N 26 hC hF dX0_begin_23 rfl (fun a_5 hF => ?_)
      have hu := hF.1
      refine g_new (C := RX14) (T := TX14) (N := 8) (ci := 14) in_X14 tyX14_ok (by decide) rfl q1281 q1282 q102 29 hC hF dX0_begin_26 rfl (fun a_6 M_7 hF => ?_)
      refine g_dup 30 hC dX0_begin_29 rfl rfl ?_
      refine g_aload_n 31 hC dX0_begin_30 rfl 0 rfl rfl ?_
      refine gf_X0_20_0N 34 hC hF dX0_begin_31 rfl (fun a_8 hF => ?_)
      refine gf_X0_49_1N 37 hC hF dX0_begin_34 rfl (fun a_9 hF => ?_)
      refine g_iload_n 38 hC dX0_begin_37 rfl 1 rfl rfl ?_
      refine g_aaldN 39 hC hF (by decide) rfl (fun _ _ _ => rfl) dX0_begin_38 rfl (fun a_10 hF => ?_)
      obtain ⟨c_13, s_14, hu, hF⟩ := hF
      refine g_cV (rest := [_, _, _]) wl_X0_319 hd_X12_copied (ci := 12) rfl 42 hC hF.1 (met_X12_copied hF.2) rfl ⟨Nat.le_of_ble_eq_true rfl, Nat.le_of_ble_eq_true rfl⟩ hu rfl (Nat.le_of_ble_eq_true rfl) dX0_begin_39 rfl (g_ty_a ((0 + 1) + c_13) ((0 + 8) + s_14) (Nat.le_refl _) (Nat.le_refl _) (fun a_12 M_11 hF => ?_))
      refine g_aload_n 43 hC dX0_begin_42 rfl 0 rfl rfl ?_
      refine g_iload_n 44 hC dX0_begin_43 rfl 2 rfl rfl ?_
      obtain ⟨c_17, s_18, hu, hF⟩ := hF
      refine g_xVW (rest := [_, _, _, _]) wl_X0_175 hd_X0_ruleIn (ci := 0) rfl 47 hC hF.1 (met_X0_ruleIn hF.2) rfl ⟨Nat.le_of_ble_eq_true rfl, Nat.le_of_ble_eq_true rfl⟩ hu rfl (Nat.le_of_ble_eq_true rfl) dX0_begin_44 rfl (g_ty_a (((0 + 1) + c_13) + c_17) (((0 + 8) + s_14) + s_18) (Nat.le_refl _) (Nat.le_refl _) (fun a_16 M_15 hF => ?_)) (g_tx (((0 + 1) + c_13) + c_17) (((0 + 8) + s_14) + s_18) (Nat.le_refl _) (Nat.le_refl _) (fun E_ q_19 M_20 hF => ?_))
      · have hF := hF
        refine g_cI (rest := [_, _]) q1286 q102 q1284 q1285 rfl hd_X14_init 50 hC (met_X14_init hF) rfl ⟨Nat.le_of_ble_eq_true rfl, Nat.le_of_ble_eq_true rfl⟩ hu rfl (Nat.le_of_ble_eq_true rfl) dX0_begin_47 rfl (g_ty_v (((0 + 1) + c_13) + c_17) (((0 + 8) + s_14) + s_18) (Nat.le_refl _) (Nat.le_refl _) (fun M_24 hF => ?_))
        refine g_putR (C := RX1) (T := TX1) (N := 4) (ci := 1) (k := 3) (ty := (.object "SendTheBox$Week")) in_X1 tyX1 tyX1_ok nmX1 rfl (by decide) q126 rfl rfl (fun _ _ _ => rfl) (g_narR _ _ (by decide)) (g_fitR _ _ (by decide)) 53 hC hF dX0_begin_50 rfl (fun M_26 hF => ?_)
        refine g_aload_n 54 hC dX0_begin_53 rfl 0 rfl rfl ?_
        refine gf_X0_20_0N 57 hC hF dX0_begin_54 rfl (fun a_27 hF => ?_)
        refine gf_X0_325_1R 60 hC hF dX0_begin_57 rfl (fun r_28 hF => ?_)
        obtain ⟨b_29, hr_, hF⟩ := hF
        try rw [hr_]
        refine gf_X0_329_14I 63 hC hF dX0_begin_60 rfl (fun x_30 hF => ?_)
        exact g_ireturn hC ⟨_, rfl, hF⟩ dX0_begin_63 hu.1 hu.2
      · have hF := hF
        obtain ⟨hE_, hF⟩ := hF
        rw [hE_]
        refine g_catch hC hT [] ⟨22, 63, 64, 97⟩ [] rfl (fun _ h => absurd h List.not_mem_nil) rfl (by decide) q279 q305 64 rfl ?_
        refine g_astore_n 65 hC (lv' := [(3, .ref _), (0, .ref _), (1, .int _), (2, .int _)]) dX0_begin_64 rfl rfl (by decide) rfl ?_
        refine g_aload_n 66 hC dX0_begin_65 rfl 1 rfl rfl ?_
        refine g_aload_n 67 hC dX0_begin_66 rfl 0 rfl rfl ?_
        refine gf_X0_110_4I 70 hC hF dX0_begin_67 rfl (fun x_21 hF => ?_)
        refine g_cV (rest := []) wl_X0_81 hd_X0_no (ci := 0) rfl 73 hC hF.1 (met_X0_no hF.2) rfl ⟨Nat.le_of_ble_eq_true rfl, Nat.le_of_ble_eq_true rfl⟩ hu rfl (Nat.le_of_ble_eq_true rfl) dX0_begin_70 rfl (g_ty_i (((0 + 1) + c_13) + c_17) (((0 + 8) + s_14) + s_18) (Nat.le_refl _) (Nat.le_refl _) (fun x_23 M_22 hF => ?_))
        exact g_ireturn hC ⟨_, rfl, hF⟩ dX0_begin_73 hu.1 hu.2
    · have hF := hF.2 c
      refine g_sub [0] rfl ?_
      exact w_X0_begin_b15 hC hT _ _ _ hu _ hF
theorem hd_X14_lives : yX14_lives.cls = RX14 ∧ yX14_lives.cls ≠ "java/lang/invoke/MethodHandle" ∧ yX14_lives.cls ≠ "java/lang/invoke/VarHandle" ∧ (parseMethodDescriptor yX14_lives.desc).map (fun d => d.parameters.length) = some 1 := by decide +kernel
theorem wl_X0_331 : GoodIn lw_all (wsV RX0 331 RX14 yX14_lives (ws_ yX14_lives cX14_lives 6 (some .int))) := lw_V q1323 q1324 q1325 q102 q1326
abbrev rm_X0_step (Lc Ls : Nat) : Room := { frames := 12, cells := Lc, slots := Ls, locals := 10348 }
def F_X0_step_b48 (Q : Int32 → gM → Prop)  (Lc Ls : Nat)  (a0 : Nat) (x1 : Int32) (r2 : Option Nat) : Nat → Int32 → Int32 → Nat → Nat → gM → Prop
  | 0, _, _, _, _, _ => False
  | n + 1, x3, x4, u, v, M =>
    ((x1 ≤ x4 →
      Q x3 M) ∧
      (¬ x1 ≤ x4 →
      dN r2 fun b_1 =>
      gI M 14 b_1 2 fun x_2 =>
      ((x_2 ≤ 0 →
        Q x3 M) ∧
        (¬ x_2 ≤ 0 →
        gN M 0 a0 0 fun a_3 =>
        ∃ c_6 s_7, (u + c_6 ≤ Lc ∧ v + s_7 ≤ Ls) ∧
        rc M 14 b_1 ∧ F_X14_lives c_6 s_7 M b_1 a_3 fun x_5 M_4 =>
        (F_X0_step_b48 Q Lc Ls a0 x1 r2 n) (x3 + x_5) (x4 + (1 : Int32)) (u + c_6) (v + s_7) M_4))))
theorem w_X0_step_b48 {G : gG} {Q : Int32 → gM → Prop} {Lc Ls : Nat} (hC : gCx G cX0_step 5 RX0 (some .int) (gQi Q) (rm_X0_step Lc Ls))  (a0 : Nat) (x1 : Int32) (r2 : Option Nat)  : ∀ (n : Nat) (x3 : Int32) (x4 : Int32) (u v : Nat) (hu : u ≤ Lc ∧ v ≤ Ls) (M : gM), F_X0_step_b48 Q Lc Ls a0 x1 r2 n x3 x4 u v M → gAt G u v M [(0, .ref a0), (1, .int x1), (2, va_rf r2), (3, .int x3), (4, .int x4)] 48 [] := by
  intro n
  induction n with
  | zero =>
    intro x3 x4 u v hu M hF
    exact hF.elim
  | succ n ih =>
    intro x3 x4 u v hu M hF
    have hK48 := ih
    unfold F_X0_step_b48 at hF
    refine g_iload 50 hC dX0_step_48 rfl 4 rfl ?_
    refine g_iload_n 51 hC dX0_step_50 rfl 1 rfl rfl ?_
    refine g_icmp_ge 54 78 hC dX0_step_51 (by decide) rfl (fun c => ?_) (fun c => ?_)
    · have hF := hF.1 c
      refine g_iload_n 79 hC dX0_step_78 rfl 3 rfl rfl ?_
      exact g_ireturn hC ⟨_, rfl, hF⟩ dX0_step_79 hu.1 hu.2
    · have hF := hF.2 c
      refine g_qload_n 55 hC dX0_step_54 rfl 2 rfl rfl ?_
      obtain ⟨b_1, hr_, hF⟩ := hF
      try rw [hr_]
      refine gf_X0_329_14I 58 hC hF dX0_step_55 rfl (fun x_2 hF => ?_)
      refine g_if_le 61 78 hC dX0_step_58 (by decide) rfl (fun c => ?_) (fun c => ?_)
      · have hF := hF.1 c
        refine g_iload_n 79 hC dX0_step_78 rfl 3 rfl rfl ?_
        exact g_ireturn hC ⟨_, rfl, hF⟩ dX0_step_79 hu.1 hu.2
      · have hF := hF.2 c
        refine g_iload_n 62 hC dX0_step_61 rfl 3 rfl rfl ?_
        refine g_aload_n 63 hC dX0_step_62 rfl 2 rfl rfl ?_
        refine g_aload_n 64 hC dX0_step_63 rfl 0 rfl rfl ?_
        refine gf_X0_20_0N 67 hC hF dX0_step_64 rfl (fun a_3 hF => ?_)
        obtain ⟨c_6, s_7, hu, hF⟩ := hF
        refine g_cV (rest := [_]) wl_X0_331 hd_X14_lives (ci := 14) rfl 70 hC hF.1 (met_X14_lives hF.2) rfl ⟨Nat.le_of_ble_eq_true rfl, Nat.le_of_ble_eq_true rfl⟩ hu rfl (Nat.le_of_ble_eq_true rfl) dX0_step_67 rfl (g_ty_i (u + c_6) (v + s_7) (Nat.le_refl _) (Nat.le_refl _) (fun x_5 M_4 hF => ?_))
        refine g_iadd 71 hC dX0_step_70 rfl ?_
        refine g_istore_n 72 hC (lv' := [(3, .int _), (0, .ref _), (1, .int _), (2, .ref _), (4, .int _)]) dX0_step_71 rfl rfl (by decide) rfl ?_
        refine g_iinc 75 hC (x4 + (1 : Int32)) (lv' := [(4, .int _), (3, .int _), (0, .ref _), (1, .int _), (2, .ref _)]) dX0_step_72 rfl 4 rfl rfl (by decide) rfl ?_
        refine g_goto 48 hC dX0_step_75 (by decide) ?_
        refine g_sub [2, 3, 4, 1, 0] rfl ?_
        show gAt G _ _ _ [(0, .ref _), (1, .int _), (2, va_rf (some b_1)), (3, .int _), (4, .int _)] 48 []
        rw [← hr_]
        exact hK48 _ _ _ _ hu _ hF
def F_X0_step_b36 (Q : Int32 → gM → Prop)  (Lc Ls : Nat)  (a0 : Nat)  (u v : Nat) (M : gM) : Prop :=
  rc M 0 a0 ∧ F_X0_no M a0 (-5 : Int32) fun x_2 M_1 =>
  Q x_2 M_1
theorem w_X0_step_b36 {G : gG} {Q : Int32 → gM → Prop} {Lc Ls : Nat} (hC : gCx G cX0_step 5 RX0 (some .int) (gQi Q) (rm_X0_step Lc Ls))  (a0 : Nat)   (u v : Nat) (hu : u ≤ Lc ∧ v ≤ Ls) (M : gM) (hF : F_X0_step_b36 Q Lc Ls a0 u v M) : gAt G u v M [(0, .ref a0)] 36 [] := by
  unfold F_X0_step_b36 at hF
  refine g_aload_n 37 hC dX0_step_36 rfl 0 rfl rfl ?_
  refine g_bipush 39 hC (-5 : Int32) dX0_step_37 (by decide) rfl ?_
  refine g_cV (rest := []) wl_X0_81 hd_X0_no (ci := 0) rfl 42 hC hF.1 (met_X0_no hF.2) rfl ⟨Nat.le_of_ble_eq_true rfl, Nat.le_of_ble_eq_true rfl⟩ hu rfl (Nat.le_of_ble_eq_true rfl) dX0_step_39 rfl (g_ty_i u v (Nat.le_refl _) (Nat.le_refl _) (fun x_2 M_1 hF => ?_))
  exact g_ireturn hC ⟨_, rfl, hF⟩ dX0_step_42 hu.1 hu.2
def F_X0_step (Lc Ls : Nat) (M : gM) (a0 : Nat) (x1 : Int32) (Q : Int32 → gM → Prop)  : Prop :=
  F_X0_isIn M x1 (1 : Int32) (6 : Int32) fun x_2 M_1 =>
  ((¬ x_2 = 0 →
    gN M_1 0 a0 0 fun a_3 =>
    gR M_1 1 a_3 3 fun r_4 =>
    ((r_4 = none →
      F_X0_step_b36 Q Lc Ls a0 0 0 M_1) ∧
      (∀ b_5, r_4 = some b_5 →
      gI M_1 14 b_5 2 fun x_6 =>
      ((¬ x_6 = 0 →
        ∃ n_7, F_X0_step_b48 Q Lc Ls a0 x1 (some b_5) n_7 (0 : Int32) (0 : Int32) 0 0 M_1) ∧
        (x_6 = 0 →
        F_X0_step_b36 Q Lc Ls a0 0 0 M_1))))) ∧
    (x_2 = 0 →
    rc M_1 0 a0 ∧ F_X0_no M_1 a0 (-2 : Int32) fun x_9 M_8 =>
    Q x_9 M_8))
theorem met_X0_step {M : gM} {a0 : Nat} {x1 : Int32} {Q : Int32 → gM → Prop} {Lc Ls : Nat} (hF : F_X0_step Lc Ls M a0 x1 Q) : gMt yX0_step (ws_ yX0_step cX0_step 5 (some .int)) (rm_X0_step Lc Ls) M [.ref a0, .int x1] (gQi Q) := by
  refine gMet (bytes := cX0_step) (maxL := 5) (ret := (some .int)) rfl rfl (by decide) (Nat.le_of_ble_eq_true rfl) (lv := [(0, .ref a0), (1, .int x1)]) rfl (fun G hC hin => ?_)
  have hu : 0 ≤ Lc ∧ 0 ≤ Ls := ⟨Nat.zero_le _, Nat.zero_le _⟩
  unfold F_X0_step at hF
  refine g_iload_n 1 hC dX0_step_0 rfl 1 rfl rfl ?_
  refine g_iconst 2 hC (1 : Int32) dX0_step_1 (by decide) rfl ?_
  refine g_bipush 4 hC (6 : Int32) dX0_step_2 (by decide) rfl ?_
  refine g_cS (rest := []) wl_X0_37 hd_X0_isIn 7 hC (met_X0_isIn hF) rfl ⟨Nat.le_of_ble_eq_true rfl, Nat.le_of_ble_eq_true rfl⟩ hu rfl (Nat.le_of_ble_eq_true rfl) dX0_step_4 rfl (g_ty_i 0 0 (Nat.le_refl _) (Nat.le_refl _) (fun x_2 M_1 hF => ?_))
  refine g_if_ne 10 17 hC dX0_step_7 (by decide) rfl (fun c => ?_) (fun c => ?_)
  · have hF := hF.1 c
    refine g_aload_n 18 hC dX0_step_17 rfl 0 rfl rfl ?_
    refine gf_X0_20_0N 21 hC hF dX0_step_18 rfl (fun a_3 hF => ?_)
    refine gf_X0_325_1R 24 hC hF dX0_step_21 rfl (fun r_4 hF => ?_)
    refine g_qstore_n 25 hC (lv' := [(2, va_rf _), (0, .ref _), (1, .int _)]) dX0_step_24 rfl rfl (by decide) rfl ?_
    refine g_qload_n 26 hC dX0_step_25 rfl 0 rfl rfl ?_
    refine g_ifnull 29 36 hC dX0_step_26 (by decide) rfl (fun c => ?_) (fun b_5 c => ?_)
    · have hF := hF.1 c
      try rw [c]
      refine g_sub [1] rfl ?_
      exact w_X0_step_b36 hC _ _ _ hu _ hF
    · have hF := hF.2 b_5 c
      try rw [c]
      refine g_aload_n 30 hC dX0_step_29 rfl 0 rfl rfl ?_
      refine gf_X0_329_14I 33 hC hF dX0_step_30 rfl (fun x_6 hF => ?_)
      refine g_if_ne 36 43 hC dX0_step_33 (by decide) rfl (fun c => ?_) (fun c => ?_)
      · have hF := hF.1 c
        refine g_iconst 44 hC (0 : Int32) dX0_step_43 (by decide) rfl ?_
        refine g_istore_n 45 hC (lv' := [(3, .int _), (2, .ref _), (0, .ref _), (1, .int _)]) dX0_step_44 rfl rfl (by decide) rfl ?_
        refine g_iconst 46 hC (0 : Int32) dX0_step_45 (by decide) rfl ?_
        refine g_istore 48 hC (lv' := [(4, .int _), (3, .int _), (2, .ref _), (0, .ref _), (1, .int _)]) dX0_step_46 rfl (by decide) rfl ?_
        refine g_sub [3, 4, 2, 1, 0] rfl ?_
        obtain ⟨n_7, hF⟩ := hF
        exact w_X0_step_b48 hC _ _ _ n_7 _ _ _ _ hu _ hF
      · have hF := hF.2 c
        refine g_sub [1] rfl ?_
        exact w_X0_step_b36 hC _ _ _ hu _ hF
  · have hF := hF.2 c
    refine g_aload_n 11 hC dX0_step_10 rfl 0 rfl rfl ?_
    refine g_bipush 13 hC (-2 : Int32) dX0_step_11 (by decide) rfl ?_
    refine g_cV (rest := []) wl_X0_81 hd_X0_no (ci := 0) rfl 16 hC hF.1 (met_X0_no hF.2) rfl ⟨Nat.le_of_ble_eq_true rfl, Nat.le_of_ble_eq_true rfl⟩ hu rfl (Nat.le_of_ble_eq_true rfl) dX0_step_13 rfl (g_ty_i 0 0 (Nat.le_refl _) (Nat.le_refl _) (fun x_9 M_8 hF => ?_))
    exact g_ireturn hC ⟨_, rfl, hF⟩ dX0_step_16 hu.1 hu.2
theorem gf_X0_347_14I {G : gG} {cc : ByteArray} {nL : Nat} {ret : Option FieldType} {Qf : Option Value → gM → Prop} {rm : Room} {cells slots : Nat} {M : gM} {lv : List (Nat × Value)} {pc : Nat} {st : List Value} {a : Nat} (n : Nat) (hC : gCx G cc nL RX0 ret Qf rm) {κ : Int32 → Prop} (hF : gI M 14 a 7 κ) (hdg : decode cc pc = .ok (.getfield 347, 3)) (hn : pc + 3 = n) (kk : ∀ x, κ x → gAt G cells slots M lv n (.int x :: st)) : gAt G cells slots M lv pc (.ref a :: st) :=
  g_getI (C := RX14) (T := TX14) (N := 8) in_X14 rfl (by decide) q1301 (fun _ _ _ => rfl) n hC hF hdg hn kk
theorem gf_X0_335_14I {G : gG} {cc : ByteArray} {nL : Nat} {ret : Option FieldType} {Qf : Option Value → gM → Prop} {rm : Room} {cells slots : Nat} {M : gM} {lv : List (Nat × Value)} {pc : Nat} {st : List Value} {a : Nat} (n : Nat) (hC : gCx G cc nL RX0 ret Qf rm) {κ : Int32 → Prop} (hF : gI M 14 a 3 κ) (hdg : decode cc pc = .ok (.getfield 335, 3)) (hn : pc + 3 = n) (kk : ∀ x, κ x → gAt G cells slots M lv n (.int x :: st)) : gAt G cells slots M lv pc (.ref a :: st) :=
  g_getI (C := RX14) (T := TX14) (N := 8) in_X14 rfl (by decide) q1293 (fun _ _ _ => rfl) n hC hF hdg hn kk
theorem gf_X0_338_14I {G : gG} {cc : ByteArray} {nL : Nat} {ret : Option FieldType} {Qf : Option Value → gM → Prop} {rm : Room} {cells slots : Nat} {M : gM} {lv : List (Nat × Value)} {pc : Nat} {st : List Value} {a : Nat} (n : Nat) (hC : gCx G cc nL RX0 ret Qf rm) {κ : Int32 → Prop} (hF : gI M 14 a 4 κ) (hdg : decode cc pc = .ok (.getfield 338, 3)) (hn : pc + 3 = n) (kk : ∀ x, κ x → gAt G cells slots M lv n (.int x :: st)) : gAt G cells slots M lv pc (.ref a :: st) :=
  g_getI (C := RX14) (T := TX14) (N := 8) in_X14 rfl (by decide) q1295 (fun _ _ _ => rfl) n hC hF hdg hn kk
theorem gf_X0_341_14I {G : gG} {cc : ByteArray} {nL : Nat} {ret : Option FieldType} {Qf : Option Value → gM → Prop} {rm : Room} {cells slots : Nat} {M : gM} {lv : List (Nat × Value)} {pc : Nat} {st : List Value} {a : Nat} (n : Nat) (hC : gCx G cc nL RX0 ret Qf rm) {κ : Int32 → Prop} (hF : gI M 14 a 5 κ) (hdg : decode cc pc = .ok (.getfield 341, 3)) (hn : pc + 3 = n) (kk : ∀ x, κ x → gAt G cells slots M lv n (.int x :: st)) : gAt G cells slots M lv pc (.ref a :: st) :=
  g_getI (C := RX14) (T := TX14) (N := 8) in_X14 rfl (by decide) q1297 (fun _ _ _ => rfl) n hC hF hdg hn kk
theorem gf_X0_344_14I {G : gG} {cc : ByteArray} {nL : Nat} {ret : Option FieldType} {Qf : Option Value → gM → Prop} {rm : Room} {cells slots : Nat} {M : gM} {lv : List (Nat × Value)} {pc : Nat} {st : List Value} {a : Nat} (n : Nat) (hC : gCx G cc nL RX0 ret Qf rm) {κ : Int32 → Prop} (hF : gI M 14 a 6 κ) (hdg : decode cc pc = .ok (.getfield 344, 3)) (hn : pc + 3 = n) (kk : ∀ x, κ x → gAt G cells slots M lv n (.int x :: st)) : gAt G cells slots M lv pc (.ref a :: st) :=
  g_getI (C := RX14) (T := TX14) (N := 8) in_X14 rfl (by decide) q1299 (fun _ _ _ => rfl) n hC hF hdg hn kk
abbrev rm_X0_week : Room := { frames := 1, cells := 0, slots := 0, locals := 22 }
def F_X0_week  (M : gM) (a0 : Nat) (x1 : Int32) (Q : Int32 → gM → Prop)  : Prop :=
  F_X0_isIn M x1 (0 : Int32) (5 : Int32) fun x_2 M_1 =>
  ((¬ x_2 = 0 →
    gN M_1 0 a0 0 fun a_3 =>
    gR M_1 1 a_3 3 fun r_4 =>
    ((r_4 = none →
      rc M_1 0 a0 ∧ F_X0_no M_1 a0 (-5 : Int32) fun x_7 M_6 =>
      Q x_7 M_6) ∧
      (∀ b_5, r_4 = some b_5 →
      (((x1.toInt < 0 ∨ 4 < x1.toInt) →
        gI M_1 14 b_5 7 fun x_8 =>
        Q x_8 M_1) ∧
        (x1 = (0 : Int32) →
        gI M_1 14 b_5 2 fun x_9 =>
        Q x_9 M_1) ∧
        (x1 = (1 : Int32) →
        gI M_1 14 b_5 3 fun x_10 =>
        Q x_10 M_1) ∧
        (x1 = (2 : Int32) →
        gI M_1 14 b_5 4 fun x_11 =>
        Q x_11 M_1) ∧
        (x1 = (3 : Int32) →
        gI M_1 14 b_5 5 fun x_12 =>
        Q x_12 M_1) ∧
        (x1 = (4 : Int32) →
        gI M_1 14 b_5 6 fun x_13 =>
        Q x_13 M_1))))) ∧
    (x_2 = 0 →
    rc M_1 0 a0 ∧ F_X0_no M_1 a0 (-2 : Int32) fun x_15 M_14 =>
    Q x_15 M_14))
theorem met_X0_week {M : gM} {a0 : Nat} {x1 : Int32} {Q : Int32 → gM → Prop} (hF : F_X0_week M a0 x1 Q) : gMt yX0_week (ws_ yX0_week cX0_week 3 (some .int)) rm_X0_week M [.ref a0, .int x1] (gQi Q) := by
  refine gMet (bytes := cX0_week) (maxL := 3) (ret := (some .int)) rfl rfl (by decide) (Nat.le_of_ble_eq_true rfl) (lv := [(0, .ref a0), (1, .int x1)]) rfl (fun G hC hin => ?_)
  unfold F_X0_week at hF
  refine g_iload_n 1 hC dX0_week_0 rfl 1 rfl rfl ?_
  refine g_iconst 2 hC (0 : Int32) dX0_week_1 (by decide) rfl ?_
  refine g_iconst 3 hC (5 : Int32) dX0_week_2 (by decide) rfl ?_
  refine g_cS (rest := []) wl_X0_37 hd_X0_isIn 6 hC (met_X0_isIn hF) rfl ⟨Nat.le_of_ble_eq_true rfl, Nat.le_of_ble_eq_true rfl⟩ ⟨Nat.zero_le _, Nat.zero_le _⟩ rfl (Nat.le_of_ble_eq_true rfl) dX0_week_3 rfl (g_ty_i 0 0 (Nat.le_refl _) (Nat.le_refl _) (fun x_2 M_1 hF => ?_))
  refine g_if_ne 9 16 hC dX0_week_6 (by decide) rfl (fun c => ?_) (fun c => ?_)
  · have hF := hF.1 c
    refine g_aload_n 17 hC dX0_week_16 rfl 0 rfl rfl ?_
    refine gf_X0_20_0N 20 hC hF dX0_week_17 rfl (fun a_3 hF => ?_)
    refine gf_X0_325_1R 23 hC hF dX0_week_20 rfl (fun r_4 hF => ?_)
    refine g_qstore_n 24 hC (lv' := [(2, va_rf _), (0, .ref _), (1, .int _)]) dX0_week_23 rfl rfl (by decide) rfl ?_
    refine g_qload_n 25 hC dX0_week_24 rfl 0 rfl rfl ?_
    refine g_ifnonnull 28 35 hC dX0_week_25 (by decide) rfl (fun b_5 c => ?_) (fun c => ?_)
    · have hF := hF.2 b_5 c
      try rw [c]
      refine g_iload_n 36 hC dX0_week_35 rfl 2 rfl rfl ?_
      rcases (by omega : ((x1.toInt < 0 ∨ 4 < x1.toInt) ∨ x1.toInt = 0 ∨ x1.toInt = 1 ∨ x1.toInt = 2 ∨ x1.toInt = 3 ∨ x1.toInt = 4)) with c | c | c | c | c | c
      · refine g_tsOut 97 hC dX0_week_36 c (by decide) ?_
        have hF := hF.1 c
        refine g_aload_n 98 hC dX0_week_97 rfl 0 rfl rfl ?_
        refine gf_X0_347_14I 101 hC hF dX0_week_98 rfl (fun x_8 hF => ?_)
        exact g_ireturn hC ⟨_, rfl, hF⟩ dX0_week_101 (Nat.zero_le _) (Nat.zero_le _)
      · have c : x1 = (0 : Int32) := Int32.toInt_inj.mp (c.trans (by decide))
        refine g_tsIn 72 hC (0 : Int32) c dX0_week_36 (by decide) (by decide) rfl (by decide) ?_
        have hF := hF.2.1 c
        refine g_aload_n 73 hC dX0_week_72 rfl 0 rfl rfl ?_
        refine gf_X0_329_14I 76 hC hF dX0_week_73 rfl (fun x_9 hF => ?_)
        exact g_ireturn hC ⟨_, rfl, hF⟩ dX0_week_76 (Nat.zero_le _) (Nat.zero_le _)
      · have c : x1 = (1 : Int32) := Int32.toInt_inj.mp (c.trans (by decide))
        refine g_tsIn 77 hC (1 : Int32) c dX0_week_36 (by decide) (by decide) rfl (by decide) ?_
        have hF := hF.2.2.1 c
        refine g_aload_n 78 hC dX0_week_77 rfl 0 rfl rfl ?_
        refine gf_X0_335_14I 81 hC hF dX0_week_78 rfl (fun x_10 hF => ?_)
        exact g_ireturn hC ⟨_, rfl, hF⟩ dX0_week_81 (Nat.zero_le _) (Nat.zero_le _)
      · have c : x1 = (2 : Int32) := Int32.toInt_inj.mp (c.trans (by decide))
        refine g_tsIn 82 hC (2 : Int32) c dX0_week_36 (by decide) (by decide) rfl (by decide) ?_
        have hF := hF.2.2.2.1 c
        refine g_aload_n 83 hC dX0_week_82 rfl 0 rfl rfl ?_
        refine gf_X0_338_14I 86 hC hF dX0_week_83 rfl (fun x_11 hF => ?_)
        exact g_ireturn hC ⟨_, rfl, hF⟩ dX0_week_86 (Nat.zero_le _) (Nat.zero_le _)
      · have c : x1 = (3 : Int32) := Int32.toInt_inj.mp (c.trans (by decide))
        refine g_tsIn 87 hC (3 : Int32) c dX0_week_36 (by decide) (by decide) rfl (by decide) ?_
        have hF := hF.2.2.2.2.1 c
        refine g_aload_n 88 hC dX0_week_87 rfl 0 rfl rfl ?_
        refine gf_X0_341_14I 91 hC hF dX0_week_88 rfl (fun x_12 hF => ?_)
        exact g_ireturn hC ⟨_, rfl, hF⟩ dX0_week_91 (Nat.zero_le _) (Nat.zero_le _)
      · have c : x1 = (4 : Int32) := Int32.toInt_inj.mp (c.trans (by decide))
        refine g_tsIn 92 hC (4 : Int32) c dX0_week_36 (by decide) (by decide) rfl (by decide) ?_
        have hF := hF.2.2.2.2.2 c
        refine g_aload_n 93 hC dX0_week_92 rfl 0 rfl rfl ?_
        refine gf_X0_344_14I 96 hC hF dX0_week_93 rfl (fun x_13 hF => ?_)
        exact g_ireturn hC ⟨_, rfl, hF⟩ dX0_week_96 (Nat.zero_le _) (Nat.zero_le _)
    · have hF := hF.1 c
      try rw [c]
      refine g_aload_n 29 hC dX0_week_28 rfl 1 rfl rfl ?_
      refine g_bipush 31 hC (-5 : Int32) dX0_week_29 (by decide) rfl ?_
      refine g_cV (rest := []) wl_X0_81 hd_X0_no (ci := 0) rfl 34 hC hF.1 (met_X0_no hF.2) rfl ⟨Nat.le_of_ble_eq_true rfl, Nat.le_of_ble_eq_true rfl⟩ ⟨Nat.zero_le _, Nat.zero_le _⟩ rfl (Nat.le_of_ble_eq_true rfl) dX0_week_31 rfl (g_ty_i 0 0 (Nat.le_refl _) (Nat.le_refl _) (fun x_7 M_6 hF => ?_))
      exact g_ireturn hC ⟨_, rfl, hF⟩ dX0_week_34 (Nat.zero_le _) (Nat.zero_le _)
  · have hF := hF.2 c
    refine g_aload_n 10 hC dX0_week_9 rfl 0 rfl rfl ?_
    refine g_bipush 12 hC (-2 : Int32) dX0_week_10 (by decide) rfl ?_
    refine g_cV (rest := []) wl_X0_81 hd_X0_no (ci := 0) rfl 15 hC hF.1 (met_X0_no hF.2) rfl ⟨Nat.le_of_ble_eq_true rfl, Nat.le_of_ble_eq_true rfl⟩ ⟨Nat.zero_le _, Nat.zero_le _⟩ rfl (Nat.le_of_ble_eq_true rfl) dX0_week_12 rfl (g_ty_i 0 0 (Nat.le_refl _) (Nat.le_refl _) (fun x_15 M_14 hF => ?_))
    exact g_ireturn hC ⟨_, rfl, hF⟩ dX0_week_15 (Nat.zero_le _) (Nat.zero_le _)
abbrev rm_X0_weeks (Lc Ls : Nat) : Room := { frames := 12, cells := Lc, slots := Ls, locals := 10348 }
def F_X0_weeks_b25 (Q : Int32 → gM → Prop)  (Lc Ls : Nat)  (a0 : Nat)  (u v : Nat) (M : gM) : Prop :=
  rc M 0 a0 ∧ F_X0_no M a0 (-2 : Int32) fun x_2 M_1 =>
  Q x_2 M_1
theorem w_X0_weeks_b25 {G : gG} {Q : Int32 → gM → Prop} {Lc Ls : Nat} (hC : gCx G cX0_weeks 8 RX0 (some .int) (gQi Q) (rm_X0_weeks Lc Ls)) (hT : gTx G (fun _ _ _ => False) (rm_X0_weeks Lc Ls) (tableOf [(32, 104, 105, 97)]))  (a0 : Nat)   (u v : Nat) (hu : u ≤ Lc ∧ v ≤ Ls) (M : gM) (hF : F_X0_weeks_b25 Q Lc Ls a0 u v M) : gAt G u v M [(0, .ref a0)] 25 [] := by
  unfold F_X0_weeks_b25 at hF
  refine g_aload_n 26 hC dX0_weeks_25 rfl 0 rfl rfl ?_
  refine g_bipush 28 hC (-2 : Int32) dX0_weeks_26 (by decide) rfl ?_
  refine g_cV (rest := []) wl_X0_81 hd_X0_no (ci := 0) rfl 31 hC hF.1 (met_X0_no hF.2) rfl ⟨Nat.le_of_ble_eq_true rfl, Nat.le_of_ble_eq_true rfl⟩ hu rfl (Nat.le_of_ble_eq_true rfl) dX0_weeks_28 rfl (g_ty_i u v (Nat.le_refl _) (Nat.le_refl _) (fun x_2 M_1 hF => ?_))
  exact g_ireturn hC ⟨_, rfl, hF⟩ dX0_weeks_31 hu.1 hu.2
def F_X0_weeks_b71 (Q : Int32 → gM → Prop)  (Lc Ls : Nat) (K45 : Int32 → Int32 → Nat → Nat → gM → Prop) (a0 : Nat) (x1 : Int32) (x3 : Int32) (a4 : Nat) (x6 : Int32) (a7 : Nat) : Nat → Int32 → Nat → Nat → gM → Prop
  | 0, _, _, _, _ => False
  | n + 1, x5, u, v, M =>
    gI M 14 a7 2 fun x_1 =>
    ((x_1 ≤ 0 →
      K45 x5 (x6 + (1 : Int32)) u v M) ∧
      (¬ x_1 ≤ 0 →
      gN M 0 a0 0 fun a_2 =>
      ∃ c_5 s_6, (u + c_5 ≤ Lc ∧ v + s_6 ≤ Ls) ∧
      rc M 14 a7 ∧ F_X14_lives c_5 s_6 M a7 a_2 fun x_4 M_3 =>
      (F_X0_weeks_b71 Q Lc Ls K45 a0 x1 x3 a4 x6 a7 n) (x5 + x_4) (u + c_5) (v + s_6) M_3))
theorem w_X0_weeks_b71 {G : gG} {Q : Int32 → gM → Prop} {Lc Ls : Nat} (hC : gCx G cX0_weeks 8 RX0 (some .int) (gQi Q) (rm_X0_weeks Lc Ls)) (hT : gTx G (fun _ _ _ => False) (rm_X0_weeks Lc Ls) (tableOf [(32, 104, 105, 97)])) (K45 : Int32 → Int32 → Nat → Nat → gM → Prop) (a0 : Nat) (x1 : Int32) (x3 : Int32) (a4 : Nat) (x6 : Int32) (a7 : Nat) (hK45 : ∀ x5' x6' u' v' (_ : u' ≤ Lc ∧ v' ≤ Ls) M', K45 x5' x6' u' v' M' → gAt G u' v' M' [(0, .ref a0), (1, .int x1), (3, .int x3), (4, .ref a4), (5, .int x5'), (6, .int x6')] 45 []) : ∀ (n : Nat) (x5 : Int32) (u v : Nat) (hu : u ≤ Lc ∧ v ≤ Ls) (M : gM), F_X0_weeks_b71 Q Lc Ls K45 a0 x1 x3 a4 x6 a7 n x5 u v M → gAt G u v M [(0, .ref a0), (1, .int x1), (3, .int x3), (4, .ref a4), (5, .int x5), (6, .int x6), (7, .ref a7)] 71 [] := by
  intro n
  induction n with
  | zero =>
    intro x5 u v hu M hF
    exact hF.elim
  | succ n ih =>
    intro x5 u v hu M hF
    have hK71 := ih
    unfold F_X0_weeks_b71 at hF
    refine g_aload 73 hC dX0_weeks_71 rfl 6 rfl ?_
    refine gf_X0_329_14I 76 hC hF dX0_weeks_73 rfl (fun x_1 hF => ?_)
    refine g_if_le 79 96 hC dX0_weeks_76 (by decide) rfl (fun c => ?_) (fun c => ?_)
    · have hF := hF.1 c
      refine g_iinc 99 hC (x6 + (1 : Int32)) (lv' := [(6, .int _), (0, .ref _), (1, .int _), (3, .int _), (4, .ref _), (5, .int _), (7, .ref _)]) dX0_weeks_96 rfl 5 rfl rfl (by decide) rfl ?_
      refine g_goto 45 hC dX0_weeks_99 (by decide) ?_
      refine g_sub [1, 2, 3, 4, 5, 0] rfl ?_
      exact hK45 _ _ _ _ hu _ hF
    · have hF := hF.2 c
      refine g_iload 81 hC dX0_weeks_79 rfl 4 rfl ?_
      refine g_aload 83 hC dX0_weeks_81 rfl 6 rfl ?_
      refine g_aload_n 84 hC dX0_weeks_83 rfl 0 rfl rfl ?_
      refine gf_X0_20_0N 87 hC hF dX0_weeks_84 rfl (fun a_2 hF => ?_)
      obtain ⟨c_5, s_6, hu, hF⟩ := hF
      refine g_cV (rest := [_]) wl_X0_331 hd_X14_lives (ci := 14) rfl 90 hC hF.1 (met_X14_lives hF.2) rfl ⟨Nat.le_of_ble_eq_true rfl, Nat.le_of_ble_eq_true rfl⟩ hu rfl (Nat.le_of_ble_eq_true rfl) dX0_weeks_87 rfl (g_ty_i (u + c_5) (v + s_6) (Nat.le_refl _) (Nat.le_refl _) (fun x_4 M_3 hF => ?_))
      refine g_iadd 91 hC dX0_weeks_90 rfl ?_
      refine g_istore 93 hC (lv' := [(5, .int _), (0, .ref _), (1, .int _), (3, .int _), (4, .ref _), (6, .int _), (7, .ref _)]) dX0_weeks_91 rfl (by decide) rfl ?_
      refine g_goto 71 hC dX0_weeks_93 (by decide) ?_
      refine g_sub [1, 2, 3, 4, 0, 5, 6] rfl ?_
      exact hK71 _ _ _ hu _ hF
def F_X0_weeks_b45 (Q : Int32 → gM → Prop)  (Lc Ls : Nat)  (a0 : Nat) (x1 : Int32) (x3 : Int32) (a4 : Nat) : Nat → Int32 → Int32 → Nat → Nat → gM → Prop
  | 0, _, _, _, _, _ => False
  | n + 1, x5, x6, u, v, M =>
    ((x3 ≤ x6 →
      Q x5 M) ∧
      (¬ x3 ≤ x6 →
      nO M u v Lc Ls 14 8 fun a_1 M_2 =>
      gN M_2 0 a0 0 fun a_3 =>
      gN M_2 1 a_3 0 fun a_4 =>
      aN M_2 (.object "SendTheBox$House") a_4 x1 fun a_5 =>
      F_X14_init M_2 a_1 a_5 a4 fun M_6 =>
      ∃ n_8, F_X0_weeks_b71 Q Lc Ls (F_X0_weeks_b45 Q Lc Ls a0 x1 x3 a4 n) a0 x1 x3 a4 x6 a_1 n_8 x5 (u + 1) (v + 8) M_6))
theorem w_X0_weeks_b45 {G : gG} {Q : Int32 → gM → Prop} {Lc Ls : Nat} (hC : gCx G cX0_weeks 8 RX0 (some .int) (gQi Q) (rm_X0_weeks Lc Ls)) (hT : gTx G (fun _ _ _ => False) (rm_X0_weeks Lc Ls) (tableOf [(32, 104, 105, 97)]))  (a0 : Nat) (x1 : Int32) (x3 : Int32) (a4 : Nat)  : ∀ (n : Nat) (x5 : Int32) (x6 : Int32) (u v : Nat) (hu : u ≤ Lc ∧ v ≤ Ls) (M : gM), F_X0_weeks_b45 Q Lc Ls a0 x1 x3 a4 n x5 x6 u v M → gAt G u v M [(0, .ref a0), (1, .int x1), (3, .int x3), (4, .ref a4), (5, .int x5), (6, .int x6)] 45 [] := by
  intro n
  induction n with
  | zero =>
    intro x5 x6 u v hu M hF
    exact hF.elim
  | succ n ih =>
    intro x5 x6 u v hu M hF
    have hK45 := ih
    unfold F_X0_weeks_b45 at hF
    refine g_iload 47 hC dX0_weeks_45 rfl 5 rfl ?_
    refine g_iload_n 48 hC dX0_weeks_47 rfl 2 rfl rfl ?_
    refine g_icmp_ge 51 102 hC dX0_weeks_48 (by decide) rfl (fun c => ?_) (fun c => ?_)
    · have hF := hF.1 c
      refine g_iload 104 hC dX0_weeks_102 rfl 4 rfl ?_
      exact g_ireturn hC ⟨_, rfl, hF⟩ dX0_weeks_104 hu.1 hu.2
    · have hF := hF.2 c
      have hu := hF.1
      refine g_new (C := RX14) (T := TX14) (N := 8) (ci := 14) in_X14 tyX14_ok (by decide) rfl q1281 q1282 q102 54 hC hF dX0_weeks_51 rfl (fun a_1 M_2 hF => ?_)
      refine g_dup 55 hC dX0_weeks_54 rfl rfl ?_
      refine g_aload_n 56 hC dX0_weeks_55 rfl 0 rfl rfl ?_
      refine gf_X0_20_0N 59 hC hF dX0_weeks_56 rfl (fun a_3 hF => ?_)
      refine gf_X0_49_1N 62 hC hF dX0_weeks_59 rfl (fun a_4 hF => ?_)
      refine g_iload_n 63 hC dX0_weeks_62 rfl 1 rfl rfl ?_
      refine g_aaldN 64 hC hF (by decide) rfl (fun _ _ _ => rfl) dX0_weeks_63 rfl (fun a_5 hF => ?_)
      refine g_aload 66 hC dX0_weeks_64 rfl 3 rfl ?_
      refine g_cI (rest := [_]) q1286 q102 q1284 q1285 rfl hd_X14_init 69 hC (met_X14_init hF) rfl ⟨Nat.le_of_ble_eq_true rfl, Nat.le_of_ble_eq_true rfl⟩ hu rfl (Nat.le_of_ble_eq_true rfl) dX0_weeks_66 rfl (g_ty_v (u + 1) (v + 8) (Nat.le_refl _) (Nat.le_refl _) (fun M_6 hF => ?_))
      refine g_astore 71 hC (lv' := [(7, .ref _), (0, .ref _), (1, .int _), (3, .int _), (4, .ref _), (5, .int _), (6, .int _)]) dX0_weeks_69 rfl (by decide) rfl ?_
      refine g_sub [1, 2, 3, 4, 5, 6, 0] rfl ?_
      obtain ⟨n_8, hF⟩ := hF
      exact w_X0_weeks_b71 hC hT _ _ _ _ _ _ _ hK45 n_8 _ _ _ hu _ hF
def F_X0_weeks (Lc Ls : Nat) (M : gM) (a0 : Nat) (x1 : Int32) (x2 : Int32) (x3 : Int32) (Q : Int32 → gM → Prop)  : Prop :=
  rc M 0 a0 ∧ F_X0_isHouse M a0 x1 fun x_2 M_1 =>
  ((x_2 = 0 →
    F_X0_weeks_b25 Q Lc Ls a0 0 0 M_1) ∧
    (¬ x_2 = 0 →
    F_X0_isShelf M_1 x2 fun x_4 M_3 =>
    ((x_4 = 0 →
      F_X0_weeks_b25 Q Lc Ls a0 0 0 M_3) ∧
      (¬ x_4 = 0 →
      F_X0_isIn M_3 x3 (1 : Int32) (50 : Int32) fun x_6 M_5 =>
      ((¬ x_6 = 0 →
        ∃ c_9 s_10, (0 + c_9 ≤ Lc ∧ 0 + s_10 ≤ Ls) ∧
        rc M_5 0 a0 ∧ F_X0_ruleIn c_9 s_10 M_5 a0 x2 (fun a_8 M_7 =>
        ∃ n_16, F_X0_weeks_b45 Q Lc Ls a0 x1 x3 a_8 n_16 (0 : Int32) (0 : Int32) (0 + c_9) (0 + s_10) M_7) (fun E_ q_11 M_12 =>
          (E_ = "SendTheBox$Refused" ∧
          gI M_12 4 q_11 6 fun x_13 =>
          rc M_12 0 a0 ∧ F_X0_no M_12 a0 x_13 fun x_15 M_14 =>
          Q x_15 M_14))) ∧
        (x_6 = 0 →
        F_X0_weeks_b25 Q Lc Ls a0 0 0 M_5))))))
theorem met_X0_weeks {M : gM} {a0 : Nat} {x1 : Int32} {x2 : Int32} {x3 : Int32} {Q : Int32 → gM → Prop} {Lc Ls : Nat} (hF : F_X0_weeks Lc Ls M a0 x1 x2 x3 Q) : gMx yX0_weeks (wsW_ yX0_weeks cX0_weeks 8 (some .int) [(32, 104, 105, 97)]) (rm_X0_weeks Lc Ls) M [.ref a0, .int x1, .int x2, .int x3] (gQi Q) (fun _ _ _ => False) := by
  refine gMetH (bytes := cX0_weeks) (maxL := 8) (ret := (some .int)) (hh := [(32, 104, 105, 97)]) rfl rfl (by decide) (Nat.le_of_ble_eq_true rfl) (lv := [(0, .ref a0), (1, .int x1), (2, .int x2), (3, .int x3)]) rfl (fun G hC hT hin => ?_)
  have hu : 0 ≤ Lc ∧ 0 ≤ Ls := ⟨Nat.zero_le _, Nat.zero_le _⟩
  unfold F_X0_weeks at hF
  refine g_aload_n 1 hC dX0_weeks_0 rfl 0 rfl rfl ?_
  refine g_iload_n 2 hC dX0_weeks_1 rfl 1 rfl rfl ?_
  refine g_cV (rest := []) wl_X0_45 hd_X0_isHouse (ci := 0) rfl 5 hC hF.1 (met_X0_isHouse hF.2) rfl ⟨Nat.le_of_ble_eq_true rfl, Nat.le_of_ble_eq_true rfl⟩ hu rfl (Nat.le_of_ble_eq_true rfl) dX0_weeks_2 rfl (g_ty_i 0 0 (Nat.le_refl _) (Nat.le_refl _) (fun x_2 M_1 hF => ?_))
  refine g_if_eq 8 25 hC dX0_weeks_5 (by decide) rfl (fun c => ?_) (fun c => ?_)
  · have hF := hF.1 c
    refine g_sub [0] rfl ?_
    exact w_X0_weeks_b25 hC hT _ _ _ hu _ hF
  · have hF := hF.2 c
    refine g_iload_n 9 hC dX0_weeks_8 rfl 2 rfl rfl ?_
    refine g_cS (rest := []) wl_X0_78 hd_X0_isShelf 12 hC (met_X0_isShelf hF) rfl ⟨Nat.le_of_ble_eq_true rfl, Nat.le_of_ble_eq_true rfl⟩ hu rfl (Nat.le_of_ble_eq_true rfl) dX0_weeks_9 rfl (g_ty_i 0 0 (Nat.le_refl _) (Nat.le_refl _) (fun x_4 M_3 hF => ?_))
    refine g_if_eq 15 25 hC dX0_weeks_12 (by decide) rfl (fun c => ?_) (fun c => ?_)
    · have hF := hF.1 c
      refine g_sub [0] rfl ?_
      exact w_X0_weeks_b25 hC hT _ _ _ hu _ hF
    · have hF := hF.2 c
      refine g_iload_n 16 hC dX0_weeks_15 rfl 3 rfl rfl ?_
      refine g_iconst 17 hC (1 : Int32) dX0_weeks_16 (by decide) rfl ?_
      refine g_bipush 19 hC (50 : Int32) dX0_weeks_17 (by decide) rfl ?_
      refine g_cS (rest := []) wl_X0_37 hd_X0_isIn 22 hC (met_X0_isIn hF) rfl ⟨Nat.le_of_ble_eq_true rfl, Nat.le_of_ble_eq_true rfl⟩ hu rfl (Nat.le_of_ble_eq_true rfl) dX0_weeks_19 rfl (g_ty_i 0 0 (Nat.le_refl _) (Nat.le_refl _) (fun x_6 M_5 hF => ?_))
      refine g_if_ne 25 32 hC dX0_weeks_22 (by decide) rfl (fun c => ?_) (fun c => ?_)
      · have hF := hF.1 c
        refine g_aload_n 33 hC dX0_weeks_32 rfl 0 rfl rfl ?_
        refine g_iload_n 34 hC dX0_weeks_33 rfl 2 rfl rfl ?_
        obtain ⟨c_9, s_10, hu, hF⟩ := hF
        refine g_xVW (rest := []) wl_X0_175 hd_X0_ruleIn (ci := 0) rfl 37 hC hF.1 (met_X0_ruleIn hF.2) rfl ⟨Nat.le_of_ble_eq_true rfl, Nat.le_of_ble_eq_true rfl⟩ hu rfl (Nat.le_of_ble_eq_true rfl) dX0_weeks_34 rfl (g_ty_a (0 + c_9) (0 + s_10) (Nat.le_refl _) (Nat.le_refl _) (fun a_8 M_7 hF => ?_)) (g_tx (0 + c_9) (0 + s_10) (Nat.le_refl _) (Nat.le_refl _) (fun E_ q_11 M_12 hF => ?_))
        · have hF := hF
          refine g_astore 39 hC (lv' := [(4, .ref _), (0, .ref _), (1, .int _), (2, .int _), (3, .int _)]) dX0_weeks_37 rfl (by decide) rfl ?_
          refine g_iconst 40 hC (0 : Int32) dX0_weeks_39 (by decide) rfl ?_
          refine g_istore 42 hC (lv' := [(5, .int _), (4, .ref _), (0, .ref _), (1, .int _), (2, .int _), (3, .int _)]) dX0_weeks_40 rfl (by decide) rfl ?_
          refine g_iconst 43 hC (0 : Int32) dX0_weeks_42 (by decide) rfl ?_
          refine g_istore 45 hC (lv' := [(6, .int _), (5, .int _), (4, .ref _), (0, .ref _), (1, .int _), (2, .int _), (3, .int _)]) dX0_weeks_43 rfl (by decide) rfl ?_
          refine g_sub [3, 4, 6, 2, 1, 0] rfl ?_
          obtain ⟨n_16, hF⟩ := hF
          exact w_X0_weeks_b45 hC hT _ _ _ _ n_16 _ _ _ _ hu _ hF
        · have hF := hF
          obtain ⟨hE_, hF⟩ := hF
          rw [hE_]
          refine g_catch hC hT [] ⟨32, 104, 105, 97⟩ [] rfl (fun _ h => absurd h List.not_mem_nil) rfl (by decide) q279 q305 105 rfl ?_
          refine g_astore 107 hC (lv' := [(4, .ref _), (0, .ref _), (1, .int _), (2, .int _), (3, .int _)]) dX0_weeks_105 rfl (by decide) rfl ?_
          refine g_aload_n 108 hC dX0_weeks_107 rfl 1 rfl rfl ?_
          refine g_aload 110 hC dX0_weeks_108 rfl 0 rfl ?_
          refine gf_X0_110_4I 113 hC hF dX0_weeks_110 rfl (fun x_13 hF => ?_)
          refine g_cV (rest := []) wl_X0_81 hd_X0_no (ci := 0) rfl 116 hC hF.1 (met_X0_no hF.2) rfl ⟨Nat.le_of_ble_eq_true rfl, Nat.le_of_ble_eq_true rfl⟩ hu rfl (Nat.le_of_ble_eq_true rfl) dX0_weeks_113 rfl (g_ty_i (0 + c_9) (0 + s_10) (Nat.le_refl _) (Nat.le_refl _) (fun x_15 M_14 hF => ?_))
          exact g_ireturn hC ⟨_, rfl, hF⟩ dX0_weeks_116 hu.1 hu.2
      · have hF := hF.2 c
        refine g_sub [0] rfl ?_
        exact w_X0_weeks_b25 hC hT _ _ _ hu _ hF
theorem hd_X1_copied : yX1_copied.cls = RX1 ∧ yX1_copied.cls ≠ "java/lang/invoke/MethodHandle" ∧ yX1_copied.cls ≠ "java/lang/invoke/VarHandle" ∧ (parseMethodDescriptor yX1_copied.desc).map (fun d => d.parameters.length) = some 0 := by decide +kernel
theorem wl_X0_349 : GoodIn lw_all (wsV RX0 349 RX1 yX1_copied (ws_ yX1_copied cX1_copied 3 (some (.object "SendTheBox$Kept")))) := lw_V q1352 q1353 q1354 q70 q1355
abbrev rm_X0_image (Lc Ls : Nat) : Room := { frames := 4, cells := Lc, slots := Ls, locals := 89 }
def F_X0_image (Lc Ls : Nat) (M : gM) (a0 : Nat) (Q : Int32 → gM → Prop)  : Prop :=
  gN M 0 a0 0 fun a_1 =>
  ∃ c_4 s_5, (0 + c_4 ≤ Lc ∧ 0 + s_5 ≤ Ls) ∧
  rc M 1 a_1 ∧ F_X1_copied c_4 s_5 M a_1 fun a_3 M_2 =>
  pR M_2 0 a0 1 (some a_3) fun M_6 =>
  Q (1 : Int32) M_6
theorem met_X0_image {M : gM} {a0 : Nat} {Q : Int32 → gM → Prop} {Lc Ls : Nat} (hF : F_X0_image Lc Ls M a0 Q) : gMt yX0_image (ws_ yX0_image cX0_image 1 (some .int)) (rm_X0_image Lc Ls) M [.ref a0] (gQi Q) := by
  refine gMet (bytes := cX0_image) (maxL := 1) (ret := (some .int)) rfl rfl (by decide) (Nat.le_of_ble_eq_true rfl) (lv := [(0, .ref a0)]) rfl (fun G hC hin => ?_)
  have hu : 0 ≤ Lc ∧ 0 ≤ Ls := ⟨Nat.zero_le _, Nat.zero_le _⟩
  unfold F_X0_image at hF
  refine g_aload_n 1 hC dX0_image_0 rfl 0 rfl rfl ?_
  refine g_aload_n 2 hC dX0_image_1 rfl 0 rfl rfl ?_
  refine gf_X0_20_0N 5 hC hF dX0_image_2 rfl (fun a_1 hF => ?_)
  obtain ⟨c_4, s_5, hu, hF⟩ := hF
  refine g_cV (rest := [_]) wl_X0_349 hd_X1_copied (ci := 1) rfl 8 hC hF.1 (met_X1_copied hF.2) rfl ⟨Nat.le_of_ble_eq_true rfl, Nat.le_of_ble_eq_true rfl⟩ hu rfl (Nat.le_of_ble_eq_true rfl) dX0_image_5 rfl (g_ty_a (0 + c_4) (0 + s_5) (Nat.le_refl _) (Nat.le_refl _) (fun a_3 M_2 hF => ?_))
  refine g_putR (C := RX0) (T := TX0) (N := 6) (ci := 0) (k := 1) (ty := (.object "SendTheBox$Kept")) in_X0 tyX0 tyX0_ok nmX0 rfl (by decide) q149 rfl rfl (fun _ _ _ => rfl) (g_narR _ _ (by decide)) (g_fitR _ _ (by decide)) 11 hC hF dX0_image_8 rfl (fun M_6 hF => ?_)
  refine g_iconst 12 hC (1 : Int32) dX0_image_11 (by decide) rfl ?_
  exact g_ireturn hC ⟨_, rfl, hF⟩ dX0_image_12 hu.1 hu.2
theorem gf_X0_352_0R {G : gG} {cc : ByteArray} {nL : Nat} {ret : Option FieldType} {Qf : Option Value → gM → Prop} {rm : Room} {cells slots : Nat} {M : gM} {lv : List (Nat × Value)} {pc : Nat} {st : List Value} {a : Nat} (n : Nat) (hC : gCx G cc nL RX0 ret Qf rm) {κ : Option Nat → Prop} (hF : gR M 0 a 1 κ) (hdg : decode cc pc = .ok (.getfield 352, 3)) (hn : pc + 3 = n) (kk : ∀ x, κ x → gAt G cells slots M lv n (va_rf x :: st)) : gAt G cells slots M lv pc (.ref a :: st) :=
  g_getR (C := RX0) (T := TX0) (N := 6) in_X0 rfl (by decide) q149 (fun _ _ _ => rfl) n hC hF hdg hn kk
abbrev rm_X0_back (Lc Ls : Nat) : Room := { frames := 4, cells := Lc, slots := Ls, locals := 89 }
def F_X0_back (Lc Ls : Nat) (M : gM) (a0 : Nat) (Q : Int32 → gM → Prop)  : Prop :=
  gR M 0 a0 1 fun r_1 =>
  ((r_1 = none →
    rc M 0 a0 ∧ F_X0_no M a0 (-5 : Int32) fun x_4 M_3 =>
    Q x_4 M_3) ∧
    (∀ b_2, r_1 = some b_2 →
    gR M 0 a0 1 fun r_5 =>
    dN r_5 fun b_6 =>
    ∃ c_9 s_10, (0 + c_9 ≤ Lc ∧ 0 + s_10 ≤ Ls) ∧
    rc M 1 b_6 ∧ F_X1_copied c_9 s_10 M b_6 fun a_8 M_7 =>
    pR M_7 0 a0 0 (some a_8) fun M_11 =>
    Q (1 : Int32) M_11))
theorem met_X0_back {M : gM} {a0 : Nat} {Q : Int32 → gM → Prop} {Lc Ls : Nat} (hF : F_X0_back Lc Ls M a0 Q) : gMt yX0_back (ws_ yX0_back cX0_back 1 (some .int)) (rm_X0_back Lc Ls) M [.ref a0] (gQi Q) := by
  refine gMet (bytes := cX0_back) (maxL := 1) (ret := (some .int)) rfl rfl (by decide) (Nat.le_of_ble_eq_true rfl) (lv := [(0, .ref a0)]) rfl (fun G hC hin => ?_)
  have hu : 0 ≤ Lc ∧ 0 ≤ Ls := ⟨Nat.zero_le _, Nat.zero_le _⟩
  unfold F_X0_back at hF
  refine g_aload_n 1 hC dX0_back_0 rfl 0 rfl rfl ?_
  refine gf_X0_352_0R 4 hC hF dX0_back_1 rfl (fun r_1 hF => ?_)
  refine g_ifnonnull 7 14 hC dX0_back_4 (by decide) rfl (fun b_2 c => ?_) (fun c => ?_)
  · have hF := hF.2 b_2 c
    try rw [c]
    refine g_aload_n 15 hC dX0_back_14 rfl 0 rfl rfl ?_
    refine g_aload_n 16 hC dX0_back_15 rfl 0 rfl rfl ?_
    refine gf_X0_352_0R 19 hC hF dX0_back_16 rfl (fun r_5 hF => ?_)
    obtain ⟨b_6, hr_, hF⟩ := hF
    try rw [hr_]
    obtain ⟨c_9, s_10, hu, hF⟩ := hF
    refine g_cV (rest := [_]) wl_X0_349 hd_X1_copied (ci := 1) rfl 22 hC hF.1 (met_X1_copied hF.2) rfl ⟨Nat.le_of_ble_eq_true rfl, Nat.le_of_ble_eq_true rfl⟩ hu rfl (Nat.le_of_ble_eq_true rfl) dX0_back_19 rfl (g_ty_a (0 + c_9) (0 + s_10) (Nat.le_refl _) (Nat.le_refl _) (fun a_8 M_7 hF => ?_))
    refine g_putR (C := RX0) (T := TX0) (N := 6) (ci := 0) (k := 0) (ty := (.object "SendTheBox$Kept")) in_X0 tyX0 tyX0_ok nmX0 rfl (by decide) q148 rfl rfl (fun _ _ _ => rfl) (g_narR _ _ (by decide)) (g_fitR _ _ (by decide)) 25 hC hF dX0_back_22 rfl (fun M_11 hF => ?_)
    refine g_iconst 26 hC (1 : Int32) dX0_back_25 (by decide) rfl ?_
    exact g_ireturn hC ⟨_, rfl, hF⟩ dX0_back_26 hu.1 hu.2
  · have hF := hF.1 c
    try rw [c]
    refine g_aload_n 8 hC dX0_back_7 rfl 0 rfl rfl ?_
    refine g_bipush 10 hC (-5 : Int32) dX0_back_8 (by decide) rfl ?_
    refine g_cV (rest := []) wl_X0_81 hd_X0_no (ci := 0) rfl 13 hC hF.1 (met_X0_no hF.2) rfl ⟨Nat.le_of_ble_eq_true rfl, Nat.le_of_ble_eq_true rfl⟩ hu rfl (Nat.le_of_ble_eq_true rfl) dX0_back_10 rfl (g_ty_i 0 0 (Nat.le_refl _) (Nat.le_refl _) (fun x_4 M_3 hF => ?_))
    exact g_ireturn hC ⟨_, rfl, hF⟩ dX0_back_13 hu.1 hu.2
abbrev rm_X0_held_2 : Room := { frames := 0, cells := 0, slots := 0, locals := 0 }
def F_X0_held_2_b28 (Q : Int32 → gM → Prop)   (K4 : Int32 → Int32 → gM → Prop) (a0 : Nat) (x2 : Int32) (t0 : Int32) (t1 : Int32)  (M : gM) : Prop :=
  K4 (t0 + t1) (x2 + (1 : Int32)) M
theorem w_X0_held_2_b28 {G : gG} {Q : Int32 → gM → Prop} (hC : gCx G cX0_held_2 3 RX0 (some .int) (gQi Q) rm_X0_held_2) (K4 : Int32 → Int32 → gM → Prop) (a0 : Nat) (x2 : Int32) (t0 : Int32) (t1 : Int32) (hK4 : ∀ x1' x2' M', K4 x1' x2' M' → gAt G 0 0 M' [(0, .ref a0), (1, .int x1'), (2, .int x2')] 4 [])   (M : gM) (hF : F_X0_held_2_b28 Q K4 a0 x2 t0 t1 M) : gAt G 0 0 M [(0, .ref a0), (2, .int x2)] 28 [.int t1, .int t0] := by
  unfold F_X0_held_2_b28 at hF
  refine g_iadd 29 hC dX0_held_2_28 rfl ?_
  refine g_istore_n 30 hC (lv' := [(1, .int _), (0, .ref _), (2, .int _)]) dX0_held_2_29 rfl rfl (by decide) rfl ?_
  refine g_iinc 33 hC (x2 + (1 : Int32)) (lv' := [(2, .int _), (1, .int _), (0, .ref _)]) dX0_held_2_30 rfl 2 rfl rfl (by decide) rfl ?_
  refine g_goto 4 hC dX0_held_2_33 (by decide) ?_
  refine g_sub [2, 1, 0] rfl ?_
  exact hK4 _ _ _ hF
def F_X0_held_2_b4 (Q : Int32 → gM → Prop)    (a0 : Nat) : Nat → Int32 → Int32 → gM → Prop
  | 0, _, _, _ => False
  | n + 1, x1, x2, M =>
    (((8 : Int32) ≤ x2 →
      Q x1 M) ∧
      (¬ (8 : Int32) ≤ x2 →
      gN M 0 a0 2 fun a_1 =>
      aN M (.object "SendTheBox$Sheet") a_1 x2 fun a_2 =>
      gR M 2 a_2 0 fun r_3 =>
      ((r_3 = none →
        F_X0_held_2_b28 Q (F_X0_held_2_b4 Q a0 n) a0 x2 x1 (0 : Int32) M) ∧
        (∀ b_4, r_3 = some b_4 →
        F_X0_held_2_b28 Q (F_X0_held_2_b4 Q a0 n) a0 x2 x1 (1 : Int32) M))))
theorem w_X0_held_2_b4 {G : gG} {Q : Int32 → gM → Prop} (hC : gCx G cX0_held_2 3 RX0 (some .int) (gQi Q) rm_X0_held_2)  (a0 : Nat)  : ∀ (n : Nat) (x1 : Int32) (x2 : Int32)   (M : gM), F_X0_held_2_b4 Q a0 n x1 x2 M → gAt G 0 0 M [(0, .ref a0), (1, .int x1), (2, .int x2)] 4 [] := by
  intro n
  induction n with
  | zero =>
    intro x1 x2 M hF
    exact hF.elim
  | succ n ih =>
    intro x1 x2 M hF
    have hK4 := ih
    unfold F_X0_held_2_b4 at hF
    refine g_iload_n 5 hC dX0_held_2_4 rfl 2 rfl rfl ?_
    refine g_bipush 7 hC (8 : Int32) dX0_held_2_5 (by decide) rfl ?_
    refine g_icmp_ge 10 36 hC dX0_held_2_7 (by decide) rfl (fun c => ?_) (fun c => ?_)
    · have hF := hF.1 c
      refine g_iload_n 37 hC dX0_held_2_36 rfl 1 rfl rfl ?_
      exact g_ireturn hC ⟨_, rfl, hF⟩ dX0_held_2_37 (Nat.zero_le _) (Nat.zero_le _)
    · have hF := hF.2 c
      refine g_iload_n 11 hC dX0_held_2_10 rfl 1 rfl rfl ?_
      refine g_aload_n 12 hC dX0_held_2_11 rfl 0 rfl rfl ?_
      refine gf_X0_26_0N 15 hC hF dX0_held_2_12 rfl (fun a_1 hF => ?_)
      refine g_iload_n 16 hC dX0_held_2_15 rfl 2 rfl rfl ?_
      refine g_aaldN 17 hC hF (by decide) rfl (fun _ _ _ => rfl) dX0_held_2_16 rfl (fun a_2 hF => ?_)
      refine gf_X0_89_2R 20 hC hF dX0_held_2_17 rfl (fun r_3 hF => ?_)
      refine g_ifnull 23 27 hC dX0_held_2_20 (by decide) rfl (fun c => ?_) (fun b_4 c => ?_)
      · have hF := hF.1 c
        try rw [c]
        refine g_iconst 28 hC (0 : Int32) dX0_held_2_27 (by decide) rfl ?_
        refine g_sub [0, 2] rfl ?_
        exact w_X0_held_2_b28 hC _ _ _ _ _ hK4 _ hF
      · have hF := hF.2 b_4 c
        try rw [c]
        refine g_iconst 24 hC (1 : Int32) dX0_held_2_23 (by decide) rfl ?_
        refine g_goto 28 hC dX0_held_2_24 (by decide) ?_
        refine g_sub [0, 2] rfl ?_
        exact w_X0_held_2_b28 hC _ _ _ _ _ hK4 _ hF
def F_X0_held_2  (M : gM) (a0 : Nat) (Q : Int32 → gM → Prop)  : Prop :=
  ∃ n_1, F_X0_held_2_b4 Q a0 n_1 (0 : Int32) (0 : Int32) M
theorem met_X0_held_2 {M : gM} {a0 : Nat} {Q : Int32 → gM → Prop} (hF : F_X0_held_2 M a0 Q) : gMt yX0_held_2 (ws_ yX0_held_2 cX0_held_2 3 (some .int)) rm_X0_held_2 M [.ref a0] (gQi Q) := by
  refine gMet (bytes := cX0_held_2) (maxL := 3) (ret := (some .int)) rfl rfl (by decide) (Nat.le_of_ble_eq_true rfl) (lv := [(0, .ref a0)]) rfl (fun G hC hin => ?_)
  unfold F_X0_held_2 at hF
  refine g_iconst 1 hC (0 : Int32) dX0_held_2_0 (by decide) rfl ?_
  refine g_istore_n 2 hC (lv' := [(1, .int _), (0, .ref _)]) dX0_held_2_1 rfl rfl (by decide) rfl ?_
  refine g_iconst 3 hC (0 : Int32) dX0_held_2_2 (by decide) rfl ?_
  refine g_istore_n 4 hC (lv' := [(2, .int _), (1, .int _), (0, .ref _)]) dX0_held_2_3 rfl rfl (by decide) rfl ?_
  refine g_sub [2, 1, 0] rfl ?_
  obtain ⟨n_1, hF⟩ := hF
  exact w_X0_held_2_b4 hC _ n_1 _ _ _ hF
theorem hd_X0_held_2 : yX0_held_2.cls = RX0 ∧ yX0_held_2.cls ≠ "java/lang/invoke/MethodHandle" ∧ yX0_held_2.cls ≠ "java/lang/invoke/VarHandle" ∧ (parseMethodDescriptor yX0_held_2.desc).map (fun d => d.parameters.length) = some 0 := by decide +kernel
theorem wl_X0_355 : GoodIn lw_all (wsV RX0 355 RX0 yX0_held_2 (ws_ yX0_held_2 cX0_held_2 3 (some .int))) := lw_V q1373 q1375 qs27 q69 q1376
abbrev rm_X0_status : Room := { frames := 1, cells := 0, slots := 0, locals := 22 }
def F_X0_status  (M : gM) (a0 : Nat) (x1 : Int32) (Q : Int32 → gM → Prop)  : Prop :=
  F_X0_isIn M x1 (12 : Int32) (16 : Int32) fun x_2 M_1 =>
  ((x_2 = 0 →
    (((x1.toInt < 0 ∨ 3 < x1.toInt) →
      Q (-1 : Int32) M_1) ∧
      (x1 = (0 : Int32) →
      gN M_1 0 a0 0 fun a_3 =>
      gI M_1 1 a_3 1 fun x_4 =>
      Q x_4 M_1) ∧
      (x1 = (1 : Int32) →
      gI M_1 0 a0 4 fun x_5 =>
      Q x_5 M_1) ∧
      (x1 = (2 : Int32) →
      gN M_1 0 a0 0 fun a_6 =>
      gI M_1 1 a_6 2 fun x_7 =>
      Q x_7 M_1) ∧
      (x1 = (3 : Int32) →
      rc M_1 0 a0 ∧ F_X0_held_2 M_1 a0 fun x_9 M_8 =>
      Q x_9 M_8))) ∧
    (¬ x_2 = 0 →
    gN M_1 0 a0 5 fun a_10 =>
    aI M_1 .int a_10 (x1 - (10 : Int32)) fun x_11 =>
    Q x_11 M_1))
theorem met_X0_status {M : gM} {a0 : Nat} {x1 : Int32} {Q : Int32 → gM → Prop} (hF : F_X0_status M a0 x1 Q) : gMt yX0_status (ws_ yX0_status cX0_status 2 (some .int)) rm_X0_status M [.ref a0, .int x1] (gQi Q) := by
  refine gMet (bytes := cX0_status) (maxL := 2) (ret := (some .int)) rfl rfl (by decide) (Nat.le_of_ble_eq_true rfl) (lv := [(0, .ref a0), (1, .int x1)]) rfl (fun G hC hin => ?_)
  unfold F_X0_status at hF
  refine g_iload_n 1 hC dX0_status_0 rfl 1 rfl rfl ?_
  refine g_bipush 3 hC (12 : Int32) dX0_status_1 (by decide) rfl ?_
  refine g_bipush 5 hC (16 : Int32) dX0_status_3 (by decide) rfl ?_
  refine g_cS (rest := []) wl_X0_37 hd_X0_isIn 8 hC (met_X0_isIn hF) rfl ⟨Nat.le_of_ble_eq_true rfl, Nat.le_of_ble_eq_true rfl⟩ ⟨Nat.zero_le _, Nat.zero_le _⟩ rfl (Nat.le_of_ble_eq_true rfl) dX0_status_5 rfl (g_ty_i 0 0 (Nat.le_refl _) (Nat.le_refl _) (fun x_2 M_1 hF => ?_))
  refine g_if_eq 11 21 hC dX0_status_8 (by decide) rfl (fun c => ?_) (fun c => ?_)
  · have hF := hF.1 c
    refine g_iload_n 22 hC dX0_status_21 rfl 1 rfl rfl ?_
    rcases (by omega : ((x1.toInt < 0 ∨ 3 < x1.toInt) ∨ x1.toInt = 0 ∨ x1.toInt = 1 ∨ x1.toInt = 2 ∨ x1.toInt = 3)) with c | c | c | c | c
    · refine g_tsOut 78 hC dX0_status_22 c (by decide) ?_
      have hF := hF.1 c
      refine g_iconst 79 hC (-1 : Int32) dX0_status_78 (by decide) rfl ?_
      exact g_ireturn hC ⟨_, rfl, hF⟩ dX0_status_79 (Nat.zero_le _) (Nat.zero_le _)
    · have c : x1 = (0 : Int32) := Int32.toInt_inj.mp (c.trans (by decide))
      refine g_tsIn 52 hC (0 : Int32) c dX0_status_22 (by decide) (by decide) rfl (by decide) ?_
      have hF := hF.2.1 c
      refine g_aload_n 53 hC dX0_status_52 rfl 0 rfl rfl ?_
      refine gf_X0_20_0N 56 hC hF dX0_status_53 rfl (fun a_3 hF => ?_)
      refine gf_X0_41_1I 59 hC hF dX0_status_56 rfl (fun x_4 hF => ?_)
      exact g_ireturn hC ⟨_, rfl, hF⟩ dX0_status_59 (Nat.zero_le _) (Nat.zero_le _)
    · have c : x1 = (1 : Int32) := Int32.toInt_inj.mp (c.trans (by decide))
      refine g_tsIn 60 hC (1 : Int32) c dX0_status_22 (by decide) (by decide) rfl (by decide) ?_
      have hF := hF.2.2.1 c
      refine g_aload_n 61 hC dX0_status_60 rfl 0 rfl rfl ?_
      refine gf_X0_188_0I 64 hC hF dX0_status_61 rfl (fun x_5 hF => ?_)
      exact g_ireturn hC ⟨_, rfl, hF⟩ dX0_status_64 (Nat.zero_le _) (Nat.zero_le _)
    · have c : x1 = (2 : Int32) := Int32.toInt_inj.mp (c.trans (by decide))
      refine g_tsIn 65 hC (2 : Int32) c dX0_status_22 (by decide) (by decide) rfl (by decide) ?_
      have hF := hF.2.2.2.1 c
      refine g_aload_n 66 hC dX0_status_65 rfl 0 rfl rfl ?_
      refine gf_X0_20_0N 69 hC hF dX0_status_66 rfl (fun a_6 hF => ?_)
      refine gf_X0_314_1I 72 hC hF dX0_status_69 rfl (fun x_7 hF => ?_)
      exact g_ireturn hC ⟨_, rfl, hF⟩ dX0_status_72 (Nat.zero_le _) (Nat.zero_le _)
    · have c : x1 = (3 : Int32) := Int32.toInt_inj.mp (c.trans (by decide))
      refine g_tsIn 73 hC (3 : Int32) c dX0_status_22 (by decide) (by decide) rfl (by decide) ?_
      have hF := hF.2.2.2.2 c
      refine g_aload_n 74 hC dX0_status_73 rfl 0 rfl rfl ?_
      refine g_cV (rest := []) wl_X0_355 hd_X0_held_2 (ci := 0) rfl 77 hC hF.1 (met_X0_held_2 hF.2) rfl ⟨Nat.le_of_ble_eq_true rfl, Nat.le_of_ble_eq_true rfl⟩ ⟨Nat.zero_le _, Nat.zero_le _⟩ rfl (Nat.le_of_ble_eq_true rfl) dX0_status_74 rfl (g_ty_i 0 0 (Nat.le_refl _) (Nat.le_refl _) (fun x_9 M_8 hF => ?_))
      exact g_ireturn hC ⟨_, rfl, hF⟩ dX0_status_77 (Nat.zero_le _) (Nat.zero_le _)
  · have hF := hF.2 c
    refine g_aload_n 12 hC dX0_status_11 rfl 0 rfl rfl ?_
    refine gf_X0_33_0N 15 hC hF dX0_status_12 rfl (fun a_10 hF => ?_)
    refine g_iload_n 16 hC dX0_status_15 rfl 1 rfl rfl ?_
    refine g_bipush 18 hC (10 : Int32) dX0_status_16 (by decide) rfl ?_
    refine g_isub 19 hC dX0_status_18 rfl ?_
    refine g_iald 20 hC hF dX0_status_19 rfl (fun x_11 hF => ?_)
    exact g_ireturn hC ⟨_, rfl, hF⟩ dX0_status_20 (Nat.zero_le _) (Nat.zero_le _)