set_option maxRecDepth 100000
set_option maxHeartbeats 1000000
abbrev rm_X0_standing : Room := { frames := 0, cells := 0, slots := 0, locals := 0 }
def F_X0_standing  (M : gM) (x0 : Int32) (x1 : Int32) (Q : Int32 → gM → Prop)  : Prop :=
  aI M .int (gl M 0) x1 fun x_1 =>
  dz x_1 <|
  Q ((x0 / x_1) - (x0 / x_1) / (5 : Int32) * (5 : Int32)) M
theorem met_X0_standing {M : gM} {x0 : Int32} {x1 : Int32} {Q : Int32 → gM → Prop} (hF : F_X0_standing M x0 x1 Q) : gMt yX0_standing (ws_ yX0_standing cX0_standing 2 (some .int)) rm_X0_standing M [.int x0, .int x1] (gQi Q) := by
  refine gMet (bytes := cX0_standing) (maxL := 2) (ret := (some .int)) rfl rfl (by decide) (Nat.le_of_ble_eq_true rfl) (lv := [(0, .int x0), (1, .int x1)]) rfl (fun G hC hin => ?_)
  unfold F_X0_standing at hF
  refine g_iload_n 1 hC dX0_standing_0 rfl 0 rfl rfl ?_
  refine g_getsP 4 hC q966 dX0_standing_1 rfl ?_
  refine g_iload_n 5 hC dX0_standing_4 rfl 1 rfl rfl ?_
  refine g_iald 6 hC hF dX0_standing_5 rfl (fun x_1 hF => ?_)
  refine g_idiv 7 hC hF.1 dX0_standing_6 rfl ?_
  have hF := hF.2
  refine g_iconst 8 hC (5 : Int32) dX0_standing_7 (by decide) rfl ?_
  refine g_irem 9 hC (by decide) dX0_standing_8 rfl ?_
  exact g_ireturn hC ⟨_, rfl, hF⟩ dX0_standing_9 (Nat.zero_le _) (Nat.zero_le _)
theorem hd_X0_standing : yX0_standing.cls ≠ "java/lang/invoke/MethodHandle" ∧ yX0_standing.cls ≠ "java/lang/invoke/VarHandle" ∧ (parseMethodDescriptor yX0_standing.desc).map (fun d => d.parameters.length) = some 2 := by decide +kernel
theorem wl_X0_7 : GoodIn lw_all (va_wsS RX0 7 yX0_standing (ws_ yX0_standing cX0_standing 2 (some .int))) := lw_S q963 q964 q69 q965
abbrev rm_X0_isOf : Room := { frames := 1, cells := 0, slots := 0, locals := 21 }
def F_X0_isOf_b2 (Q : Int32 → gM → Prop)    (x0 : Int32) (x1 : Int32) : Nat → Int32 → gM → Prop
  | 0, _, _ => False
  | n + 1, x2, M =>
    (((3 : Int32) ≤ x2 →
      Q (1 : Int32) M) ∧
      (¬ (3 : Int32) ≤ x2 →
      F_X0_standing M x0 x2 fun x_2 M_1 =>
      F_X0_standing M_1 x1 x2 fun x_4 M_3 =>
      ((x_2 ≤ x_4 →
        (F_X0_isOf_b2 Q x0 x1 n) (x2 + (1 : Int32)) M_3) ∧
        (¬ x_2 ≤ x_4 →
        Q (0 : Int32) M_3))))
theorem w_X0_isOf_b2 {G : gG} {Q : Int32 → gM → Prop} (hC : gCx G cX0_isOf 3 RX0 (some .boolean) (gQi Q) rm_X0_isOf)  (x0 : Int32) (x1 : Int32)  : ∀ (n : Nat) (x2 : Int32)   (M : gM), F_X0_isOf_b2 Q x0 x1 n x2 M → gAt G 0 0 M [(0, .int x0), (1, .int x1), (2, .int x2)] 2 [] := by
  intro n
  induction n with
  | zero =>
    intro x2 M hF
    exact hF.elim
  | succ n ih =>
    intro x2 M hF
    have hK2 := ih
    unfold F_X0_isOf_b2 at hF
    refine g_iload_n 3 hC dX0_isOf_2 rfl 2 rfl rfl ?_
    refine g_iconst 4 hC (3 : Int32) dX0_isOf_3 (by decide) rfl ?_
    refine g_icmp_ge 7 28 hC dX0_isOf_4 (by decide) rfl (fun c => ?_) (fun c => ?_)
    · have hF := hF.1 c
      refine g_iconst 29 hC (1 : Int32) dX0_isOf_28 (by decide) rfl ?_
      exact g_zreturn hC ⟨_, rfl, hF⟩ (Or.inr rfl) dX0_isOf_29 (Nat.zero_le _) (Nat.zero_le _)
    · have hF := hF.2 c
      refine g_iload_n 8 hC dX0_isOf_7 rfl 0 rfl rfl ?_
      refine g_iload_n 9 hC dX0_isOf_8 rfl 2 rfl rfl ?_
      refine g_cS (rest := []) wl_X0_7 hd_X0_standing 12 hC (met_X0_standing hF) rfl ⟨Nat.le_of_ble_eq_true rfl, Nat.le_of_ble_eq_true rfl⟩ ⟨Nat.zero_le _, Nat.zero_le _⟩ rfl (Nat.le_of_ble_eq_true rfl) dX0_isOf_9 rfl (g_ty_i 0 0 (Nat.le_refl _) (Nat.le_refl _) (fun x_2 M_1 hF => ?_))
      refine g_iload_n 13 hC dX0_isOf_12 rfl 1 rfl rfl ?_
      refine g_iload_n 14 hC dX0_isOf_13 rfl 2 rfl rfl ?_
      refine g_cS (rest := [_]) wl_X0_7 hd_X0_standing 17 hC (met_X0_standing hF) rfl ⟨Nat.le_of_ble_eq_true rfl, Nat.le_of_ble_eq_true rfl⟩ ⟨Nat.zero_le _, Nat.zero_le _⟩ rfl (Nat.le_of_ble_eq_true rfl) dX0_isOf_14 rfl (g_ty_i 0 0 (Nat.le_refl _) (Nat.le_refl _) (fun x_4 M_3 hF => ?_))
      refine g_icmp_le 20 22 hC dX0_isOf_17 (by decide) rfl (fun c => ?_) (fun c => ?_)
      · have hF := hF.1 c
        refine g_iinc 25 hC (x2 + (1 : Int32)) (lv' := [(2, .int _), (0, .int _), (1, .int _)]) dX0_isOf_22 rfl 2 rfl rfl (by decide) rfl ?_
        refine g_goto 2 hC dX0_isOf_25 (by decide) ?_
        refine g_sub [1, 2, 0] rfl ?_
        exact hK2 _ _ hF
      · have hF := hF.2 c
        refine g_iconst 21 hC (0 : Int32) dX0_isOf_20 (by decide) rfl ?_
        exact g_zreturn hC ⟨_, rfl, hF⟩ (Or.inl rfl) dX0_isOf_21 (Nat.zero_le _) (Nat.zero_le _)
def F_X0_isOf  (M : gM) (x0 : Int32) (x1 : Int32) (Q : Int32 → gM → Prop)  : Prop :=
  ∃ n_1, F_X0_isOf_b2 Q x0 x1 n_1 (0 : Int32) M
theorem met_X0_isOf {M : gM} {x0 : Int32} {x1 : Int32} {Q : Int32 → gM → Prop} (hF : F_X0_isOf M x0 x1 Q) : gMt yX0_isOf (ws_ yX0_isOf cX0_isOf 3 (some .boolean)) rm_X0_isOf M [.int x0, .int x1] (gQi Q) := by
  refine gMet (bytes := cX0_isOf) (maxL := 3) (ret := (some .boolean)) rfl rfl (by decide) (Nat.le_of_ble_eq_true rfl) (lv := [(0, .int x0), (1, .int x1)]) rfl (fun G hC hin => ?_)
  unfold F_X0_isOf at hF
  refine g_iconst 1 hC (0 : Int32) dX0_isOf_0 (by decide) rfl ?_
  refine g_istore_n 2 hC (lv' := [(2, .int _), (0, .int _), (1, .int _)]) dX0_isOf_1 rfl rfl (by decide) rfl ?_
  refine g_sub [1, 2, 0] rfl ?_
  obtain ⟨n_1, hF⟩ := hF
  exact w_X0_isOf_b2 hC _ _ n_1 _ _ hF
abbrev rm_X0_parcels : Room := { frames := 1, cells := 0, slots := 0, locals := 21 }
def F_X0_parcels_b4 (Q : Int32 → gM → Prop)    (x0 : Int32) : Nat → Int32 → Int32 → gM → Prop
  | 0, _, _, _ => False
  | n + 1, x1, x2, M =>
    (((3 : Int32) ≤ x2 →
      Q x1 M) ∧
      (¬ (3 : Int32) ≤ x2 →
      F_X0_standing M x0 x2 fun x_2 M_1 =>
      (F_X0_parcels_b4 Q x0 n) (x1 + x_2) (x2 + (1 : Int32)) M_1))
theorem w_X0_parcels_b4 {G : gG} {Q : Int32 → gM → Prop} (hC : gCx G cX0_parcels 3 RX0 (some .int) (gQi Q) rm_X0_parcels)  (x0 : Int32)  : ∀ (n : Nat) (x1 : Int32) (x2 : Int32)   (M : gM), F_X0_parcels_b4 Q x0 n x1 x2 M → gAt G 0 0 M [(0, .int x0), (1, .int x1), (2, .int x2)] 4 [] := by
  intro n
  induction n with
  | zero =>
    intro x1 x2 M hF
    exact hF.elim
  | succ n ih =>
    intro x1 x2 M hF
    have hK4 := ih
    unfold F_X0_parcels_b4 at hF
    refine g_iload_n 5 hC dX0_parcels_4 rfl 2 rfl rfl ?_
    refine g_iconst 6 hC (3 : Int32) dX0_parcels_5 (by decide) rfl ?_
    refine g_icmp_ge 9 23 hC dX0_parcels_6 (by decide) rfl (fun c => ?_) (fun c => ?_)
    · have hF := hF.1 c
      refine g_iload_n 24 hC dX0_parcels_23 rfl 1 rfl rfl ?_
      exact g_ireturn hC ⟨_, rfl, hF⟩ dX0_parcels_24 (Nat.zero_le _) (Nat.zero_le _)
    · have hF := hF.2 c
      refine g_iload_n 10 hC dX0_parcels_9 rfl 1 rfl rfl ?_
      refine g_iload_n 11 hC dX0_parcels_10 rfl 0 rfl rfl ?_
      refine g_iload_n 12 hC dX0_parcels_11 rfl 2 rfl rfl ?_
      refine g_cS (rest := [_]) wl_X0_7 hd_X0_standing 15 hC (met_X0_standing hF) rfl ⟨Nat.le_of_ble_eq_true rfl, Nat.le_of_ble_eq_true rfl⟩ ⟨Nat.zero_le _, Nat.zero_le _⟩ rfl (Nat.le_of_ble_eq_true rfl) dX0_parcels_12 rfl (g_ty_i 0 0 (Nat.le_refl _) (Nat.le_refl _) (fun x_2 M_1 hF => ?_))
      refine g_iadd 16 hC dX0_parcels_15 rfl ?_
      refine g_istore_n 17 hC (lv' := [(1, .int _), (0, .int _), (2, .int _)]) dX0_parcels_16 rfl rfl (by decide) rfl ?_
      refine g_iinc 20 hC (x2 + (1 : Int32)) (lv' := [(2, .int _), (1, .int _), (0, .int _)]) dX0_parcels_17 rfl 2 rfl rfl (by decide) rfl ?_
      refine g_goto 4 hC dX0_parcels_20 (by decide) ?_
      refine g_sub [2, 1, 0] rfl ?_
      exact hK4 _ _ _ hF
def F_X0_parcels  (M : gM) (x0 : Int32) (Q : Int32 → gM → Prop)  : Prop :=
  ∃ n_1, F_X0_parcels_b4 Q x0 n_1 (0 : Int32) (0 : Int32) M
theorem met_X0_parcels {M : gM} {x0 : Int32} {Q : Int32 → gM → Prop} (hF : F_X0_parcels M x0 Q) : gMt yX0_parcels (ws_ yX0_parcels cX0_parcels 3 (some .int)) rm_X0_parcels M [.int x0] (gQi Q) := by
  refine gMet (bytes := cX0_parcels) (maxL := 3) (ret := (some .int)) rfl rfl (by decide) (Nat.le_of_ble_eq_true rfl) (lv := [(0, .int x0)]) rfl (fun G hC hin => ?_)
  unfold F_X0_parcels at hF
  refine g_iconst 1 hC (0 : Int32) dX0_parcels_0 (by decide) rfl ?_
  refine g_istore_n 2 hC (lv' := [(1, .int _), (0, .int _)]) dX0_parcels_1 rfl rfl (by decide) rfl ?_
  refine g_iconst 3 hC (0 : Int32) dX0_parcels_2 (by decide) rfl ?_
  refine g_istore_n 4 hC (lv' := [(2, .int _), (1, .int _), (0, .int _)]) dX0_parcels_3 rfl rfl (by decide) rfl ?_
  refine g_sub [2, 1, 0] rfl ?_
  obtain ⟨n_1, hF⟩ := hF
  exact w_X0_parcels_b4 hC _ n_1 _ _ _ hF
abbrev rm_J15_fill : Room := { frames := 0, cells := 0, slots := 0, locals := 0 }
def F_J15_fill_b6 (Q : gM → Prop)    (a0 : Nat) (j1 : Int64) (x4 : Int32) : Nat → Int32 → gM → Prop
  | 0, _, _ => False
  | n + 1, x3, M =>
    ((x4 ≤ x3 →
      Q M) ∧
      (¬ x4 ≤ x3 →
      uJ M a0 x3 j1 fun M_1 =>
      (F_J15_fill_b6 Q a0 j1 x4 n) (x3 + (1 : Int32)) M_1))
theorem w_J15_fill_b6 {G : gG} {Q : gM → Prop} (hC : gCx G cJ15_fill 5 RJ15 none (gQv Q) rm_J15_fill)  (a0 : Nat) (j1 : Int64) (x4 : Int32)  : ∀ (n : Nat) (x3 : Int32)   (M : gM), F_J15_fill_b6 Q a0 j1 x4 n x3 M → gAt G 0 0 M [(0, .ref a0), (1, .long j1), (3, .int x3), (4, .int x4)] 6 [] := by
  intro n
  induction n with
  | zero =>
    intro x3 M hF
    exact hF.elim
  | succ n ih =>
    intro x3 M hF
    have hK6 := ih
    unfold F_J15_fill_b6 at hF
    refine g_iload_n 7 hC dJ15_fill_6 rfl 2 rfl rfl ?_
    refine g_iload 9 hC dJ15_fill_7 rfl 3 rfl ?_
    refine g_icmp_ge 12 22 hC dJ15_fill_9 (by decide) rfl (fun c => ?_) (fun c => ?_)
    · have hF := hF.1 c
      exact g_return hC ⟨rfl, hF⟩ dJ15_fill_22 (Nat.zero_le _) (Nat.zero_le _)
    · have hF := hF.2 c
      refine g_aload_n 13 hC dJ15_fill_12 rfl 0 rfl rfl ?_
      refine g_iload_n 14 hC dJ15_fill_13 rfl 2 rfl rfl ?_
      refine g_lload_n 15 hC dJ15_fill_14 rfl 1 rfl rfl ?_
      refine g_last 16 hC hF dJ15_fill_15 rfl (fun M_1 hF => ?_)
      refine g_iinc 19 hC (x3 + (1 : Int32)) (lv' := [(3, .int _), (0, .ref _), (1, .long _), (4, .int _)]) dJ15_fill_16 rfl 2 rfl rfl (by decide) rfl ?_
      refine g_goto 6 hC dJ15_fill_19 (by decide) ?_
      refine g_sub [1, 2, 0, 3] rfl ?_
      exact hK6 _ _ hF
def F_J15_fill  (M : gM) (a0 : Nat) (j1 : Int64) (Q : gM → Prop)  : Prop :=
  aL M a0 fun x_1 =>
  ∃ n_2, F_J15_fill_b6 Q a0 j1 x_1 n_2 (0 : Int32) M
theorem met_J15_fill {M : gM} {a0 : Nat} {j1 : Int64} {Q : gM → Prop} (hF : F_J15_fill M a0 j1 Q) : gMt yJ15_fill (ws_ yJ15_fill cJ15_fill 5 none) rm_J15_fill M [.ref a0, .long j1] (gQv Q) := by
  refine gMet (bytes := cJ15_fill) (maxL := 5) (ret := none) rfl rfl (by decide) (Nat.le_of_ble_eq_true rfl) (lv := [(0, .ref a0), (1, .long j1)]) rfl (fun G hC hin => ?_)
  unfold F_J15_fill at hF
  refine g_iconst 1 hC (0 : Int32) dJ15_fill_0 (by decide) rfl ?_
  refine g_istore_n 2 hC (lv' := [(3, .int _), (0, .ref _), (1, .long _)]) dJ15_fill_1 rfl rfl (by decide) rfl ?_
  refine g_aload_n 3 hC dJ15_fill_2 rfl 1 rfl rfl ?_
  refine g_alen 4 hC hF dJ15_fill_3 rfl (fun x_1 hF => ?_)
  refine g_istore 6 hC (lv' := [(4, .int _), (3, .int _), (0, .ref _), (1, .long _)]) dJ15_fill_4 rfl (by decide) rfl ?_
  refine g_sub [2, 3, 1, 0] rfl ?_
  obtain ⟨n_2, hF⟩ := hF
  exact w_J15_fill_b6 hC _ _ _ n_2 _ _ hF
abbrev rm_X12_init (Lc Ls : Nat) : Room := { frames := 1, cells := Lc, slots := Ls, locals := 24 }
def F_X12_init (Lc Ls : Nat) (M : gM) (a0 : Nat) (Q : gM → Prop)  : Prop :=
  pI M 12 a0 0 (3 : Int32) fun M_1 =>
  pI M_1 12 a0 1 (10 : Int32) fun M_2 =>
  pI M_2 12 a0 2 (10 : Int32) fun M_3 =>
  nA M_3 0 0 Lc Ls .int (3 : Int32) 3 fun a_4 M_5 =>
  pR M_5 12 a0 5 (some a_4) fun M_6 =>
  nA M_6 (0 + 1) (0 + 3) Lc Ls .int (3 : Int32) 3 fun a_7 M_8 =>
  pR M_8 12 a0 6 (some a_7) fun M_9 =>
  nA M_9 ((0 + 1) + 1) ((0 + 3) + 3) Lc Ls .int (3 : Int32) 3 fun a_10 M_11 =>
  pR M_11 12 a0 7 (some a_10) fun M_12 =>
  nA M_12 (((0 + 1) + 1) + 1) (((0 + 3) + 3) + 3) Lc Ls .int (3 : Int32) 3 fun a_13 M_14 =>
  pR M_14 12 a0 8 (some a_13) fun M_15 =>
  nA M_15 ((((0 + 1) + 1) + 1) + 1) ((((0 + 3) + 3) + 3) + 3) Lc Ls .int (3 : Int32) 3 fun a_16 M_17 =>
  pR M_17 12 a0 9 (some a_16) fun M_18 =>
  Q M_18
theorem met_X12_init {M : gM} {a0 : Nat} {Q : gM → Prop} {Lc Ls : Nat} (hF : F_X12_init Lc Ls M a0 Q) : gMt yX12_init (ws_ yX12_init cX12_init 1 none) (rm_X12_init Lc Ls) M [.ref a0] (gQv Q) := by
  refine gMet (bytes := cX12_init) (maxL := 1) (ret := none) rfl rfl (by decide) (Nat.le_of_ble_eq_true rfl) (lv := [(0, .ref a0)]) rfl (fun G hC hin => ?_)
  have hu : 0 ≤ Lc ∧ 0 ≤ Ls := ⟨Nat.zero_le _, Nat.zero_le _⟩
  unfold F_X12_init at hF
  refine g_aload_n 1 hC dX12_init_0 rfl 0 rfl rfl ?_
  refine g_objInit 4 hC q576 q109 q110 (Nat.le_of_ble_eq_true rfl) (Nat.le_of_ble_eq_true rfl) dX12_init_1 rfl ?_
  refine g_aload_n 5 hC dX12_init_4 rfl 0 rfl rfl ?_
  refine g_iconst 6 hC (3 : Int32) dX12_init_5 (by decide) rfl ?_
  refine g_putI (C := RX12) (T := TX12) (N := 17) (ci := 12) (k := 0) (ty := .int) in_X12 tyX12 tyX12_ok nmX12 rfl (by decide) q577 rfl rfl (fun _ _ _ => rfl) rfl rfl 9 hC hF dX12_init_6 rfl (fun M_1 hF => ?_)
  refine g_aload_n 10 hC dX12_init_9 rfl 0 rfl rfl ?_
  refine g_bipush 12 hC (10 : Int32) dX12_init_10 (by decide) rfl ?_
  refine g_putI (C := RX12) (T := TX12) (N := 17) (ci := 12) (k := 1) (ty := .int) in_X12 tyX12 tyX12_ok nmX12 rfl (by decide) q581 rfl rfl (fun _ _ _ => rfl) rfl rfl 15 hC hF dX12_init_12 rfl (fun M_2 hF => ?_)
  refine g_aload_n 16 hC dX12_init_15 rfl 0 rfl rfl ?_
  refine g_bipush 18 hC (10 : Int32) dX12_init_16 (by decide) rfl ?_
  refine g_putI (C := RX12) (T := TX12) (N := 17) (ci := 12) (k := 2) (ty := .int) in_X12 tyX12 tyX12_ok nmX12 rfl (by decide) q585 rfl rfl (fun _ _ _ => rfl) rfl rfl 21 hC hF dX12_init_18 rfl (fun M_3 hF => ?_)
  refine g_aload_n 22 hC dX12_init_21 rfl 0 rfl rfl ?_
  refine g_iconst 23 hC (3 : Int32) dX12_init_22 (by decide) rfl ?_
  have hu := hF.2.1
  refine g_newa 25 hC (ty := .int) rfl (by decide) (fun _ _ h => h) (by decide) (by decide) q147 hF dX12_init_23 rfl (fun a_4 M_5 hF => ?_)
  refine g_putFR (C := RX12) (T := TX12) (N := 17) (ci := 12) (k := 5) (ty := (.array .int)) in_X12 tyX12 tyX12_ok nmX12 rfl (by decide) q596 rfl rfl rfl (fun _ _ _ => rfl) (g_narR _ _ (by decide)) (g_fitR _ _ (by decide)) 28 hC hin hF dX12_init_25 rfl (fun M_6 hF => ?_)
  refine g_aload_n 29 hC dX12_init_28 rfl 0 rfl rfl ?_
  refine g_iconst 30 hC (3 : Int32) dX12_init_29 (by decide) rfl ?_
  have hu := hF.2.1
  refine g_newa 32 hC (ty := .int) rfl (by decide) (fun _ _ h => h) (by decide) (by decide) q147 hF dX12_init_30 rfl (fun a_7 M_8 hF => ?_)
  refine g_putFR (C := RX12) (T := TX12) (N := 17) (ci := 12) (k := 6) (ty := (.array .int)) in_X12 tyX12 tyX12_ok nmX12 rfl (by decide) q599 rfl rfl rfl (fun _ _ _ => rfl) (g_narR _ _ (by decide)) (g_fitR _ _ (by decide)) 35 hC hin hF dX12_init_32 rfl (fun M_9 hF => ?_)
  refine g_aload_n 36 hC dX12_init_35 rfl 0 rfl rfl ?_
  refine g_iconst 37 hC (3 : Int32) dX12_init_36 (by decide) rfl ?_
  have hu := hF.2.1
  refine g_newa 39 hC (ty := .int) rfl (by decide) (fun _ _ h => h) (by decide) (by decide) q147 hF dX12_init_37 rfl (fun a_10 M_11 hF => ?_)
  refine g_putFR (C := RX12) (T := TX12) (N := 17) (ci := 12) (k := 7) (ty := (.array .int)) in_X12 tyX12 tyX12_ok nmX12 rfl (by decide) q603 rfl rfl rfl (fun _ _ _ => rfl) (g_narR _ _ (by decide)) (g_fitR _ _ (by decide)) 42 hC hin hF dX12_init_39 rfl (fun M_12 hF => ?_)
  refine g_aload_n 43 hC dX12_init_42 rfl 0 rfl rfl ?_
  refine g_iconst 44 hC (3 : Int32) dX12_init_43 (by decide) rfl ?_
  have hu := hF.2.1
  refine g_newa 46 hC (ty := .int) rfl (by decide) (fun _ _ h => h) (by decide) (by decide) q147 hF dX12_init_44 rfl (fun a_13 M_14 hF => ?_)
  refine g_putFR (C := RX12) (T := TX12) (N := 17) (ci := 12) (k := 8) (ty := (.array .int)) in_X12 tyX12 tyX12_ok nmX12 rfl (by decide) q606 rfl rfl rfl (fun _ _ _ => rfl) (g_narR _ _ (by decide)) (g_fitR _ _ (by decide)) 49 hC hin hF dX12_init_46 rfl (fun M_15 hF => ?_)
  refine g_aload_n 50 hC dX12_init_49 rfl 0 rfl rfl ?_
  refine g_iconst 51 hC (3 : Int32) dX12_init_50 (by decide) rfl ?_
  have hu := hF.2.1
  refine g_newa 53 hC (ty := .int) rfl (by decide) (fun _ _ h => h) (by decide) (by decide) q147 hF dX12_init_51 rfl (fun a_16 M_17 hF => ?_)
  refine g_putFR (C := RX12) (T := TX12) (N := 17) (ci := 12) (k := 9) (ty := (.array .int)) in_X12 tyX12 tyX12_ok nmX12 rfl (by decide) q610 rfl rfl rfl (fun _ _ _ => rfl) (g_narR _ _ (by decide)) (g_fitR _ _ (by decide)) 56 hC hin hF dX12_init_53 rfl (fun M_18 hF => ?_)
  exact g_return hC ⟨rfl, hF⟩ dX12_init_56 hu.1 hu.2
abbrev rm_X12_forgets : Room := { frames := 0, cells := 0, slots := 0, locals := 0 }
def F_X12_forgets  (M : gM) (a0 : Nat) (Q : gM → Prop)  : Prop :=
  pI M 12 a0 12 (0 : Int32) fun M_1 =>
  Q M_1
theorem met_X12_forgets {M : gM} {a0 : Nat} {Q : gM → Prop} (hF : F_X12_forgets M a0 Q) : gMt yX12_forgets (ws_ yX12_forgets cX12_forgets 1 none) rm_X12_forgets M [.ref a0] (gQv Q) := by
  refine gMet (bytes := cX12_forgets) (maxL := 1) (ret := none) rfl rfl (by decide) (Nat.le_of_ble_eq_true rfl) (lv := [(0, .ref a0)]) rfl (fun G hC hin => ?_)
  unfold F_X12_forgets at hF
  refine g_aload_n 1 hC dX12_forgets_0 rfl 0 rfl rfl ?_
  refine g_iconst 2 hC (0 : Int32) dX12_forgets_1 (by decide) rfl ?_
  refine g_putI (C := RX12) (T := TX12) (N := 17) (ci := 12) (k := 12) (ty := .boolean) in_X12 tyX12 tyX12_ok nmX12 rfl (by decide) q615 rfl rfl (fun _ _ _ => rfl) rfl rfl 5 hC hF dX12_forgets_2 rfl (fun M_1 hF => ?_)
  exact g_return hC ⟨rfl, hF⟩ dX12_forgets_5 (Nat.zero_le _) (Nat.zero_le _)
theorem gf_X12_41_12I {G : gG} {cc : ByteArray} {nL : Nat} {ret : Option FieldType} {Qf : Option Value → gM → Prop} {rm : Room} {cells slots : Nat} {M : gM} {lv : List (Nat × Value)} {pc : Nat} {st : List Value} {a : Nat} (n : Nat) (hC : gCx G cc nL RX12 ret Qf rm) {κ : Int32 → Prop} (hF : gI M 12 a 4 κ) (hdg : decode cc pc = .ok (.getfield 41, 3)) (hn : pc + 3 = n) (kk : ∀ x, κ x → gAt G cells slots M lv n (.int x :: st)) : gAt G cells slots M lv pc (.ref a :: st) :=
  g_getI (C := RX12) (T := TX12) (N := 17) in_X12 rfl (by decide) q592 (fun _ _ _ => rfl) n hC hF hdg hn kk
abbrev rm_X12_states : Room := { frames := 0, cells := 0, slots := 0, locals := 0 }
def F_X12_states  (M : gM) (a0 : Nat) (Q : Int32 → gM → Prop)  : Prop :=
  gI M 12 a0 4 fun x_1 =>
  ((¬ x_1 = (1 : Int32) →
    gI M 12 a0 4 fun x_2 =>
    ((¬ x_2 = (2 : Int32) →
      Q (125 : Int32) M) ∧
      (x_2 = (2 : Int32) →
      Q (25 : Int32) M))) ∧
    (x_1 = (1 : Int32) →
    Q (5 : Int32) M))
theorem met_X12_states {M : gM} {a0 : Nat} {Q : Int32 → gM → Prop} (hF : F_X12_states M a0 Q) : gMt yX12_states (ws_ yX12_states cX12_states 1 (some .int)) rm_X12_states M [.ref a0] (gQi Q) := by
  refine gMet (bytes := cX12_states) (maxL := 1) (ret := (some .int)) rfl rfl (by decide) (Nat.le_of_ble_eq_true rfl) (lv := [(0, .ref a0)]) rfl (fun G hC hin => ?_)
  unfold F_X12_states at hF
  refine g_aload_n 1 hC dX12_states_0 rfl 0 rfl rfl ?_
  refine gf_X12_41_12I 4 hC hF dX12_states_1 rfl (fun x_1 hF => ?_)
  refine g_iconst 5 hC (1 : Int32) dX12_states_4 (by decide) rfl ?_
  refine g_icmp_ne 8 12 hC dX12_states_5 (by decide) rfl (fun c => ?_) (fun c => ?_)
  · have hF := hF.1 c
    refine g_aload_n 13 hC dX12_states_12 rfl 0 rfl rfl ?_
    refine gf_X12_41_12I 16 hC hF dX12_states_13 rfl (fun x_2 hF => ?_)
    refine g_iconst 17 hC (2 : Int32) dX12_states_16 (by decide) rfl ?_
    refine g_icmp_ne 20 25 hC dX12_states_17 (by decide) rfl (fun c => ?_) (fun c => ?_)
    · have hF := hF.1 c
      refine g_bipush 27 hC (125 : Int32) dX12_states_25 (by decide) rfl ?_
      exact g_ireturn hC ⟨_, rfl, hF⟩ dX12_states_27 (Nat.zero_le _) (Nat.zero_le _)
    · have hF := hF.2 c
      refine g_bipush 22 hC (25 : Int32) dX12_states_20 (by decide) rfl ?_
      refine g_goto 27 hC dX12_states_22 (by decide) ?_
      exact g_ireturn hC ⟨_, rfl, hF⟩ dX12_states_27 (Nat.zero_le _) (Nat.zero_le _)
  · have hF := hF.2 c
    refine g_iconst 9 hC (5 : Int32) dX12_states_8 (by decide) rfl ?_
    refine g_goto 27 hC dX12_states_9 (by decide) ?_
    exact g_ireturn hC ⟨_, rfl, hF⟩ dX12_states_27 (Nat.zero_le _) (Nat.zero_le _)
theorem gf_X12_21_12N {G : gG} {cc : ByteArray} {nL : Nat} {ret : Option FieldType} {Qf : Option Value → gM → Prop} {rm : Room} {cells slots : Nat} {M : gM} {lv : List (Nat × Value)} {pc : Nat} {st : List Value} {a : Nat} (n : Nat) (hC : gCx G cc nL RX12 ret Qf rm) {κ : Nat → Prop} (hF : gN M 12 a 5 κ) (hdg : decode cc pc = .ok (.getfield 21, 3)) (hn : pc + 3 = n) (kk : ∀ x, κ x → gAt G cells slots M lv n (.ref x :: st)) : gAt G cells slots M lv pc (.ref a :: st) :=
  g_getN (C := RX12) (T := TX12) (N := 17) in_X12 rfl (by decide) q596 (fun _ _ _ => rfl) n hC hF hdg hn kk
abbrev rm_X12_space : Room := { frames := 1, cells := 0, slots := 0, locals := 21 }
def F_X12_space_b4 (Q : Int32 → gM → Prop)    (a0 : Nat) (x1 : Int32) : Nat → Int32 → Int32 → gM → Prop
  | 0, _, _, _ => False
  | n + 1, x2, x3, M =>
    gI M 12 a0 4 fun x_1 =>
    ((x_1 ≤ x3 →
      Q x2 M) ∧
      (¬ x_1 ≤ x3 →
      gN M 12 a0 5 fun a_2 =>
      aI M .int a_2 x3 fun x_3 =>
      F_X0_standing M x1 x3 fun x_5 M_4 =>
      (F_X12_space_b4 Q a0 x1 n) (x2 + (x_3 * x_5)) (x3 + (1 : Int32)) M_4))
theorem w_X12_space_b4 {G : gG} {Q : Int32 → gM → Prop} (hC : gCx G cX12_space 4 RX12 (some .int) (gQi Q) rm_X12_space)  (a0 : Nat) (x1 : Int32)  : ∀ (n : Nat) (x2 : Int32) (x3 : Int32)   (M : gM), F_X12_space_b4 Q a0 x1 n x2 x3 M → gAt G 0 0 M [(0, .ref a0), (1, .int x1), (2, .int x2), (3, .int x3)] 4 [] := by
  intro n
  induction n with
  | zero =>
    intro x2 x3 M hF
    exact hF.elim
  | succ n ih =>
    intro x2 x3 M hF
    have hK4 := ih
    unfold F_X12_space_b4 at hF
    refine g_iload_n 5 hC dX12_space_4 rfl 3 rfl rfl ?_
    refine g_aload_n 6 hC dX12_space_5 rfl 0 rfl rfl ?_
    refine gf_X12_41_12I 9 hC hF dX12_space_6 rfl (fun x_1 hF => ?_)
    refine g_icmp_ge 12 33 hC dX12_space_9 (by decide) rfl (fun c => ?_) (fun c => ?_)
    · have hF := hF.1 c
      refine g_iload_n 34 hC dX12_space_33 rfl 2 rfl rfl ?_
      exact g_ireturn hC ⟨_, rfl, hF⟩ dX12_space_34 (Nat.zero_le _) (Nat.zero_le _)
    · have hF := hF.2 c
      refine g_iload_n 13 hC dX12_space_12 rfl 2 rfl rfl ?_
      refine g_aload_n 14 hC dX12_space_13 rfl 0 rfl rfl ?_
      refine gf_X12_21_12N 17 hC hF dX12_space_14 rfl (fun a_2 hF => ?_)
      refine g_iload_n 18 hC dX12_space_17 rfl 3 rfl rfl ?_
      refine g_iald 19 hC hF dX12_space_18 rfl (fun x_3 hF => ?_)
      refine g_iload_n 20 hC dX12_space_19 rfl 1 rfl rfl ?_
      refine g_iload_n 21 hC dX12_space_20 rfl 3 rfl rfl ?_
      refine g_cSN (rest := [_, _]) q984 q965 q69 q964 hd_X0_standing 24 hC (met_X0_standing hF) rfl ⟨Nat.le_of_ble_eq_true rfl, Nat.le_of_ble_eq_true rfl⟩ ⟨Nat.zero_le _, Nat.zero_le _⟩ rfl (Nat.le_of_ble_eq_true rfl) dX12_space_21 rfl (g_ty_i 0 0 (Nat.le_refl _) (Nat.le_refl _) (fun x_5 M_4 hF => ?_))
      refine g_imul 25 hC dX12_space_24 rfl ?_
      refine g_iadd 26 hC dX12_space_25 rfl ?_
      refine g_istore_n 27 hC (lv' := [(2, .int _), (0, .ref _), (1, .int _), (3, .int _)]) dX12_space_26 rfl rfl (by decide) rfl ?_
      refine g_iinc 30 hC (x3 + (1 : Int32)) (lv' := [(3, .int _), (2, .int _), (0, .ref _), (1, .int _)]) dX12_space_27 rfl 3 rfl rfl (by decide) rfl ?_
      refine g_goto 4 hC dX12_space_30 (by decide) ?_
      refine g_sub [2, 3, 1, 0] rfl ?_
      exact hK4 _ _ _ hF
def F_X12_space  (M : gM) (a0 : Nat) (x1 : Int32) (Q : Int32 → gM → Prop)  : Prop :=
  ∃ n_1, F_X12_space_b4 Q a0 x1 n_1 (0 : Int32) (0 : Int32) M
theorem met_X12_space {M : gM} {a0 : Nat} {x1 : Int32} {Q : Int32 → gM → Prop} (hF : F_X12_space M a0 x1 Q) : gMt yX12_space (ws_ yX12_space cX12_space 4 (some .int)) rm_X12_space M [.ref a0, .int x1] (gQi Q) := by
  refine gMet (bytes := cX12_space) (maxL := 4) (ret := (some .int)) rfl rfl (by decide) (Nat.le_of_ble_eq_true rfl) (lv := [(0, .ref a0), (1, .int x1)]) rfl (fun G hC hin => ?_)
  unfold F_X12_space at hF
  refine g_iconst 1 hC (0 : Int32) dX12_space_0 (by decide) rfl ?_
  refine g_istore_n 2 hC (lv' := [(2, .int _), (0, .ref _), (1, .int _)]) dX12_space_1 rfl rfl (by decide) rfl ?_
  refine g_iconst 3 hC (0 : Int32) dX12_space_2 (by decide) rfl ?_
  refine g_istore_n 4 hC (lv' := [(3, .int _), (2, .int _), (0, .ref _), (1, .int _)]) dX12_space_3 rfl rfl (by decide) rfl ?_
  refine g_sub [2, 3, 1, 0] rfl ?_
  obtain ⟨n_1, hF⟩ := hF
  exact w_X12_space_b4 hC _ _ n_1 _ _ _ hF
abbrev rm_X12_scale : Room := { frames := 0, cells := 0, slots := 0, locals := 0 }
def F_X12_scale  (M : gM) (a0 : Nat) (x1 : Int32) (Q : Int64 → gM → Prop)  : Prop :=
  gI M 12 a0 4 fun x_1 =>
  Q ((1 : Int64) <<< ((((2 : Int32) * x1) * ((1 : Int32) + x_1)).toInt64 &&& 63)) M
theorem met_X12_scale {M : gM} {a0 : Nat} {x1 : Int32} {Q : Int64 → gM → Prop} (hF : F_X12_scale M a0 x1 Q) : gMt yX12_scale (ws_ yX12_scale cX12_scale 2 (some .long)) rm_X12_scale M [.ref a0, .int x1] (gQj Q) := by
  refine gMet (bytes := cX12_scale) (maxL := 2) (ret := (some .long)) rfl rfl (by decide) (Nat.le_of_ble_eq_true rfl) (lv := [(0, .ref a0), (1, .int x1)]) rfl (fun G hC hin => ?_)
  unfold F_X12_scale at hF
  refine g_lconst 1 hC (1 : Int64) dX12_scale_0 (by decide) rfl ?_
  refine g_iconst 2 hC (2 : Int32) dX12_scale_1 (by decide) rfl ?_
  refine g_iload_n 3 hC dX12_scale_2 rfl 1 rfl rfl ?_
  refine g_imul 4 hC dX12_scale_3 rfl ?_
  refine g_iconst 5 hC (1 : Int32) dX12_scale_4 (by decide) rfl ?_
  refine g_aload_n 6 hC dX12_scale_5 rfl 0 rfl rfl ?_
  refine gf_X12_41_12I 9 hC hF dX12_scale_6 rfl (fun x_1 hF => ?_)
  refine g_iadd 10 hC dX12_scale_9 rfl ?_
  refine g_imul 11 hC dX12_scale_10 rfl ?_
  refine g_lshl 12 hC dX12_scale_11 rfl ?_
  exact g_lreturn hC ⟨_, rfl, hF⟩ dX12_scale_12 (Nat.zero_le _) (Nat.zero_le _)
theorem gf_X12_31_12N {G : gG} {cc : ByteArray} {nL : Nat} {ret : Option FieldType} {Qf : Option Value → gM → Prop} {rm : Room} {cells slots : Nat} {M : gM} {lv : List (Nat × Value)} {pc : Nat} {st : List Value} {a : Nat} (n : Nat) (hC : gCx G cc nL RX12 ret Qf rm) {κ : Nat → Prop} (hF : gN M 12 a 8 κ) (hdg : decode cc pc = .ok (.getfield 31, 3)) (hn : pc + 3 = n) (kk : ∀ x, κ x → gAt G cells slots M lv n (.ref x :: st)) : gAt G cells slots M lv pc (.ref a :: st) :=
  g_getN (C := RX12) (T := TX12) (N := 17) in_X12 rfl (by decide) q606 (fun _ _ _ => rfl) n hC hF hdg hn kk
theorem gf_X12_25_12N {G : gG} {cc : ByteArray} {nL : Nat} {ret : Option FieldType} {Qf : Option Value → gM → Prop} {rm : Room} {cells slots : Nat} {M : gM} {lv : List (Nat × Value)} {pc : Nat} {st : List Value} {a : Nat} (n : Nat) (hC : gCx G cc nL RX12 ret Qf rm) {κ : Nat → Prop} (hF : gN M 12 a 6 κ) (hdg : decode cc pc = .ok (.getfield 25, 3)) (hn : pc + 3 = n) (kk : ∀ x, κ x → gAt G cells slots M lv n (.ref x :: st)) : gAt G cells slots M lv pc (.ref a :: st) :=
  g_getN (C := RX12) (T := TX12) (N := 17) in_X12 rfl (by decide) q599 (fun _ _ _ => rfl) n hC hF hdg hn kk
abbrev rm_X12_comes : Room := { frames := 1, cells := 0, slots := 0, locals := 21 }
def F_X12_comes_b133 (Q : Int64 → gM → Prop)   (K6 : Int64 → Int32 → gM → Prop) (K29 : Int64 → Int32 → Int32 → Int32 → gM → Prop) (a0 : Nat) (x1 : Int32) (a2 : Nat) (x3 : Int32) (j4 : Int64) (j6 : Int64) (x8 : Int32) (j9 : Int64) (x11 : Int32) (x12 : Int32) (x13 : Int32)   (M : gM) : Prop :=
  K29 j9 x11 x12 (x13 + (1 : Int32)) M
theorem w_X12_comes_b133 {G : gG} {Q : Int64 → gM → Prop} (hC : gCx G cX12_comes 15 RX12 (some .long) (gQj Q) rm_X12_comes) (K6 : Int64 → Int32 → gM → Prop) (K29 : Int64 → Int32 → Int32 → Int32 → gM → Prop) (a0 : Nat) (x1 : Int32) (a2 : Nat) (x3 : Int32) (j4 : Int64) (j6 : Int64) (x8 : Int32) (j9 : Int64) (x11 : Int32) (x12 : Int32) (x13 : Int32)  (hK6 : ∀ j6' x8' M', K6 j6' x8' M' → gAt G 0 0 M' [(0, .ref a0), (1, .int x1), (2, .ref a2), (3, .int x3), (4, .long j4), (6, .long j6'), (8, .int x8')] 6 []) (hK29 : ∀ j9' x11' x12' x13' M', K29 j9' x11' x12' x13' M' → gAt G 0 0 M' [(0, .ref a0), (1, .int x1), (2, .ref a2), (3, .int x3), (4, .long j4), (6, .long j6), (8, .int x8), (9, .long j9'), (11, .int x11'), (12, .int x12'), (13, .int x13')] 29 [])   (M : gM) (hF : F_X12_comes_b133 Q K6 K29 a0 x1 a2 x3 j4 j6 x8 j9 x11 x12 x13 M) : gAt G 0 0 M [(0, .ref a0), (1, .int x1), (2, .ref a2), (3, .int x3), (4, .long j4), (6, .long j6), (8, .int x8), (9, .long j9), (11, .int x11), (12, .int x12), (13, .int x13)] 133 [] := by
  unfold F_X12_comes_b133 at hF
  refine g_iinc 136 hC (x13 + (1 : Int32)) (lv' := [(13, .int _), (0, .ref _), (1, .int _), (2, .ref _), (3, .int _), (4, .long _), (6, .long _), (8, .int _), (9, .long _), (11, .int _), (12, .int _)]) dX12_comes_133 rfl 10 rfl rfl (by decide) rfl ?_
  refine g_goto 29 hC dX12_comes_136 (by decide) ?_
  refine g_sub [1, 2, 3, 4, 5, 6, 7, 8, 9, 10, 0] rfl ?_
  exact hK29 _ _ _ _ _ hF
def F_X12_comes_b117 (Q : Int64 → gM → Prop)   (K6 : Int64 → Int32 → gM → Prop) (K29 : Int64 → Int32 → Int32 → Int32 → gM → Prop) (a0 : Nat) (x1 : Int32) (a2 : Nat) (x3 : Int32) (j4 : Int64) (j6 : Int64) (x8 : Int32) (j9 : Int64) (x11 : Int32) (x12 : Int32) (x13 : Int32) (x14 : Int32)   (M : gM) : Prop :=
  ((x14 = 0 →
    F_X12_comes_b133 Q K6 K29 a0 x1 a2 x3 j4 j6 x8 j9 x11 x12 x13 M) ∧
    (¬ x14 = 0 →
    aI M .int (gl M 0) x13 fun x_1 =>
    F_X12_comes_b133 Q K6 K29 a0 x1 a2 x3 j4 j6 x8 j9 (x11 + x_1) x12 x13 M))
theorem w_X12_comes_b117 {G : gG} {Q : Int64 → gM → Prop} (hC : gCx G cX12_comes 15 RX12 (some .long) (gQj Q) rm_X12_comes) (K6 : Int64 → Int32 → gM → Prop) (K29 : Int64 → Int32 → Int32 → Int32 → gM → Prop) (a0 : Nat) (x1 : Int32) (a2 : Nat) (x3 : Int32) (j4 : Int64) (j6 : Int64) (x8 : Int32) (j9 : Int64) (x11 : Int32) (x12 : Int32) (x13 : Int32) (x14 : Int32)  (hK6 : ∀ j6' x8' M', K6 j6' x8' M' → gAt G 0 0 M' [(0, .ref a0), (1, .int x1), (2, .ref a2), (3, .int x3), (4, .long j4), (6, .long j6'), (8, .int x8')] 6 []) (hK29 : ∀ j9' x11' x12' x13' M', K29 j9' x11' x12' x13' M' → gAt G 0 0 M' [(0, .ref a0), (1, .int x1), (2, .ref a2), (3, .int x3), (4, .long j4), (6, .long j6), (8, .int x8), (9, .long j9'), (11, .int x11'), (12, .int x12'), (13, .int x13')] 29 [])   (M : gM) (hF : F_X12_comes_b117 Q K6 K29 a0 x1 a2 x3 j4 j6 x8 j9 x11 x12 x13 x14 M) : gAt G 0 0 M [(0, .ref a0), (1, .int x1), (2, .ref a2), (3, .int x3), (4, .long j4), (6, .long j6), (8, .int x8), (9, .long j9), (11, .int x11), (12, .int x12), (13, .int x13), (14, .int x14)] 117 [] := by
  unfold F_X12_comes_b117 at hF
  refine g_iload 119 hC dX12_comes_117 rfl 11 rfl ?_
  refine g_if_eq 122 133 hC dX12_comes_119 (by decide) rfl (fun c => ?_) (fun c => ?_)
  · have hF := hF.1 c
    refine g_sub [0, 1, 2, 3, 4, 5, 6, 7, 8, 9, 10] rfl ?_
    exact w_X12_comes_b133 hC _ _ _ _ _ _ _ _ _ _ _ _ _ hK6 hK29 _ hF
  · have hF := hF.2 c
    refine g_iload 124 hC dX12_comes_122 rfl 8 rfl ?_
    refine g_getsPN 127 hC q1027 dX12_comes_124 rfl ?_
    refine g_iload 129 hC dX12_comes_127 rfl 10 rfl ?_
    refine g_iald 130 hC hF dX12_comes_129 rfl (fun x_1 hF => ?_)
    refine g_iadd 131 hC dX12_comes_130 rfl ?_
    refine g_istore 133 hC (lv' := [(11, .int _), (0, .ref _), (1, .int _), (2, .ref _), (3, .int _), (4, .long _), (6, .long _), (8, .int _), (9, .long _), (12, .int _), (13, .int _), (14, .int _)]) dX12_comes_131 rfl (by decide) rfl ?_
    refine g_sub [1, 2, 3, 4, 5, 6, 7, 8, 0, 9, 10] rfl ?_
    exact w_X12_comes_b133 hC _ _ _ _ _ _ _ _ _ _ _ _ _ hK6 hK29 _ hF
def F_X12_comes_b84 (Q : Int64 → gM → Prop)   (K6 : Int64 → Int32 → gM → Prop) (K29 : Int64 → Int32 → Int32 → Int32 → gM → Prop) (a0 : Nat) (x1 : Int32) (a2 : Nat) (x3 : Int32) (j4 : Int64) (j6 : Int64) (x8 : Int32) (x11 : Int32) (x12 : Int32) (x13 : Int32) (x14 : Int32) (t0 : Int64) (t1 : Int64)  (M : gM) : Prop :=
  ((x14 = 0 →
    F_X12_comes_b117 Q K6 K29 a0 x1 a2 x3 j4 j6 x8 (t0 * t1) x11 x12 x13 x14 M) ∧
    (¬ x14 = 0 →
    F_X0_standing M x1 x13 fun x_2 M_1 =>
    ((¬ x_2 = (4 : Int32) →
      F_X12_comes_b117 Q K6 K29 a0 x1 a2 x3 j4 j6 x8 (t0 * t1) x11 x12 x13 x14 M_1) ∧
      (x_2 = (4 : Int32) →
      gN M_1 12 a0 8 fun a_3 =>
      aI M_1 .int a_3 x13 fun x_4 =>
      F_X12_comes_b133 Q K6 K29 a0 x1 a2 x3 j4 j6 x8 (t0 * t1) x11 (x12 + x_4) x13 M_1))))
theorem w_X12_comes_b84 {G : gG} {Q : Int64 → gM → Prop} (hC : gCx G cX12_comes 15 RX12 (some .long) (gQj Q) rm_X12_comes) (K6 : Int64 → Int32 → gM → Prop) (K29 : Int64 → Int32 → Int32 → Int32 → gM → Prop) (a0 : Nat) (x1 : Int32) (a2 : Nat) (x3 : Int32) (j4 : Int64) (j6 : Int64) (x8 : Int32) (x11 : Int32) (x12 : Int32) (x13 : Int32) (x14 : Int32) (t0 : Int64) (t1 : Int64) (hK6 : ∀ j6' x8' M', K6 j6' x8' M' → gAt G 0 0 M' [(0, .ref a0), (1, .int x1), (2, .ref a2), (3, .int x3), (4, .long j4), (6, .long j6'), (8, .int x8')] 6 []) (hK29 : ∀ j9' x11' x12' x13' M', K29 j9' x11' x12' x13' M' → gAt G 0 0 M' [(0, .ref a0), (1, .int x1), (2, .ref a2), (3, .int x3), (4, .long j4), (6, .long j6), (8, .int x8), (9, .long j9'), (11, .int x11'), (12, .int x12'), (13, .int x13')] 29 [])   (M : gM) (hF : F_X12_comes_b84 Q K6 K29 a0 x1 a2 x3 j4 j6 x8 x11 x12 x13 x14 t0 t1 M) : gAt G 0 0 M [(0, .ref a0), (1, .int x1), (2, .ref a2), (3, .int x3), (4, .long j4), (6, .long j6), (8, .int x8), (11, .int x11), (12, .int x12), (13, .int x13), (14, .int x14)] 84 [.long t1, .long t0] := by
  unfold F_X12_comes_b84 at hF
  refine g_lmul 85 hC dX12_comes_84 rfl ?_
  refine g_lstore 87 hC (lv' := [(9, .long _), (0, .ref _), (1, .int _), (2, .ref _), (3, .int _), (4, .long _), (6, .long _), (8, .int _), (11, .int _), (12, .int _), (13, .int _), (14, .int _)]) dX12_comes_85 rfl (by decide) rfl ?_
  refine g_iload 89 hC dX12_comes_87 rfl 11 rfl ?_
  refine g_if_eq 92 117 hC dX12_comes_89 (by decide) rfl (fun c => ?_) (fun c => ?_)
  · have hF := hF.1 c
    refine g_sub [1, 2, 3, 4, 5, 6, 7, 0, 8, 9, 10, 11] rfl ?_
    exact w_X12_comes_b117 hC _ _ _ _ _ _ _ _ _ _ _ _ _ _ hK6 hK29 _ hF
  · have hF := hF.2 c
    refine g_iload_n 93 hC dX12_comes_92 rfl 2 rfl rfl ?_
    refine g_iload 95 hC dX12_comes_93 rfl 10 rfl ?_
    refine g_cSN (rest := []) q984 q965 q69 q964 hd_X0_standing 98 hC (met_X0_standing hF) rfl ⟨Nat.le_of_ble_eq_true rfl, Nat.le_of_ble_eq_true rfl⟩ ⟨Nat.zero_le _, Nat.zero_le _⟩ rfl (Nat.le_of_ble_eq_true rfl) dX12_comes_95 rfl (g_ty_i 0 0 (Nat.le_refl _) (Nat.le_refl _) (fun x_2 M_1 hF => ?_))
    refine g_iconst 99 hC (4 : Int32) dX12_comes_98 (by decide) rfl ?_
    refine g_icmp_ne 102 117 hC dX12_comes_99 (by decide) rfl (fun c => ?_) (fun c => ?_)
    · have hF := hF.1 c
      refine g_sub [1, 2, 3, 4, 5, 6, 7, 0, 8, 9, 10, 11] rfl ?_
      exact w_X12_comes_b117 hC _ _ _ _ _ _ _ _ _ _ _ _ _ _ hK6 hK29 _ hF
    · have hF := hF.2 c
      refine g_iload 104 hC dX12_comes_102 rfl 9 rfl ?_
      refine g_aload_n 105 hC dX12_comes_104 rfl 1 rfl rfl ?_
      refine gf_X12_31_12N 108 hC hF dX12_comes_105 rfl (fun a_3 hF => ?_)
      refine g_iload 110 hC dX12_comes_108 rfl 10 rfl ?_
      refine g_iald 111 hC hF dX12_comes_110 rfl (fun x_4 hF => ?_)
      refine g_iadd 112 hC dX12_comes_111 rfl ?_
      refine g_istore 114 hC (lv' := [(12, .int _), (9, .long _), (0, .ref _), (1, .int _), (2, .ref _), (3, .int _), (4, .long _), (6, .long _), (8, .int _), (11, .int _), (13, .int _), (14, .int _)]) dX12_comes_112 rfl (by decide) rfl ?_
      refine g_goto 133 hC dX12_comes_114 (by decide) ?_
      refine g_sub [2, 3, 4, 5, 6, 7, 8, 1, 9, 0, 10] rfl ?_
      exact w_X12_comes_b133 hC _ _ _ _ _ _ _ _ _ _ _ _ _ hK6 hK29 _ hF
def F_X12_comes_b54 (Q : Int64 → gM → Prop)   (K6 : Int64 → Int32 → gM → Prop) (K29 : Int64 → Int32 → Int32 → Int32 → gM → Prop) (a0 : Nat) (x1 : Int32) (a2 : Nat) (x3 : Int32) (j4 : Int64) (j6 : Int64) (x8 : Int32) (j9 : Int64) (x11 : Int32) (x12 : Int32) (x13 : Int32) (t0 : Int32)  (M : gM) : Prop :=
  ((t0 = 0 →
    gN M 12 a0 6 fun a_1 =>
    aI M .int a_1 x13 fun x_2 =>
    F_X12_comes_b84 Q K6 K29 a0 x1 a2 x3 j4 j6 x8 x11 x12 x13 t0 j9 (((4 : Int32) - x_2).toInt64) M) ∧
    (¬ t0 = 0 →
    gN M 12 a0 6 fun a_3 =>
    aI M .int a_3 x13 fun x_4 =>
    F_X12_comes_b84 Q K6 K29 a0 x1 a2 x3 j4 j6 x8 x11 x12 x13 t0 j9 x_4.toInt64 M))
theorem w_X12_comes_b54 {G : gG} {Q : Int64 → gM → Prop} (hC : gCx G cX12_comes 15 RX12 (some .long) (gQj Q) rm_X12_comes) (K6 : Int64 → Int32 → gM → Prop) (K29 : Int64 → Int32 → Int32 → Int32 → gM → Prop) (a0 : Nat) (x1 : Int32) (a2 : Nat) (x3 : Int32) (j4 : Int64) (j6 : Int64) (x8 : Int32) (j9 : Int64) (x11 : Int32) (x12 : Int32) (x13 : Int32) (t0 : Int32) (hK6 : ∀ j6' x8' M', K6 j6' x8' M' → gAt G 0 0 M' [(0, .ref a0), (1, .int x1), (2, .ref a2), (3, .int x3), (4, .long j4), (6, .long j6'), (8, .int x8')] 6 []) (hK29 : ∀ j9' x11' x12' x13' M', K29 j9' x11' x12' x13' M' → gAt G 0 0 M' [(0, .ref a0), (1, .int x1), (2, .ref a2), (3, .int x3), (4, .long j4), (6, .long j6), (8, .int x8), (9, .long j9'), (11, .int x11'), (12, .int x12'), (13, .int x13')] 29 [])   (M : gM) (hF : F_X12_comes_b54 Q K6 K29 a0 x1 a2 x3 j4 j6 x8 j9 x11 x12 x13 t0 M) : gAt G 0 0 M [(0, .ref a0), (1, .int x1), (2, .ref a2), (3, .int x3), (4, .long j4), (6, .long j6), (8, .int x8), (9, .long j9), (11, .int x11), (12, .int x12), (13, .int x13)] 54 [.int t0] := by
  unfold F_X12_comes_b54 at hF
  refine g_istore 56 hC (lv' := [(14, .int _), (0, .ref _), (1, .int _), (2, .ref _), (3, .int _), (4, .long _), (6, .long _), (8, .int _), (9, .long _), (11, .int _), (12, .int _), (13, .int _)]) dX12_comes_54 rfl (by decide) rfl ?_
  refine g_lload 58 hC dX12_comes_56 rfl 8 rfl ?_
  refine g_iload 60 hC dX12_comes_58 rfl 0 rfl ?_
  refine g_if_eq 63 74 hC dX12_comes_60 (by decide) rfl (fun c => ?_) (fun c => ?_)
  · have hF := hF.1 c
    refine g_iconst 75 hC (4 : Int32) dX12_comes_74 (by decide) rfl ?_
    refine g_aload_n 76 hC dX12_comes_75 rfl 1 rfl rfl ?_
    refine gf_X12_25_12N 79 hC hF dX12_comes_76 rfl (fun a_1 hF => ?_)
    refine g_iload 81 hC dX12_comes_79 rfl 11 rfl ?_
    refine g_iald 82 hC hF dX12_comes_81 rfl (fun x_2 hF => ?_)
    refine g_isub 83 hC dX12_comes_82 rfl ?_
    refine g_i2l 84 hC dX12_comes_83 rfl ?_
    refine g_sub [1, 2, 3, 4, 5, 6, 7, 9, 10, 11, 0] rfl ?_
    exact w_X12_comes_b84 hC _ _ _ _ _ _ _ _ _ _ _ _ _ _ _ hK6 hK29 _ hF
  · have hF := hF.2 c
    refine g_aload_n 64 hC dX12_comes_63 rfl 1 rfl rfl ?_
    refine gf_X12_25_12N 67 hC hF dX12_comes_64 rfl (fun a_3 hF => ?_)
    refine g_iload 69 hC dX12_comes_67 rfl 11 rfl ?_
    refine g_iald 70 hC hF dX12_comes_69 rfl (fun x_4 hF => ?_)
    refine g_i2l 71 hC dX12_comes_70 rfl ?_
    refine g_goto 84 hC dX12_comes_71 (by decide) ?_
    refine g_sub [1, 2, 3, 4, 5, 6, 7, 9, 10, 11, 0] rfl ?_
    exact w_X12_comes_b84 hC _ _ _ _ _ _ _ _ _ _ _ _ _ _ _ hK6 hK29 _ hF
def F_X12_comes_b167 (Q : Int64 → gM → Prop)   (K6 : Int64 → Int32 → gM → Prop) (a0 : Nat) (x1 : Int32) (a2 : Nat) (x3 : Int32) (j4 : Int64) (j6 : Int64) (x8 : Int32)   (M : gM) : Prop :=
  K6 j6 (x8 + (1 : Int32)) M
theorem w_X12_comes_b167 {G : gG} {Q : Int64 → gM → Prop} (hC : gCx G cX12_comes 15 RX12 (some .long) (gQj Q) rm_X12_comes) (K6 : Int64 → Int32 → gM → Prop) (a0 : Nat) (x1 : Int32) (a2 : Nat) (x3 : Int32) (j4 : Int64) (j6 : Int64) (x8 : Int32)  (hK6 : ∀ j6' x8' M', K6 j6' x8' M' → gAt G 0 0 M' [(0, .ref a0), (1, .int x1), (2, .ref a2), (3, .int x3), (4, .long j4), (6, .long j6'), (8, .int x8')] 6 [])   (M : gM) (hF : F_X12_comes_b167 Q K6 a0 x1 a2 x3 j4 j6 x8 M) : gAt G 0 0 M [(0, .ref a0), (1, .int x1), (2, .ref a2), (3, .int x3), (4, .long j4), (6, .long j6), (8, .int x8)] 167 [] := by
  unfold F_X12_comes_b167 at hF
  refine g_iinc 170 hC (x8 + (1 : Int32)) (lv' := [(8, .int _), (0, .ref _), (1, .int _), (2, .ref _), (3, .int _), (4, .long _), (6, .long _)]) dX12_comes_167 rfl 6 rfl rfl (by decide) rfl ?_
  refine g_goto 6 hC dX12_comes_170 (by decide) ?_
  refine g_sub [1, 2, 3, 4, 5, 6, 0] rfl ?_
  exact hK6 _ _ _ hF
def F_X12_comes_b29 (Q : Int64 → gM → Prop)   (K6 : Int64 → Int32 → gM → Prop) (a0 : Nat) (x1 : Int32) (a2 : Nat) (x3 : Int32) (j4 : Int64) (j6 : Int64) (x8 : Int32) : Nat → Int64 → Int32 → Int32 → Int32 → gM → Prop
  | 0, _, _, _, _, _ => False
  | n + 1, j9, x11, x12, x13, M =>
    gI M 12 a0 4 fun x_1 =>
    ((x_1 ≤ x13 →
      ((j9 ≤ (0 : Int64) →
        F_X12_comes_b167 Q K6 a0 x1 a2 x3 j4 j6 x8 M) ∧
        (¬ j9 ≤ (0 : Int64) →
        aJ M a2 (x3 + x11) fun j_2 =>
        F_X12_comes_b167 Q K6 a0 x1 a2 x3 j4 (j6 + (j9 * ((x12.toInt64 * j4) + j_2))) x8 M))) ∧
      (¬ x_1 ≤ x13 →
      ((¬ ((x8 >>> (x13 &&& 31)) &&& (1 : Int32)) = (1 : Int32) →
        F_X12_comes_b54 Q K6 (F_X12_comes_b29 Q K6 a0 x1 a2 x3 j4 j6 x8 n) a0 x1 a2 x3 j4 j6 x8 j9 x11 x12 x13 (0 : Int32) M) ∧
        (((x8 >>> (x13 &&& 31)) &&& (1 : Int32)) = (1 : Int32) →
        F_X12_comes_b54 Q K6 (F_X12_comes_b29 Q K6 a0 x1 a2 x3 j4 j6 x8 n) a0 x1 a2 x3 j4 j6 x8 j9 x11 x12 x13 (1 : Int32) M))))
theorem w_X12_comes_b29 {G : gG} {Q : Int64 → gM → Prop} (hC : gCx G cX12_comes 15 RX12 (some .long) (gQj Q) rm_X12_comes) (K6 : Int64 → Int32 → gM → Prop) (a0 : Nat) (x1 : Int32) (a2 : Nat) (x3 : Int32) (j4 : Int64) (j6 : Int64) (x8 : Int32) (hK6 : ∀ j6' x8' M', K6 j6' x8' M' → gAt G 0 0 M' [(0, .ref a0), (1, .int x1), (2, .ref a2), (3, .int x3), (4, .long j4), (6, .long j6'), (8, .int x8')] 6 []) : ∀ (n : Nat) (j9 : Int64) (x11 : Int32) (x12 : Int32) (x13 : Int32)   (M : gM), F_X12_comes_b29 Q K6 a0 x1 a2 x3 j4 j6 x8 n j9 x11 x12 x13 M → gAt G 0 0 M [(0, .ref a0), (1, .int x1), (2, .ref a2), (3, .int x3), (4, .long j4), (6, .long j6), (8, .int x8), (9, .long j9), (11, .int x11), (12, .int x12), (13, .int x13)] 29 [] := by
  intro n
  induction n with
  | zero =>
    intro j9 x11 x12 x13 M hF
    exact hF.elim
  | succ n ih =>
    intro j9 x11 x12 x13 M hF
    have hK29 := ih
    unfold F_X12_comes_b29 at hF
    refine g_iload 31 hC dX12_comes_29 rfl 10 rfl ?_
    refine g_aload_n 32 hC dX12_comes_31 rfl 0 rfl rfl ?_
    refine gf_X12_41_12I 35 hC hF dX12_comes_32 rfl (fun x_1 hF => ?_)
    refine g_icmp_ge 38 139 hC dX12_comes_35 (by decide) rfl (fun c => ?_) (fun c => ?_)
    · have hF := hF.1 c
      refine g_lload 141 hC dX12_comes_139 rfl 7 rfl ?_
      refine g_lconst 142 hC (0 : Int64) dX12_comes_141 (by decide) rfl ?_
      refine g_lcmp_le 146 167 hC dX12_comes_142 rfl dX12_comes_143 (by decide) rfl (fun c => ?_) (fun c => ?_)
      · have hF := hF.1 c
        refine g_sub [0, 1, 2, 3, 4, 5, 6] rfl ?_
        exact w_X12_comes_b167 hC _ _ _ _ _ _ _ _ hK6 _ hF
      · have hF := hF.2 c
        refine g_lload 148 hC dX12_comes_146 rfl 5 rfl ?_
        refine g_lload 150 hC dX12_comes_148 rfl 7 rfl ?_
        refine g_iload 152 hC dX12_comes_150 rfl 9 rfl ?_
        refine g_i2l 153 hC dX12_comes_152 rfl ?_
        refine g_lload 155 hC dX12_comes_153 rfl 4 rfl ?_
        refine g_lmul 156 hC dX12_comes_155 rfl ?_
        refine g_aload_n 157 hC dX12_comes_156 rfl 2 rfl rfl ?_
        refine g_iload_n 158 hC dX12_comes_157 rfl 3 rfl rfl ?_
        refine g_iload 160 hC dX12_comes_158 rfl 8 rfl ?_
        refine g_iadd 161 hC dX12_comes_160 rfl ?_
        refine g_lald 162 hC hF dX12_comes_161 rfl (fun j_2 hF => ?_)
        refine g_ladd 163 hC dX12_comes_162 rfl ?_
        refine g_lmul 164 hC dX12_comes_163 rfl ?_
        refine g_ladd 165 hC dX12_comes_164 rfl ?_
        refine g_lstore 167 hC (lv' := [(6, .long _), (0, .ref _), (1, .int _), (2, .ref _), (3, .int _), (4, .long _), (8, .int _), (9, .long _), (11, .int _), (12, .int _), (13, .int _)]) dX12_comes_165 rfl (by decide) rfl ?_
        refine g_sub [1, 2, 3, 4, 5, 0, 6] rfl ?_
        exact w_X12_comes_b167 hC _ _ _ _ _ _ _ _ hK6 _ hF
    · have hF := hF.2 c
      refine g_iload 40 hC dX12_comes_38 rfl 6 rfl ?_
      refine g_iload 42 hC dX12_comes_40 rfl 10 rfl ?_
      refine g_ishr 43 hC dX12_comes_42 rfl ?_
      refine g_iconst 44 hC (1 : Int32) dX12_comes_43 (by decide) rfl ?_
      refine g_iand 45 hC dX12_comes_44 rfl ?_
      refine g_iconst 46 hC (1 : Int32) dX12_comes_45 (by decide) rfl ?_
      refine g_icmp_ne 49 53 hC dX12_comes_46 (by decide) rfl (fun c => ?_) (fun c => ?_)
      · have hF := hF.1 c
        refine g_iconst 54 hC (0 : Int32) dX12_comes_53 (by decide) rfl ?_
        exact w_X12_comes_b54 hC _ _ _ _ _ _ _ _ _ _ _ _ _ _ hK6 hK29 _ hF
      · have hF := hF.2 c
        refine g_iconst 50 hC (1 : Int32) dX12_comes_49 (by decide) rfl ?_
        refine g_goto 54 hC dX12_comes_50 (by decide) ?_
        exact w_X12_comes_b54 hC _ _ _ _ _ _ _ _ _ _ _ _ _ _ hK6 hK29 _ hF
def F_X12_comes_b6 (Q : Int64 → gM → Prop)    (a0 : Nat) (x1 : Int32) (a2 : Nat) (x3 : Int32) (j4 : Int64) : Nat → Int64 → Int32 → gM → Prop
  | 0, _, _, _ => False
  | n + 1, j6, x8, M =>
    gI M 12 a0 4 fun x_1 =>
    ((((1 : Int32) <<< (x_1 &&& 31)) ≤ x8 →
      Q j6 M) ∧
      (¬ ((1 : Int32) <<< (x_1 &&& 31)) ≤ x8 →
      ∃ n_2, F_X12_comes_b29 Q (F_X12_comes_b6 Q a0 x1 a2 x3 j4 n) a0 x1 a2 x3 j4 j6 x8 n_2 (1 : Int64) x1 (0 : Int32) (0 : Int32) M))
theorem w_X12_comes_b6 {G : gG} {Q : Int64 → gM → Prop} (hC : gCx G cX12_comes 15 RX12 (some .long) (gQj Q) rm_X12_comes)  (a0 : Nat) (x1 : Int32) (a2 : Nat) (x3 : Int32) (j4 : Int64)  : ∀ (n : Nat) (j6 : Int64) (x8 : Int32)   (M : gM), F_X12_comes_b6 Q a0 x1 a2 x3 j4 n j6 x8 M → gAt G 0 0 M [(0, .ref a0), (1, .int x1), (2, .ref a2), (3, .int x3), (4, .long j4), (6, .long j6), (8, .int x8)] 6 [] := by
  intro n
  induction n with
  | zero =>
    intro j6 x8 M hF
    exact hF.elim
  | succ n ih =>
    intro j6 x8 M hF
    have hK6 := ih
    unfold F_X12_comes_b6 at hF
    refine g_iload 8 hC dX12_comes_6 rfl 6 rfl ?_
    refine g_iconst 9 hC (1 : Int32) dX12_comes_8 (by decide) rfl ?_
    refine g_aload_n 10 hC dX12_comes_9 rfl 0 rfl rfl ?_
    refine gf_X12_41_12I 13 hC hF dX12_comes_10 rfl (fun x_1 hF => ?_)
    refine g_ishl 14 hC dX12_comes_13 rfl ?_
    refine g_icmp_ge 17 173 hC dX12_comes_14 (by decide) rfl (fun c => ?_) (fun c => ?_)
    · have hF := hF.1 c
      refine g_lload 175 hC dX12_comes_173 rfl 5 rfl ?_
      exact g_lreturn hC ⟨_, rfl, hF⟩ dX12_comes_175 (Nat.zero_le _) (Nat.zero_le _)
    · have hF := hF.2 c
      refine g_lconst 18 hC (1 : Int64) dX12_comes_17 (by decide) rfl ?_
      refine g_lstore 20 hC (lv' := [(9, .long _), (0, .ref _), (1, .int _), (2, .ref _), (3, .int _), (4, .long _), (6, .long _), (8, .int _)]) dX12_comes_18 rfl (by decide) rfl ?_
      refine g_iload_n 21 hC dX12_comes_20 rfl 2 rfl rfl ?_
      refine g_istore 23 hC (lv' := [(11, .int _), (9, .long _), (0, .ref _), (1, .int _), (2, .ref _), (3, .int _), (4, .long _), (6, .long _), (8, .int _)]) dX12_comes_21 rfl (by decide) rfl ?_
      refine g_iconst 24 hC (0 : Int32) dX12_comes_23 (by decide) rfl ?_
      refine g_istore 26 hC (lv' := [(12, .int _), (11, .int _), (9, .long _), (0, .ref _), (1, .int _), (2, .ref _), (3, .int _), (4, .long _), (6, .long _), (8, .int _)]) dX12_comes_24 rfl (by decide) rfl ?_
      refine g_iconst 27 hC (0 : Int32) dX12_comes_26 (by decide) rfl ?_
      refine g_istore 29 hC (lv' := [(13, .int _), (12, .int _), (11, .int _), (9, .long _), (0, .ref _), (1, .int _), (2, .ref _), (3, .int _), (4, .long _), (6, .long _), (8, .int _)]) dX12_comes_27 rfl (by decide) rfl ?_
      refine g_sub [4, 5, 6, 7, 8, 9, 10, 3, 2, 1, 0] rfl ?_
      obtain ⟨n_2, hF⟩ := hF
      exact w_X12_comes_b29 hC _ _ _ _ _ _ _ _ hK6 n_2 _ _ _ _ _ hF
def F_X12_comes  (M : gM) (a0 : Nat) (x1 : Int32) (a2 : Nat) (x3 : Int32) (j4 : Int64) (Q : Int64 → gM → Prop)  : Prop :=
  ∃ n_1, F_X12_comes_b6 Q a0 x1 a2 x3 j4 n_1 (0 : Int64) (0 : Int32) M
theorem met_X12_comes {M : gM} {a0 : Nat} {x1 : Int32} {a2 : Nat} {x3 : Int32} {j4 : Int64} {Q : Int64 → gM → Prop} (hF : F_X12_comes M a0 x1 a2 x3 j4 Q) : gMt yX12_comes (ws_ yX12_comes cX12_comes 15 (some .long)) rm_X12_comes M [.ref a0, .int x1, .ref a2, .int x3, .long j4] (gQj Q) := by
  refine gMet (bytes := cX12_comes) (maxL := 15) (ret := (some .long)) rfl rfl (by decide) (Nat.le_of_ble_eq_true rfl) (lv := [(0, .ref a0), (1, .int x1), (2, .ref a2), (3, .int x3), (4, .long j4)]) rfl (fun G hC hin => ?_)
  unfold F_X12_comes at hF
  refine g_lconst 1 hC (0 : Int64) dX12_comes_0 (by decide) rfl ?_
  refine g_lstore 3 hC (lv' := [(6, .long _), (0, .ref _), (1, .int _), (2, .ref _), (3, .int _), (4, .long _)]) dX12_comes_1 rfl (by decide) rfl ?_
  refine g_iconst 4 hC (0 : Int32) dX12_comes_3 (by decide) rfl ?_
  refine g_istore 6 hC (lv' := [(8, .int _), (6, .long _), (0, .ref _), (1, .int _), (2, .ref _), (3, .int _), (4, .long _)]) dX12_comes_4 rfl (by decide) rfl ?_
  refine g_sub [2, 3, 4, 5, 6, 1, 0] rfl ?_
  obtain ⟨n_1, hF⟩ := hF
  exact w_X12_comes_b6 hC _ _ _ _ _ n_1 _ _ _ hF
theorem hd_X0_isOf : yX0_isOf.cls ≠ "java/lang/invoke/MethodHandle" ∧ yX0_isOf.cls ≠ "java/lang/invoke/VarHandle" ∧ (parseMethodDescriptor yX0_isOf.desc).map (fun d => d.parameters.length) = some 2 := by decide +kernel
theorem hd_X12_space : yX12_space.cls = RX12 ∧ yX12_space.cls ≠ "java/lang/invoke/MethodHandle" ∧ yX12_space.cls ≠ "java/lang/invoke/VarHandle" ∧ (parseMethodDescriptor yX12_space.desc).map (fun d => d.parameters.length) = some 1 := by decide +kernel
theorem wl_X12_77 : GoodIn lw_all (wsV RX12 77 RX12 yX12_space (ws_ yX12_space cX12_space 4 (some .int))) := lw_V q1043 q981 q982 q92 q983
theorem gf_X12_18_12I {G : gG} {cc : ByteArray} {nL : Nat} {ret : Option FieldType} {Qf : Option Value → gM → Prop} {rm : Room} {cells slots : Nat} {M : gM} {lv : List (Nat × Value)} {pc : Nat} {st : List Value} {a : Nat} (n : Nat) (hC : gCx G cc nL RX12 ret Qf rm) {κ : Int32 → Prop} (hF : gI M 12 a 2 κ) (hdg : decode cc pc = .ok (.getfield 18, 3)) (hn : pc + 3 = n) (kk : ∀ x, κ x → gAt G cells slots M lv n (.int x :: st)) : gAt G cells slots M lv pc (.ref a :: st) :=
  g_getI (C := RX12) (T := TX12) (N := 17) in_X12 rfl (by decide) q585 (fun _ _ _ => rfl) n hC hF hdg hn kk
abbrev rm_X12_isLoad : Room := { frames := 2, cells := 0, slots := 0, locals := 44 }
def F_X12_isLoad  (M : gM) (a0 : Nat) (x1 : Int32) (x2 : Int32) (Q : Int32 → gM → Prop)  : Prop :=
  F_X0_isOf M x1 x2 fun x_2 M_1 =>
  ((x_2 = 0 →
    Q (0 : Int32) M_1) ∧
    (¬ x_2 = 0 →
    rc M_1 12 a0 ∧ F_X12_space M_1 a0 x1 fun x_4 M_3 =>
    gI M_3 12 a0 2 fun x_5 =>
    ((x_5 < x_4 →
      Q (0 : Int32) M_3) ∧
      (¬ x_5 < x_4 →
      Q (1 : Int32) M_3))))
theorem met_X12_isLoad {M : gM} {a0 : Nat} {x1 : Int32} {x2 : Int32} {Q : Int32 → gM → Prop} (hF : F_X12_isLoad M a0 x1 x2 Q) : gMt yX12_isLoad (ws_ yX12_isLoad cX12_isLoad 3 (some .boolean)) rm_X12_isLoad M [.ref a0, .int x1, .int x2] (gQi Q) := by
  refine gMet (bytes := cX12_isLoad) (maxL := 3) (ret := (some .boolean)) rfl rfl (by decide) (Nat.le_of_ble_eq_true rfl) (lv := [(0, .ref a0), (1, .int x1), (2, .int x2)]) rfl (fun G hC hin => ?_)
  unfold F_X12_isLoad at hF
  refine g_iload_n 1 hC dX12_isLoad_0 rfl 1 rfl rfl ?_
  refine g_iload_n 2 hC dX12_isLoad_1 rfl 2 rfl rfl ?_
  refine g_cSN (rest := []) q1040 q1042 q69 q1041 hd_X0_isOf 5 hC (met_X0_isOf hF) rfl ⟨Nat.le_of_ble_eq_true rfl, Nat.le_of_ble_eq_true rfl⟩ ⟨Nat.zero_le _, Nat.zero_le _⟩ rfl (Nat.le_of_ble_eq_true rfl) dX12_isLoad_2 rfl (g_ty_i 0 0 (Nat.le_refl _) (Nat.le_refl _) (fun x_2 M_1 hF => ?_))
  refine g_if_eq 8 24 hC dX12_isLoad_5 (by decide) rfl (fun c => ?_) (fun c => ?_)
  · have hF := hF.1 c
    refine g_iconst 25 hC (0 : Int32) dX12_isLoad_24 (by decide) rfl ?_
    exact g_zreturn hC ⟨_, rfl, hF⟩ (Or.inl rfl) dX12_isLoad_25 (Nat.zero_le _) (Nat.zero_le _)
  · have hF := hF.2 c
    refine g_aload_n 9 hC dX12_isLoad_8 rfl 0 rfl rfl ?_
    refine g_iload_n 10 hC dX12_isLoad_9 rfl 1 rfl rfl ?_
    refine g_cV (rest := []) wl_X12_77 hd_X12_space (ci := 12) rfl 13 hC hF.1 (met_X12_space hF.2) rfl ⟨Nat.le_of_ble_eq_true rfl, Nat.le_of_ble_eq_true rfl⟩ ⟨Nat.zero_le _, Nat.zero_le _⟩ rfl (Nat.le_of_ble_eq_true rfl) dX12_isLoad_10 rfl (g_ty_i 0 0 (Nat.le_refl _) (Nat.le_refl _) (fun x_4 M_3 hF => ?_))
    refine g_aload_n 14 hC dX12_isLoad_13 rfl 0 rfl rfl ?_
    refine gf_X12_18_12I 17 hC hF dX12_isLoad_14 rfl (fun x_5 hF => ?_)
    refine g_icmp_gt 20 24 hC dX12_isLoad_17 (by decide) rfl (fun c => ?_) (fun c => ?_)
    · have hF := hF.1 c
      refine g_iconst 25 hC (0 : Int32) dX12_isLoad_24 (by decide) rfl ?_
      exact g_zreturn hC ⟨_, rfl, hF⟩ (Or.inl rfl) dX12_isLoad_25 (Nat.zero_le _) (Nat.zero_le _)
    · have hF := hF.2 c
      refine g_iconst 21 hC (1 : Int32) dX12_isLoad_20 (by decide) rfl ?_
      refine g_goto 25 hC dX12_isLoad_21 (by decide) ?_
      exact g_zreturn hC ⟨_, rfl, hF⟩ (Or.inr rfl) dX12_isLoad_25 (Nat.zero_le _) (Nat.zero_le _)
theorem gf_X12_111_12N {G : gG} {cc : ByteArray} {nL : Nat} {ret : Option FieldType} {Qf : Option Value → gM → Prop} {rm : Room} {cells slots : Nat} {M : gM} {lv : List (Nat × Value)} {pc : Nat} {st : List Value} {a : Nat} (n : Nat) (hC : gCx G cc nL RX12 ret Qf rm) {κ : Nat → Prop} (hF : gN M 12 a 10 κ) (hdg : decode cc pc = .ok (.getfield 111, 3)) (hn : pc + 3 = n) (kk : ∀ x, κ x → gAt G cells slots M lv n (.ref x :: st)) : gAt G cells slots M lv pc (.ref a :: st) :=
  g_getN (C := RX12) (T := TX12) (N := 17) in_X12 rfl (by decide) q613 (fun _ _ _ => rfl) n hC hF hdg hn kk
theorem gf_X12_38_12I {G : gG} {cc : ByteArray} {nL : Nat} {ret : Option FieldType} {Qf : Option Value → gM → Prop} {rm : Room} {cells slots : Nat} {M : gM} {lv : List (Nat × Value)} {pc : Nat} {st : List Value} {a : Nat} (n : Nat) (hC : gCx G cc nL RX12 ret Qf rm) {κ : Int32 → Prop} (hF : gI M 12 a 3 κ) (hdg : decode cc pc = .ok (.getfield 38, 3)) (hn : pc + 3 = n) (kk : ∀ x, κ x → gAt G cells slots M lv n (.int x :: st)) : gAt G cells slots M lv pc (.ref a :: st) :=
  g_getI (C := RX12) (T := TX12) (N := 17) in_X12 rfl (by decide) q588 (fun _ _ _ => rfl) n hC hF hdg hn kk
theorem gf_X12_60_12N {G : gG} {cc : ByteArray} {nL : Nat} {ret : Option FieldType} {Qf : Option Value → gM → Prop} {rm : Room} {cells slots : Nat} {M : gM} {lv : List (Nat × Value)} {pc : Nat} {st : List Value} {a : Nat} (n : Nat) (hC : gCx G cc nL RX12 ret Qf rm) {κ : Nat → Prop} (hF : gN M 12 a 14 κ) (hdg : decode cc pc = .ok (.getfield 60, 3)) (hn : pc + 3 = n) (kk : ∀ x, κ x → gAt G cells slots M lv n (.ref x :: st)) : gAt G cells slots M lv pc (.ref a :: st) :=
  g_getN (C := RX12) (T := TX12) (N := 17) in_X12 rfl (by decide) q617 (fun _ _ _ => rfl) n hC hF hdg hn kk
theorem gf_X12_114_12N {G : gG} {cc : ByteArray} {nL : Nat} {ret : Option FieldType} {Qf : Option Value → gM → Prop} {rm : Room} {cells slots : Nat} {M : gM} {lv : List (Nat × Value)} {pc : Nat} {st : List Value} {a : Nat} (n : Nat) (hC : gCx G cc nL RX12 ret Qf rm) {κ : Nat → Prop} (hF : gN M 12 a 11 κ) (hdg : decode cc pc = .ok (.getfield 114, 3)) (hn : pc + 3 = n) (kk : ∀ x, κ x → gAt G cells slots M lv n (.ref x :: st)) : gAt G cells slots M lv pc (.ref a :: st) :=
  g_getN (C := RX12) (T := TX12) (N := 17) in_X12 rfl (by decide) q614 (fun _ _ _ => rfl) n hC hF hdg hn kk
theorem hd_X12_isLoad : yX12_isLoad.cls = RX12 ∧ yX12_isLoad.cls ≠ "java/lang/invoke/MethodHandle" ∧ yX12_isLoad.cls ≠ "java/lang/invoke/VarHandle" ∧ (parseMethodDescriptor yX12_isLoad.desc).map (fun d => d.parameters.length) = some 2 := by decide +kernel
theorem wl_X12_128 : GoodIn lw_all (wsV RX12 128 RX12 yX12_isLoad (ws_ yX12_isLoad cX12_isLoad 3 (some .boolean))) := lw_V q1036 q1037 q1038 q92 q1039
theorem gf_X12_15_12I {G : gG} {cc : ByteArray} {nL : Nat} {ret : Option FieldType} {Qf : Option Value → gM → Prop} {rm : Room} {cells slots : Nat} {M : gM} {lv : List (Nat × Value)} {pc : Nat} {st : List Value} {a : Nat} (n : Nat) (hC : gCx G cc nL RX12 ret Qf rm) {κ : Int32 → Prop} (hF : gI M 12 a 1 κ) (hdg : decode cc pc = .ok (.getfield 15, 3)) (hn : pc + 3 = n) (kk : ∀ x, κ x → gAt G cells slots M lv n (.int x :: st)) : gAt G cells slots M lv pc (.ref a :: st) :=
  g_getI (C := RX12) (T := TX12) (N := 17) in_X12 rfl (by decide) q581 (fun _ _ _ => rfl) n hC hF hdg hn kk
theorem hd_X12_scale : yX12_scale.cls = RX12 ∧ yX12_scale.cls ≠ "java/lang/invoke/MethodHandle" ∧ yX12_scale.cls ≠ "java/lang/invoke/VarHandle" ∧ (parseMethodDescriptor yX12_scale.desc).map (fun d => d.parameters.length) = some 1 := by decide +kernel
theorem wl_X12_92 : GoodIn lw_all (wsV RX12 92 RX12 yX12_scale (ws_ yX12_scale cX12_scale 2 (some .long))) := lw_V q1022 q994 q995 q92 q996
abbrev rm_X12_finds_2 : Room := { frames := 3, cells := 0, slots := 0, locals := 66 }
def F_X12_finds_2_b85 (Q : gM → Prop)   (K35 : Int64 → Int32 → Int32 → gM → Prop) (a0 : Nat) (x1 : Int32) (x2 : Int32) (j3 : Int64) (j5 : Int64) (x7 : Int32) (x8 : Int32)   (M : gM) : Prop :=
  K35 j5 x7 (x8 + (1 : Int32)) M
theorem w_X12_finds_2_b85 {G : gG} {Q : gM → Prop} (hC : gCx G cX12_finds_2 9 RX12 none (gQv Q) rm_X12_finds_2) (K35 : Int64 → Int32 → Int32 → gM → Prop) (a0 : Nat) (x1 : Int32) (x2 : Int32) (j3 : Int64) (j5 : Int64) (x7 : Int32) (x8 : Int32)  (hK35 : ∀ j5' x7' x8' M', K35 j5' x7' x8' M' → gAt G 0 0 M' [(0, .ref a0), (1, .int x1), (2, .int x2), (3, .long j3), (5, .long j5'), (7, .int x7'), (8, .int x8')] 35 [])   (M : gM) (hF : F_X12_finds_2_b85 Q K35 a0 x1 x2 j3 j5 x7 x8 M) : gAt G 0 0 M [(0, .ref a0), (1, .int x1), (2, .int x2), (3, .long j3), (5, .long j5), (7, .int x7), (8, .int x8)] 85 [] := by
  unfold F_X12_finds_2_b85 at hF
  refine g_iinc 88 hC (x8 + (1 : Int32)) (lv' := [(8, .int _), (0, .ref _), (1, .int _), (2, .int _), (3, .long _), (5, .long _), (7, .int _)]) dX12_finds_2_85 rfl 6 rfl rfl (by decide) rfl ?_
  refine g_goto 35 hC dX12_finds_2_88 (by decide) ?_
  refine g_sub [1, 2, 3, 4, 5, 6, 0] rfl ?_
  exact hK35 _ _ _ _ hF
def F_X12_finds_2_b35 (Q : gM → Prop)    (a0 : Nat) (x1 : Int32) (x2 : Int32) (j3 : Int64) : Nat → Int64 → Int32 → Int32 → gM → Prop
  | 0, _, _, _, _ => False
  | n + 1, j5, x7, x8, M =>
    ((x1 < x8 →
      gN M 12 a0 10 fun a_1 =>
      gI M 12 a0 3 fun x_2 =>
      gN M 12 a0 14 fun a_3 =>
      aJ M a_3 x1 fun j_4 =>
      gI M 12 a0 3 fun x_5 =>
      uJ M a_1 (((125 : Int32) * x2) + x1) ((x_2.toInt64 * j_4) + (((4 : Int32) - x_5).toInt64 * j5)) fun M_6 =>
      gN M_6 12 a0 11 fun a_7 =>
      uI M_6 a_7 (((125 : Int32) * x2) + x1) x7 fun M_8 =>
      Q M_8) ∧
      (¬ x1 < x8 →
      rc M 12 a0 ∧ F_X12_isLoad M a0 x8 x1 fun x_10 M_9 =>
      ((x_10 = 0 →
        F_X12_finds_2_b85 Q (F_X12_finds_2_b35 Q a0 x1 x2 j3 n) a0 x1 x2 j3 j5 x7 x8 M_9) ∧
        (¬ x_10 = 0 →
        gN M_9 12 a0 14 fun a_11 =>
        aJ M_9 a_11 (x1 - x8) fun j_12 =>
        ((j5 ≤ (j3 + j_12) →
          F_X12_finds_2_b85 Q (F_X12_finds_2_b35 Q a0 x1 x2 j3 n) a0 x1 x2 j3 j5 x7 x8 M_9) ∧
          (¬ j5 ≤ (j3 + j_12) →
          gN M_9 12 a0 14 fun a_13 =>
          aJ M_9 a_13 (x1 - x8) fun j_14 =>
          F_X12_finds_2_b85 Q (F_X12_finds_2_b35 Q a0 x1 x2 j3 n) a0 x1 x2 j3 (j3 + j_14) x8 x8 M_9))))))
theorem w_X12_finds_2_b35 {G : gG} {Q : gM → Prop} (hC : gCx G cX12_finds_2 9 RX12 none (gQv Q) rm_X12_finds_2)  (a0 : Nat) (x1 : Int32) (x2 : Int32) (j3 : Int64)  : ∀ (n : Nat) (j5 : Int64) (x7 : Int32) (x8 : Int32)   (M : gM), F_X12_finds_2_b35 Q a0 x1 x2 j3 n j5 x7 x8 M → gAt G 0 0 M [(0, .ref a0), (1, .int x1), (2, .int x2), (3, .long j3), (5, .long j5), (7, .int x7), (8, .int x8)] 35 [] := by
  intro n
  induction n with
  | zero =>
    intro j5 x7 x8 M hF
    exact hF.elim
  | succ n ih =>
    intro j5 x7 x8 M hF
    have hK35 := ih
    unfold F_X12_finds_2_b35 at hF
    refine g_iload 37 hC dX12_finds_2_35 rfl 6 rfl ?_
    refine g_iload_n 38 hC dX12_finds_2_37 rfl 1 rfl rfl ?_
    refine g_icmp_gt 41 91 hC dX12_finds_2_38 (by decide) rfl (fun c => ?_) (fun c => ?_)
    · have hF := hF.1 c
      refine g_aload_n 92 hC dX12_finds_2_91 rfl 0 rfl rfl ?_
      refine gf_X12_111_12N 95 hC hF dX12_finds_2_92 rfl (fun a_1 hF => ?_)
      refine g_bipush 97 hC (125 : Int32) dX12_finds_2_95 (by decide) rfl ?_
      refine g_iload_n 98 hC dX12_finds_2_97 rfl 2 rfl rfl ?_
      refine g_imul 99 hC dX12_finds_2_98 rfl ?_
      refine g_iload_n 100 hC dX12_finds_2_99 rfl 1 rfl rfl ?_
      refine g_iadd 101 hC dX12_finds_2_100 rfl ?_
      refine g_aload_n 102 hC dX12_finds_2_101 rfl 0 rfl rfl ?_
      refine gf_X12_38_12I 105 hC hF dX12_finds_2_102 rfl (fun x_2 hF => ?_)
      refine g_i2l 106 hC dX12_finds_2_105 rfl ?_
      refine g_aload_n 107 hC dX12_finds_2_106 rfl 0 rfl rfl ?_
      refine gf_X12_60_12N 110 hC hF dX12_finds_2_107 rfl (fun a_3 hF => ?_)
      refine g_iload_n 111 hC dX12_finds_2_110 rfl 1 rfl rfl ?_
      refine g_lald 112 hC hF dX12_finds_2_111 rfl (fun j_4 hF => ?_)
      refine g_lmul 113 hC dX12_finds_2_112 rfl ?_
      refine g_iconst 114 hC (4 : Int32) dX12_finds_2_113 (by decide) rfl ?_
      refine g_aload_n 115 hC dX12_finds_2_114 rfl 0 rfl rfl ?_
      refine gf_X12_38_12I 118 hC hF dX12_finds_2_115 rfl (fun x_5 hF => ?_)
      refine g_isub 119 hC dX12_finds_2_118 rfl ?_
      refine g_i2l 120 hC dX12_finds_2_119 rfl ?_
      refine g_lload 122 hC dX12_finds_2_120 rfl 4 rfl ?_
      refine g_lmul 123 hC dX12_finds_2_122 rfl ?_
      refine g_ladd 124 hC dX12_finds_2_123 rfl ?_
      refine g_last 125 hC hF dX12_finds_2_124 rfl (fun M_6 hF => ?_)
      refine g_aload_n 126 hC dX12_finds_2_125 rfl 0 rfl rfl ?_
      refine gf_X12_114_12N 129 hC hF dX12_finds_2_126 rfl (fun a_7 hF => ?_)
      refine g_bipush 131 hC (125 : Int32) dX12_finds_2_129 (by decide) rfl ?_
      refine g_iload_n 132 hC dX12_finds_2_131 rfl 2 rfl rfl ?_
      refine g_imul 133 hC dX12_finds_2_132 rfl ?_
      refine g_iload_n 134 hC dX12_finds_2_133 rfl 1 rfl rfl ?_
      refine g_iadd 135 hC dX12_finds_2_134 rfl ?_
      refine g_iload 137 hC dX12_finds_2_135 rfl 5 rfl ?_
      refine g_iast 138 hC hF dX12_finds_2_137 rfl (fun M_8 hF => ?_)
      exact g_return hC ⟨rfl, hF⟩ dX12_finds_2_138 (Nat.zero_le _) (Nat.zero_le _)
    · have hF := hF.2 c
      refine g_aload_n 42 hC dX12_finds_2_41 rfl 0 rfl rfl ?_
      refine g_iload 44 hC dX12_finds_2_42 rfl 6 rfl ?_
      refine g_iload_n 45 hC dX12_finds_2_44 rfl 1 rfl rfl ?_
      refine g_cV (rest := []) wl_X12_128 hd_X12_isLoad (ci := 12) rfl 48 hC hF.1 (met_X12_isLoad hF.2) rfl ⟨Nat.le_of_ble_eq_true rfl, Nat.le_of_ble_eq_true rfl⟩ ⟨Nat.zero_le _, Nat.zero_le _⟩ rfl (Nat.le_of_ble_eq_true rfl) dX12_finds_2_45 rfl (g_ty_i 0 0 (Nat.le_refl _) (Nat.le_refl _) (fun x_10 M_9 hF => ?_))
      refine g_if_eq 51 85 hC dX12_finds_2_48 (by decide) rfl (fun c => ?_) (fun c => ?_)
      · have hF := hF.1 c
        exact w_X12_finds_2_b85 hC _ _ _ _ _ _ _ _ hK35 _ hF
      · have hF := hF.2 c
        refine g_lload_n 52 hC dX12_finds_2_51 rfl 3 rfl rfl ?_
        refine g_aload_n 53 hC dX12_finds_2_52 rfl 0 rfl rfl ?_
        refine gf_X12_60_12N 56 hC hF dX12_finds_2_53 rfl (fun a_11 hF => ?_)
        refine g_iload_n 57 hC dX12_finds_2_56 rfl 1 rfl rfl ?_
        refine g_iload 59 hC dX12_finds_2_57 rfl 6 rfl ?_
        refine g_isub 60 hC dX12_finds_2_59 rfl ?_
        refine g_lald 61 hC hF dX12_finds_2_60 rfl (fun j_12 hF => ?_)
        refine g_ladd 62 hC dX12_finds_2_61 rfl ?_
        refine g_lload 64 hC dX12_finds_2_62 rfl 4 rfl ?_
        refine g_lcmp_ge 68 85 hC dX12_finds_2_64 rfl dX12_finds_2_65 (by decide) rfl (fun c => ?_) (fun c => ?_)
        · have hF := hF.1 c
          exact w_X12_finds_2_b85 hC _ _ _ _ _ _ _ _ hK35 _ hF
        · have hF := hF.2 c
          refine g_lload_n 69 hC dX12_finds_2_68 rfl 3 rfl rfl ?_
          refine g_aload_n 70 hC dX12_finds_2_69 rfl 0 rfl rfl ?_
          refine gf_X12_60_12N 73 hC hF dX12_finds_2_70 rfl (fun a_13 hF => ?_)
          refine g_iload_n 74 hC dX12_finds_2_73 rfl 1 rfl rfl ?_
          refine g_iload 76 hC dX12_finds_2_74 rfl 6 rfl ?_
          refine g_isub 77 hC dX12_finds_2_76 rfl ?_
          refine g_lald 78 hC hF dX12_finds_2_77 rfl (fun j_14 hF => ?_)
          refine g_ladd 79 hC dX12_finds_2_78 rfl ?_
          refine g_lstore 81 hC (lv' := [(5, .long _), (0, .ref _), (1, .int _), (2, .int _), (3, .long _), (7, .int _), (8, .int _)]) dX12_finds_2_79 rfl (by decide) rfl ?_
          refine g_iload 83 hC dX12_finds_2_81 rfl 6 rfl ?_
          refine g_istore 85 hC (lv' := [(7, .int _), (5, .long _), (0, .ref _), (1, .int _), (2, .int _), (3, .long _), (8, .int _)]) dX12_finds_2_83 rfl (by decide) rfl ?_
          refine g_sub [2, 3, 4, 5, 1, 0, 6] rfl ?_
          exact w_X12_finds_2_b85 hC _ _ _ _ _ _ _ _ hK35 _ hF
def F_X12_finds_2  (M : gM) (a0 : Nat) (x1 : Int32) (x2 : Int32) (Q : gM → Prop)  : Prop :=
  gI M 12 a0 1 fun x_1 =>
  rc M 12 a0 ∧ F_X12_scale M a0 (x2 - (1 : Int32)) fun j_3 M_2 =>
  gI M_2 12 a0 4 fun x_4 =>
  gN M_2 12 a0 14 fun a_5 =>
  aJ M_2 a_5 x1 fun j_6 =>
  ∃ n_7, F_X12_finds_2_b35 Q a0 x1 x2 (x_1.toInt64 * (j_3 <<< (((2 : Int32) * x_4).toInt64 &&& 63))) n_7 j_6 (0 : Int32) (1 : Int32) M_2
theorem met_X12_finds_2 {M : gM} {a0 : Nat} {x1 : Int32} {x2 : Int32} {Q : gM → Prop} (hF : F_X12_finds_2 M a0 x1 x2 Q) : gMt yX12_finds_2 (ws_ yX12_finds_2 cX12_finds_2 9 none) rm_X12_finds_2 M [.ref a0, .int x1, .int x2] (gQv Q) := by
  refine gMet (bytes := cX12_finds_2) (maxL := 9) (ret := none) rfl rfl (by decide) (Nat.le_of_ble_eq_true rfl) (lv := [(0, .ref a0), (1, .int x1), (2, .int x2)]) rfl (fun G hC hin => ?_)
  unfold F_X12_finds_2 at hF
  refine g_aload_n 1 hC dX12_finds_2_0 rfl 0 rfl rfl ?_
  refine gf_X12_15_12I 4 hC hF dX12_finds_2_1 rfl (fun x_1 hF => ?_)
  refine g_i2l 5 hC dX12_finds_2_4 rfl ?_
  refine g_aload_n 6 hC dX12_finds_2_5 rfl 0 rfl rfl ?_
  refine g_iload_n 7 hC dX12_finds_2_6 rfl 2 rfl rfl ?_
  refine g_iconst 8 hC (1 : Int32) dX12_finds_2_7 (by decide) rfl ?_
  refine g_isub 9 hC dX12_finds_2_8 rfl ?_
  refine g_cV (rest := [_]) wl_X12_92 hd_X12_scale (ci := 12) rfl 12 hC hF.1 (met_X12_scale hF.2) rfl ⟨Nat.le_of_ble_eq_true rfl, Nat.le_of_ble_eq_true rfl⟩ ⟨Nat.zero_le _, Nat.zero_le _⟩ rfl (Nat.le_of_ble_eq_true rfl) dX12_finds_2_9 rfl (g_ty_j 0 0 (Nat.le_refl _) (Nat.le_refl _) (fun j_3 M_2 hF => ?_))
  refine g_iconst 13 hC (2 : Int32) dX12_finds_2_12 (by decide) rfl ?_
  refine g_aload_n 14 hC dX12_finds_2_13 rfl 0 rfl rfl ?_
  refine gf_X12_41_12I 17 hC hF dX12_finds_2_14 rfl (fun x_4 hF => ?_)
  refine g_imul 18 hC dX12_finds_2_17 rfl ?_
  refine g_lshl 19 hC dX12_finds_2_18 rfl ?_
  refine g_lmul 20 hC dX12_finds_2_19 rfl ?_
  refine g_lstore_n 21 hC (lv' := [(3, .long _), (0, .ref _), (1, .int _), (2, .int _)]) dX12_finds_2_20 rfl rfl (by decide) rfl ?_
  refine g_aload_n 22 hC dX12_finds_2_21 rfl 1 rfl rfl ?_
  refine gf_X12_60_12N 25 hC hF dX12_finds_2_22 rfl (fun a_5 hF => ?_)
  refine g_iload_n 26 hC dX12_finds_2_25 rfl 2 rfl rfl ?_
  refine g_lald 27 hC hF dX12_finds_2_26 rfl (fun j_6 hF => ?_)
  refine g_lstore 29 hC (lv' := [(5, .long _), (3, .long _), (0, .ref _), (1, .int _), (2, .int _)]) dX12_finds_2_27 rfl (by decide) rfl ?_
  refine g_iconst 30 hC (0 : Int32) dX12_finds_2_29 (by decide) rfl ?_
  refine g_istore 32 hC (lv' := [(7, .int _), (5, .long _), (3, .long _), (0, .ref _), (1, .int _), (2, .int _)]) dX12_finds_2_30 rfl (by decide) rfl ?_
  refine g_iconst 33 hC (1 : Int32) dX12_finds_2_32 (by decide) rfl ?_
  refine g_istore 35 hC (lv' := [(8, .int _), (7, .int _), (5, .long _), (3, .long _), (0, .ref _), (1, .int _), (2, .int _)]) dX12_finds_2_33 rfl (by decide) rfl ?_
  refine g_sub [4, 5, 6, 3, 2, 1, 0] rfl ?_
  obtain ⟨n_7, hF⟩ := hF
  exact w_X12_finds_2_b35 hC _ _ _ _ n_7 _ _ _ _ hF
theorem gf_X12_28_12N {G : gG} {cc : ByteArray} {nL : Nat} {ret : Option FieldType} {Qf : Option Value → gM → Prop} {rm : Room} {cells slots : Nat} {M : gM} {lv : List (Nat × Value)} {pc : Nat} {st : List Value} {a : Nat} (n : Nat) (hC : gCx G cc nL RX12 ret Qf rm) {κ : Nat → Prop} (hF : gN M 12 a 7 κ) (hdg : decode cc pc = .ok (.getfield 28, 3)) (hn : pc + 3 = n) (kk : ∀ x, κ x → gAt G cells slots M lv n (.ref x :: st)) : gAt G cells slots M lv pc (.ref a :: st) :=
  g_getN (C := RX12) (T := TX12) (N := 17) in_X12 rfl (by decide) q603 (fun _ _ _ => rfl) n hC hF hdg hn kk
abbrev rm_X12_holding : Room := { frames := 1, cells := 0, slots := 0, locals := 21 }
def F_X12_holding_b4 (Q : Int32 → gM → Prop)    (a0 : Nat) (x1 : Int32) : Nat → Int32 → Int32 → gM → Prop
  | 0, _, _, _ => False
  | n + 1, x2, x3, M =>
    gI M 12 a0 4 fun x_1 =>
    ((x_1 ≤ x3 →
      Q x2 M) ∧
      (¬ x_1 ≤ x3 →
      gN M 12 a0 7 fun a_2 =>
      aI M .int a_2 x3 fun x_3 =>
      F_X0_standing M x1 x3 fun x_5 M_4 =>
      (F_X12_holding_b4 Q a0 x1 n) (x2 + (x_3 * x_5)) (x3 + (1 : Int32)) M_4))
theorem w_X12_holding_b4 {G : gG} {Q : Int32 → gM → Prop} (hC : gCx G cX12_holding 4 RX12 (some .int) (gQi Q) rm_X12_holding)  (a0 : Nat) (x1 : Int32)  : ∀ (n : Nat) (x2 : Int32) (x3 : Int32)   (M : gM), F_X12_holding_b4 Q a0 x1 n x2 x3 M → gAt G 0 0 M [(0, .ref a0), (1, .int x1), (2, .int x2), (3, .int x3)] 4 [] := by
  intro n
  induction n with
  | zero =>
    intro x2 x3 M hF
    exact hF.elim
  | succ n ih =>
    intro x2 x3 M hF
    have hK4 := ih
    unfold F_X12_holding_b4 at hF
    refine g_iload_n 5 hC dX12_holding_4 rfl 3 rfl rfl ?_
    refine g_aload_n 6 hC dX12_holding_5 rfl 0 rfl rfl ?_
    refine gf_X12_41_12I 9 hC hF dX12_holding_6 rfl (fun x_1 hF => ?_)
    refine g_icmp_ge 12 33 hC dX12_holding_9 (by decide) rfl (fun c => ?_) (fun c => ?_)
    · have hF := hF.1 c
      refine g_iload_n 34 hC dX12_holding_33 rfl 2 rfl rfl ?_
      exact g_ireturn hC ⟨_, rfl, hF⟩ dX12_holding_34 (Nat.zero_le _) (Nat.zero_le _)
    · have hF := hF.2 c
      refine g_iload_n 13 hC dX12_holding_12 rfl 2 rfl rfl ?_
      refine g_aload_n 14 hC dX12_holding_13 rfl 0 rfl rfl ?_
      refine gf_X12_28_12N 17 hC hF dX12_holding_14 rfl (fun a_2 hF => ?_)
      refine g_iload_n 18 hC dX12_holding_17 rfl 3 rfl rfl ?_
      refine g_iald 19 hC hF dX12_holding_18 rfl (fun x_3 hF => ?_)
      refine g_iload_n 20 hC dX12_holding_19 rfl 1 rfl rfl ?_
      refine g_iload_n 21 hC dX12_holding_20 rfl 3 rfl rfl ?_
      refine g_cSN (rest := [_, _]) q984 q965 q69 q964 hd_X0_standing 24 hC (met_X0_standing hF) rfl ⟨Nat.le_of_ble_eq_true rfl, Nat.le_of_ble_eq_true rfl⟩ ⟨Nat.zero_le _, Nat.zero_le _⟩ rfl (Nat.le_of_ble_eq_true rfl) dX12_holding_21 rfl (g_ty_i 0 0 (Nat.le_refl _) (Nat.le_refl _) (fun x_5 M_4 hF => ?_))
      refine g_imul 25 hC dX12_holding_24 rfl ?_
      refine g_iadd 26 hC dX12_holding_25 rfl ?_
      refine g_istore_n 27 hC (lv' := [(2, .int _), (0, .ref _), (1, .int _), (3, .int _)]) dX12_holding_26 rfl rfl (by decide) rfl ?_
      refine g_iinc 30 hC (x3 + (1 : Int32)) (lv' := [(3, .int _), (2, .int _), (0, .ref _), (1, .int _)]) dX12_holding_27 rfl 3 rfl rfl (by decide) rfl ?_
      refine g_goto 4 hC dX12_holding_30 (by decide) ?_
      refine g_sub [2, 3, 1, 0] rfl ?_
      exact hK4 _ _ _ hF
def F_X12_holding  (M : gM) (a0 : Nat) (x1 : Int32) (Q : Int32 → gM → Prop)  : Prop :=
  ∃ n_1, F_X12_holding_b4 Q a0 x1 n_1 (0 : Int32) (0 : Int32) M
theorem met_X12_holding {M : gM} {a0 : Nat} {x1 : Int32} {Q : Int32 → gM → Prop} (hF : F_X12_holding M a0 x1 Q) : gMt yX12_holding (ws_ yX12_holding cX12_holding 4 (some .int)) rm_X12_holding M [.ref a0, .int x1] (gQi Q) := by
  refine gMet (bytes := cX12_holding) (maxL := 4) (ret := (some .int)) rfl rfl (by decide) (Nat.le_of_ble_eq_true rfl) (lv := [(0, .ref a0), (1, .int x1)]) rfl (fun G hC hin => ?_)
  unfold F_X12_holding at hF
  refine g_iconst 1 hC (0 : Int32) dX12_holding_0 (by decide) rfl ?_
  refine g_istore_n 2 hC (lv' := [(2, .int _), (0, .ref _), (1, .int _)]) dX12_holding_1 rfl rfl (by decide) rfl ?_
  refine g_iconst 3 hC (0 : Int32) dX12_holding_2 (by decide) rfl ?_
  refine g_istore_n 4 hC (lv' := [(3, .int _), (2, .int _), (0, .ref _), (1, .int _)]) dX12_holding_3 rfl rfl (by decide) rfl ?_
  refine g_sub [2, 3, 1, 0] rfl ?_
  obtain ⟨n_1, hF⟩ := hF
  exact w_X12_holding_b4 hC _ _ n_1 _ _ _ hF
theorem gf_X12_34_12N {G : gG} {cc : ByteArray} {nL : Nat} {ret : Option FieldType} {Qf : Option Value → gM → Prop} {rm : Room} {cells slots : Nat} {M : gM} {lv : List (Nat × Value)} {pc : Nat} {st : List Value} {a : Nat} (n : Nat) (hC : gCx G cc nL RX12 ret Qf rm) {κ : Nat → Prop} (hF : gN M 12 a 9 κ) (hdg : decode cc pc = .ok (.getfield 34, 3)) (hn : pc + 3 = n) (kk : ∀ x, κ x → gAt G cells slots M lv n (.ref x :: st)) : gAt G cells slots M lv pc (.ref a :: st) :=
  g_getN (C := RX12) (T := TX12) (N := 17) in_X12 rfl (by decide) q610 (fun _ _ _ => rfl) n hC hF hdg hn kk
abbrev rm_X12_leaving : Room := { frames := 1, cells := 0, slots := 0, locals := 21 }
def F_X12_leaving_b4 (Q : Int32 → gM → Prop)    (a0 : Nat) (x1 : Int32) : Nat → Int32 → Int32 → gM → Prop
  | 0, _, _, _ => False
  | n + 1, x2, x3, M =>
    gI M 12 a0 4 fun x_1 =>
    ((x_1 ≤ x3 →
      Q x2 M) ∧
      (¬ x_1 ≤ x3 →
      gN M 12 a0 9 fun a_2 =>
      aI M .int a_2 x3 fun x_3 =>
      F_X0_standing M x1 x3 fun x_5 M_4 =>
      (F_X12_leaving_b4 Q a0 x1 n) (x2 + (x_3 * x_5)) (x3 + (1 : Int32)) M_4))
theorem w_X12_leaving_b4 {G : gG} {Q : Int32 → gM → Prop} (hC : gCx G cX12_leaving 4 RX12 (some .int) (gQi Q) rm_X12_leaving)  (a0 : Nat) (x1 : Int32)  : ∀ (n : Nat) (x2 : Int32) (x3 : Int32)   (M : gM), F_X12_leaving_b4 Q a0 x1 n x2 x3 M → gAt G 0 0 M [(0, .ref a0), (1, .int x1), (2, .int x2), (3, .int x3)] 4 [] := by
  intro n
  induction n with
  | zero =>
    intro x2 x3 M hF
    exact hF.elim
  | succ n ih =>
    intro x2 x3 M hF
    have hK4 := ih
    unfold F_X12_leaving_b4 at hF
    refine g_iload_n 5 hC dX12_leaving_4 rfl 3 rfl rfl ?_
    refine g_aload_n 6 hC dX12_leaving_5 rfl 0 rfl rfl ?_
    refine gf_X12_41_12I 9 hC hF dX12_leaving_6 rfl (fun x_1 hF => ?_)
    refine g_icmp_ge 12 33 hC dX12_leaving_9 (by decide) rfl (fun c => ?_) (fun c => ?_)
    · have hF := hF.1 c
      refine g_iload_n 34 hC dX12_leaving_33 rfl 2 rfl rfl ?_
      exact g_ireturn hC ⟨_, rfl, hF⟩ dX12_leaving_34 (Nat.zero_le _) (Nat.zero_le _)
    · have hF := hF.2 c
      refine g_iload_n 13 hC dX12_leaving_12 rfl 2 rfl rfl ?_
      refine g_aload_n 14 hC dX12_leaving_13 rfl 0 rfl rfl ?_
      refine gf_X12_34_12N 17 hC hF dX12_leaving_14 rfl (fun a_2 hF => ?_)
      refine g_iload_n 18 hC dX12_leaving_17 rfl 3 rfl rfl ?_
      refine g_iald 19 hC hF dX12_leaving_18 rfl (fun x_3 hF => ?_)
      refine g_iload_n 20 hC dX12_leaving_19 rfl 1 rfl rfl ?_
      refine g_iload_n 21 hC dX12_leaving_20 rfl 3 rfl rfl ?_
      refine g_cSN (rest := [_, _]) q984 q965 q69 q964 hd_X0_standing 24 hC (met_X0_standing hF) rfl ⟨Nat.le_of_ble_eq_true rfl, Nat.le_of_ble_eq_true rfl⟩ ⟨Nat.zero_le _, Nat.zero_le _⟩ rfl (Nat.le_of_ble_eq_true rfl) dX12_leaving_21 rfl (g_ty_i 0 0 (Nat.le_refl _) (Nat.le_refl _) (fun x_5 M_4 hF => ?_))
      refine g_imul 25 hC dX12_leaving_24 rfl ?_
      refine g_iadd 26 hC dX12_leaving_25 rfl ?_
      refine g_istore_n 27 hC (lv' := [(2, .int _), (0, .ref _), (1, .int _), (3, .int _)]) dX12_leaving_26 rfl rfl (by decide) rfl ?_
      refine g_iinc 30 hC (x3 + (1 : Int32)) (lv' := [(3, .int _), (2, .int _), (0, .ref _), (1, .int _)]) dX12_leaving_27 rfl 3 rfl rfl (by decide) rfl ?_
      refine g_goto 4 hC dX12_leaving_30 (by decide) ?_
      refine g_sub [2, 3, 1, 0] rfl ?_
      exact hK4 _ _ _ hF
def F_X12_leaving  (M : gM) (a0 : Nat) (x1 : Int32) (Q : Int32 → gM → Prop)  : Prop :=
  ∃ n_1, F_X12_leaving_b4 Q a0 x1 n_1 (0 : Int32) (0 : Int32) M
theorem met_X12_leaving {M : gM} {a0 : Nat} {x1 : Int32} {Q : Int32 → gM → Prop} (hF : F_X12_leaving M a0 x1 Q) : gMt yX12_leaving (ws_ yX12_leaving cX12_leaving 4 (some .int)) rm_X12_leaving M [.ref a0, .int x1] (gQi Q) := by
  refine gMet (bytes := cX12_leaving) (maxL := 4) (ret := (some .int)) rfl rfl (by decide) (Nat.le_of_ble_eq_true rfl) (lv := [(0, .ref a0), (1, .int x1)]) rfl (fun G hC hin => ?_)
  unfold F_X12_leaving at hF
  refine g_iconst 1 hC (0 : Int32) dX12_leaving_0 (by decide) rfl ?_
  refine g_istore_n 2 hC (lv' := [(2, .int _), (0, .ref _), (1, .int _)]) dX12_leaving_1 rfl rfl (by decide) rfl ?_
  refine g_iconst 3 hC (0 : Int32) dX12_leaving_2 (by decide) rfl ?_
  refine g_istore_n 4 hC (lv' := [(3, .int _), (2, .int _), (0, .ref _), (1, .int _)]) dX12_leaving_3 rfl rfl (by decide) rfl ?_
  refine g_sub [2, 3, 1, 0] rfl ?_
  obtain ⟨n_1, hF⟩ := hF
  exact w_X12_leaving_b4 hC _ _ n_1 _ _ _ hF
theorem gf_X12_56_12R {G : gG} {cc : ByteArray} {nL : Nat} {ret : Option FieldType} {Qf : Option Value → gM → Prop} {rm : Room} {cells slots : Nat} {M : gM} {lv : List (Nat × Value)} {pc : Nat} {st : List Value} {a : Nat} (n : Nat) (hC : gCx G cc nL RX12 ret Qf rm) {κ : Option Nat → Prop} (hF : gR M 12 a 13 κ) (hdg : decode cc pc = .ok (.getfield 56, 3)) (hn : pc + 3 = n) (kk : ∀ x, κ x → gAt G cells slots M lv n (va_rf x :: st)) : gAt G cells slots M lv pc (.ref a :: st) :=
  g_getR (C := RX12) (T := TX12) (N := 17) in_X12 rfl (by decide) q616 (fun _ _ _ => rfl) n hC hF hdg hn kk
abbrev rm_X12_makesRoom (Lc Ls : Nat) : Room := { frames := 0, cells := Lc, slots := Ls, locals := 0 }
def F_X12_makesRoom (Lc Ls : Nat) (M : gM) (a0 : Nat) (Q : gM → Prop)  : Prop :=
  gR M 12 a0 13 fun r_1 =>
  ((r_1 = none →
    nA M 0 0 Lc Ls .long (875 : Int32) 875 fun a_3 M_4 =>
    pR M_4 12 a0 13 (some a_3) fun M_5 =>
    nA M_5 (0 + 1) (0 + 875) Lc Ls .long (125 : Int32) 125 fun a_6 M_7 =>
    pR M_7 12 a0 14 (some a_6) fun M_8 =>
    nA M_8 ((0 + 1) + 1) ((0 + 875) + 125) Lc Ls .long (125 : Int32) 125 fun a_9 M_10 =>
    pR M_10 12 a0 15 (some a_9) fun M_11 =>
    nA M_11 (((0 + 1) + 1) + 1) (((0 + 875) + 125) + 125) Lc Ls .long (125 : Int32) 125 fun a_12 M_13 =>
    pR M_13 12 a0 16 (some a_12) fun M_14 =>
    Q M_14) ∧
    (∀ b_2, r_1 = some b_2 →
    Q M))
theorem met_X12_makesRoom {M : gM} {a0 : Nat} {Q : gM → Prop} {Lc Ls : Nat} (hF : F_X12_makesRoom Lc Ls M a0 Q) : gMt yX12_makesRoom (ws_ yX12_makesRoom cX12_makesRoom 1 none) (rm_X12_makesRoom Lc Ls) M [.ref a0] (gQv Q) := by
  refine gMet (bytes := cX12_makesRoom) (maxL := 1) (ret := none) rfl rfl (by decide) (Nat.le_of_ble_eq_true rfl) (lv := [(0, .ref a0)]) rfl (fun G hC hin => ?_)
  have hu : 0 ≤ Lc ∧ 0 ≤ Ls := ⟨Nat.zero_le _, Nat.zero_le _⟩
  unfold F_X12_makesRoom at hF
  refine g_aload_n 1 hC dX12_makesRoom_0 rfl 0 rfl rfl ?_
  refine gf_X12_56_12R 4 hC hF dX12_makesRoom_1 rfl (fun r_1 hF => ?_)
  refine g_ifnonnull 7 40 hC dX12_makesRoom_4 (by decide) rfl (fun b_2 c => ?_) (fun c => ?_)
  · have hF := hF.2 b_2 c
    try rw [c]
    exact g_return hC ⟨rfl, hF⟩ dX12_makesRoom_40 hu.1 hu.2
  · have hF := hF.1 c
    try rw [c]
    refine g_aload_n 8 hC dX12_makesRoom_7 rfl 0 rfl rfl ?_
    refine g_sipush 11 hC (875 : Int32) dX12_makesRoom_8 (by decide) rfl ?_
    have hu := hF.2.1
    refine g_newa 13 hC (ty := .long) rfl (by decide) (fun _ _ h => h) (by decide) (by decide) q273 hF dX12_makesRoom_11 rfl (fun a_3 M_4 hF => ?_)
    refine g_putR (C := RX12) (T := TX12) (N := 17) (ci := 12) (k := 13) (ty := (.array .long)) in_X12 tyX12 tyX12_ok nmX12 rfl (by decide) q616 rfl rfl (fun _ _ _ => rfl) (g_narR _ _ (by decide)) (g_fitR _ _ (by decide)) 16 hC hF dX12_makesRoom_13 rfl (fun M_5 hF => ?_)
    refine g_aload_n 17 hC dX12_makesRoom_16 rfl 0 rfl rfl ?_
    refine g_bipush 19 hC (125 : Int32) dX12_makesRoom_17 (by decide) rfl ?_
    have hu := hF.2.1
    refine g_newa 21 hC (ty := .long) rfl (by decide) (fun _ _ h => h) (by decide) (by decide) q273 hF dX12_makesRoom_19 rfl (fun a_6 M_7 hF => ?_)
    refine g_putR (C := RX12) (T := TX12) (N := 17) (ci := 12) (k := 14) (ty := (.array .long)) in_X12 tyX12 tyX12_ok nmX12 rfl (by decide) q617 rfl rfl (fun _ _ _ => rfl) (g_narR _ _ (by decide)) (g_fitR _ _ (by decide)) 24 hC hF dX12_makesRoom_21 rfl (fun M_8 hF => ?_)
    refine g_aload_n 25 hC dX12_makesRoom_24 rfl 0 rfl rfl ?_
    refine g_bipush 27 hC (125 : Int32) dX12_makesRoom_25 (by decide) rfl ?_
    have hu := hF.2.1
    refine g_newa 29 hC (ty := .long) rfl (by decide) (fun _ _ h => h) (by decide) (by decide) q273 hF dX12_makesRoom_27 rfl (fun a_9 M_10 hF => ?_)
    refine g_putR (C := RX12) (T := TX12) (N := 17) (ci := 12) (k := 15) (ty := (.array .long)) in_X12 tyX12 tyX12_ok nmX12 rfl (by decide) q618 rfl rfl (fun _ _ _ => rfl) (g_narR _ _ (by decide)) (g_fitR _ _ (by decide)) 32 hC hF dX12_makesRoom_29 rfl (fun M_11 hF => ?_)
    refine g_aload_n 33 hC dX12_makesRoom_32 rfl 0 rfl rfl ?_
    refine g_bipush 35 hC (125 : Int32) dX12_makesRoom_33 (by decide) rfl ?_
    have hu := hF.2.1
    refine g_newa 37 hC (ty := .long) rfl (by decide) (fun _ _ h => h) (by decide) (by decide) q273 hF dX12_makesRoom_35 rfl (fun a_12 M_13 hF => ?_)
    refine g_putR (C := RX12) (T := TX12) (N := 17) (ci := 12) (k := 16) (ty := (.array .long)) in_X12 tyX12 tyX12_ok nmX12 rfl (by decide) q619 rfl rfl (fun _ _ _ => rfl) (g_narR _ _ (by decide)) (g_fitR _ _ (by decide)) 40 hC hF dX12_makesRoom_37 rfl (fun M_14 hF => ?_)
    exact g_return hC ⟨rfl, hF⟩ dX12_makesRoom_40 hu.1 hu.2
theorem hd_X12_states : yX12_states.cls = RX12 ∧ yX12_states.cls ≠ "java/lang/invoke/MethodHandle" ∧ yX12_states.cls ≠ "java/lang/invoke/VarHandle" ∧ (parseMethodDescriptor yX12_states.desc).map (fun d => d.parameters.length) = some 0 := by decide +kernel
theorem wl_X12_117 : GoodIn lw_all (wsV RX12 117 RX12 yX12_states (ws_ yX12_states cX12_states 1 (some .int))) := lw_V q1017 q977 q978 q92 q979
theorem gf_X12_111_12R {G : gG} {cc : ByteArray} {nL : Nat} {ret : Option FieldType} {Qf : Option Value → gM → Prop} {rm : Room} {cells slots : Nat} {M : gM} {lv : List (Nat × Value)} {pc : Nat} {st : List Value} {a : Nat} (n : Nat) (hC : gCx G cc nL RX12 ret Qf rm) {κ : Option Nat → Prop} (hF : gR M 12 a 10 κ) (hdg : decode cc pc = .ok (.getfield 111, 3)) (hn : pc + 3 = n) (kk : ∀ x, κ x → gAt G cells slots M lv n (va_rf x :: st)) : gAt G cells slots M lv pc (.ref a :: st) :=
  g_getR (C := RX12) (T := TX12) (N := 17) in_X12 rfl (by decide) q613 (fun _ _ _ => rfl) n hC hF hdg hn kk
theorem hd_X12_comes : yX12_comes.cls = RX12 ∧ yX12_comes.cls ≠ "java/lang/invoke/MethodHandle" ∧ yX12_comes.cls ≠ "java/lang/invoke/VarHandle" ∧ (parseMethodDescriptor yX12_comes.desc).map (fun d => d.parameters.length) = some 4 := by decide +kernel
theorem wl_X12_99 : GoodIn lw_all (wsV RX12 99 RX12 yX12_comes (ws_ yX12_comes cX12_comes 15 (some .long))) := lw_V q1023 q1024 q1025 q92 q1026
theorem hd_X12_holding : yX12_holding.cls = RX12 ∧ yX12_holding.cls ≠ "java/lang/invoke/MethodHandle" ∧ yX12_holding.cls ≠ "java/lang/invoke/VarHandle" ∧ (parseMethodDescriptor yX12_holding.desc).map (fun d => d.parameters.length) = some 1 := by decide +kernel
theorem wl_X12_96 : GoodIn lw_all (wsV RX12 96 RX12 yX12_holding (ws_ yX12_holding cX12_holding 4 (some .int))) := lw_V q1028 q1029 q1030 q92 q1031
theorem hd_X12_finds_2 : yX12_finds_2.cls = RX12 ∧ yX12_finds_2.cls ≠ "java/lang/invoke/MethodHandle" ∧ yX12_finds_2.cls ≠ "java/lang/invoke/VarHandle" ∧ (parseMethodDescriptor yX12_finds_2.desc).map (fun d => d.parameters.length) = some 2 := by decide +kernel
theorem wl_X12_124 : GoodIn lw_all (wsV RX12 124 RX12 yX12_finds_2 (ws_ yX12_finds_2 cX12_finds_2 9 none)) := lw_V q1032 q1034 qs20 q92 q1035
theorem gf_X12_114_12R {G : gG} {cc : ByteArray} {nL : Nat} {ret : Option FieldType} {Qf : Option Value → gM → Prop} {rm : Room} {cells slots : Nat} {M : gM} {lv : List (Nat × Value)} {pc : Nat} {st : List Value} {a : Nat} (n : Nat) (hC : gCx G cc nL RX12 ret Qf rm) {κ : Option Nat → Prop} (hF : gR M 12 a 11 κ) (hdg : decode cc pc = .ok (.getfield 114, 3)) (hn : pc + 3 = n) (kk : ∀ x, κ x → gAt G cells slots M lv n (va_rf x :: st)) : gAt G cells slots M lv pc (.ref a :: st) :=
  g_getR (C := RX12) (T := TX12) (N := 17) in_X12 rfl (by decide) q614 (fun _ _ _ => rfl) n hC hF hdg hn kk
theorem hd_X12_leaving : yX12_leaving.cls = RX12 ∧ yX12_leaving.cls ≠ "java/lang/invoke/MethodHandle" ∧ yX12_leaving.cls ≠ "java/lang/invoke/VarHandle" ∧ (parseMethodDescriptor yX12_leaving.desc).map (fun d => d.parameters.length) = some 1 := by decide +kernel
theorem wl_X12_121 : GoodIn lw_all (wsV RX12 121 RX12 yX12_leaving (ws_ yX12_leaving cX12_leaving 4 (some .int))) := lw_V q1018 q1019 q1020 q92 q1021
theorem gf_X12_9_12I {G : gG} {cc : ByteArray} {nL : Nat} {ret : Option FieldType} {Qf : Option Value → gM → Prop} {rm : Room} {cells slots : Nat} {M : gM} {lv : List (Nat × Value)} {pc : Nat} {st : List Value} {a : Nat} (n : Nat) (hC : gCx G cc nL RX12 ret Qf rm) {κ : Int32 → Prop} (hF : gI M 12 a 0 κ) (hdg : decode cc pc = .ok (.getfield 9, 3)) (hn : pc + 3 = n) (kk : ∀ x, κ x → gAt G cells slots M lv n (.int x :: st)) : gAt G cells slots M lv pc (.ref a :: st) :=
  g_getI (C := RX12) (T := TX12) (N := 17) in_X12 rfl (by decide) q577 (fun _ _ _ => rfl) n hC hF hdg hn kk
theorem hd_X12_makesRoom : yX12_makesRoom.cls = RX12 ∧ yX12_makesRoom.cls ≠ "java/lang/invoke/MethodHandle" ∧ yX12_makesRoom.cls ≠ "java/lang/invoke/VarHandle" ∧ (parseMethodDescriptor yX12_makesRoom.desc).map (fun d => d.parameters.length) = some 0 := by decide +kernel
theorem wl_X12_108 : GoodIn lw_all (wsV RX12 108 RX12 yX12_makesRoom (ws_ yX12_makesRoom cX12_makesRoom 1 none)) := lw_V q1013 q1015 qs19 q92 q1016
abbrev rm_X12_finds (Lc Ls : Nat) : Room := { frames := 4, cells := Lc, slots := Ls, locals := 94 }
def F_X12_finds_b168 (Q : gM → Prop)  (Lc Ls : Nat) (K92 : Int32 → Nat → Nat → gM → Prop) (a0 : Nat) (x1 : Int32) : Nat → Int32 → Nat → Nat → gM → Prop
  | 0, _, _, _, _ => False
  | n + 1, x2, u, v, M =>
    rc M 12 a0 ∧ F_X12_states M a0 fun x_2 M_1 =>
    ((x_2 ≤ x2 →
      K92 (x1 + (1 : Int32)) u v M_1) ∧
      (¬ x_2 ≤ x2 →
      rc M_1 12 a0 ∧ F_X12_finds_2 M_1 a0 x2 x1 fun M_3 =>
      (F_X12_finds_b168 Q Lc Ls K92 a0 x1 n) (x2 + (1 : Int32)) u v M_3))
theorem w_X12_finds_b168 {G : gG} {Q : gM → Prop} {Lc Ls : Nat} (hC : gCx G cX12_finds 3 RX12 none (gQv Q) (rm_X12_finds Lc Ls)) (K92 : Int32 → Nat → Nat → gM → Prop) (a0 : Nat) (x1 : Int32) (hK92 : ∀ x1' u' v' (_ : u' ≤ Lc ∧ v' ≤ Ls) M', K92 x1' u' v' M' → gAt G u' v' M' [(0, .ref a0), (1, .int x1')] 92 []) : ∀ (n : Nat) (x2 : Int32) (u v : Nat) (hu : u ≤ Lc ∧ v ≤ Ls) (M : gM), F_X12_finds_b168 Q Lc Ls K92 a0 x1 n x2 u v M → gAt G u v M [(0, .ref a0), (1, .int x1), (2, .int x2)] 168 [] := by
  intro n
  induction n with
  | zero =>
    intro x2 u v hu M hF
    exact hF.elim
  | succ n ih =>
    intro x2 u v hu M hF
    have hK168 := ih
    unfold F_X12_finds_b168 at hF
    refine g_iload_n 169 hC dX12_finds_168 rfl 2 rfl rfl ?_
    refine g_aload_n 170 hC dX12_finds_169 rfl 0 rfl rfl ?_
    refine g_cV (rest := [_]) wl_X12_117 hd_X12_states (ci := 12) rfl 173 hC hF.1 (met_X12_states hF.2) rfl ⟨Nat.le_of_ble_eq_true rfl, Nat.le_of_ble_eq_true rfl⟩ hu rfl (Nat.le_of_ble_eq_true rfl) dX12_finds_170 rfl (g_ty_i u v (Nat.le_refl _) (Nat.le_refl _) (fun x_2 M_1 hF => ?_))
    refine g_icmp_ge 176 188 hC dX12_finds_173 (by decide) rfl (fun c => ?_) (fun c => ?_)
    · have hF := hF.1 c
      refine g_iinc 191 hC (x1 + (1 : Int32)) (lv' := [(1, .int _), (0, .ref _), (2, .int _)]) dX12_finds_188 rfl 1 rfl rfl (by decide) rfl ?_
      refine g_goto 92 hC dX12_finds_191 (by decide) ?_
      refine g_sub [1, 0] rfl ?_
      exact hK92 _ _ _ hu _ hF
    · have hF := hF.2 c
      refine g_aload_n 177 hC dX12_finds_176 rfl 0 rfl rfl ?_
      refine g_iload_n 178 hC dX12_finds_177 rfl 2 rfl rfl ?_
      refine g_iload_n 179 hC dX12_finds_178 rfl 1 rfl rfl ?_
      refine g_cV (rest := []) wl_X12_124 hd_X12_finds_2 (ci := 12) rfl 182 hC hF.1 (met_X12_finds_2 hF.2) rfl ⟨Nat.le_of_ble_eq_true rfl, Nat.le_of_ble_eq_true rfl⟩ hu rfl (Nat.le_of_ble_eq_true rfl) dX12_finds_179 rfl (g_ty_v u v (Nat.le_refl _) (Nat.le_refl _) (fun M_3 hF => ?_))
      refine g_iinc 185 hC (x2 + (1 : Int32)) (lv' := [(2, .int _), (0, .ref _), (1, .int _)]) dX12_finds_182 rfl 2 rfl rfl (by decide) rfl ?_
      refine g_goto 168 hC dX12_finds_185 (by decide) ?_
      refine g_sub [1, 2, 0] rfl ?_
      exact hK168 _ _ _ hu _ hF
def F_X12_finds_b102 (Q : gM → Prop)  (Lc Ls : Nat) (K92 : Int32 → Nat → Nat → gM → Prop) (a0 : Nat) (x1 : Int32) : Nat → Int32 → Nat → Nat → gM → Prop
  | 0, _, _, _, _ => False
  | n + 1, x2, u, v, M =>
    rc M 12 a0 ∧ F_X12_states M a0 fun x_2 M_1 =>
    ((x_2 ≤ x2 →
      ∃ n_3, F_X12_finds_b168 Q Lc Ls K92 a0 x1 n_3 (0 : Int32) u v M_1) ∧
      (¬ x_2 ≤ x2 →
      gN M_1 12 a0 14 fun a_4 =>
      gR M_1 12 a0 10 fun r_5 =>
      rc M_1 12 a0 ∧ F_X12_scale M_1 a0 (x1 - (1 : Int32)) fun j_7 M_6 =>
      dN r_5 fun b_8 =>
      rc M_6 12 a0 ∧ F_X12_comes M_6 a0 x2 b_8 ((125 : Int32) * (x1 - (1 : Int32))) j_7 fun j_10 M_9 =>
      rc M_9 12 a0 ∧ F_X12_holding M_9 a0 x2 fun x_12 M_11 =>
      rc M_11 12 a0 ∧ F_X12_scale M_11 a0 (x1 - (1 : Int32)) fun j_14 M_13 =>
      gI M_13 12 a0 4 fun x_15 =>
      uJ M_13 a_4 x2 (j_10 + (x_12.toInt64 * (j_14 <<< (((2 : Int32) * x_15).toInt64 &&& 63)))) fun M_16 =>
      (F_X12_finds_b102 Q Lc Ls K92 a0 x1 n) (x2 + (1 : Int32)) u v M_16))
theorem w_X12_finds_b102 {G : gG} {Q : gM → Prop} {Lc Ls : Nat} (hC : gCx G cX12_finds 3 RX12 none (gQv Q) (rm_X12_finds Lc Ls)) (K92 : Int32 → Nat → Nat → gM → Prop) (a0 : Nat) (x1 : Int32) (hK92 : ∀ x1' u' v' (_ : u' ≤ Lc ∧ v' ≤ Ls) M', K92 x1' u' v' M' → gAt G u' v' M' [(0, .ref a0), (1, .int x1')] 92 []) : ∀ (n : Nat) (x2 : Int32) (u v : Nat) (hu : u ≤ Lc ∧ v ≤ Ls) (M : gM), F_X12_finds_b102 Q Lc Ls K92 a0 x1 n x2 u v M → gAt G u v M [(0, .ref a0), (1, .int x1), (2, .int x2)] 102 [] := by
  intro n
  induction n with
  | zero =>
    intro x2 u v hu M hF
    exact hF.elim
  | succ n ih =>
    intro x2 u v hu M hF
    have hK102 := ih
    unfold F_X12_finds_b102 at hF
    refine g_iload_n 103 hC dX12_finds_102 rfl 2 rfl rfl ?_
    refine g_aload_n 104 hC dX12_finds_103 rfl 0 rfl rfl ?_
    refine g_cV (rest := [_]) wl_X12_117 hd_X12_states (ci := 12) rfl 107 hC hF.1 (met_X12_states hF.2) rfl ⟨Nat.le_of_ble_eq_true rfl, Nat.le_of_ble_eq_true rfl⟩ hu rfl (Nat.le_of_ble_eq_true rfl) dX12_finds_104 rfl (g_ty_i u v (Nat.le_refl _) (Nat.le_refl _) (fun x_2 M_1 hF => ?_))
    refine g_icmp_ge 110 166 hC dX12_finds_107 (by decide) rfl (fun c => ?_) (fun c => ?_)
    · have hF := hF.1 c
      refine g_iconst 167 hC (0 : Int32) dX12_finds_166 (by decide) rfl ?_
      refine g_istore_n 168 hC (lv' := [(2, .int _), (0, .ref _), (1, .int _)]) dX12_finds_167 rfl rfl (by decide) rfl ?_
      refine g_sub [1, 2, 0] rfl ?_
      obtain ⟨n_3, hF⟩ := hF
      exact w_X12_finds_b168 hC _ _ _ hK92 n_3 _ _ _ hu _ hF
    · have hF := hF.2 c
      refine g_aload_n 111 hC dX12_finds_110 rfl 0 rfl rfl ?_
      refine gf_X12_60_12N 114 hC hF dX12_finds_111 rfl (fun a_4 hF => ?_)
      refine g_iload_n 115 hC dX12_finds_114 rfl 2 rfl rfl ?_
      refine g_aload_n 116 hC dX12_finds_115 rfl 0 rfl rfl ?_
      refine g_iload_n 117 hC dX12_finds_116 rfl 2 rfl rfl ?_
      refine g_aload_n 118 hC dX12_finds_117 rfl 0 rfl rfl ?_
      refine gf_X12_111_12R 121 hC hF dX12_finds_118 rfl (fun r_5 hF => ?_)
      refine g_bipush 123 hC (125 : Int32) dX12_finds_121 (by decide) rfl ?_
      refine g_iload_n 124 hC dX12_finds_123 rfl 1 rfl rfl ?_
      refine g_iconst 125 hC (1 : Int32) dX12_finds_124 (by decide) rfl ?_
      refine g_isub 126 hC dX12_finds_125 rfl ?_
      refine g_imul 127 hC dX12_finds_126 rfl ?_
      refine g_aload_n 128 hC dX12_finds_127 rfl 0 rfl rfl ?_
      refine g_iload_n 129 hC dX12_finds_128 rfl 1 rfl rfl ?_
      refine g_iconst 130 hC (1 : Int32) dX12_finds_129 (by decide) rfl ?_
      refine g_isub 131 hC dX12_finds_130 rfl ?_
      refine g_cV (rest := [_, _, _, _, _, _]) wl_X12_92 hd_X12_scale (ci := 12) rfl 134 hC hF.1 (met_X12_scale hF.2) rfl ⟨Nat.le_of_ble_eq_true rfl, Nat.le_of_ble_eq_true rfl⟩ hu rfl (by cases r_5 <;> exact Nat.le_of_ble_eq_true rfl) dX12_finds_131 rfl (g_ty_j u v (Nat.le_refl _) (Nat.le_refl _) (fun j_7 M_6 hF => ?_))
      obtain ⟨b_8, hr_, hF⟩ := hF
      try rw [hr_]
      refine g_cV (rest := [_, _]) wl_X12_99 hd_X12_comes (ci := 12) rfl 137 hC hF.1 (met_X12_comes hF.2) rfl ⟨Nat.le_of_ble_eq_true rfl, Nat.le_of_ble_eq_true rfl⟩ hu rfl (Nat.le_of_ble_eq_true rfl) dX12_finds_134 rfl (g_ty_j u v (Nat.le_refl _) (Nat.le_refl _) (fun j_10 M_9 hF => ?_))
      refine g_aload_n 138 hC dX12_finds_137 rfl 0 rfl rfl ?_
      refine g_iload_n 139 hC dX12_finds_138 rfl 2 rfl rfl ?_
      refine g_cV (rest := [_, _, _]) wl_X12_96 hd_X12_holding (ci := 12) rfl 142 hC hF.1 (met_X12_holding hF.2) rfl ⟨Nat.le_of_ble_eq_true rfl, Nat.le_of_ble_eq_true rfl⟩ hu rfl (Nat.le_of_ble_eq_true rfl) dX12_finds_139 rfl (g_ty_i u v (Nat.le_refl _) (Nat.le_refl _) (fun x_12 M_11 hF => ?_))
      refine g_i2l 143 hC dX12_finds_142 rfl ?_
      refine g_aload_n 144 hC dX12_finds_143 rfl 0 rfl rfl ?_
      refine g_iload_n 145 hC dX12_finds_144 rfl 1 rfl rfl ?_
      refine g_iconst 146 hC (1 : Int32) dX12_finds_145 (by decide) rfl ?_
      refine g_isub 147 hC dX12_finds_146 rfl ?_
      refine g_cV (rest := [_, _, _, _]) wl_X12_92 hd_X12_scale (ci := 12) rfl 150 hC hF.1 (met_X12_scale hF.2) rfl ⟨Nat.le_of_ble_eq_true rfl, Nat.le_of_ble_eq_true rfl⟩ hu rfl (Nat.le_of_ble_eq_true rfl) dX12_finds_147 rfl (g_ty_j u v (Nat.le_refl _) (Nat.le_refl _) (fun j_14 M_13 hF => ?_))
      refine g_iconst 151 hC (2 : Int32) dX12_finds_150 (by decide) rfl ?_
      refine g_aload_n 152 hC dX12_finds_151 rfl 0 rfl rfl ?_
      refine gf_X12_41_12I 155 hC hF dX12_finds_152 rfl (fun x_15 hF => ?_)
      refine g_imul 156 hC dX12_finds_155 rfl ?_
      refine g_lshl 157 hC dX12_finds_156 rfl ?_
      refine g_lmul 158 hC dX12_finds_157 rfl ?_
      refine g_ladd 159 hC dX12_finds_158 rfl ?_
      refine g_last 160 hC hF dX12_finds_159 rfl (fun M_16 hF => ?_)
      refine g_iinc 163 hC (x2 + (1 : Int32)) (lv' := [(2, .int _), (0, .ref _), (1, .int _)]) dX12_finds_160 rfl 2 rfl rfl (by decide) rfl ?_
      refine g_goto 102 hC dX12_finds_163 (by decide) ?_
      refine g_sub [1, 2, 0] rfl ?_
      exact hK102 _ _ _ hu _ hF
def F_X12_finds_b92 (Q : gM → Prop)  (Lc Ls : Nat)  (a0 : Nat) : Nat → Int32 → Nat → Nat → gM → Prop
  | 0, _, _, _, _ => False
  | n + 1, x1, u, v, M =>
    gI M 12 a0 0 fun x_1 =>
    ((x_1 < x1 →
      Q M) ∧
      (¬ x_1 < x1 →
      ∃ n_2, F_X12_finds_b102 Q Lc Ls (F_X12_finds_b92 Q Lc Ls a0 n) a0 x1 n_2 (0 : Int32) u v M))
theorem w_X12_finds_b92 {G : gG} {Q : gM → Prop} {Lc Ls : Nat} (hC : gCx G cX12_finds 3 RX12 none (gQv Q) (rm_X12_finds Lc Ls))  (a0 : Nat)  : ∀ (n : Nat) (x1 : Int32) (u v : Nat) (hu : u ≤ Lc ∧ v ≤ Ls) (M : gM), F_X12_finds_b92 Q Lc Ls a0 n x1 u v M → gAt G u v M [(0, .ref a0), (1, .int x1)] 92 [] := by
  intro n
  induction n with
  | zero =>
    intro x1 u v hu M hF
    exact hF.elim
  | succ n ih =>
    intro x1 u v hu M hF
    have hK92 := ih
    unfold F_X12_finds_b92 at hF
    refine g_iload_n 93 hC dX12_finds_92 rfl 1 rfl rfl ?_
    refine g_aload_n 94 hC dX12_finds_93 rfl 0 rfl rfl ?_
    refine gf_X12_9_12I 97 hC hF dX12_finds_94 rfl (fun x_1 hF => ?_)
    refine g_icmp_gt 100 194 hC dX12_finds_97 (by decide) rfl (fun c => ?_) (fun c => ?_)
    · have hF := hF.1 c
      exact g_return hC ⟨rfl, hF⟩ dX12_finds_194 hu.1 hu.2
    · have hF := hF.2 c
      refine g_iconst 101 hC (0 : Int32) dX12_finds_100 (by decide) rfl ?_
      refine g_istore_n 102 hC (lv' := [(2, .int _), (0, .ref _), (1, .int _)]) dX12_finds_101 rfl rfl (by decide) rfl ?_
      refine g_sub [1, 2, 0] rfl ?_
      obtain ⟨n_2, hF⟩ := hF
      exact w_X12_finds_b102 hC _ _ _ hK92 n_2 _ _ _ hu _ hF
def F_X12_finds_b57 (Q : gM → Prop)  (Lc Ls : Nat)  (a0 : Nat) : Nat → Int32 → Nat → Nat → gM → Prop
  | 0, _, _, _, _ => False
  | n + 1, x1, u, v, M =>
    rc M 12 a0 ∧ F_X12_states M a0 fun x_2 M_1 =>
    ((x_2 ≤ x1 →
      ∃ n_3, F_X12_finds_b92 Q Lc Ls a0 n_3 (1 : Int32) u v M_1) ∧
      (¬ x_2 ≤ x1 →
      gR M_1 12 a0 10 fun r_4 =>
      rc M_1 12 a0 ∧ F_X12_leaving M_1 a0 x1 fun x_6 M_5 =>
      dN r_4 fun b_7 =>
      uJ M_5 b_7 x1 x_6.toInt64 fun M_8 =>
      gR M_8 12 a0 11 fun r_9 =>
      dN r_9 fun b_10 =>
      uI M_8 b_10 x1 (0 : Int32) fun M_11 =>
      (F_X12_finds_b57 Q Lc Ls a0 n) (x1 + (1 : Int32)) u v M_11))
theorem w_X12_finds_b57 {G : gG} {Q : gM → Prop} {Lc Ls : Nat} (hC : gCx G cX12_finds 3 RX12 none (gQv Q) (rm_X12_finds Lc Ls))  (a0 : Nat)  : ∀ (n : Nat) (x1 : Int32) (u v : Nat) (hu : u ≤ Lc ∧ v ≤ Ls) (M : gM), F_X12_finds_b57 Q Lc Ls a0 n x1 u v M → gAt G u v M [(0, .ref a0), (1, .int x1)] 57 [] := by
  intro n
  induction n with
  | zero =>
    intro x1 u v hu M hF
    exact hF.elim
  | succ n ih =>
    intro x1 u v hu M hF
    have hK57 := ih
    unfold F_X12_finds_b57 at hF
    refine g_iload_n 58 hC dX12_finds_57 rfl 1 rfl rfl ?_
    refine g_aload_n 59 hC dX12_finds_58 rfl 0 rfl rfl ?_
    refine g_cV (rest := [_]) wl_X12_117 hd_X12_states (ci := 12) rfl 62 hC hF.1 (met_X12_states hF.2) rfl ⟨Nat.le_of_ble_eq_true rfl, Nat.le_of_ble_eq_true rfl⟩ hu rfl (Nat.le_of_ble_eq_true rfl) dX12_finds_59 rfl (g_ty_i u v (Nat.le_refl _) (Nat.le_refl _) (fun x_2 M_1 hF => ?_))
    refine g_icmp_ge 65 90 hC dX12_finds_62 (by decide) rfl (fun c => ?_) (fun c => ?_)
    · have hF := hF.1 c
      refine g_iconst 91 hC (1 : Int32) dX12_finds_90 (by decide) rfl ?_
      refine g_istore_n 92 hC (lv' := [(1, .int _), (0, .ref _)]) dX12_finds_91 rfl rfl (by decide) rfl ?_
      refine g_sub [1, 0] rfl ?_
      obtain ⟨n_3, hF⟩ := hF
      exact w_X12_finds_b92 hC _ n_3 _ _ _ hu _ hF
    · have hF := hF.2 c
      refine g_aload_n 66 hC dX12_finds_65 rfl 0 rfl rfl ?_
      refine gf_X12_111_12R 69 hC hF dX12_finds_66 rfl (fun r_4 hF => ?_)
      refine g_iload_n 70 hC dX12_finds_69 rfl 1 rfl rfl ?_
      refine g_aload_n 71 hC dX12_finds_70 rfl 0 rfl rfl ?_
      refine g_iload_n 72 hC dX12_finds_71 rfl 1 rfl rfl ?_
      refine g_cV (rest := [_, _]) wl_X12_121 hd_X12_leaving (ci := 12) rfl 75 hC hF.1 (met_X12_leaving hF.2) rfl ⟨Nat.le_of_ble_eq_true rfl, Nat.le_of_ble_eq_true rfl⟩ hu rfl (by cases r_4 <;> exact Nat.le_of_ble_eq_true rfl) dX12_finds_72 rfl (g_ty_i u v (Nat.le_refl _) (Nat.le_refl _) (fun x_6 M_5 hF => ?_))
      refine g_i2l 76 hC dX12_finds_75 rfl ?_
      obtain ⟨b_7, hr_, hF⟩ := hF
      try rw [hr_]
      refine g_last 77 hC hF dX12_finds_76 rfl (fun M_8 hF => ?_)
      refine g_aload_n 78 hC dX12_finds_77 rfl 0 rfl rfl ?_
      refine gf_X12_114_12R 81 hC hF dX12_finds_78 rfl (fun r_9 hF => ?_)
      refine g_iload_n 82 hC dX12_finds_81 rfl 1 rfl rfl ?_
      refine g_iconst 83 hC (0 : Int32) dX12_finds_82 (by decide) rfl ?_
      obtain ⟨b_10, hr_, hF⟩ := hF
      try rw [hr_]
      refine g_iast 84 hC hF dX12_finds_83 rfl (fun M_11 hF => ?_)
      refine g_iinc 87 hC (x1 + (1 : Int32)) (lv' := [(1, .int _), (0, .ref _)]) dX12_finds_84 rfl 1 rfl rfl (by decide) rfl ?_
      refine g_goto 57 hC dX12_finds_87 (by decide) ?_
      refine g_sub [1, 0] rfl ?_
      exact hK57 _ _ _ hu _ hF
def F_X12_finds_b47 (Q : gM → Prop)  (Lc Ls : Nat)  (a0 : Nat) (t0 : Nat) (t1 : Option Nat) (u v : Nat) (M : gM) : Prop :=
  pR M 12 t0 11 t1 fun M_1 =>
  pI M_1 12 a0 12 (1 : Int32) fun M_2 =>
  ∃ n_3, F_X12_finds_b57 Q Lc Ls a0 n_3 (0 : Int32) u v M_2
theorem w_X12_finds_b47 {G : gG} {Q : gM → Prop} {Lc Ls : Nat} (hC : gCx G cX12_finds 3 RX12 none (gQv Q) (rm_X12_finds Lc Ls))  (a0 : Nat) (t0 : Nat) (t1 : Option Nat)  (u v : Nat) (hu : u ≤ Lc ∧ v ≤ Ls) (M : gM) (hF : F_X12_finds_b47 Q Lc Ls a0 t0 t1 u v M) : gAt G u v M [(0, .ref a0)] 47 [va_rf t1, .ref t0] := by
  unfold F_X12_finds_b47 at hF
  refine g_putR (C := RX12) (T := TX12) (N := 17) (ci := 12) (k := 11) (ty := (.array .int)) in_X12 tyX12 tyX12_ok nmX12 rfl (by decide) q614 rfl rfl (fun _ _ _ => rfl) (g_narR _ _ (by decide)) (g_fitR _ _ (by decide)) 50 hC hF dX12_finds_47 rfl (fun M_1 hF => ?_)
  refine g_aload_n 51 hC dX12_finds_50 rfl 0 rfl rfl ?_
  refine g_iconst 52 hC (1 : Int32) dX12_finds_51 (by decide) rfl ?_
  refine g_putI (C := RX12) (T := TX12) (N := 17) (ci := 12) (k := 12) (ty := .boolean) in_X12 tyX12 tyX12_ok nmX12 rfl (by decide) q615 rfl rfl (fun _ _ _ => rfl) rfl rfl 55 hC hF dX12_finds_52 rfl (fun M_2 hF => ?_)
  refine g_iconst 56 hC (0 : Int32) dX12_finds_55 (by decide) rfl ?_
  refine g_istore_n 57 hC (lv' := [(1, .int _), (0, .ref _)]) dX12_finds_56 rfl rfl (by decide) rfl ?_
  refine g_sub [1, 0] rfl ?_
  obtain ⟨n_3, hF⟩ := hF
  exact w_X12_finds_b57 hC _ n_3 _ _ _ hu _ hF
def F_X12_finds_b24 (Q : gM → Prop)  (Lc Ls : Nat)  (a0 : Nat) (t0 : Nat) (t1 : Option Nat) (u v : Nat) (M : gM) : Prop :=
  pR M 12 t0 10 t1 fun M_1 =>
  gR M_1 12 a0 11 fun r_2 =>
  ((r_2 = none →
    nA M_1 u v Lc Ls .int (875 : Int32) 875 fun a_4 M_5 =>
    F_X12_finds_b47 Q Lc Ls a0 a0 (some a_4) (u + 1) (v + 875) M_5) ∧
    (∀ b_3, r_2 = some b_3 →
    gR M_1 12 a0 11 fun r_6 =>
    F_X12_finds_b47 Q Lc Ls a0 a0 r_6 u v M_1))
theorem w_X12_finds_b24 {G : gG} {Q : gM → Prop} {Lc Ls : Nat} (hC : gCx G cX12_finds 3 RX12 none (gQv Q) (rm_X12_finds Lc Ls))  (a0 : Nat) (t0 : Nat) (t1 : Option Nat)  (u v : Nat) (hu : u ≤ Lc ∧ v ≤ Ls) (M : gM) (hF : F_X12_finds_b24 Q Lc Ls a0 t0 t1 u v M) : gAt G u v M [(0, .ref a0)] 24 [va_rf t1, .ref t0] := by
  unfold F_X12_finds_b24 at hF
  refine g_putR (C := RX12) (T := TX12) (N := 17) (ci := 12) (k := 10) (ty := (.array .long)) in_X12 tyX12 tyX12_ok nmX12 rfl (by decide) q613 rfl rfl (fun _ _ _ => rfl) (g_narR _ _ (by decide)) (g_fitR _ _ (by decide)) 27 hC hF dX12_finds_24 rfl (fun M_1 hF => ?_)
  refine g_aload_n 28 hC dX12_finds_27 rfl 0 rfl rfl ?_
  refine g_aload_n 29 hC dX12_finds_28 rfl 0 rfl rfl ?_
  refine gf_X12_114_12R 32 hC hF dX12_finds_29 rfl (fun r_2 hF => ?_)
  refine g_ifnonnull 35 43 hC dX12_finds_32 (by decide) rfl (fun b_3 c => ?_) (fun c => ?_)
  · have hF := hF.2 b_3 c
    try rw [c]
    refine g_aload_n 44 hC dX12_finds_43 rfl 0 rfl rfl ?_
    refine gf_X12_114_12R 47 hC hF dX12_finds_44 rfl (fun r_6 hF => ?_)
    exact w_X12_finds_b47 hC _ _ _ _ _ hu _ hF
  · have hF := hF.1 c
    try rw [c]
    refine g_sipush 38 hC (875 : Int32) dX12_finds_35 (by decide) rfl ?_
    have hu := hF.2.1
    refine g_newa 40 hC (ty := .int) rfl (by decide) (fun _ _ h => h) (by decide) (by decide) q147 hF dX12_finds_38 rfl (fun a_4 M_5 hF => ?_)
    refine g_goto 47 hC dX12_finds_40 (by decide) ?_
    exact w_X12_finds_b47 hC _ _ _ _ _ hu _ hF
def F_X12_finds (Lc Ls : Nat) (M : gM) (a0 : Nat) (Q : gM → Prop)  : Prop :=
  ∃ c_3 s_4, (0 + c_3 ≤ Lc ∧ 0 + s_4 ≤ Ls) ∧
  rc M 12 a0 ∧ F_X12_makesRoom c_3 s_4 M a0 fun M_1 =>
  gR M_1 12 a0 10 fun r_5 =>
  ((r_5 = none →
    nA M_1 (0 + c_3) (0 + s_4) Lc Ls .long (875 : Int32) 875 fun a_7 M_8 =>
    F_X12_finds_b24 Q Lc Ls a0 a0 (some a_7) ((0 + c_3) + 1) ((0 + s_4) + 875) M_8) ∧
    (∀ b_6, r_5 = some b_6 →
    gR M_1 12 a0 10 fun r_9 =>
    F_X12_finds_b24 Q Lc Ls a0 a0 r_9 (0 + c_3) (0 + s_4) M_1))
theorem met_X12_finds {M : gM} {a0 : Nat} {Q : gM → Prop} {Lc Ls : Nat} (hF : F_X12_finds Lc Ls M a0 Q) : gMt yX12_finds (ws_ yX12_finds cX12_finds 3 none) (rm_X12_finds Lc Ls) M [.ref a0] (gQv Q) := by
  refine gMet (bytes := cX12_finds) (maxL := 3) (ret := none) rfl rfl (by decide) (Nat.le_of_ble_eq_true rfl) (lv := [(0, .ref a0)]) rfl (fun G hC hin => ?_)
  have hu : 0 ≤ Lc ∧ 0 ≤ Ls := ⟨Nat.zero_le _, Nat.zero_le _⟩
  unfold F_X12_finds at hF
  refine g_aload_n 1 hC dX12_finds_0 rfl 0 rfl rfl ?_
  obtain ⟨c_3, s_4, hu, hF⟩ := hF
  refine g_cV (rest := []) wl_X12_108 hd_X12_makesRoom (ci := 12) rfl 4 hC hF.1 (met_X12_makesRoom hF.2) rfl ⟨Nat.le_of_ble_eq_true rfl, Nat.le_of_ble_eq_true rfl⟩ hu rfl (Nat.le_of_ble_eq_true rfl) dX12_finds_1 rfl (g_ty_v (0 + c_3) (0 + s_4) (Nat.le_refl _) (Nat.le_refl _) (fun M_1 hF => ?_))
  refine g_aload_n 5 hC dX12_finds_4 rfl 0 rfl rfl ?_
  refine g_aload_n 6 hC dX12_finds_5 rfl 0 rfl rfl ?_
  refine gf_X12_111_12R 9 hC hF dX12_finds_6 rfl (fun r_5 hF => ?_)
  refine g_ifnonnull 12 20 hC dX12_finds_9 (by decide) rfl (fun b_6 c => ?_) (fun c => ?_)
  · have hF := hF.2 b_6 c
    try rw [c]
    refine g_aload_n 21 hC dX12_finds_20 rfl 0 rfl rfl ?_
    refine gf_X12_111_12R 24 hC hF dX12_finds_21 rfl (fun r_9 hF => ?_)
    exact w_X12_finds_b24 hC _ _ _ _ _ hu _ hF
  · have hF := hF.1 c
    try rw [c]
    refine g_sipush 15 hC (875 : Int32) dX12_finds_12 (by decide) rfl ?_
    have hu := hF.2.1
    refine g_newa 17 hC (ty := .long) rfl (by decide) (fun _ _ h => h) (by decide) (by decide) q273 hF dX12_finds_15 rfl (fun a_7 M_8 hF => ?_)
    refine g_goto 24 hC dX12_finds_17 (by decide) ?_
    exact w_X12_finds_b24 hC _ _ _ _ _ hu _ hF
theorem gf_X12_52_12I {G : gG} {cc : ByteArray} {nL : Nat} {ret : Option FieldType} {Qf : Option Value → gM → Prop} {rm : Room} {cells slots : Nat} {M : gM} {lv : List (Nat × Value)} {pc : Nat} {st : List Value} {a : Nat} (n : Nat) (hC : gCx G cc nL RX12 ret Qf rm) {κ : Int32 → Prop} (hF : gI M 12 a 12 κ) (hdg : decode cc pc = .ok (.getfield 52, 3)) (hn : pc + 3 = n) (kk : ∀ x, κ x → gAt G cells slots M lv n (.int x :: st)) : gAt G cells slots M lv pc (.ref a :: st) :=
  g_getI (C := RX12) (T := TX12) (N := 17) in_X12 rfl (by decide) q615 (fun _ _ _ => rfl) n hC hF hdg hn kk
theorem hd_X12_finds : yX12_finds.cls = RX12 ∧ yX12_finds.cls ≠ "java/lang/invoke/MethodHandle" ∧ yX12_finds.cls ≠ "java/lang/invoke/VarHandle" ∧ (parseMethodDescriptor yX12_finds.desc).map (fun d => d.parameters.length) = some 0 := by decide +kernel
theorem wl_X12_131 : GoodIn lw_all (wsV RX12 131 RX12 yX12_finds (ws_ yX12_finds cX12_finds 3 none)) := lw_V q1009 q1011 qs18 q92 q1012
abbrev rm_X12_worths (Lc Ls : Nat) : Room := { frames := 5, cells := Lc, slots := Ls, locals := 116 }
def F_X12_worths (Lc Ls : Nat) (M : gM) (a0 : Nat) (Q : Nat → gM → Prop)  : Prop :=
  gI M 12 a0 12 fun x_1 =>
  ((¬ x_1 = 0 →
    gN M 12 a0 10 fun a_2 =>
    Q a_2 M) ∧
    (x_1 = 0 →
    ∃ c_5 s_6, (0 + c_5 ≤ Lc ∧ 0 + s_6 ≤ Ls) ∧
    rc M 12 a0 ∧ F_X12_finds c_5 s_6 M a0 fun M_3 =>
    gN M_3 12 a0 10 fun a_7 =>
    Q a_7 M_3))
theorem met_X12_worths {M : gM} {a0 : Nat} {Q : Nat → gM → Prop} {Lc Ls : Nat} (hF : F_X12_worths Lc Ls M a0 Q) : gMt yX12_worths (ws_ yX12_worths cX12_worths 1 (some (.array .long))) (rm_X12_worths Lc Ls) M [.ref a0] (gQa Q) := by
  refine gMet (bytes := cX12_worths) (maxL := 1) (ret := (some (.array .long))) rfl rfl (by decide) (Nat.le_of_ble_eq_true rfl) (lv := [(0, .ref a0)]) rfl (fun G hC hin => ?_)
  have hu : 0 ≤ Lc ∧ 0 ≤ Ls := ⟨Nat.zero_le _, Nat.zero_le _⟩
  unfold F_X12_worths at hF
  refine g_aload_n 1 hC dX12_worths_0 rfl 0 rfl rfl ?_
  refine gf_X12_52_12I 4 hC hF dX12_worths_1 rfl (fun x_1 hF => ?_)
  refine g_if_ne 7 11 hC dX12_worths_4 (by decide) rfl (fun c => ?_) (fun c => ?_)
  · have hF := hF.1 c
    refine g_aload_n 12 hC dX12_worths_11 rfl 0 rfl rfl ?_
    refine gf_X12_111_12N 15 hC hF dX12_worths_12 rfl (fun a_2 hF => ?_)
    exact g_areturn (v := some a_2) hC (Or.inr ⟨_, rfl⟩) ⟨_, rfl, hF⟩ dX12_worths_15 hu.1 hu.2
  · have hF := hF.2 c
    refine g_aload_n 8 hC dX12_worths_7 rfl 0 rfl rfl ?_
    obtain ⟨c_5, s_6, hu, hF⟩ := hF
    refine g_cV (rest := []) wl_X12_131 hd_X12_finds (ci := 12) rfl 11 hC hF.1 (met_X12_finds hF.2) rfl ⟨Nat.le_of_ble_eq_true rfl, Nat.le_of_ble_eq_true rfl⟩ hu rfl (Nat.le_of_ble_eq_true rfl) dX12_worths_8 rfl (g_ty_v (0 + c_5) (0 + s_6) (Nat.le_refl _) (Nat.le_refl _) (fun M_3 hF => ?_))
    refine g_aload_n 12 hC dX12_worths_11 rfl 0 rfl rfl ?_
    refine gf_X12_111_12N 15 hC hF dX12_worths_12 rfl (fun a_7 hF => ?_)
    exact g_areturn (v := some a_7) hC (Or.inr ⟨_, rfl⟩) ⟨_, rfl, hF⟩ dX12_worths_15 hu.1 hu.2
theorem hd_X12_worths : yX12_worths.cls = RX12 ∧ yX12_worths.cls ≠ "java/lang/invoke/MethodHandle" ∧ yX12_worths.cls ≠ "java/lang/invoke/VarHandle" ∧ (parseMethodDescriptor yX12_worths.desc).map (fun d => d.parameters.length) = some 0 := by decide +kernel
theorem wl_X12_133 : GoodIn lw_all (wsV RX12 133 RX12 yX12_worths (ws_ yX12_worths cX12_worths 1 (some (.array .long)))) := lw_V q1005 q1006 q1007 q92 q1008
abbrev rm_X12_cost (Lc Ls : Nat) : Room := { frames := 6, cells := Lc, slots := Ls, locals := 136 }
def F_X12_cost (Lc Ls : Nat) (M : gM) (a0 : Nat) (x1 : Int32) (x2 : Int32) (Q : Int64 → gM → Prop)  : Prop :=
  ∃ c_3 s_4, (0 + c_3 ≤ Lc ∧ 0 + s_4 ≤ Ls) ∧
  rc M 12 a0 ∧ F_X12_worths c_3 s_4 M a0 fun a_2 M_1 =>
  aJ M_1 a_2 (((125 : Int32) * x1) + x2) fun j_5 =>
  Q j_5 M_1
theorem met_X12_cost {M : gM} {a0 : Nat} {x1 : Int32} {x2 : Int32} {Q : Int64 → gM → Prop} {Lc Ls : Nat} (hF : F_X12_cost Lc Ls M a0 x1 x2 Q) : gMt yX12_cost (ws_ yX12_cost cX12_cost 3 (some .long)) (rm_X12_cost Lc Ls) M [.ref a0, .int x1, .int x2] (gQj Q) := by
  refine gMet (bytes := cX12_cost) (maxL := 3) (ret := (some .long)) rfl rfl (by decide) (Nat.le_of_ble_eq_true rfl) (lv := [(0, .ref a0), (1, .int x1), (2, .int x2)]) rfl (fun G hC hin => ?_)
  have hu : 0 ≤ Lc ∧ 0 ≤ Ls := ⟨Nat.zero_le _, Nat.zero_le _⟩
  unfold F_X12_cost at hF
  refine g_aload_n 1 hC dX12_cost_0 rfl 0 rfl rfl ?_
  obtain ⟨c_3, s_4, hu, hF⟩ := hF
  refine g_cV (rest := []) wl_X12_133 hd_X12_worths (ci := 12) rfl 4 hC hF.1 (met_X12_worths hF.2) rfl ⟨Nat.le_of_ble_eq_true rfl, Nat.le_of_ble_eq_true rfl⟩ hu rfl (Nat.le_of_ble_eq_true rfl) dX12_cost_1 rfl (g_ty_a (0 + c_3) (0 + s_4) (Nat.le_refl _) (Nat.le_refl _) (fun a_2 M_1 hF => ?_))
  refine g_bipush 6 hC (125 : Int32) dX12_cost_4 (by decide) rfl ?_
  refine g_iload_n 7 hC dX12_cost_6 rfl 1 rfl rfl ?_
  refine g_imul 8 hC dX12_cost_7 rfl ?_
  refine g_iload_n 9 hC dX12_cost_8 rfl 2 rfl rfl ?_
  refine g_iadd 10 hC dX12_cost_9 rfl ?_
  refine g_lald 11 hC hF dX12_cost_10 rfl (fun j_5 hF => ?_)
  exact g_lreturn hC ⟨_, rfl, hF⟩ dX12_cost_11 hu.1 hu.2
abbrev rm_X12_best (Lc Ls : Nat) : Room := { frames := 6, cells := Lc, slots := Ls, locals := 136 }
def F_X12_best (Lc Ls : Nat) (M : gM) (a0 : Nat) (x1 : Int32) (x2 : Int32) (Q : Int32 → gM → Prop)  : Prop :=
  ∃ c_3 s_4, (0 + c_3 ≤ Lc ∧ 0 + s_4 ≤ Ls) ∧
  rc M 12 a0 ∧ F_X12_worths c_3 s_4 M a0 fun a_2 M_1 =>
  gN M_1 12 a0 11 fun a_5 =>
  aI M_1 .int a_5 (((125 : Int32) * x1) + x2) fun x_6 =>
  Q x_6 M_1
theorem met_X12_best {M : gM} {a0 : Nat} {x1 : Int32} {x2 : Int32} {Q : Int32 → gM → Prop} {Lc Ls : Nat} (hF : F_X12_best Lc Ls M a0 x1 x2 Q) : gMt yX12_best (ws_ yX12_best cX12_best 3 (some .int)) (rm_X12_best Lc Ls) M [.ref a0, .int x1, .int x2] (gQi Q) := by
  refine gMet (bytes := cX12_best) (maxL := 3) (ret := (some .int)) rfl rfl (by decide) (Nat.le_of_ble_eq_true rfl) (lv := [(0, .ref a0), (1, .int x1), (2, .int x2)]) rfl (fun G hC hin => ?_)
  have hu : 0 ≤ Lc ∧ 0 ≤ Ls := ⟨Nat.zero_le _, Nat.zero_le _⟩
  unfold F_X12_best at hF
  refine g_aload_n 1 hC dX12_best_0 rfl 0 rfl rfl ?_
  obtain ⟨c_3, s_4, hu, hF⟩ := hF
  refine g_cV (rest := []) wl_X12_133 hd_X12_worths (ci := 12) rfl 4 hC hF.1 (met_X12_worths hF.2) rfl ⟨Nat.le_of_ble_eq_true rfl, Nat.le_of_ble_eq_true rfl⟩ hu rfl (Nat.le_of_ble_eq_true rfl) dX12_best_1 rfl (g_ty_a (0 + c_3) (0 + s_4) (Nat.le_refl _) (Nat.le_refl _) (fun a_2 M_1 hF => ?_))
  refine g_pop 5 hC dX12_best_4 rfl rfl ?_
  refine g_aload_n 6 hC dX12_best_5 rfl 0 rfl rfl ?_
  refine gf_X12_114_12N 9 hC hF dX12_best_6 rfl (fun a_5 hF => ?_)
  refine g_bipush 11 hC (125 : Int32) dX12_best_9 (by decide) rfl ?_
  refine g_iload_n 12 hC dX12_best_11 rfl 1 rfl rfl ?_
  refine g_imul 13 hC dX12_best_12 rfl ?_
  refine g_iload_n 14 hC dX12_best_13 rfl 2 rfl rfl ?_
  refine g_iadd 15 hC dX12_best_14 rfl ?_
  refine g_iald 16 hC hF dX12_best_15 rfl (fun x_6 hF => ?_)
  exact g_ireturn hC ⟨_, rfl, hF⟩ dX12_best_16 hu.1 hu.2
abbrev rm_X12_dearest : Room := { frames := 0, cells := 0, slots := 0, locals := 0 }
def F_X12_dearest_b42 (Q : Int32 → gM → Prop)   (K4 : Int32 → Int32 → gM → Prop) (a0 : Nat) (x1 : Int32) (x2 : Int32) (x3 : Int32)   (M : gM) : Prop :=
  K4 x2 (x3 + (1 : Int32)) M
theorem w_X12_dearest_b42 {G : gG} {Q : Int32 → gM → Prop} (hC : gCx G cX12_dearest 4 RX12 (some .int) (gQi Q) rm_X12_dearest) (K4 : Int32 → Int32 → gM → Prop) (a0 : Nat) (x1 : Int32) (x2 : Int32) (x3 : Int32)  (hK4 : ∀ x2' x3' M', K4 x2' x3' M' → gAt G 0 0 M' [(0, .ref a0), (1, .int x1), (2, .int x2'), (3, .int x3')] 4 [])   (M : gM) (hF : F_X12_dearest_b42 Q K4 a0 x1 x2 x3 M) : gAt G 0 0 M [(0, .ref a0), (1, .int x1), (2, .int x2), (3, .int x3)] 42 [] := by
  unfold F_X12_dearest_b42 at hF
  refine g_iinc 45 hC (x3 + (1 : Int32)) (lv' := [(3, .int _), (0, .ref _), (1, .int _), (2, .int _)]) dX12_dearest_42 rfl 3 rfl rfl (by decide) rfl ?_
  refine g_goto 4 hC dX12_dearest_45 (by decide) ?_
  refine g_sub [1, 2, 3, 0] rfl ?_
  exact hK4 _ _ _ hF
def F_X12_dearest_b40 (Q : Int32 → gM → Prop)   (K4 : Int32 → Int32 → gM → Prop) (a0 : Nat) (x1 : Int32) (x3 : Int32)   (M : gM) : Prop :=
  F_X12_dearest_b42 Q K4 a0 x1 x3 x3 M
theorem w_X12_dearest_b40 {G : gG} {Q : Int32 → gM → Prop} (hC : gCx G cX12_dearest 4 RX12 (some .int) (gQi Q) rm_X12_dearest) (K4 : Int32 → Int32 → gM → Prop) (a0 : Nat) (x1 : Int32) (x3 : Int32)  (hK4 : ∀ x2' x3' M', K4 x2' x3' M' → gAt G 0 0 M' [(0, .ref a0), (1, .int x1), (2, .int x2'), (3, .int x3')] 4 [])   (M : gM) (hF : F_X12_dearest_b40 Q K4 a0 x1 x3 M) : gAt G 0 0 M [(0, .ref a0), (1, .int x1), (3, .int x3)] 40 [] := by
  unfold F_X12_dearest_b40 at hF
  refine g_iload_n 41 hC dX12_dearest_40 rfl 2 rfl rfl ?_
  refine g_istore_n 42 hC (lv' := [(2, .int _), (0, .ref _), (1, .int _), (3, .int _)]) dX12_dearest_41 rfl rfl (by decide) rfl ?_
  refine g_sub [1, 2, 0, 3] rfl ?_
  exact w_X12_dearest_b42 hC _ _ _ _ _ hK4 _ hF
def F_X12_dearest_b4 (Q : Int32 → gM → Prop)    (a0 : Nat) (x1 : Int32) : Nat → Int32 → Int32 → gM → Prop
  | 0, _, _, _ => False
  | n + 1, x2, x3, M =>
    gI M 12 a0 4 fun x_1 =>
    ((x_1 ≤ x3 →
      Q x2 M) ∧
      (¬ x_1 ≤ x3 →
      ((¬ ((x1 >>> (x3 &&& 31)) &&& (1 : Int32)) = 0 →
        F_X12_dearest_b42 Q (F_X12_dearest_b4 Q a0 x1 n) a0 x1 x2 x3 M) ∧
        (((x1 >>> (x3 &&& 31)) &&& (1 : Int32)) = 0 →
        ((x2 = (-1 : Int32) →
          F_X12_dearest_b40 Q (F_X12_dearest_b4 Q a0 x1 n) a0 x1 x3 M) ∧
          (¬ x2 = (-1 : Int32) →
          gN M 12 a0 7 fun a_2 =>
          aI M .int a_2 x3 fun x_3 =>
          gN M 12 a0 7 fun a_4 =>
          aI M .int a_4 x2 fun x_5 =>
          ((x_3 ≤ x_5 →
            F_X12_dearest_b42 Q (F_X12_dearest_b4 Q a0 x1 n) a0 x1 x2 x3 M) ∧
            (¬ x_3 ≤ x_5 →
            F_X12_dearest_b40 Q (F_X12_dearest_b4 Q a0 x1 n) a0 x1 x3 M))))))))
theorem w_X12_dearest_b4 {G : gG} {Q : Int32 → gM → Prop} (hC : gCx G cX12_dearest 4 RX12 (some .int) (gQi Q) rm_X12_dearest)  (a0 : Nat) (x1 : Int32)  : ∀ (n : Nat) (x2 : Int32) (x3 : Int32)   (M : gM), F_X12_dearest_b4 Q a0 x1 n x2 x3 M → gAt G 0 0 M [(0, .ref a0), (1, .int x1), (2, .int x2), (3, .int x3)] 4 [] := by
  intro n
  induction n with
  | zero =>
    intro x2 x3 M hF
    exact hF.elim
  | succ n ih =>
    intro x2 x3 M hF
    have hK4 := ih
    unfold F_X12_dearest_b4 at hF
    refine g_iload_n 5 hC dX12_dearest_4 rfl 3 rfl rfl ?_
    refine g_aload_n 6 hC dX12_dearest_5 rfl 0 rfl rfl ?_
    refine gf_X12_41_12I 9 hC hF dX12_dearest_6 rfl (fun x_1 hF => ?_)
    refine g_icmp_ge 12 48 hC dX12_dearest_9 (by decide) rfl (fun c => ?_) (fun c => ?_)
    · have hF := hF.1 c
      refine g_iload_n 49 hC dX12_dearest_48 rfl 2 rfl rfl ?_
      exact g_ireturn hC ⟨_, rfl, hF⟩ dX12_dearest_49 (Nat.zero_le _) (Nat.zero_le _)
    · have hF := hF.2 c
      refine g_iload_n 13 hC dX12_dearest_12 rfl 1 rfl rfl ?_
      refine g_iload_n 14 hC dX12_dearest_13 rfl 3 rfl rfl ?_
      refine g_ishr 15 hC dX12_dearest_14 rfl ?_
      refine g_iconst 16 hC (1 : Int32) dX12_dearest_15 (by decide) rfl ?_
      refine g_iand 17 hC dX12_dearest_16 rfl ?_
      refine g_if_ne 20 42 hC dX12_dearest_17 (by decide) rfl (fun c => ?_) (fun c => ?_)
      · have hF := hF.1 c
        exact w_X12_dearest_b42 hC _ _ _ _ _ hK4 _ hF
      · have hF := hF.2 c
        refine g_iload_n 21 hC dX12_dearest_20 rfl 2 rfl rfl ?_
        refine g_iconst 22 hC (-1 : Int32) dX12_dearest_21 (by decide) rfl ?_
        refine g_icmp_eq 25 40 hC dX12_dearest_22 (by decide) rfl (fun c => ?_) (fun c => ?_)
        · have hF := hF.1 c
          refine g_sub [0, 1, 3] rfl ?_
          exact w_X12_dearest_b40 hC _ _ _ _ hK4 _ hF
        · have hF := hF.2 c
          refine g_aload_n 26 hC dX12_dearest_25 rfl 0 rfl rfl ?_
          refine gf_X12_28_12N 29 hC hF dX12_dearest_26 rfl (fun a_2 hF => ?_)
          refine g_iload_n 30 hC dX12_dearest_29 rfl 3 rfl rfl ?_
          refine g_iald 31 hC hF dX12_dearest_30 rfl (fun x_3 hF => ?_)
          refine g_aload_n 32 hC dX12_dearest_31 rfl 0 rfl rfl ?_
          refine gf_X12_28_12N 35 hC hF dX12_dearest_32 rfl (fun a_4 hF => ?_)
          refine g_iload_n 36 hC dX12_dearest_35 rfl 2 rfl rfl ?_
          refine g_iald 37 hC hF dX12_dearest_36 rfl (fun x_5 hF => ?_)
          refine g_icmp_le 40 42 hC dX12_dearest_37 (by decide) rfl (fun c => ?_) (fun c => ?_)
          · have hF := hF.1 c
            exact w_X12_dearest_b42 hC _ _ _ _ _ hK4 _ hF
          · have hF := hF.2 c
            refine g_sub [0, 1, 3] rfl ?_
            exact w_X12_dearest_b40 hC _ _ _ _ hK4 _ hF
def F_X12_dearest  (M : gM) (a0 : Nat) (x1 : Int32) (Q : Int32 → gM → Prop)  : Prop :=
  ∃ n_1, F_X12_dearest_b4 Q a0 x1 n_1 (-1 : Int32) (0 : Int32) M
theorem met_X12_dearest {M : gM} {a0 : Nat} {x1 : Int32} {Q : Int32 → gM → Prop} (hF : F_X12_dearest M a0 x1 Q) : gMt yX12_dearest (ws_ yX12_dearest cX12_dearest 4 (some .int)) rm_X12_dearest M [.ref a0, .int x1] (gQi Q) := by
  refine gMet (bytes := cX12_dearest) (maxL := 4) (ret := (some .int)) rfl rfl (by decide) (Nat.le_of_ble_eq_true rfl) (lv := [(0, .ref a0), (1, .int x1)]) rfl (fun G hC hin => ?_)
  unfold F_X12_dearest at hF
  refine g_iconst 1 hC (-1 : Int32) dX12_dearest_0 (by decide) rfl ?_
  refine g_istore_n 2 hC (lv' := [(2, .int _), (0, .ref _), (1, .int _)]) dX12_dearest_1 rfl rfl (by decide) rfl ?_
  refine g_iconst 3 hC (0 : Int32) dX12_dearest_2 (by decide) rfl ?_
  refine g_istore_n 4 hC (lv' := [(3, .int _), (2, .int _), (0, .ref _), (1, .int _)]) dX12_dearest_3 rfl rfl (by decide) rfl ?_
  refine g_sub [2, 3, 1, 0] rfl ?_
  obtain ⟨n_1, hF⟩ := hF
  exact w_X12_dearest_b4 hC _ _ n_1 _ _ _ hF
theorem hd_X12_dearest : yX12_dearest.cls = RX12 ∧ yX12_dearest.cls ≠ "java/lang/invoke/MethodHandle" ∧ yX12_dearest.cls ≠ "java/lang/invoke/VarHandle" ∧ (parseMethodDescriptor yX12_dearest.desc).map (fun d => d.parameters.length) = some 1 := by decide +kernel
theorem wl_X12_81 : GoodIn lw_all (wsV RX12 81 RX12 yX12_dearest (ws_ yX12_dearest cX12_dearest 4 (some .int))) := lw_V q1060 q1062 qs21 q92 q1063
abbrev rm_X12_fill : Room := { frames := 1, cells := 0, slots := 0, locals := 24 }
def F_X12_fill_b13 (Q : Int32 → gM → Prop)    (a0 : Nat) (x1 : Int32) : Nat → Int32 → Int32 → Int32 → Int32 → gM → Prop
  | 0, _, _, _, _, _ => False
  | n + 1, x2, x3, x4, x5, M =>
    gI M 12 a0 4 fun x_1 =>
    ((x_1 ≤ x5 →
      Q x2 M) ∧
      (¬ x_1 ≤ x5 →
      rc M 12 a0 ∧ F_X12_dearest M a0 x4 fun x_3 M_2 =>
      F_X0_standing M_2 x1 x_3 fun x_5 M_4 =>
      gN M_4 12 a0 5 fun a_6 =>
      aI M_4 .int a_6 x_3 fun x_7 =>
      dz x_7 <|
      aI M_4 .int (gl M_4 0) x_3 fun x_8 =>
      gN M_4 12 a0 5 fun a_9 =>
      aI M_4 .int a_9 x_3 fun x_10 =>
      (F_X12_fill_b13 Q a0 x1 n) (x2 + ((if (x3 / x_7) < x_5 then (x3 / x_7) else x_5) * x_8)) (x3 - ((if (x3 / x_7) < x_5 then (x3 / x_7) else x_5) * x_10)) (x4 ||| ((1 : Int32) <<< (x_3 &&& 31))) (x5 + (1 : Int32)) M_4))
theorem w_X12_fill_b13 {G : gG} {Q : Int32 → gM → Prop} (hC : gCx G cX12_fill 8 RX12 (some .int) (gQi Q) rm_X12_fill)  (a0 : Nat) (x1 : Int32)  : ∀ (n : Nat) (x2 : Int32) (x3 : Int32) (x4 : Int32) (x5 : Int32)   (M : gM), F_X12_fill_b13 Q a0 x1 n x2 x3 x4 x5 M → gAt G 0 0 M [(0, .ref a0), (1, .int x1), (2, .int x2), (3, .int x3), (4, .int x4), (5, .int x5)] 13 [] := by
  intro n
  induction n with
  | zero =>
    intro x2 x3 x4 x5 M hF
    exact hF.elim
  | succ n ih =>
    intro x2 x3 x4 x5 M hF
    have hK13 := ih
    unfold F_X12_fill_b13 at hF
    refine g_iload 15 hC dX12_fill_13 rfl 5 rfl ?_
    refine g_aload_n 16 hC dX12_fill_15 rfl 0 rfl rfl ?_
    refine gf_X12_41_12I 19 hC hF dX12_fill_16 rfl (fun x_1 hF => ?_)
    refine g_icmp_ge 22 90 hC dX12_fill_19 (by decide) rfl (fun c => ?_) (fun c => ?_)
    · have hF := hF.1 c
      refine g_iload_n 91 hC dX12_fill_90 rfl 2 rfl rfl ?_
      exact g_ireturn hC ⟨_, rfl, hF⟩ dX12_fill_91 (Nat.zero_le _) (Nat.zero_le _)
    · have hF := hF.2 c
      refine g_aload_n 23 hC dX12_fill_22 rfl 0 rfl rfl ?_
      refine g_iload 25 hC dX12_fill_23 rfl 4 rfl ?_
      refine g_cV (rest := []) wl_X12_81 hd_X12_dearest (ci := 12) rfl 28 hC hF.1 (met_X12_dearest hF.2) rfl ⟨Nat.le_of_ble_eq_true rfl, Nat.le_of_ble_eq_true rfl⟩ ⟨Nat.zero_le _, Nat.zero_le _⟩ rfl (Nat.le_of_ble_eq_true rfl) dX12_fill_25 rfl (g_ty_i 0 0 (Nat.le_refl _) (Nat.le_refl _) (fun x_3 M_2 hF => ?_))
      refine g_istore 30 hC (lv' := [(6, .int _), (0, .ref _), (1, .int _), (2, .int _), (3, .int _), (4, .int _), (5, .int _)]) dX12_fill_28 rfl (by decide) rfl ?_
      refine g_iload_n 31 hC dX12_fill_30 rfl 2 rfl rfl ?_
      refine g_iload 33 hC dX12_fill_31 rfl 0 rfl ?_
      refine g_cSN (rest := []) q984 q965 q69 q964 hd_X0_standing 36 hC (met_X0_standing hF) rfl ⟨Nat.le_of_ble_eq_true rfl, Nat.le_of_ble_eq_true rfl⟩ ⟨Nat.zero_le _, Nat.zero_le _⟩ rfl (Nat.le_of_ble_eq_true rfl) dX12_fill_33 rfl (g_ty_i 0 0 (Nat.le_refl _) (Nat.le_refl _) (fun x_5 M_4 hF => ?_))
      refine g_iload_n 37 hC dX12_fill_36 rfl 4 rfl rfl ?_
      refine g_aload_n 38 hC dX12_fill_37 rfl 1 rfl rfl ?_
      refine gf_X12_21_12N 41 hC hF dX12_fill_38 rfl (fun a_6 hF => ?_)
      refine g_iload 43 hC dX12_fill_41 rfl 0 rfl ?_
      refine g_iald 44 hC hF dX12_fill_43 rfl (fun x_7 hF => ?_)
      refine g_idiv 45 hC hF.1 dX12_fill_44 rfl ?_
      have hF := hF.2
      refine g_min 48 hC q1064 (Nat.le_of_ble_eq_true rfl) (Nat.le_of_ble_eq_true rfl) ⟨Nat.zero_le _, Nat.zero_le _⟩ dX12_fill_45 rfl ?_
      refine g_istore 50 hC (lv' := [(7, .int _), (6, .int _), (0, .ref _), (1, .int _), (2, .int _), (3, .int _), (4, .int _), (5, .int _)]) dX12_fill_48 rfl (by decide) rfl ?_
      refine g_iload_n 51 hC dX12_fill_50 rfl 4 rfl rfl ?_
      refine g_iload 53 hC dX12_fill_51 rfl 0 rfl ?_
      refine g_getsPN 56 hC q1027 dX12_fill_53 rfl ?_
      refine g_iload 58 hC dX12_fill_56 rfl 1 rfl ?_
      refine g_iald 59 hC hF dX12_fill_58 rfl (fun x_8 hF => ?_)
      refine g_imul 60 hC dX12_fill_59 rfl ?_
      refine g_iadd 61 hC dX12_fill_60 rfl ?_
      refine g_istore_n 62 hC (lv' := [(2, .int _), (7, .int _), (6, .int _), (0, .ref _), (1, .int _), (3, .int _), (4, .int _), (5, .int _)]) dX12_fill_61 rfl rfl (by decide) rfl ?_
      refine g_iload_n 63 hC dX12_fill_62 rfl 5 rfl rfl ?_
      refine g_iload 65 hC dX12_fill_63 rfl 1 rfl ?_
      refine g_aload_n 66 hC dX12_fill_65 rfl 3 rfl rfl ?_
      refine gf_X12_21_12N 69 hC hF dX12_fill_66 rfl (fun a_9 hF => ?_)
      refine g_iload 71 hC dX12_fill_69 rfl 2 rfl ?_
      refine g_iald 72 hC hF dX12_fill_71 rfl (fun x_10 hF => ?_)
      refine g_imul 73 hC dX12_fill_72 rfl ?_
      refine g_isub 74 hC dX12_fill_73 rfl ?_
      refine g_istore_n 75 hC (lv' := [(3, .int _), (2, .int _), (7, .int _), (6, .int _), (0, .ref _), (1, .int _), (4, .int _), (5, .int _)]) dX12_fill_74 rfl rfl (by decide) rfl ?_
      refine g_iload 77 hC dX12_fill_75 rfl 6 rfl ?_
      refine g_iconst 78 hC (1 : Int32) dX12_fill_77 (by decide) rfl ?_
      refine g_iload 80 hC dX12_fill_78 rfl 3 rfl ?_
      refine g_ishl 81 hC dX12_fill_80 rfl ?_
      refine g_ior 82 hC dX12_fill_81 rfl ?_
      refine g_istore 84 hC (lv' := [(4, .int _), (3, .int _), (2, .int _), (7, .int _), (6, .int _), (0, .ref _), (1, .int _), (5, .int _)]) dX12_fill_82 rfl (by decide) rfl ?_
      refine g_iinc 87 hC (x5 + (1 : Int32)) (lv' := [(5, .int _), (4, .int _), (3, .int _), (2, .int _), (7, .int _), (6, .int _), (0, .ref _), (1, .int _)]) dX12_fill_84 rfl 7 rfl rfl (by decide) rfl ?_
      refine g_goto 13 hC dX12_fill_87 (by decide) ?_
      refine g_sub [6, 7, 3, 2, 1, 0] rfl ?_
      exact hK13 _ _ _ _ _ hF
def F_X12_fill  (M : gM) (a0 : Nat) (x1 : Int32) (Q : Int32 → gM → Prop)  : Prop :=
  gI M 12 a0 2 fun x_1 =>
  ∃ n_2, F_X12_fill_b13 Q a0 x1 n_2 (0 : Int32) x_1 (0 : Int32) (0 : Int32) M
theorem met_X12_fill {M : gM} {a0 : Nat} {x1 : Int32} {Q : Int32 → gM → Prop} (hF : F_X12_fill M a0 x1 Q) : gMt yX12_fill (ws_ yX12_fill cX12_fill 8 (some .int)) rm_X12_fill M [.ref a0, .int x1] (gQi Q) := by
  refine gMet (bytes := cX12_fill) (maxL := 8) (ret := (some .int)) rfl rfl (by decide) (Nat.le_of_ble_eq_true rfl) (lv := [(0, .ref a0), (1, .int x1)]) rfl (fun G hC hin => ?_)
  unfold F_X12_fill at hF
  refine g_iconst 1 hC (0 : Int32) dX12_fill_0 (by decide) rfl ?_
  refine g_istore_n 2 hC (lv' := [(2, .int _), (0, .ref _), (1, .int _)]) dX12_fill_1 rfl rfl (by decide) rfl ?_
  refine g_aload_n 3 hC dX12_fill_2 rfl 1 rfl rfl ?_
  refine gf_X12_18_12I 6 hC hF dX12_fill_3 rfl (fun x_1 hF => ?_)
  refine g_istore_n 7 hC (lv' := [(3, .int _), (2, .int _), (0, .ref _), (1, .int _)]) dX12_fill_6 rfl rfl (by decide) rfl ?_
  refine g_iconst 8 hC (0 : Int32) dX12_fill_7 (by decide) rfl ?_
  refine g_istore 10 hC (lv' := [(4, .int _), (3, .int _), (2, .int _), (0, .ref _), (1, .int _)]) dX12_fill_8 rfl (by decide) rfl ?_
  refine g_iconst 11 hC (0 : Int32) dX12_fill_10 (by decide) rfl ?_
  refine g_istore 13 hC (lv' := [(5, .int _), (4, .int _), (3, .int _), (2, .int _), (0, .ref _), (1, .int _)]) dX12_fill_11 rfl (by decide) rfl ?_
  refine g_sub [4, 5, 3, 2, 1, 0] rfl ?_
  obtain ⟨n_2, hF⟩ := hF
  exact w_X12_fill_b13 hC _ _ n_2 _ _ _ _ _ hF
abbrev rm_X12_putting : Room := { frames := 2, cells := 0, slots := 0, locals := 55 }
def F_X12_putting_b26 (Q : Int64 → gM → Prop)    (a0 : Nat) (x3 : Int32) (a4 : Nat) (x5 : Int32) (j6 : Int64) (t0 : Int32)  (M : gM) : Prop :=
  rc M 12 a0 ∧ F_X12_holding M a0 x5 fun x_2 M_1 =>
  gI M_1 12 a0 4 fun x_3 =>
  rc M_1 12 a0 ∧ F_X12_comes M_1 a0 x5 a4 ((125 : Int32) * (x3 - (1 : Int32))) j6 fun j_5 M_4 =>
  Q (((t0 + x_2).toInt64 * (j6 <<< (((2 : Int32) * x_3).toInt64 &&& 63))) + j_5) M_4
theorem w_X12_putting_b26 {G : gG} {Q : Int64 → gM → Prop} (hC : gCx G cX12_putting 10 RX12 (some .long) (gQj Q) rm_X12_putting)  (a0 : Nat) (x3 : Int32) (a4 : Nat) (x5 : Int32) (j6 : Int64) (t0 : Int32)    (M : gM) (hF : F_X12_putting_b26 Q a0 x3 a4 x5 j6 t0 M) : gAt G 0 0 M [(0, .ref a0), (3, .int x3), (4, .ref a4), (5, .int x5), (6, .long j6)] 26 [.int t0] := by
  unfold F_X12_putting_b26 at hF
  refine g_aload_n 27 hC dX12_putting_26 rfl 0 rfl rfl ?_
  refine g_iload 29 hC dX12_putting_27 rfl 3 rfl ?_
  refine g_cV (rest := [_]) wl_X12_96 hd_X12_holding (ci := 12) rfl 32 hC hF.1 (met_X12_holding hF.2) rfl ⟨Nat.le_of_ble_eq_true rfl, Nat.le_of_ble_eq_true rfl⟩ ⟨Nat.zero_le _, Nat.zero_le _⟩ rfl (Nat.le_of_ble_eq_true rfl) dX12_putting_29 rfl (g_ty_i 0 0 (Nat.le_refl _) (Nat.le_refl _) (fun x_2 M_1 hF => ?_))
  refine g_iadd 33 hC dX12_putting_32 rfl ?_
  refine g_i2l 34 hC dX12_putting_33 rfl ?_
  refine g_lstore 36 hC (lv' := [(8, .long _), (0, .ref _), (3, .int _), (4, .ref _), (5, .int _), (6, .long _)]) dX12_putting_34 rfl (by decide) rfl ?_
  refine g_lload 38 hC dX12_putting_36 rfl 0 rfl ?_
  refine g_lload 40 hC dX12_putting_38 rfl 5 rfl ?_
  refine g_iconst 41 hC (2 : Int32) dX12_putting_40 (by decide) rfl ?_
  refine g_aload_n 42 hC dX12_putting_41 rfl 1 rfl rfl ?_
  refine gf_X12_41_12I 45 hC hF dX12_putting_42 rfl (fun x_3 hF => ?_)
  refine g_imul 46 hC dX12_putting_45 rfl ?_
  refine g_lshl 47 hC dX12_putting_46 rfl ?_
  refine g_lmul 48 hC dX12_putting_47 rfl ?_
  refine g_aload_n 49 hC dX12_putting_48 rfl 1 rfl rfl ?_
  refine g_iload 51 hC dX12_putting_49 rfl 4 rfl ?_
  refine g_aload 53 hC dX12_putting_51 rfl 3 rfl ?_
  refine g_bipush 55 hC (125 : Int32) dX12_putting_53 (by decide) rfl ?_
  refine g_iload_n 56 hC dX12_putting_55 rfl 2 rfl rfl ?_
  refine g_iconst 57 hC (1 : Int32) dX12_putting_56 (by decide) rfl ?_
  refine g_isub 58 hC dX12_putting_57 rfl ?_
  refine g_imul 59 hC dX12_putting_58 rfl ?_
  refine g_lload 61 hC dX12_putting_59 rfl 5 rfl ?_
  refine g_cV (rest := [_]) wl_X12_99 hd_X12_comes (ci := 12) rfl 64 hC hF.1 (met_X12_comes hF.2) rfl ⟨Nat.le_of_ble_eq_true rfl, Nat.le_of_ble_eq_true rfl⟩ ⟨Nat.zero_le _, Nat.zero_le _⟩ rfl (Nat.le_of_ble_eq_true rfl) dX12_putting_61 rfl (g_ty_j 0 0 (Nat.le_refl _) (Nat.le_refl _) (fun j_5 M_4 hF => ?_))
  refine g_ladd 65 hC dX12_putting_64 rfl ?_
  exact g_lreturn hC ⟨_, rfl, hF⟩ dX12_putting_65 (Nat.zero_le _) (Nat.zero_le _)
def F_X12_putting  (M : gM) (a0 : Nat) (x1 : Int32) (x2 : Int32) (x3 : Int32) (a4 : Nat) (Q : Int64 → gM → Prop)  : Prop :=
  rc M 12 a0 ∧ F_X12_scale M a0 (x3 - (1 : Int32)) fun j_2 M_1 =>
  ((¬ x2 = 0 →
    gI M_1 12 a0 1 fun x_3 =>
    F_X12_putting_b26 Q a0 x3 a4 (x1 - x2) j_2 x_3 M_1) ∧
    (x2 = 0 →
    F_X12_putting_b26 Q a0 x3 a4 (x1 - x2) j_2 (0 : Int32) M_1))
theorem met_X12_putting {M : gM} {a0 : Nat} {x1 : Int32} {x2 : Int32} {x3 : Int32} {a4 : Nat} {Q : Int64 → gM → Prop} (hF : F_X12_putting M a0 x1 x2 x3 a4 Q) : gMt yX12_putting (ws_ yX12_putting cX12_putting 10 (some .long)) rm_X12_putting M [.ref a0, .int x1, .int x2, .int x3, .ref a4] (gQj Q) := by
  refine gMet (bytes := cX12_putting) (maxL := 10) (ret := (some .long)) rfl rfl (by decide) (Nat.le_of_ble_eq_true rfl) (lv := [(0, .ref a0), (1, .int x1), (2, .int x2), (3, .int x3), (4, .ref a4)]) rfl (fun G hC hin => ?_)
  unfold F_X12_putting at hF
  refine g_iload_n 1 hC dX12_putting_0 rfl 1 rfl rfl ?_
  refine g_iload_n 2 hC dX12_putting_1 rfl 2 rfl rfl ?_
  refine g_isub 3 hC dX12_putting_2 rfl ?_
  refine g_istore 5 hC (lv' := [(5, .int _), (0, .ref _), (1, .int _), (2, .int _), (3, .int _), (4, .ref _)]) dX12_putting_3 rfl (by decide) rfl ?_
  refine g_aload_n 6 hC dX12_putting_5 rfl 1 rfl rfl ?_
  refine g_iload_n 7 hC dX12_putting_6 rfl 4 rfl rfl ?_
  refine g_iconst 8 hC (1 : Int32) dX12_putting_7 (by decide) rfl ?_
  refine g_isub 9 hC dX12_putting_8 rfl ?_
  refine g_cV (rest := []) wl_X12_92 hd_X12_scale (ci := 12) rfl 12 hC hF.1 (met_X12_scale hF.2) rfl ⟨Nat.le_of_ble_eq_true rfl, Nat.le_of_ble_eq_true rfl⟩ ⟨Nat.zero_le _, Nat.zero_le _⟩ rfl (Nat.le_of_ble_eq_true rfl) dX12_putting_9 rfl (g_ty_j 0 0 (Nat.le_refl _) (Nat.le_refl _) (fun j_2 M_1 hF => ?_))
  refine g_lstore 14 hC (lv' := [(6, .long _), (5, .int _), (0, .ref _), (1, .int _), (2, .int _), (3, .int _), (4, .ref _)]) dX12_putting_12 rfl (by decide) rfl ?_
  refine g_iload_n 15 hC dX12_putting_14 rfl 4 rfl rfl ?_
  refine g_if_ne 18 22 hC dX12_putting_15 (by decide) rfl (fun c => ?_) (fun c => ?_)
  · have hF := hF.1 c
    refine g_aload_n 23 hC dX12_putting_22 rfl 2 rfl rfl ?_
    refine gf_X12_15_12I 26 hC hF dX12_putting_23 rfl (fun x_3 hF => ?_)
    refine g_sub [2, 5, 6, 1, 0] rfl ?_
    exact w_X12_putting_b26 hC _ _ _ _ _ _ _ hF
  · have hF := hF.2 c
    refine g_iconst 19 hC (0 : Int32) dX12_putting_18 (by decide) rfl ?_
    refine g_goto 26 hC dX12_putting_19 (by decide) ?_
    refine g_sub [2, 5, 6, 1, 0] rfl ?_
    exact w_X12_putting_b26 hC _ _ _ _ _ _ _ hF
theorem hd_X12_putting : yX12_putting.cls = RX12 ∧ yX12_putting.cls ≠ "java/lang/invoke/MethodHandle" ∧ yX12_putting.cls ≠ "java/lang/invoke/VarHandle" ∧ (parseMethodDescriptor yX12_putting.desc).map (fun d => d.parameters.length) = some 4 := by decide +kernel
theorem wl_X12_102 : GoodIn lw_all (wsV RX12 102 RX12 yX12_putting (ws_ yX12_putting cX12_putting 10 (some .long))) := lw_V q1142 q1143 q1144 q92 q1145
abbrev rm_X12_sending : Room := { frames := 3, cells := 0, slots := 0, locals := 84 }
def F_X12_sending  (M : gM) (a0 : Nat) (x1 : Int32) (x2 : Int32) (x3 : Int32) (a4 : Nat) (Q : Int64 → gM → Prop)  : Prop :=
  rc M 12 a0 ∧ F_X12_putting M a0 x1 (0 : Int32) x3 a4 fun j_2 M_1 =>
  ((¬ x2 = 0 →
    gI M_1 12 a0 3 fun x_3 =>
    gI M_1 12 a0 3 fun x_4 =>
    rc M_1 12 a0 ∧ F_X12_putting M_1 a0 x1 x2 x3 a4 fun j_6 M_5 =>
    Q ((x_3.toInt64 * j_2) + (((4 : Int32) - x_4).toInt64 * j_6)) M_5) ∧
    (x2 = 0 →
    Q ((4 : Int64) * j_2) M_1))
theorem met_X12_sending {M : gM} {a0 : Nat} {x1 : Int32} {x2 : Int32} {x3 : Int32} {a4 : Nat} {Q : Int64 → gM → Prop} (hF : F_X12_sending M a0 x1 x2 x3 a4 Q) : gMt yX12_sending (ws_ yX12_sending cX12_sending 7 (some .long)) rm_X12_sending M [.ref a0, .int x1, .int x2, .int x3, .ref a4] (gQj Q) := by
  refine gMet (bytes := cX12_sending) (maxL := 7) (ret := (some .long)) rfl rfl (by decide) (Nat.le_of_ble_eq_true rfl) (lv := [(0, .ref a0), (1, .int x1), (2, .int x2), (3, .int x3), (4, .ref a4)]) rfl (fun G hC hin => ?_)
  unfold F_X12_sending at hF
  refine g_aload_n 1 hC dX12_sending_0 rfl 0 rfl rfl ?_
  refine g_iload_n 2 hC dX12_sending_1 rfl 1 rfl rfl ?_
  refine g_iconst 3 hC (0 : Int32) dX12_sending_2 (by decide) rfl ?_
  refine g_iload_n 4 hC dX12_sending_3 rfl 3 rfl rfl ?_
  refine g_aload 6 hC dX12_sending_4 rfl 4 rfl ?_
  refine g_cV (rest := []) wl_X12_102 hd_X12_putting (ci := 12) rfl 9 hC hF.1 (met_X12_putting hF.2) rfl ⟨Nat.le_of_ble_eq_true rfl, Nat.le_of_ble_eq_true rfl⟩ ⟨Nat.zero_le _, Nat.zero_le _⟩ rfl (Nat.le_of_ble_eq_true rfl) dX12_sending_6 rfl (g_ty_j 0 0 (Nat.le_refl _) (Nat.le_refl _) (fun j_2 M_1 hF => ?_))
  refine g_lstore 11 hC (lv' := [(5, .long _), (0, .ref _), (1, .int _), (2, .int _), (3, .int _), (4, .ref _)]) dX12_sending_9 rfl (by decide) rfl ?_
  refine g_iload_n 12 hC dX12_sending_11 rfl 3 rfl rfl ?_
  refine g_if_ne 15 24 hC dX12_sending_12 (by decide) rfl (fun c => ?_) (fun c => ?_)
  · have hF := hF.1 c
    refine g_aload_n 25 hC dX12_sending_24 rfl 1 rfl rfl ?_
    refine gf_X12_38_12I 28 hC hF dX12_sending_25 rfl (fun x_3 hF => ?_)
    refine g_i2l 29 hC dX12_sending_28 rfl ?_
    refine g_lload 31 hC dX12_sending_29 rfl 0 rfl ?_
    refine g_lmul 32 hC dX12_sending_31 rfl ?_
    refine g_iconst 33 hC (4 : Int32) dX12_sending_32 (by decide) rfl ?_
    refine g_aload_n 34 hC dX12_sending_33 rfl 1 rfl rfl ?_
    refine gf_X12_38_12I 37 hC hF dX12_sending_34 rfl (fun x_4 hF => ?_)
    refine g_isub 38 hC dX12_sending_37 rfl ?_
    refine g_i2l 39 hC dX12_sending_38 rfl ?_
    refine g_aload_n 40 hC dX12_sending_39 rfl 1 rfl rfl ?_
    refine g_iload_n 41 hC dX12_sending_40 rfl 2 rfl rfl ?_
    refine g_iload_n 42 hC dX12_sending_41 rfl 3 rfl rfl ?_
    refine g_iload_n 43 hC dX12_sending_42 rfl 4 rfl rfl ?_
    refine g_aload 45 hC dX12_sending_43 rfl 5 rfl ?_
    refine g_cV (rest := [_, _]) wl_X12_102 hd_X12_putting (ci := 12) rfl 48 hC hF.1 (met_X12_putting hF.2) rfl ⟨Nat.le_of_ble_eq_true rfl, Nat.le_of_ble_eq_true rfl⟩ ⟨Nat.zero_le _, Nat.zero_le _⟩ rfl (Nat.le_of_ble_eq_true rfl) dX12_sending_45 rfl (g_ty_j 0 0 (Nat.le_refl _) (Nat.le_refl _) (fun j_6 M_5 hF => ?_))
    refine g_lmul 49 hC dX12_sending_48 rfl ?_
    refine g_ladd 50 hC dX12_sending_49 rfl ?_
    exact g_lreturn hC ⟨_, rfl, hF⟩ dX12_sending_50 (Nat.zero_le _) (Nat.zero_le _)
  · have hF := hF.2 c
    refine g_ldc2 18 hC q1146 dX12_sending_15 rfl ?_
    refine g_lload 20 hC dX12_sending_18 rfl 0 rfl ?_
    refine g_lmul 21 hC dX12_sending_20 rfl ?_
    refine g_goto 50 hC dX12_sending_21 (by decide) ?_
    exact g_lreturn hC ⟨_, rfl, hF⟩ dX12_sending_50 (Nat.zero_le _) (Nat.zero_le _)
abbrev rm_X12_spreads : Room := { frames := 1, cells := 0, slots := 0, locals := 21 }
def F_X12_spreads_b114 (Q : gM → Prop)   (K3 : Int32 → gM → Prop) (K29 : Int64 → Int32 → Int32 → gM → Prop) (a0 : Nat) (a1 : Nat) (x2 : Int32) (j3 : Int64) (x5 : Int32) (j6 : Int64) (x9 : Int32) (t0 : Int32) (t1 : Int32)  (M : gM) : Prop :=
  K29 j6 (t0 + t1) (x9 + (1 : Int32)) M
theorem w_X12_spreads_b114 {G : gG} {Q : gM → Prop} (hC : gCx G cX12_spreads 11 RX12 none (gQv Q) rm_X12_spreads) (K3 : Int32 → gM → Prop) (K29 : Int64 → Int32 → Int32 → gM → Prop) (a0 : Nat) (a1 : Nat) (x2 : Int32) (j3 : Int64) (x5 : Int32) (j6 : Int64) (x9 : Int32) (t0 : Int32) (t1 : Int32) (hK3 : ∀ x5' M', K3 x5' M' → gAt G 0 0 M' [(0, .ref a0), (1, .ref a1), (2, .int x2), (3, .long j3), (5, .int x5')] 3 []) (hK29 : ∀ j6' x8' x9' M', K29 j6' x8' x9' M' → gAt G 0 0 M' [(0, .ref a0), (1, .ref a1), (2, .int x2), (3, .long j3), (5, .int x5), (6, .long j6'), (8, .int x8'), (9, .int x9')] 29 [])   (M : gM) (hF : F_X12_spreads_b114 Q K3 K29 a0 a1 x2 j3 x5 j6 x9 t0 t1 M) : gAt G 0 0 M [(0, .ref a0), (1, .ref a1), (2, .int x2), (3, .long j3), (5, .int x5), (6, .long j6), (9, .int x9)] 114 [.int t1, .int t0] := by
  unfold F_X12_spreads_b114 at hF
  refine g_iadd 115 hC dX12_spreads_114 rfl ?_
  refine g_istore 117 hC (lv' := [(8, .int _), (0, .ref _), (1, .ref _), (2, .int _), (3, .long _), (5, .int _), (6, .long _), (9, .int _)]) dX12_spreads_115 rfl (by decide) rfl ?_
  refine g_iinc 120 hC (x9 + (1 : Int32)) (lv' := [(9, .int _), (8, .int _), (0, .ref _), (1, .ref _), (2, .int _), (3, .long _), (5, .int _), (6, .long _)]) dX12_spreads_117 rfl 7 rfl rfl (by decide) rfl ?_
  refine g_goto 29 hC dX12_spreads_120 (by decide) ?_
  refine g_sub [2, 3, 4, 5, 6, 7, 1, 0] rfl ?_
  exact hK29 _ _ _ _ hF
def F_X12_spreads_b113 (Q : gM → Prop)   (K3 : Int32 → gM → Prop) (K29 : Int64 → Int32 → Int32 → gM → Prop) (a0 : Nat) (a1 : Nat) (x2 : Int32) (j3 : Int64) (x5 : Int32) (j6 : Int64) (x9 : Int32) (t0 : Int32)  (M : gM) : Prop :=
  F_X12_spreads_b114 Q K3 K29 a0 a1 x2 j3 x5 j6 x9 t0 (0 : Int32) M
theorem w_X12_spreads_b113 {G : gG} {Q : gM → Prop} (hC : gCx G cX12_spreads 11 RX12 none (gQv Q) rm_X12_spreads) (K3 : Int32 → gM → Prop) (K29 : Int64 → Int32 → Int32 → gM → Prop) (a0 : Nat) (a1 : Nat) (x2 : Int32) (j3 : Int64) (x5 : Int32) (j6 : Int64) (x9 : Int32) (t0 : Int32) (hK3 : ∀ x5' M', K3 x5' M' → gAt G 0 0 M' [(0, .ref a0), (1, .ref a1), (2, .int x2), (3, .long j3), (5, .int x5')] 3 []) (hK29 : ∀ j6' x8' x9' M', K29 j6' x8' x9' M' → gAt G 0 0 M' [(0, .ref a0), (1, .ref a1), (2, .int x2), (3, .long j3), (5, .int x5), (6, .long j6'), (8, .int x8'), (9, .int x9')] 29 [])   (M : gM) (hF : F_X12_spreads_b113 Q K3 K29 a0 a1 x2 j3 x5 j6 x9 t0 M) : gAt G 0 0 M [(0, .ref a0), (1, .ref a1), (2, .int x2), (3, .long j3), (5, .int x5), (6, .long j6), (9, .int x9)] 113 [.int t0] := by
  unfold F_X12_spreads_b113 at hF
  refine g_iconst 114 hC (0 : Int32) dX12_spreads_113 (by decide) rfl ?_
  exact w_X12_spreads_b114 hC _ _ _ _ _ _ _ _ _ _ _ hK3 hK29 _ hF
def F_X12_spreads_b84 (Q : gM → Prop)   (K3 : Int32 → gM → Prop) (K29 : Int64 → Int32 → Int32 → gM → Prop) (a0 : Nat) (a1 : Nat) (x2 : Int32) (j3 : Int64) (x5 : Int32) (x8 : Int32) (x9 : Int32) (x10 : Int32) (t0 : Int64) (t1 : Int64)  (M : gM) : Prop :=
  ((x10 = 0 →
    F_X12_spreads_b113 Q K3 K29 a0 a1 x2 j3 x5 (t0 * t1) x9 x8 M) ∧
    (¬ x10 = 0 →
    F_X0_standing M x2 x9 fun x_2 M_1 =>
    (((4 : Int32) ≤ x_2 →
      F_X12_spreads_b113 Q K3 K29 a0 a1 x2 j3 x5 (t0 * t1) x9 x8 M_1) ∧
      (¬ (4 : Int32) ≤ x_2 →
      aI M_1 .int (gl M_1 0) x9 fun x_3 =>
      F_X12_spreads_b114 Q K3 K29 a0 a1 x2 j3 x5 (t0 * t1) x9 x8 x_3 M_1))))
theorem w_X12_spreads_b84 {G : gG} {Q : gM → Prop} (hC : gCx G cX12_spreads 11 RX12 none (gQv Q) rm_X12_spreads) (K3 : Int32 → gM → Prop) (K29 : Int64 → Int32 → Int32 → gM → Prop) (a0 : Nat) (a1 : Nat) (x2 : Int32) (j3 : Int64) (x5 : Int32) (x8 : Int32) (x9 : Int32) (x10 : Int32) (t0 : Int64) (t1 : Int64) (hK3 : ∀ x5' M', K3 x5' M' → gAt G 0 0 M' [(0, .ref a0), (1, .ref a1), (2, .int x2), (3, .long j3), (5, .int x5')] 3 []) (hK29 : ∀ j6' x8' x9' M', K29 j6' x8' x9' M' → gAt G 0 0 M' [(0, .ref a0), (1, .ref a1), (2, .int x2), (3, .long j3), (5, .int x5), (6, .long j6'), (8, .int x8'), (9, .int x9')] 29 [])   (M : gM) (hF : F_X12_spreads_b84 Q K3 K29 a0 a1 x2 j3 x5 x8 x9 x10 t0 t1 M) : gAt G 0 0 M [(0, .ref a0), (1, .ref a1), (2, .int x2), (3, .long j3), (5, .int x5), (8, .int x8), (9, .int x9), (10, .int x10)] 84 [.long t1, .long t0] := by
  unfold F_X12_spreads_b84 at hF
  refine g_lmul 85 hC dX12_spreads_84 rfl ?_
  refine g_lstore 87 hC (lv' := [(6, .long _), (0, .ref _), (1, .ref _), (2, .int _), (3, .long _), (5, .int _), (8, .int _), (9, .int _), (10, .int _)]) dX12_spreads_85 rfl (by decide) rfl ?_
  refine g_iload 89 hC dX12_spreads_87 rfl 6 rfl ?_
  refine g_iload 91 hC dX12_spreads_89 rfl 8 rfl ?_
  refine g_if_eq 94 113 hC dX12_spreads_91 (by decide) rfl (fun c => ?_) (fun c => ?_)
  · have hF := hF.1 c
    refine g_sub [1, 2, 3, 4, 5, 0, 7] rfl ?_
    exact w_X12_spreads_b113 hC _ _ _ _ _ _ _ _ _ _ hK3 hK29 _ hF
  · have hF := hF.2 c
    refine g_iload_n 95 hC dX12_spreads_94 rfl 3 rfl rfl ?_
    refine g_iload 97 hC dX12_spreads_95 rfl 7 rfl ?_
    refine g_cSN (rest := [_]) q984 q965 q69 q964 hd_X0_standing 100 hC (met_X0_standing hF) rfl ⟨Nat.le_of_ble_eq_true rfl, Nat.le_of_ble_eq_true rfl⟩ ⟨Nat.zero_le _, Nat.zero_le _⟩ rfl (Nat.le_of_ble_eq_true rfl) dX12_spreads_97 rfl (g_ty_i 0 0 (Nat.le_refl _) (Nat.le_refl _) (fun x_2 M_1 hF => ?_))
    refine g_iconst 101 hC (4 : Int32) dX12_spreads_100 (by decide) rfl ?_
    refine g_icmp_ge 104 113 hC dX12_spreads_101 (by decide) rfl (fun c => ?_) (fun c => ?_)
    · have hF := hF.1 c
      refine g_sub [1, 2, 3, 4, 5, 0, 7] rfl ?_
      exact w_X12_spreads_b113 hC _ _ _ _ _ _ _ _ _ _ hK3 hK29 _ hF
    · have hF := hF.2 c
      refine g_getsPN 107 hC q1027 dX12_spreads_104 rfl ?_
      refine g_iload 109 hC dX12_spreads_107 rfl 7 rfl ?_
      refine g_iald 110 hC hF dX12_spreads_109 rfl (fun x_3 hF => ?_)
      refine g_goto 114 hC dX12_spreads_110 (by decide) ?_
      refine g_sub [1, 2, 3, 4, 5, 0, 7] rfl ?_
      exact w_X12_spreads_b114 hC _ _ _ _ _ _ _ _ _ _ _ hK3 hK29 _ hF
def F_X12_spreads_b54 (Q : gM → Prop)   (K3 : Int32 → gM → Prop) (K29 : Int64 → Int32 → Int32 → gM → Prop) (a0 : Nat) (a1 : Nat) (x2 : Int32) (j3 : Int64) (x5 : Int32) (j6 : Int64) (x8 : Int32) (x9 : Int32) (t0 : Int32)  (M : gM) : Prop :=
  ((t0 = 0 →
    gN M 12 a0 6 fun a_1 =>
    aI M .int a_1 x9 fun x_2 =>
    F_X12_spreads_b84 Q K3 K29 a0 a1 x2 j3 x5 x8 x9 t0 j6 (((4 : Int32) - x_2).toInt64) M) ∧
    (¬ t0 = 0 →
    gN M 12 a0 6 fun a_3 =>
    aI M .int a_3 x9 fun x_4 =>
    F_X12_spreads_b84 Q K3 K29 a0 a1 x2 j3 x5 x8 x9 t0 j6 x_4.toInt64 M))
theorem w_X12_spreads_b54 {G : gG} {Q : gM → Prop} (hC : gCx G cX12_spreads 11 RX12 none (gQv Q) rm_X12_spreads) (K3 : Int32 → gM → Prop) (K29 : Int64 → Int32 → Int32 → gM → Prop) (a0 : Nat) (a1 : Nat) (x2 : Int32) (j3 : Int64) (x5 : Int32) (j6 : Int64) (x8 : Int32) (x9 : Int32) (t0 : Int32) (hK3 : ∀ x5' M', K3 x5' M' → gAt G 0 0 M' [(0, .ref a0), (1, .ref a1), (2, .int x2), (3, .long j3), (5, .int x5')] 3 []) (hK29 : ∀ j6' x8' x9' M', K29 j6' x8' x9' M' → gAt G 0 0 M' [(0, .ref a0), (1, .ref a1), (2, .int x2), (3, .long j3), (5, .int x5), (6, .long j6'), (8, .int x8'), (9, .int x9')] 29 [])   (M : gM) (hF : F_X12_spreads_b54 Q K3 K29 a0 a1 x2 j3 x5 j6 x8 x9 t0 M) : gAt G 0 0 M [(0, .ref a0), (1, .ref a1), (2, .int x2), (3, .long j3), (5, .int x5), (6, .long j6), (8, .int x8), (9, .int x9)] 54 [.int t0] := by
  unfold F_X12_spreads_b54 at hF
  refine g_istore 56 hC (lv' := [(10, .int _), (0, .ref _), (1, .ref _), (2, .int _), (3, .long _), (5, .int _), (6, .long _), (8, .int _), (9, .int _)]) dX12_spreads_54 rfl (by decide) rfl ?_
  refine g_lload 58 hC dX12_spreads_56 rfl 6 rfl ?_
  refine g_iload 60 hC dX12_spreads_58 rfl 0 rfl ?_
  refine g_if_eq 63 74 hC dX12_spreads_60 (by decide) rfl (fun c => ?_) (fun c => ?_)
  · have hF := hF.1 c
    refine g_iconst 75 hC (4 : Int32) dX12_spreads_74 (by decide) rfl ?_
    refine g_aload_n 76 hC dX12_spreads_75 rfl 1 rfl rfl ?_
    refine gf_X12_25_12N 79 hC hF dX12_spreads_76 rfl (fun a_1 hF => ?_)
    refine g_iload 81 hC dX12_spreads_79 rfl 8 rfl ?_
    refine g_iald 82 hC hF dX12_spreads_81 rfl (fun x_2 hF => ?_)
    refine g_isub 83 hC dX12_spreads_82 rfl ?_
    refine g_i2l 84 hC dX12_spreads_83 rfl ?_
    refine g_sub [1, 2, 3, 4, 5, 7, 8, 0] rfl ?_
    exact w_X12_spreads_b84 hC _ _ _ _ _ _ _ _ _ _ _ _ hK3 hK29 _ hF
  · have hF := hF.2 c
    refine g_aload_n 64 hC dX12_spreads_63 rfl 1 rfl rfl ?_
    refine gf_X12_25_12N 67 hC hF dX12_spreads_64 rfl (fun a_3 hF => ?_)
    refine g_iload 69 hC dX12_spreads_67 rfl 8 rfl ?_
    refine g_iald 70 hC hF dX12_spreads_69 rfl (fun x_4 hF => ?_)
    refine g_i2l 71 hC dX12_spreads_70 rfl ?_
    refine g_goto 84 hC dX12_spreads_71 (by decide) ?_
    refine g_sub [1, 2, 3, 4, 5, 7, 8, 0] rfl ?_
    exact w_X12_spreads_b84 hC _ _ _ _ _ _ _ _ _ _ _ _ hK3 hK29 _ hF
def F_X12_spreads_b29 (Q : gM → Prop)   (K3 : Int32 → gM → Prop) (a0 : Nat) (a1 : Nat) (x2 : Int32) (j3 : Int64) (x5 : Int32) : Nat → Int64 → Int32 → Int32 → gM → Prop
  | 0, _, _, _, _ => False
  | n + 1, j6, x8, x9, M =>
    gI M 12 a0 4 fun x_1 =>
    ((x_1 ≤ x9 →
      aJ M a1 x8 fun j_2 =>
      uJ M a1 x8 (j_2 + j6) fun M_3 =>
      K3 (x5 + (1 : Int32)) M_3) ∧
      (¬ x_1 ≤ x9 →
      ((¬ ((x5 >>> (x9 &&& 31)) &&& (1 : Int32)) = (1 : Int32) →
        F_X12_spreads_b54 Q K3 (F_X12_spreads_b29 Q K3 a0 a1 x2 j3 x5 n) a0 a1 x2 j3 x5 j6 x8 x9 (0 : Int32) M) ∧
        (((x5 >>> (x9 &&& 31)) &&& (1 : Int32)) = (1 : Int32) →
        F_X12_spreads_b54 Q K3 (F_X12_spreads_b29 Q K3 a0 a1 x2 j3 x5 n) a0 a1 x2 j3 x5 j6 x8 x9 (1 : Int32) M))))
theorem w_X12_spreads_b29 {G : gG} {Q : gM → Prop} (hC : gCx G cX12_spreads 11 RX12 none (gQv Q) rm_X12_spreads) (K3 : Int32 → gM → Prop) (a0 : Nat) (a1 : Nat) (x2 : Int32) (j3 : Int64) (x5 : Int32) (hK3 : ∀ x5' M', K3 x5' M' → gAt G 0 0 M' [(0, .ref a0), (1, .ref a1), (2, .int x2), (3, .long j3), (5, .int x5')] 3 []) : ∀ (n : Nat) (j6 : Int64) (x8 : Int32) (x9 : Int32)   (M : gM), F_X12_spreads_b29 Q K3 a0 a1 x2 j3 x5 n j6 x8 x9 M → gAt G 0 0 M [(0, .ref a0), (1, .ref a1), (2, .int x2), (3, .long j3), (5, .int x5), (6, .long j6), (8, .int x8), (9, .int x9)] 29 [] := by
  intro n
  induction n with
  | zero =>
    intro j6 x8 x9 M hF
    exact hF.elim
  | succ n ih =>
    intro j6 x8 x9 M hF
    have hK29 := ih
    unfold F_X12_spreads_b29 at hF
    refine g_iload 31 hC dX12_spreads_29 rfl 7 rfl ?_
    refine g_aload_n 32 hC dX12_spreads_31 rfl 0 rfl rfl ?_
    refine gf_X12_41_12I 35 hC hF dX12_spreads_32 rfl (fun x_1 hF => ?_)
    refine g_icmp_ge 38 123 hC dX12_spreads_35 (by decide) rfl (fun c => ?_) (fun c => ?_)
    · have hF := hF.1 c
      refine g_aload_n 124 hC dX12_spreads_123 rfl 1 rfl rfl ?_
      refine g_iload 126 hC dX12_spreads_124 rfl 6 rfl ?_
      refine g_dup2_11 127 hC dX12_spreads_126 rfl rfl rfl ?_
      refine g_lald 128 hC hF dX12_spreads_127 rfl (fun j_2 hF => ?_)
      refine g_lload 130 hC dX12_spreads_128 rfl 5 rfl ?_
      refine g_ladd 131 hC dX12_spreads_130 rfl ?_
      refine g_last 132 hC hF dX12_spreads_131 rfl (fun M_3 hF => ?_)
      refine g_iinc 135 hC (x5 + (1 : Int32)) (lv' := [(5, .int _), (0, .ref _), (1, .ref _), (2, .int _), (3, .long _), (6, .long _), (8, .int _), (9, .int _)]) dX12_spreads_132 rfl 4 rfl rfl (by decide) rfl ?_
      refine g_goto 3 hC dX12_spreads_135 (by decide) ?_
      refine g_sub [1, 2, 3, 4, 0] rfl ?_
      exact hK3 _ _ hF
    · have hF := hF.2 c
      refine g_iload 40 hC dX12_spreads_38 rfl 4 rfl ?_
      refine g_iload 42 hC dX12_spreads_40 rfl 7 rfl ?_
      refine g_ishr 43 hC dX12_spreads_42 rfl ?_
      refine g_iconst 44 hC (1 : Int32) dX12_spreads_43 (by decide) rfl ?_
      refine g_iand 45 hC dX12_spreads_44 rfl ?_
      refine g_iconst 46 hC (1 : Int32) dX12_spreads_45 (by decide) rfl ?_
      refine g_icmp_ne 49 53 hC dX12_spreads_46 (by decide) rfl (fun c => ?_) (fun c => ?_)
      · have hF := hF.1 c
        refine g_iconst 54 hC (0 : Int32) dX12_spreads_53 (by decide) rfl ?_
        exact w_X12_spreads_b54 hC _ _ _ _ _ _ _ _ _ _ _ hK3 hK29 _ hF
      · have hF := hF.2 c
        refine g_iconst 50 hC (1 : Int32) dX12_spreads_49 (by decide) rfl ?_
        refine g_goto 54 hC dX12_spreads_50 (by decide) ?_
        exact w_X12_spreads_b54 hC _ _ _ _ _ _ _ _ _ _ _ hK3 hK29 _ hF
def F_X12_spreads_b3 (Q : gM → Prop)    (a0 : Nat) (a1 : Nat) (x2 : Int32) (j3 : Int64) : Nat → Int32 → gM → Prop
  | 0, _, _ => False
  | n + 1, x5, M =>
    gI M 12 a0 4 fun x_1 =>
    ((((1 : Int32) <<< (x_1 &&& 31)) ≤ x5 →
      Q M) ∧
      (¬ ((1 : Int32) <<< (x_1 &&& 31)) ≤ x5 →
      ((j3 ≤ (0 : Int64) →
        Q M) ∧
        (¬ j3 ≤ (0 : Int64) →
        ∃ n_2, F_X12_spreads_b29 Q (F_X12_spreads_b3 Q a0 a1 x2 j3 n) a0 a1 x2 j3 x5 n_2 j3 x2 (0 : Int32) M))))
theorem w_X12_spreads_b3 {G : gG} {Q : gM → Prop} (hC : gCx G cX12_spreads 11 RX12 none (gQv Q) rm_X12_spreads)  (a0 : Nat) (a1 : Nat) (x2 : Int32) (j3 : Int64)  : ∀ (n : Nat) (x5 : Int32)   (M : gM), F_X12_spreads_b3 Q a0 a1 x2 j3 n x5 M → gAt G 0 0 M [(0, .ref a0), (1, .ref a1), (2, .int x2), (3, .long j3), (5, .int x5)] 3 [] := by
  intro n
  induction n with
  | zero =>
    intro x5 M hF
    exact hF.elim
  | succ n ih =>
    intro x5 M hF
    have hK3 := ih
    unfold F_X12_spreads_b3 at hF
    refine g_iload 5 hC dX12_spreads_3 rfl 4 rfl ?_
    refine g_iconst 6 hC (1 : Int32) dX12_spreads_5 (by decide) rfl ?_
    refine g_aload_n 7 hC dX12_spreads_6 rfl 0 rfl rfl ?_
    refine gf_X12_41_12I 10 hC hF dX12_spreads_7 rfl (fun x_1 hF => ?_)
    refine g_ishl 11 hC dX12_spreads_10 rfl ?_
    refine g_icmp_ge 14 138 hC dX12_spreads_11 (by decide) rfl (fun c => ?_) (fun c => ?_)
    · have hF := hF.1 c
      exact g_return hC ⟨rfl, hF⟩ dX12_spreads_138 (Nat.zero_le _) (Nat.zero_le _)
    · have hF := hF.2 c
      refine g_lload_n 15 hC dX12_spreads_14 rfl 3 rfl rfl ?_
      refine g_lconst 16 hC (0 : Int64) dX12_spreads_15 (by decide) rfl ?_
      refine g_lcmp_le 20 138 hC dX12_spreads_16 rfl dX12_spreads_17 (by decide) rfl (fun c => ?_) (fun c => ?_)
      · have hF := hF.1 c
        exact g_return hC ⟨rfl, hF⟩ dX12_spreads_138 (Nat.zero_le _) (Nat.zero_le _)
      · have hF := hF.2 c
        refine g_lload_n 21 hC dX12_spreads_20 rfl 3 rfl rfl ?_
        refine g_lstore 23 hC (lv' := [(6, .long _), (0, .ref _), (1, .ref _), (2, .int _), (3, .long _), (5, .int _)]) dX12_spreads_21 rfl (by decide) rfl ?_
        refine g_iload_n 24 hC dX12_spreads_23 rfl 3 rfl rfl ?_
        refine g_istore 26 hC (lv' := [(8, .int _), (6, .long _), (0, .ref _), (1, .ref _), (2, .int _), (3, .long _), (5, .int _)]) dX12_spreads_24 rfl (by decide) rfl ?_
        refine g_iconst 27 hC (0 : Int32) dX12_spreads_26 (by decide) rfl ?_
        refine g_istore 29 hC (lv' := [(9, .int _), (8, .int _), (6, .long _), (0, .ref _), (1, .ref _), (2, .int _), (3, .long _), (5, .int _)]) dX12_spreads_27 rfl (by decide) rfl ?_
        refine g_sub [3, 4, 5, 6, 7, 2, 1, 0] rfl ?_
        obtain ⟨n_2, hF⟩ := hF
        exact w_X12_spreads_b29 hC _ _ _ _ _ _ hK3 n_2 _ _ _ _ hF
def F_X12_spreads  (M : gM) (a0 : Nat) (a1 : Nat) (x2 : Int32) (j3 : Int64) (Q : gM → Prop)  : Prop :=
  ∃ n_1, F_X12_spreads_b3 Q a0 a1 x2 j3 n_1 (0 : Int32) M
theorem met_X12_spreads {M : gM} {a0 : Nat} {a1 : Nat} {x2 : Int32} {j3 : Int64} {Q : gM → Prop} (hF : F_X12_spreads M a0 a1 x2 j3 Q) : gMt yX12_spreads (ws_ yX12_spreads cX12_spreads 11 none) rm_X12_spreads M [.ref a0, .ref a1, .int x2, .long j3] (gQv Q) := by
  refine gMet (bytes := cX12_spreads) (maxL := 11) (ret := none) rfl rfl (by decide) (Nat.le_of_ble_eq_true rfl) (lv := [(0, .ref a0), (1, .ref a1), (2, .int x2), (3, .long j3)]) rfl (fun G hC hin => ?_)
  unfold F_X12_spreads at hF
  refine g_iconst 1 hC (0 : Int32) dX12_spreads_0 (by decide) rfl ?_
  refine g_istore 3 hC (lv' := [(5, .int _), (0, .ref _), (1, .ref _), (2, .int _), (3, .long _)]) dX12_spreads_1 rfl (by decide) rfl ?_
  refine g_sub [1, 2, 3, 4, 0] rfl ?_
  obtain ⟨n_1, hF⟩ := hF
  exact w_X12_spreads_b3 hC _ _ _ _ n_1 _ _ hF
abbrev rm_X12_chosen : Room := { frames := 3, cells := 0, slots := 0, locals := 84 }
def F_X12_chosen_b72 (Q : Int32 → gM → Prop)   (K16 : Int32 → Int64 → Int32 → gM → Prop) (a0 : Nat) (x1 : Int32) (x2 : Int32) (a3 : Nat) (x4 : Int32) (x5 : Int32) (j6 : Int64) (x8 : Int32)   (M : gM) : Prop :=
  K16 x5 j6 (x8 + (1 : Int32)) M
theorem w_X12_chosen_b72 {G : gG} {Q : Int32 → gM → Prop} (hC : gCx G cX12_chosen 11 RX12 (some .int) (gQi Q) rm_X12_chosen) (K16 : Int32 → Int64 → Int32 → gM → Prop) (a0 : Nat) (x1 : Int32) (x2 : Int32) (a3 : Nat) (x4 : Int32) (x5 : Int32) (j6 : Int64) (x8 : Int32)  (hK16 : ∀ x5' j6' x8' M', K16 x5' j6' x8' M' → gAt G 0 0 M' [(0, .ref a0), (1, .int x1), (2, .int x2), (3, .ref a3), (4, .int x4), (5, .int x5'), (6, .long j6'), (8, .int x8')] 16 [])   (M : gM) (hF : F_X12_chosen_b72 Q K16 a0 x1 x2 a3 x4 x5 j6 x8 M) : gAt G 0 0 M [(0, .ref a0), (1, .int x1), (2, .int x2), (3, .ref a3), (4, .int x4), (5, .int x5), (6, .long j6), (8, .int x8)] 72 [] := by
  unfold F_X12_chosen_b72 at hF
  refine g_iinc 75 hC (x8 + (1 : Int32)) (lv' := [(8, .int _), (0, .ref _), (1, .int _), (2, .int _), (3, .ref _), (4, .int _), (5, .int _), (6, .long _)]) dX12_chosen_72 rfl 7 rfl rfl (by decide) rfl ?_
  refine g_goto 16 hC dX12_chosen_75 (by decide) ?_
  refine g_sub [1, 2, 3, 4, 5, 6, 7, 0] rfl ?_
  exact hK16 _ _ _ _ hF
def F_X12_chosen_b64 (Q : Int32 → gM → Prop)   (K16 : Int32 → Int64 → Int32 → gM → Prop) (a0 : Nat) (x1 : Int32) (x2 : Int32) (a3 : Nat) (x4 : Int32) (x8 : Int32) (j9 : Int64)   (M : gM) : Prop :=
  F_X12_chosen_b72 Q K16 a0 x1 x2 a3 x4 x8 j9 x8 M
theorem w_X12_chosen_b64 {G : gG} {Q : Int32 → gM → Prop} (hC : gCx G cX12_chosen 11 RX12 (some .int) (gQi Q) rm_X12_chosen) (K16 : Int32 → Int64 → Int32 → gM → Prop) (a0 : Nat) (x1 : Int32) (x2 : Int32) (a3 : Nat) (x4 : Int32) (x8 : Int32) (j9 : Int64)  (hK16 : ∀ x5' j6' x8' M', K16 x5' j6' x8' M' → gAt G 0 0 M' [(0, .ref a0), (1, .int x1), (2, .int x2), (3, .ref a3), (4, .int x4), (5, .int x5'), (6, .long j6'), (8, .int x8')] 16 [])   (M : gM) (hF : F_X12_chosen_b64 Q K16 a0 x1 x2 a3 x4 x8 j9 M) : gAt G 0 0 M [(0, .ref a0), (1, .int x1), (2, .int x2), (3, .ref a3), (4, .int x4), (8, .int x8), (9, .long j9)] 64 [] := by
  unfold F_X12_chosen_b64 at hF
  refine g_lload 66 hC dX12_chosen_64 rfl 6 rfl ?_
  refine g_lstore 68 hC (lv' := [(6, .long _), (0, .ref _), (1, .int _), (2, .int _), (3, .ref _), (4, .int _), (8, .int _), (9, .long _)]) dX12_chosen_66 rfl (by decide) rfl ?_
  refine g_iload 70 hC dX12_chosen_68 rfl 6 rfl ?_
  refine g_istore 72 hC (lv' := [(5, .int _), (6, .long _), (0, .ref _), (1, .int _), (2, .int _), (3, .ref _), (4, .int _), (8, .int _), (9, .long _)]) dX12_chosen_70 rfl (by decide) rfl ?_
  refine g_sub [2, 3, 4, 5, 6, 0, 1, 7] rfl ?_
  exact w_X12_chosen_b72 hC _ _ _ _ _ _ _ _ _ hK16 _ hF
def F_X12_chosen_b16 (Q : Int32 → gM → Prop)    (a0 : Nat) (x1 : Int32) (x2 : Int32) (a3 : Nat) (x4 : Int32) : Nat → Int32 → Int64 → Int32 → gM → Prop
  | 0, _, _, _, _ => False
  | n + 1, x5, j6, x8, M =>
    ((x1 < x8 →
      Q x5 M) ∧
      (¬ x1 < x8 →
      rc M 12 a0 ∧ F_X12_isLoad M a0 x8 x1 fun x_2 M_1 =>
      ((¬ x_2 = 0 →
        rc M_1 12 a0 ∧ F_X12_putting M_1 a0 x1 x8 x2 a3 fun j_4 M_3 =>
        ((j_4 < j6 →
          F_X12_chosen_b64 Q (F_X12_chosen_b16 Q a0 x1 x2 a3 x4 n) a0 x1 x2 a3 x4 x8 j_4 M_3) ∧
          (¬ j_4 < j6 →
          ((x4 = 0 →
            F_X12_chosen_b72 Q (F_X12_chosen_b16 Q a0 x1 x2 a3 x4 n) a0 x1 x2 a3 x4 x5 j6 x8 M_3) ∧
            (¬ x4 = 0 →
            ((¬ x5 = 0 →
              F_X12_chosen_b72 Q (F_X12_chosen_b16 Q a0 x1 x2 a3 x4 n) a0 x1 x2 a3 x4 x5 j6 x8 M_3) ∧
              (x5 = 0 →
              F_X12_chosen_b64 Q (F_X12_chosen_b16 Q a0 x1 x2 a3 x4 n) a0 x1 x2 a3 x4 x8 j_4 M_3))))))) ∧
        (x_2 = 0 →
        F_X12_chosen_b72 Q (F_X12_chosen_b16 Q a0 x1 x2 a3 x4 n) a0 x1 x2 a3 x4 x5 j6 x8 M_1))))
theorem w_X12_chosen_b16 {G : gG} {Q : Int32 → gM → Prop} (hC : gCx G cX12_chosen 11 RX12 (some .int) (gQi Q) rm_X12_chosen)  (a0 : Nat) (x1 : Int32) (x2 : Int32) (a3 : Nat) (x4 : Int32)  : ∀ (n : Nat) (x5 : Int32) (j6 : Int64) (x8 : Int32)   (M : gM), F_X12_chosen_b16 Q a0 x1 x2 a3 x4 n x5 j6 x8 M → gAt G 0 0 M [(0, .ref a0), (1, .int x1), (2, .int x2), (3, .ref a3), (4, .int x4), (5, .int x5), (6, .long j6), (8, .int x8)] 16 [] := by
  intro n
  induction n with
  | zero =>
    intro x5 j6 x8 M hF
    exact hF.elim
  | succ n ih =>
    intro x5 j6 x8 M hF
    have hK16 := ih
    unfold F_X12_chosen_b16 at hF
    refine g_iload 18 hC dX12_chosen_16 rfl 7 rfl ?_
    refine g_iload_n 19 hC dX12_chosen_18 rfl 1 rfl rfl ?_
    refine g_icmp_gt 22 78 hC dX12_chosen_19 (by decide) rfl (fun c => ?_) (fun c => ?_)
    · have hF := hF.1 c
      refine g_iload 80 hC dX12_chosen_78 rfl 5 rfl ?_
      exact g_ireturn hC ⟨_, rfl, hF⟩ dX12_chosen_80 (Nat.zero_le _) (Nat.zero_le _)
    · have hF := hF.2 c
      refine g_aload_n 23 hC dX12_chosen_22 rfl 0 rfl rfl ?_
      refine g_iload 25 hC dX12_chosen_23 rfl 7 rfl ?_
      refine g_iload_n 26 hC dX12_chosen_25 rfl 1 rfl rfl ?_
      refine g_cV (rest := []) wl_X12_128 hd_X12_isLoad (ci := 12) rfl 29 hC hF.1 (met_X12_isLoad hF.2) rfl ⟨Nat.le_of_ble_eq_true rfl, Nat.le_of_ble_eq_true rfl⟩ ⟨Nat.zero_le _, Nat.zero_le _⟩ rfl (Nat.le_of_ble_eq_true rfl) dX12_chosen_26 rfl (g_ty_i 0 0 (Nat.le_refl _) (Nat.le_refl _) (fun x_2 M_1 hF => ?_))
      refine g_if_ne 32 35 hC dX12_chosen_29 (by decide) rfl (fun c => ?_) (fun c => ?_)
      · have hF := hF.1 c
        refine g_aload_n 36 hC dX12_chosen_35 rfl 0 rfl rfl ?_
        refine g_iload_n 37 hC dX12_chosen_36 rfl 1 rfl rfl ?_
        refine g_iload 39 hC dX12_chosen_37 rfl 7 rfl ?_
        refine g_iload_n 40 hC dX12_chosen_39 rfl 2 rfl rfl ?_
        refine g_aload_n 41 hC dX12_chosen_40 rfl 3 rfl rfl ?_
        refine g_cV (rest := []) wl_X12_102 hd_X12_putting (ci := 12) rfl 44 hC hF.1 (met_X12_putting hF.2) rfl ⟨Nat.le_of_ble_eq_true rfl, Nat.le_of_ble_eq_true rfl⟩ ⟨Nat.zero_le _, Nat.zero_le _⟩ rfl (Nat.le_of_ble_eq_true rfl) dX12_chosen_41 rfl (g_ty_j 0 0 (Nat.le_refl _) (Nat.le_refl _) (fun j_4 M_3 hF => ?_))
        refine g_lstore 46 hC (lv' := [(9, .long _), (0, .ref _), (1, .int _), (2, .int _), (3, .ref _), (4, .int _), (5, .int _), (6, .long _), (8, .int _)]) dX12_chosen_44 rfl (by decide) rfl ?_
        refine g_lload 48 hC dX12_chosen_46 rfl 0 rfl ?_
        refine g_lload 50 hC dX12_chosen_48 rfl 7 rfl ?_
        refine g_lcmp_lt 54 64 hC dX12_chosen_50 rfl dX12_chosen_51 (by decide) rfl (fun c => ?_) (fun c => ?_)
        · have hF := hF.1 c
          refine g_sub [1, 2, 3, 4, 5, 8, 0] rfl ?_
          exact w_X12_chosen_b64 hC _ _ _ _ _ _ _ _ hK16 _ hF
        · have hF := hF.2 c
          refine g_iload 56 hC dX12_chosen_54 rfl 5 rfl ?_
          refine g_if_eq 59 72 hC dX12_chosen_56 (by decide) rfl (fun c => ?_) (fun c => ?_)
          · have hF := hF.1 c
            refine g_sub [1, 2, 3, 4, 5, 6, 7, 8] rfl ?_
            exact w_X12_chosen_b72 hC _ _ _ _ _ _ _ _ _ hK16 _ hF
          · have hF := hF.2 c
            refine g_iload 61 hC dX12_chosen_59 rfl 6 rfl ?_
            refine g_if_ne 64 72 hC dX12_chosen_61 (by decide) rfl (fun c => ?_) (fun c => ?_)
            · have hF := hF.1 c
              refine g_sub [1, 2, 3, 4, 5, 6, 7, 8] rfl ?_
              exact w_X12_chosen_b72 hC _ _ _ _ _ _ _ _ _ hK16 _ hF
            · have hF := hF.2 c
              refine g_sub [1, 2, 3, 4, 5, 8, 0] rfl ?_
              exact w_X12_chosen_b64 hC _ _ _ _ _ _ _ _ hK16 _ hF
      · have hF := hF.2 c
        refine g_goto 72 hC dX12_chosen_32 (by decide) ?_
        exact w_X12_chosen_b72 hC _ _ _ _ _ _ _ _ _ hK16 _ hF
def F_X12_chosen  (M : gM) (a0 : Nat) (x1 : Int32) (x2 : Int32) (a3 : Nat) (x4 : Int32) (Q : Int32 → gM → Prop)  : Prop :=
  rc M 12 a0 ∧ F_X12_putting M a0 x1 (0 : Int32) x2 a3 fun j_2 M_1 =>
  ∃ n_3, F_X12_chosen_b16 Q a0 x1 x2 a3 x4 n_3 (0 : Int32) j_2 (1 : Int32) M_1
theorem met_X12_chosen {M : gM} {a0 : Nat} {x1 : Int32} {x2 : Int32} {a3 : Nat} {x4 : Int32} {Q : Int32 → gM → Prop} (hF : F_X12_chosen M a0 x1 x2 a3 x4 Q) : gMt yX12_chosen (ws_ yX12_chosen cX12_chosen 11 (some .int)) rm_X12_chosen M [.ref a0, .int x1, .int x2, .ref a3, .int x4] (gQi Q) := by
  refine gMet (bytes := cX12_chosen) (maxL := 11) (ret := (some .int)) rfl rfl (by decide) (Nat.le_of_ble_eq_true rfl) (lv := [(0, .ref a0), (1, .int x1), (2, .int x2), (3, .ref a3), (4, .int x4)]) rfl (fun G hC hin => ?_)
  unfold F_X12_chosen at hF
  refine g_iconst 1 hC (0 : Int32) dX12_chosen_0 (by decide) rfl ?_
  refine g_istore 3 hC (lv' := [(5, .int _), (0, .ref _), (1, .int _), (2, .int _), (3, .ref _), (4, .int _)]) dX12_chosen_1 rfl (by decide) rfl ?_
  refine g_aload_n 4 hC dX12_chosen_3 rfl 1 rfl rfl ?_
  refine g_iload_n 5 hC dX12_chosen_4 rfl 2 rfl rfl ?_
  refine g_iconst 6 hC (0 : Int32) dX12_chosen_5 (by decide) rfl ?_
  refine g_iload_n 7 hC dX12_chosen_6 rfl 3 rfl rfl ?_
  refine g_aload_n 8 hC dX12_chosen_7 rfl 4 rfl rfl ?_
  refine g_cV (rest := []) wl_X12_102 hd_X12_putting (ci := 12) rfl 11 hC hF.1 (met_X12_putting hF.2) rfl ⟨Nat.le_of_ble_eq_true rfl, Nat.le_of_ble_eq_true rfl⟩ ⟨Nat.zero_le _, Nat.zero_le _⟩ rfl (Nat.le_of_ble_eq_true rfl) dX12_chosen_8 rfl (g_ty_j 0 0 (Nat.le_refl _) (Nat.le_refl _) (fun j_2 M_1 hF => ?_))
  refine g_lstore 13 hC (lv' := [(6, .long _), (5, .int _), (0, .ref _), (1, .int _), (2, .int _), (3, .ref _), (4, .int _)]) dX12_chosen_11 rfl (by decide) rfl ?_
  refine g_iconst 14 hC (1 : Int32) dX12_chosen_13 (by decide) rfl ?_
  refine g_istore 16 hC (lv' := [(8, .int _), (6, .long _), (5, .int _), (0, .ref _), (1, .int _), (2, .int _), (3, .ref _), (4, .int _)]) dX12_chosen_14 rfl (by decide) rfl ?_
  refine g_sub [3, 4, 5, 6, 7, 2, 1, 0] rfl ?_
  obtain ⟨n_3, hF⟩ := hF
  exact w_X12_chosen_b16 hC _ _ _ _ _ n_3 _ _ _ _ hF
theorem hd_X12_chosen : yX12_chosen.cls = RX12 ∧ yX12_chosen.cls ≠ "java/lang/invoke/MethodHandle" ∧ yX12_chosen.cls ≠ "java/lang/invoke/VarHandle" ∧ (parseMethodDescriptor yX12_chosen.desc).map (fun d => d.parameters.length) = some 4 := by decide +kernel
theorem wl_X12_137 : GoodIn lw_all (wsV RX12 137 RX12 yX12_chosen (ws_ yX12_chosen cX12_chosen 11 (some .int))) := lw_V q1222 q1224 qs25 q92 q1225
theorem hd_X12_sending : yX12_sending.cls = RX12 ∧ yX12_sending.cls ≠ "java/lang/invoke/MethodHandle" ∧ yX12_sending.cls ≠ "java/lang/invoke/VarHandle" ∧ (parseMethodDescriptor yX12_sending.desc).map (fun d => d.parameters.length) = some 4 := by decide +kernel
theorem wl_X12_141 : GoodIn lw_all (wsV RX12 141 RX12 yX12_sending (ws_ yX12_sending cX12_sending 7 (some .long))) := lw_V q1138 q1139 q1140 q92 q1141
theorem gf_X12_56_12N {G : gG} {cc : ByteArray} {nL : Nat} {ret : Option FieldType} {Qf : Option Value → gM → Prop} {rm : Room} {cells slots : Nat} {M : gM} {lv : List (Nat × Value)} {pc : Nat} {st : List Value} {a : Nat} (n : Nat) (hC : gCx G cc nL RX12 ret Qf rm) {κ : Nat → Prop} (hF : gN M 12 a 13 κ) (hdg : decode cc pc = .ok (.getfield 56, 3)) (hn : pc + 3 = n) (kk : ∀ x, κ x → gAt G cells slots M lv n (.ref x :: st)) : gAt G cells slots M lv pc (.ref a :: st) :=
  g_getN (C := RX12) (T := TX12) (N := 17) in_X12 rfl (by decide) q616 (fun _ _ _ => rfl) n hC hF hdg hn kk
abbrev rm_X12_promised (Lc Ls : Nat) : Room := { frames := 4, cells := Lc, slots := Ls, locals := 114 }
def F_X12_promised_b82 (Q : Int64 → gM → Prop)  (Lc Ls : Nat) (K36 : Int32 → Nat → Nat → gM → Prop) (K47 : Int32 → Nat → Nat → gM → Prop) (a0 : Nat) (x1 : Int32) (a2 : Nat) (x3 : Int32) (x4 : Int32) (t0 : Nat) (t1 : Int32) (t2 : Nat) (t3 : Int32) (t4 : Nat) (t5 : Int32) (t6 : Int32) (t7 : Nat) (t8 : Int32) (u v : Nat) (M : gM) : Prop :=
  rc M 12 t4 ∧ F_X12_chosen M t4 t5 t6 t7 t8 fun x_2 M_1 =>
  rc M_1 12 t2 ∧ F_X12_sending M_1 t2 t3 x_2 x3 a2 fun j_4 M_3 =>
  uJ M_3 t0 t1 j_4 fun M_5 =>
  K47 (x4 + (1 : Int32)) u v M_5
theorem w_X12_promised_b82 {G : gG} {Q : Int64 → gM → Prop} {Lc Ls : Nat} (hC : gCx G cX12_promised 5 RX12 (some .long) (gQj Q) (rm_X12_promised Lc Ls)) (K36 : Int32 → Nat → Nat → gM → Prop) (K47 : Int32 → Nat → Nat → gM → Prop) (a0 : Nat) (x1 : Int32) (a2 : Nat) (x3 : Int32) (x4 : Int32) (t0 : Nat) (t1 : Int32) (t2 : Nat) (t3 : Int32) (t4 : Nat) (t5 : Int32) (t6 : Int32) (t7 : Nat) (t8 : Int32) (hK36 : ∀ x3' u' v' (_ : u' ≤ Lc ∧ v' ≤ Ls) M', K36 x3' u' v' M' → gAt G u' v' M' [(0, .ref a0), (1, .int x1), (2, .ref a2), (3, .int x3')] 36 []) (hK47 : ∀ x4' u' v' (_ : u' ≤ Lc ∧ v' ≤ Ls) M', K47 x4' u' v' M' → gAt G u' v' M' [(0, .ref a0), (1, .int x1), (2, .ref a2), (3, .int x3), (4, .int x4')] 47 []) (u v : Nat) (hu : u ≤ Lc ∧ v ≤ Ls) (M : gM) (hF : F_X12_promised_b82 Q Lc Ls K36 K47 a0 x1 a2 x3 x4 t0 t1 t2 t3 t4 t5 t6 t7 t8 u v M) : gAt G u v M [(0, .ref a0), (1, .int x1), (2, .ref a2), (3, .int x3), (4, .int x4)] 82 [.int t8, .ref t7, .int t6, .int t5, .ref t4, .int t3, .ref t2, .int t1, .ref t0] := by
  unfold F_X12_promised_b82 at hF
  refine g_cV (rest := [_, _, _, _]) wl_X12_137 hd_X12_chosen (ci := 12) rfl 85 hC hF.1 (met_X12_chosen hF.2) rfl ⟨Nat.le_of_ble_eq_true rfl, Nat.le_of_ble_eq_true rfl⟩ hu rfl (Nat.le_of_ble_eq_true rfl) dX12_promised_82 rfl (g_ty_i u v (Nat.le_refl _) (Nat.le_refl _) (fun x_2 M_1 hF => ?_))
  refine g_iload_n 86 hC dX12_promised_85 rfl 3 rfl rfl ?_
  refine g_aload_n 87 hC dX12_promised_86 rfl 2 rfl rfl ?_
  refine g_cV (rest := [_, _]) wl_X12_141 hd_X12_sending (ci := 12) rfl 90 hC hF.1 (met_X12_sending hF.2) rfl ⟨Nat.le_of_ble_eq_true rfl, Nat.le_of_ble_eq_true rfl⟩ hu rfl (Nat.le_of_ble_eq_true rfl) dX12_promised_87 rfl (g_ty_j u v (Nat.le_refl _) (Nat.le_refl _) (fun j_4 M_3 hF => ?_))
  refine g_last 91 hC hF dX12_promised_90 rfl (fun M_5 hF => ?_)
  refine g_iinc 94 hC (x4 + (1 : Int32)) (lv' := [(4, .int _), (0, .ref _), (1, .int _), (2, .ref _), (3, .int _)]) dX12_promised_91 rfl 4 rfl rfl (by decide) rfl ?_
  refine g_goto 47 hC dX12_promised_94 (by decide) ?_
  refine g_sub [1, 2, 3, 4, 0] rfl ?_
  exact hK47 _ _ _ hu _ hF
def F_X12_promised_b47 (Q : Int64 → gM → Prop)  (Lc Ls : Nat) (K36 : Int32 → Nat → Nat → gM → Prop) (a0 : Nat) (x1 : Int32) (a2 : Nat) (x3 : Int32) : Nat → Int32 → Nat → Nat → gM → Prop
  | 0, _, _, _, _ => False
  | n + 1, x4, u, v, M =>
    rc M 12 a0 ∧ F_X12_states M a0 fun x_2 M_1 =>
    ((x_2 ≤ x4 →
      K36 (x3 + (1 : Int32)) u v M_1) ∧
      (¬ x_2 ≤ x4 →
      ((¬ x3 = x1 →
        F_X12_promised_b82 Q Lc Ls K36 (F_X12_promised_b47 Q Lc Ls K36 a0 x1 a2 x3 n) a0 x1 a2 x3 x4 a2 (((125 : Int32) * x3) + x4) a0 x4 a0 x4 x3 a2 (0 : Int32) u v M_1) ∧
        (x3 = x1 →
        F_X12_promised_b82 Q Lc Ls K36 (F_X12_promised_b47 Q Lc Ls K36 a0 x1 a2 x3 n) a0 x1 a2 x3 x4 a2 (((125 : Int32) * x3) + x4) a0 x4 a0 x4 x3 a2 (1 : Int32) u v M_1))))
theorem w_X12_promised_b47 {G : gG} {Q : Int64 → gM → Prop} {Lc Ls : Nat} (hC : gCx G cX12_promised 5 RX12 (some .long) (gQj Q) (rm_X12_promised Lc Ls)) (K36 : Int32 → Nat → Nat → gM → Prop) (a0 : Nat) (x1 : Int32) (a2 : Nat) (x3 : Int32) (hK36 : ∀ x3' u' v' (_ : u' ≤ Lc ∧ v' ≤ Ls) M', K36 x3' u' v' M' → gAt G u' v' M' [(0, .ref a0), (1, .int x1), (2, .ref a2), (3, .int x3')] 36 []) : ∀ (n : Nat) (x4 : Int32) (u v : Nat) (hu : u ≤ Lc ∧ v ≤ Ls) (M : gM), F_X12_promised_b47 Q Lc Ls K36 a0 x1 a2 x3 n x4 u v M → gAt G u v M [(0, .ref a0), (1, .int x1), (2, .ref a2), (3, .int x3), (4, .int x4)] 47 [] := by
  intro n
  induction n with
  | zero =>
    intro x4 u v hu M hF
    exact hF.elim
  | succ n ih =>
    intro x4 u v hu M hF
    have hK47 := ih
    unfold F_X12_promised_b47 at hF
    refine g_iload 49 hC dX12_promised_47 rfl 4 rfl ?_
    refine g_aload_n 50 hC dX12_promised_49 rfl 0 rfl rfl ?_
    refine g_cV (rest := [_]) wl_X12_117 hd_X12_states (ci := 12) rfl 53 hC hF.1 (met_X12_states hF.2) rfl ⟨Nat.le_of_ble_eq_true rfl, Nat.le_of_ble_eq_true rfl⟩ hu rfl (Nat.le_of_ble_eq_true rfl) dX12_promised_50 rfl (g_ty_i u v (Nat.le_refl _) (Nat.le_refl _) (fun x_2 M_1 hF => ?_))
    refine g_icmp_ge 56 97 hC dX12_promised_53 (by decide) rfl (fun c => ?_) (fun c => ?_)
    · have hF := hF.1 c
      refine g_iinc 100 hC (x3 + (1 : Int32)) (lv' := [(3, .int _), (0, .ref _), (1, .int _), (2, .ref _), (4, .int _)]) dX12_promised_97 rfl 3 rfl rfl (by decide) rfl ?_
      refine g_goto 36 hC dX12_promised_100 (by decide) ?_
      refine g_sub [1, 2, 3, 0] rfl ?_
      exact hK36 _ _ _ hu _ hF
    · have hF := hF.2 c
      refine g_aload_n 57 hC dX12_promised_56 rfl 2 rfl rfl ?_
      refine g_bipush 59 hC (125 : Int32) dX12_promised_57 (by decide) rfl ?_
      refine g_iload_n 60 hC dX12_promised_59 rfl 3 rfl rfl ?_
      refine g_imul 61 hC dX12_promised_60 rfl ?_
      refine g_iload 63 hC dX12_promised_61 rfl 4 rfl ?_
      refine g_iadd 64 hC dX12_promised_63 rfl ?_
      refine g_aload_n 65 hC dX12_promised_64 rfl 0 rfl rfl ?_
      refine g_iload 67 hC dX12_promised_65 rfl 4 rfl ?_
      refine g_aload_n 68 hC dX12_promised_67 rfl 0 rfl rfl ?_
      refine g_iload 70 hC dX12_promised_68 rfl 4 rfl ?_
      refine g_iload_n 71 hC dX12_promised_70 rfl 3 rfl rfl ?_
      refine g_aload_n 72 hC dX12_promised_71 rfl 2 rfl rfl ?_
      refine g_iload_n 73 hC dX12_promised_72 rfl 3 rfl rfl ?_
      refine g_iload_n 74 hC dX12_promised_73 rfl 1 rfl rfl ?_
      refine g_icmp_ne 77 81 hC dX12_promised_74 (by decide) rfl (fun c => ?_) (fun c => ?_)
      · have hF := hF.1 c
        refine g_iconst 82 hC (0 : Int32) dX12_promised_81 (by decide) rfl ?_
        exact w_X12_promised_b82 hC _ _ _ _ _ _ _ _ _ _ _ _ _ _ _ _ hK36 hK47 _ _ hu _ hF
      · have hF := hF.2 c
        refine g_iconst 78 hC (1 : Int32) dX12_promised_77 (by decide) rfl ?_
        refine g_goto 82 hC dX12_promised_78 (by decide) ?_
        exact w_X12_promised_b82 hC _ _ _ _ _ _ _ _ _ _ _ _ _ _ _ _ hK36 hK47 _ _ hu _ hF
def F_X12_promised_b36 (Q : Int64 → gM → Prop)  (Lc Ls : Nat)  (a0 : Nat) (x1 : Int32) (a2 : Nat) : Nat → Int32 → Nat → Nat → gM → Prop
  | 0, _, _, _, _ => False
  | n + 1, x3, u, v, M =>
    gI M 12 a0 0 fun x_1 =>
    ((x_1 < x3 →
      gI M 12 a0 0 fun x_2 =>
      aJ M a2 ((125 : Int32) * x_2) fun j_3 =>
      Q j_3 M) ∧
      (¬ x_1 < x3 →
      ∃ n_4, F_X12_promised_b47 Q Lc Ls (F_X12_promised_b36 Q Lc Ls a0 x1 a2 n) a0 x1 a2 x3 n_4 (0 : Int32) u v M))
theorem w_X12_promised_b36 {G : gG} {Q : Int64 → gM → Prop} {Lc Ls : Nat} (hC : gCx G cX12_promised 5 RX12 (some .long) (gQj Q) (rm_X12_promised Lc Ls))  (a0 : Nat) (x1 : Int32) (a2 : Nat)  : ∀ (n : Nat) (x3 : Int32) (u v : Nat) (hu : u ≤ Lc ∧ v ≤ Ls) (M : gM), F_X12_promised_b36 Q Lc Ls a0 x1 a2 n x3 u v M → gAt G u v M [(0, .ref a0), (1, .int x1), (2, .ref a2), (3, .int x3)] 36 [] := by
  intro n
  induction n with
  | zero =>
    intro x3 u v hu M hF
    exact hF.elim
  | succ n ih =>
    intro x3 u v hu M hF
    have hK36 := ih
    unfold F_X12_promised_b36 at hF
    refine g_iload_n 37 hC dX12_promised_36 rfl 3 rfl rfl ?_
    refine g_aload_n 38 hC dX12_promised_37 rfl 0 rfl rfl ?_
    refine gf_X12_9_12I 41 hC hF dX12_promised_38 rfl (fun x_1 hF => ?_)
    refine g_icmp_gt 44 103 hC dX12_promised_41 (by decide) rfl (fun c => ?_) (fun c => ?_)
    · have hF := hF.1 c
      refine g_aload_n 104 hC dX12_promised_103 rfl 2 rfl rfl ?_
      refine g_bipush 106 hC (125 : Int32) dX12_promised_104 (by decide) rfl ?_
      refine g_aload_n 107 hC dX12_promised_106 rfl 0 rfl rfl ?_
      refine gf_X12_9_12I 110 hC hF dX12_promised_107 rfl (fun x_2 hF => ?_)
      refine g_imul 111 hC dX12_promised_110 rfl ?_
      refine g_lald 112 hC hF dX12_promised_111 rfl (fun j_3 hF => ?_)
      exact g_lreturn hC ⟨_, rfl, hF⟩ dX12_promised_112 hu.1 hu.2
    · have hF := hF.2 c
      refine g_iconst 45 hC (0 : Int32) dX12_promised_44 (by decide) rfl ?_
      refine g_istore 47 hC (lv' := [(4, .int _), (0, .ref _), (1, .int _), (2, .ref _), (3, .int _)]) dX12_promised_45 rfl (by decide) rfl ?_
      refine g_sub [1, 2, 3, 4, 0] rfl ?_
      obtain ⟨n_4, hF⟩ := hF
      exact w_X12_promised_b47 hC _ _ _ _ _ hK36 n_4 _ _ _ hu _ hF
def F_X12_promised_b11 (Q : Int64 → gM → Prop)  (Lc Ls : Nat)  (a0 : Nat) (x1 : Int32) (a2 : Nat) : Nat → Int32 → Nat → Nat → gM → Prop
  | 0, _, _, _, _ => False
  | n + 1, x3, u, v, M =>
    rc M 12 a0 ∧ F_X12_states M a0 fun x_2 M_1 =>
    ((x_2 ≤ x3 →
      ∃ n_3, F_X12_promised_b36 Q Lc Ls a0 x1 a2 n_3 (1 : Int32) u v M_1) ∧
      (¬ x_2 ≤ x3 →
      rc M_1 12 a0 ∧ F_X12_leaving M_1 a0 x3 fun x_5 M_4 =>
      uJ M_4 a2 x3 x_5.toInt64 fun M_6 =>
      (F_X12_promised_b11 Q Lc Ls a0 x1 a2 n) (x3 + (1 : Int32)) u v M_6))
theorem w_X12_promised_b11 {G : gG} {Q : Int64 → gM → Prop} {Lc Ls : Nat} (hC : gCx G cX12_promised 5 RX12 (some .long) (gQj Q) (rm_X12_promised Lc Ls))  (a0 : Nat) (x1 : Int32) (a2 : Nat)  : ∀ (n : Nat) (x3 : Int32) (u v : Nat) (hu : u ≤ Lc ∧ v ≤ Ls) (M : gM), F_X12_promised_b11 Q Lc Ls a0 x1 a2 n x3 u v M → gAt G u v M [(0, .ref a0), (1, .int x1), (2, .ref a2), (3, .int x3)] 11 [] := by
  intro n
  induction n with
  | zero =>
    intro x3 u v hu M hF
    exact hF.elim
  | succ n ih =>
    intro x3 u v hu M hF
    have hK11 := ih
    unfold F_X12_promised_b11 at hF
    refine g_iload_n 12 hC dX12_promised_11 rfl 3 rfl rfl ?_
    refine g_aload_n 13 hC dX12_promised_12 rfl 0 rfl rfl ?_
    refine g_cV (rest := [_]) wl_X12_117 hd_X12_states (ci := 12) rfl 16 hC hF.1 (met_X12_states hF.2) rfl ⟨Nat.le_of_ble_eq_true rfl, Nat.le_of_ble_eq_true rfl⟩ hu rfl (Nat.le_of_ble_eq_true rfl) dX12_promised_13 rfl (g_ty_i u v (Nat.le_refl _) (Nat.le_refl _) (fun x_2 M_1 hF => ?_))
    refine g_icmp_ge 19 34 hC dX12_promised_16 (by decide) rfl (fun c => ?_) (fun c => ?_)
    · have hF := hF.1 c
      refine g_iconst 35 hC (1 : Int32) dX12_promised_34 (by decide) rfl ?_
      refine g_istore_n 36 hC (lv' := [(3, .int _), (0, .ref _), (1, .int _), (2, .ref _)]) dX12_promised_35 rfl rfl (by decide) rfl ?_
      refine g_sub [1, 2, 3, 0] rfl ?_
      obtain ⟨n_3, hF⟩ := hF
      exact w_X12_promised_b36 hC _ _ _ n_3 _ _ _ hu _ hF
    · have hF := hF.2 c
      refine g_aload_n 20 hC dX12_promised_19 rfl 2 rfl rfl ?_
      refine g_iload_n 21 hC dX12_promised_20 rfl 3 rfl rfl ?_
      refine g_aload_n 22 hC dX12_promised_21 rfl 0 rfl rfl ?_
      refine g_iload_n 23 hC dX12_promised_22 rfl 3 rfl rfl ?_
      refine g_cV (rest := [_, _]) wl_X12_121 hd_X12_leaving (ci := 12) rfl 26 hC hF.1 (met_X12_leaving hF.2) rfl ⟨Nat.le_of_ble_eq_true rfl, Nat.le_of_ble_eq_true rfl⟩ hu rfl (Nat.le_of_ble_eq_true rfl) dX12_promised_23 rfl (g_ty_i u v (Nat.le_refl _) (Nat.le_refl _) (fun x_5 M_4 hF => ?_))
      refine g_i2l 27 hC dX12_promised_26 rfl ?_
      refine g_last 28 hC hF dX12_promised_27 rfl (fun M_6 hF => ?_)
      refine g_iinc 31 hC (x3 + (1 : Int32)) (lv' := [(3, .int _), (0, .ref _), (1, .int _), (2, .ref _)]) dX12_promised_28 rfl 3 rfl rfl (by decide) rfl ?_
      refine g_goto 11 hC dX12_promised_31 (by decide) ?_
      refine g_sub [1, 2, 3, 0] rfl ?_
      exact hK11 _ _ _ hu _ hF
def F_X12_promised (Lc Ls : Nat) (M : gM) (a0 : Nat) (x1 : Int32) (Q : Int64 → gM → Prop)  : Prop :=
  ∃ c_3 s_4, (0 + c_3 ≤ Lc ∧ 0 + s_4 ≤ Ls) ∧
  rc M 12 a0 ∧ F_X12_makesRoom c_3 s_4 M a0 fun M_1 =>
  gN M_1 12 a0 13 fun a_5 =>
  ∃ n_6, F_X12_promised_b11 Q Lc Ls a0 x1 a_5 n_6 (0 : Int32) (0 + c_3) (0 + s_4) M_1
theorem met_X12_promised {M : gM} {a0 : Nat} {x1 : Int32} {Q : Int64 → gM → Prop} {Lc Ls : Nat} (hF : F_X12_promised Lc Ls M a0 x1 Q) : gMt yX12_promised (ws_ yX12_promised cX12_promised 5 (some .long)) (rm_X12_promised Lc Ls) M [.ref a0, .int x1] (gQj Q) := by
  refine gMet (bytes := cX12_promised) (maxL := 5) (ret := (some .long)) rfl rfl (by decide) (Nat.le_of_ble_eq_true rfl) (lv := [(0, .ref a0), (1, .int x1)]) rfl (fun G hC hin => ?_)
  have hu : 0 ≤ Lc ∧ 0 ≤ Ls := ⟨Nat.zero_le _, Nat.zero_le _⟩
  unfold F_X12_promised at hF
  refine g_aload_n 1 hC dX12_promised_0 rfl 0 rfl rfl ?_
  obtain ⟨c_3, s_4, hu, hF⟩ := hF
  refine g_cV (rest := []) wl_X12_108 hd_X12_makesRoom (ci := 12) rfl 4 hC hF.1 (met_X12_makesRoom hF.2) rfl ⟨Nat.le_of_ble_eq_true rfl, Nat.le_of_ble_eq_true rfl⟩ hu rfl (Nat.le_of_ble_eq_true rfl) dX12_promised_1 rfl (g_ty_v (0 + c_3) (0 + s_4) (Nat.le_refl _) (Nat.le_refl _) (fun M_1 hF => ?_))
  refine g_aload_n 5 hC dX12_promised_4 rfl 0 rfl rfl ?_
  refine gf_X12_56_12N 8 hC hF dX12_promised_5 rfl (fun a_5 hF => ?_)
  refine g_astore_n 9 hC (lv' := [(2, .ref _), (0, .ref _), (1, .int _)]) dX12_promised_8 rfl rfl (by decide) rfl ?_
  refine g_iconst 10 hC (0 : Int32) dX12_promised_9 (by decide) rfl ?_
  refine g_istore_n 11 hC (lv' := [(3, .int _), (2, .ref _), (0, .ref _), (1, .int _)]) dX12_promised_10 rfl rfl (by decide) rfl ?_
  refine g_sub [2, 3, 1, 0] rfl ?_
  obtain ⟨n_6, hF⟩ := hF
  exact w_X12_promised_b11 hC _ _ _ n_6 _ _ _ hu _ hF
abbrev rm_X12_takes : Room := { frames := 0, cells := 0, slots := 0, locals := 0 }
def F_X12_takes  (M : gM) (a0 : Nat) (a1 : Nat) (x2 : Int32) (Q : gM → Prop)  : Prop :=
  gN M 12 a0 5 fun a_1 =>
  gI M 12 a0 4 fun x_2 =>
  gN M 12 a1 5 fun a_3 =>
  aI M .int a_3 x2 fun x_4 =>
  uI M a_1 x_2 x_4 fun M_5 =>
  gN M_5 12 a0 6 fun a_6 =>
  gI M_5 12 a0 4 fun x_7 =>
  gN M_5 12 a1 6 fun a_8 =>
  aI M_5 .int a_8 x2 fun x_9 =>
  uI M_5 a_6 x_7 x_9 fun M_10 =>
  gN M_10 12 a0 7 fun a_11 =>
  gI M_10 12 a0 4 fun x_12 =>
  gN M_10 12 a1 7 fun a_13 =>
  aI M_10 .int a_13 x2 fun x_14 =>
  uI M_10 a_11 x_12 x_14 fun M_15 =>
  gN M_15 12 a0 8 fun a_16 =>
  gI M_15 12 a0 4 fun x_17 =>
  gN M_15 12 a1 8 fun a_18 =>
  aI M_15 .int a_18 x2 fun x_19 =>
  uI M_15 a_16 x_17 x_19 fun M_20 =>
  gN M_20 12 a0 9 fun a_21 =>
  gI M_20 12 a0 4 fun x_22 =>
  gN M_20 12 a1 9 fun a_23 =>
  aI M_20 .int a_23 x2 fun x_24 =>
  uI M_20 a_21 x_22 x_24 fun M_25 =>
  gI M_25 12 a0 4 fun x_26 =>
  pI M_25 12 a0 4 (x_26 + (1 : Int32)) fun M_27 =>
  Q M_27
theorem met_X12_takes {M : gM} {a0 : Nat} {a1 : Nat} {x2 : Int32} {Q : gM → Prop} (hF : F_X12_takes M a0 a1 x2 Q) : gMt yX12_takes (ws_ yX12_takes cX12_takes 3 none) rm_X12_takes M [.ref a0, .ref a1, .int x2] (gQv Q) := by
  refine gMet (bytes := cX12_takes) (maxL := 3) (ret := none) rfl rfl (by decide) (Nat.le_of_ble_eq_true rfl) (lv := [(0, .ref a0), (1, .ref a1), (2, .int x2)]) rfl (fun G hC hin => ?_)
  unfold F_X12_takes at hF
  refine g_aload_n 1 hC dX12_takes_0 rfl 0 rfl rfl ?_
  refine gf_X12_21_12N 4 hC hF dX12_takes_1 rfl (fun a_1 hF => ?_)
  refine g_aload_n 5 hC dX12_takes_4 rfl 0 rfl rfl ?_
  refine gf_X12_41_12I 8 hC hF dX12_takes_5 rfl (fun x_2 hF => ?_)
  refine g_aload_n 9 hC dX12_takes_8 rfl 1 rfl rfl ?_
  refine gf_X12_21_12N 12 hC hF dX12_takes_9 rfl (fun a_3 hF => ?_)
  refine g_iload_n 13 hC dX12_takes_12 rfl 2 rfl rfl ?_
  refine g_iald 14 hC hF dX12_takes_13 rfl (fun x_4 hF => ?_)
  refine g_iast 15 hC hF dX12_takes_14 rfl (fun M_5 hF => ?_)
  refine g_aload_n 16 hC dX12_takes_15 rfl 0 rfl rfl ?_
  refine gf_X12_25_12N 19 hC hF dX12_takes_16 rfl (fun a_6 hF => ?_)
  refine g_aload_n 20 hC dX12_takes_19 rfl 0 rfl rfl ?_
  refine gf_X12_41_12I 23 hC hF dX12_takes_20 rfl (fun x_7 hF => ?_)
  refine g_aload_n 24 hC dX12_takes_23 rfl 1 rfl rfl ?_
  refine gf_X12_25_12N 27 hC hF dX12_takes_24 rfl (fun a_8 hF => ?_)
  refine g_iload_n 28 hC dX12_takes_27 rfl 2 rfl rfl ?_
  refine g_iald 29 hC hF dX12_takes_28 rfl (fun x_9 hF => ?_)
  refine g_iast 30 hC hF dX12_takes_29 rfl (fun M_10 hF => ?_)
  refine g_aload_n 31 hC dX12_takes_30 rfl 0 rfl rfl ?_
  refine gf_X12_28_12N 34 hC hF dX12_takes_31 rfl (fun a_11 hF => ?_)
  refine g_aload_n 35 hC dX12_takes_34 rfl 0 rfl rfl ?_
  refine gf_X12_41_12I 38 hC hF dX12_takes_35 rfl (fun x_12 hF => ?_)
  refine g_aload_n 39 hC dX12_takes_38 rfl 1 rfl rfl ?_
  refine gf_X12_28_12N 42 hC hF dX12_takes_39 rfl (fun a_13 hF => ?_)
  refine g_iload_n 43 hC dX12_takes_42 rfl 2 rfl rfl ?_
  refine g_iald 44 hC hF dX12_takes_43 rfl (fun x_14 hF => ?_)
  refine g_iast 45 hC hF dX12_takes_44 rfl (fun M_15 hF => ?_)
  refine g_aload_n 46 hC dX12_takes_45 rfl 0 rfl rfl ?_
  refine gf_X12_31_12N 49 hC hF dX12_takes_46 rfl (fun a_16 hF => ?_)
  refine g_aload_n 50 hC dX12_takes_49 rfl 0 rfl rfl ?_
  refine gf_X12_41_12I 53 hC hF dX12_takes_50 rfl (fun x_17 hF => ?_)
  refine g_aload_n 54 hC dX12_takes_53 rfl 1 rfl rfl ?_
  refine gf_X12_31_12N 57 hC hF dX12_takes_54 rfl (fun a_18 hF => ?_)
  refine g_iload_n 58 hC dX12_takes_57 rfl 2 rfl rfl ?_
  refine g_iald 59 hC hF dX12_takes_58 rfl (fun x_19 hF => ?_)
  refine g_iast 60 hC hF dX12_takes_59 rfl (fun M_20 hF => ?_)
  refine g_aload_n 61 hC dX12_takes_60 rfl 0 rfl rfl ?_
  refine gf_X12_34_12N 64 hC hF dX12_takes_61 rfl (fun a_21 hF => ?_)
  refine g_aload_n 65 hC dX12_takes_64 rfl 0 rfl rfl ?_
  refine gf_X12_41_12I 68 hC hF dX12_takes_65 rfl (fun x_22 hF => ?_)
  refine g_aload_n 69 hC dX12_takes_68 rfl 1 rfl rfl ?_
  refine gf_X12_34_12N 72 hC hF dX12_takes_69 rfl (fun a_23 hF => ?_)
  refine g_iload_n 73 hC dX12_takes_72 rfl 2 rfl rfl ?_
  refine g_iald 74 hC hF dX12_takes_73 rfl (fun x_24 hF => ?_)
  refine g_iast 75 hC hF dX12_takes_74 rfl (fun M_25 hF => ?_)
  refine g_aload_n 76 hC dX12_takes_75 rfl 0 rfl rfl ?_
  refine g_dup 77 hC dX12_takes_76 rfl rfl ?_
  refine gf_X12_41_12I 80 hC hF dX12_takes_77 rfl (fun x_26 hF => ?_)
  refine g_iconst 81 hC (1 : Int32) dX12_takes_80 (by decide) rfl ?_
  refine g_iadd 82 hC dX12_takes_81 rfl ?_
  refine g_putI (C := RX12) (T := TX12) (N := 17) (ci := 12) (k := 4) (ty := .int) in_X12 tyX12 tyX12_ok nmX12 rfl (by decide) q592 rfl rfl (fun _ _ _ => rfl) rfl rfl 85 hC hF dX12_takes_82 rfl (fun M_27 hF => ?_)
  exact g_return hC ⟨rfl, hF⟩ dX12_takes_85 (Nat.zero_le _) (Nat.zero_le _)
theorem hd_X12_takes : yX12_takes.cls = RX12 ∧ yX12_takes.cls ≠ "java/lang/invoke/MethodHandle" ∧ yX12_takes.cls ≠ "java/lang/invoke/VarHandle" ∧ (parseMethodDescriptor yX12_takes.desc).map (fun d => d.parameters.length) = some 2 := by decide +kernel
theorem wl_X12_44 : GoodIn lw_all (wsV RX12 44 RX12 yX12_takes (ws_ yX12_takes cX12_takes 3 none)) := lw_V q1262 q1263 q1264 q92 q1265
theorem hd_X12_init : yX12_init.cls ≠ "java/lang/invoke/MethodHandle" ∧ yX12_init.cls ≠ "java/lang/invoke/VarHandle" ∧ (parseMethodDescriptor yX12_init.desc).map (fun d => d.parameters.length) = some 0 := by decide +kernel
abbrev rm_X12_copied (Lc Ls : Nat) : Room := { frames := 2, cells := Lc, slots := Ls, locals := 44 }
def F_X12_copied_b42 (Q : Nat → gM → Prop)  (Lc Ls : Nat)  (a0 : Nat) (a1 : Nat) : Nat → Int32 → Nat → Nat → gM → Prop
  | 0, _, _, _, _ => False
  | n + 1, x2, u, v, M =>
    gI M 12 a0 4 fun x_1 =>
    ((x_1 ≤ x2 →
      Q a1 M) ∧
      (¬ x_1 ≤ x2 →
      rc M 12 a1 ∧ F_X12_takes M a1 a0 x2 fun M_2 =>
      (F_X12_copied_b42 Q Lc Ls a0 a1 n) (x2 + (1 : Int32)) u v M_2))
theorem w_X12_copied_b42 {G : gG} {Q : Nat → gM → Prop} {Lc Ls : Nat} (hC : gCx G cX12_copied 3 RX12 (some (.object "SendTheBox$House")) (gQa Q) (rm_X12_copied Lc Ls))  (a0 : Nat) (a1 : Nat)  : ∀ (n : Nat) (x2 : Int32) (u v : Nat) (hu : u ≤ Lc ∧ v ≤ Ls) (M : gM), F_X12_copied_b42 Q Lc Ls a0 a1 n x2 u v M → gAt G u v M [(0, .ref a0), (1, .ref a1), (2, .int x2)] 42 [] := by
  intro n
  induction n with
  | zero =>
    intro x2 u v hu M hF
    exact hF.elim
  | succ n ih =>
    intro x2 u v hu M hF
    have hK42 := ih
    unfold F_X12_copied_b42 at hF
    refine g_iload_n 43 hC dX12_copied_42 rfl 2 rfl rfl ?_
    refine g_aload_n 44 hC dX12_copied_43 rfl 0 rfl rfl ?_
    refine gf_X12_41_12I 47 hC hF dX12_copied_44 rfl (fun x_1 hF => ?_)
    refine g_icmp_ge 50 62 hC dX12_copied_47 (by decide) rfl (fun c => ?_) (fun c => ?_)
    · have hF := hF.1 c
      refine g_aload_n 63 hC dX12_copied_62 rfl 1 rfl rfl ?_
      exact g_areturn (v := some a1) hC (Or.inl ⟨_, rfl⟩) ⟨_, rfl, hF⟩ dX12_copied_63 hu.1 hu.2
    · have hF := hF.2 c
      refine g_aload_n 51 hC dX12_copied_50 rfl 1 rfl rfl ?_
      refine g_aload_n 52 hC dX12_copied_51 rfl 0 rfl rfl ?_
      refine g_iload_n 53 hC dX12_copied_52 rfl 2 rfl rfl ?_
      refine g_cV (rest := []) wl_X12_44 hd_X12_takes (ci := 12) rfl 56 hC hF.1 (met_X12_takes hF.2) rfl ⟨Nat.le_of_ble_eq_true rfl, Nat.le_of_ble_eq_true rfl⟩ hu rfl (Nat.le_of_ble_eq_true rfl) dX12_copied_53 rfl (g_ty_v u v (Nat.le_refl _) (Nat.le_refl _) (fun M_2 hF => ?_))
      refine g_iinc 59 hC (x2 + (1 : Int32)) (lv' := [(2, .int _), (0, .ref _), (1, .ref _)]) dX12_copied_56 rfl 2 rfl rfl (by decide) rfl ?_
      refine g_goto 42 hC dX12_copied_59 (by decide) ?_
      refine g_sub [1, 2, 0] rfl ?_
      exact hK42 _ _ _ hu _ hF
def F_X12_copied (Lc Ls : Nat) (M : gM) (a0 : Nat) (Q : Nat → gM → Prop)  : Prop :=
  nO M 0 0 Lc Ls 12 17 fun a_1 M_2 =>
  ∃ c_5 s_6, ((0 + 1) + c_5 ≤ Lc ∧ (0 + 17) + s_6 ≤ Ls) ∧
  F_X12_init c_5 s_6 M_2 a_1 fun M_3 =>
  gI M_3 12 a0 0 fun x_7 =>
  pI M_3 12 a_1 0 x_7 fun M_8 =>
  gI M_8 12 a0 1 fun x_9 =>
  pI M_8 12 a_1 1 x_9 fun M_10 =>
  gI M_10 12 a0 2 fun x_11 =>
  pI M_10 12 a_1 2 x_11 fun M_12 =>
  gI M_12 12 a0 3 fun x_13 =>
  pI M_12 12 a_1 3 x_13 fun M_14 =>
  ∃ n_15, F_X12_copied_b42 Q Lc Ls a0 a_1 n_15 (0 : Int32) ((0 + 1) + c_5) ((0 + 17) + s_6) M_14
theorem met_X12_copied {M : gM} {a0 : Nat} {Q : Nat → gM → Prop} {Lc Ls : Nat} (hF : F_X12_copied Lc Ls M a0 Q) : gMt yX12_copied (ws_ yX12_copied cX12_copied 3 (some (.object "SendTheBox$House"))) (rm_X12_copied Lc Ls) M [.ref a0] (gQa Q) := by
  refine gMet (bytes := cX12_copied) (maxL := 3) (ret := (some (.object "SendTheBox$House"))) rfl rfl (by decide) (Nat.le_of_ble_eq_true rfl) (lv := [(0, .ref a0)]) rfl (fun G hC hin => ?_)
  have hu : 0 ≤ Lc ∧ 0 ≤ Ls := ⟨Nat.zero_le _, Nat.zero_le _⟩
  unfold F_X12_copied at hF
  have hu := hF.1
  refine g_new (C := RX12) (T := TX12) (N := 17) (ci := 12) in_X12 tyX12_ok (by decide) rfl q1260 q572 q92 3 hC hF dX12_copied_0 rfl (fun a_1 M_2 hF => ?_)
  refine g_dup 4 hC dX12_copied_3 rfl rfl ?_
  obtain ⟨c_5, s_6, hu, hF⟩ := hF
  refine g_cI (rest := [_]) q575 q92 q1261 q574 rfl hd_X12_init 7 hC (met_X12_init hF) rfl ⟨Nat.le_of_ble_eq_true rfl, Nat.le_of_ble_eq_true rfl⟩ hu rfl (Nat.le_of_ble_eq_true rfl) dX12_copied_4 rfl (g_ty_v ((0 + 1) + c_5) ((0 + 17) + s_6) (Nat.le_refl _) (Nat.le_refl _) (fun M_3 hF => ?_))
  refine g_astore_n 8 hC (lv' := [(1, .ref _), (0, .ref _)]) dX12_copied_7 rfl rfl (by decide) rfl ?_
  refine g_aload_n 9 hC dX12_copied_8 rfl 0 rfl rfl ?_
  refine g_aload_n 10 hC dX12_copied_9 rfl 1 rfl rfl ?_
  refine gf_X12_9_12I 13 hC hF dX12_copied_10 rfl (fun x_7 hF => ?_)
  refine g_putI (C := RX12) (T := TX12) (N := 17) (ci := 12) (k := 0) (ty := .int) in_X12 tyX12 tyX12_ok nmX12 rfl (by decide) q577 rfl rfl (fun _ _ _ => rfl) rfl rfl 16 hC hF dX12_copied_13 rfl (fun M_8 hF => ?_)
  refine g_aload_n 17 hC dX12_copied_16 rfl 0 rfl rfl ?_
  refine g_aload_n 18 hC dX12_copied_17 rfl 1 rfl rfl ?_
  refine gf_X12_15_12I 21 hC hF dX12_copied_18 rfl (fun x_9 hF => ?_)
  refine g_putI (C := RX12) (T := TX12) (N := 17) (ci := 12) (k := 1) (ty := .int) in_X12 tyX12 tyX12_ok nmX12 rfl (by decide) q581 rfl rfl (fun _ _ _ => rfl) rfl rfl 24 hC hF dX12_copied_21 rfl (fun M_10 hF => ?_)
  refine g_aload_n 25 hC dX12_copied_24 rfl 0 rfl rfl ?_
  refine g_aload_n 26 hC dX12_copied_25 rfl 1 rfl rfl ?_
  refine gf_X12_18_12I 29 hC hF dX12_copied_26 rfl (fun x_11 hF => ?_)
  refine g_putI (C := RX12) (T := TX12) (N := 17) (ci := 12) (k := 2) (ty := .int) in_X12 tyX12 tyX12_ok nmX12 rfl (by decide) q585 rfl rfl (fun _ _ _ => rfl) rfl rfl 32 hC hF dX12_copied_29 rfl (fun M_12 hF => ?_)
  refine g_aload_n 33 hC dX12_copied_32 rfl 0 rfl rfl ?_
  refine g_aload_n 34 hC dX12_copied_33 rfl 1 rfl rfl ?_
  refine gf_X12_38_12I 37 hC hF dX12_copied_34 rfl (fun x_13 hF => ?_)
  refine g_putI (C := RX12) (T := TX12) (N := 17) (ci := 12) (k := 3) (ty := .int) in_X12 tyX12 tyX12_ok nmX12 rfl (by decide) q588 rfl rfl (fun _ _ _ => rfl) rfl rfl 40 hC hF dX12_copied_37 rfl (fun M_14 hF => ?_)
  refine g_iconst 41 hC (0 : Int32) dX12_copied_40 (by decide) rfl ?_
  refine g_istore_n 42 hC (lv' := [(2, .int _), (1, .ref _), (0, .ref _)]) dX12_copied_41 rfl rfl (by decide) rfl ?_
  refine g_sub [2, 1, 0] rfl ?_
  obtain ⟨n_15, hF⟩ := hF
  exact w_X12_copied_b42 hC _ _ n_15 _ _ _ hu _ hF
theorem hd_X12_copied : yX12_copied.cls = RX12 ∧ yX12_copied.cls ≠ "java/lang/invoke/MethodHandle" ∧ yX12_copied.cls ≠ "java/lang/invoke/VarHandle" ∧ (parseMethodDescriptor yX12_copied.desc).map (fun d => d.parameters.length) = some 0 := by decide +kernel
theorem wl_X12_48 : GoodIn lw_all (wsV RX12 48 RX12 yX12_copied (ws_ yX12_copied cX12_copied 3 (some (.object "SendTheBox$House")))) := lw_V q1256 q1257 q1258 q92 q1259
abbrev rm_X12_joined (Lc Ls : Nat) : Room := { frames := 3, cells := Lc, slots := Ls, locals := 66 }
def F_X12_joined_b7 (Q : Nat → gM → Prop)  (Lc Ls : Nat)  (a1 : Nat) (a2 : Nat) : Nat → Int32 → Nat → Nat → gM → Prop
  | 0, _, _, _, _ => False
  | n + 1, x3, u, v, M =>
    gI M 12 a1 4 fun x_1 =>
    ((x_1 ≤ x3 →
      Q a2 M) ∧
      (¬ x_1 ≤ x3 →
      rc M 12 a2 ∧ F_X12_takes M a2 a1 x3 fun M_2 =>
      (F_X12_joined_b7 Q Lc Ls a1 a2 n) (x3 + (1 : Int32)) u v M_2))
theorem w_X12_joined_b7 {G : gG} {Q : Nat → gM → Prop} {Lc Ls : Nat} (hC : gCx G cX12_joined 4 RX12 (some (.object "SendTheBox$House")) (gQa Q) (rm_X12_joined Lc Ls))  (a1 : Nat) (a2 : Nat)  : ∀ (n : Nat) (x3 : Int32) (u v : Nat) (hu : u ≤ Lc ∧ v ≤ Ls) (M : gM), F_X12_joined_b7 Q Lc Ls a1 a2 n x3 u v M → gAt G u v M [(1, .ref a1), (2, .ref a2), (3, .int x3)] 7 [] := by
  intro n
  induction n with
  | zero =>
    intro x3 u v hu M hF
    exact hF.elim
  | succ n ih =>
    intro x3 u v hu M hF
    have hK7 := ih
    unfold F_X12_joined_b7 at hF
    refine g_iload_n 8 hC dX12_joined_7 rfl 2 rfl rfl ?_
    refine g_aload_n 9 hC dX12_joined_8 rfl 0 rfl rfl ?_
    refine gf_X12_41_12I 12 hC hF dX12_joined_9 rfl (fun x_1 hF => ?_)
    refine g_icmp_ge 15 27 hC dX12_joined_12 (by decide) rfl (fun c => ?_) (fun c => ?_)
    · have hF := hF.1 c
      refine g_aload_n 28 hC dX12_joined_27 rfl 1 rfl rfl ?_
      exact g_areturn (v := some a2) hC (Or.inl ⟨_, rfl⟩) ⟨_, rfl, hF⟩ dX12_joined_28 hu.1 hu.2
    · have hF := hF.2 c
      refine g_aload_n 16 hC dX12_joined_15 rfl 1 rfl rfl ?_
      refine g_aload_n 17 hC dX12_joined_16 rfl 0 rfl rfl ?_
      refine g_iload_n 18 hC dX12_joined_17 rfl 2 rfl rfl ?_
      refine g_cV (rest := []) wl_X12_44 hd_X12_takes (ci := 12) rfl 21 hC hF.1 (met_X12_takes hF.2) rfl ⟨Nat.le_of_ble_eq_true rfl, Nat.le_of_ble_eq_true rfl⟩ hu rfl (Nat.le_of_ble_eq_true rfl) dX12_joined_18 rfl (g_ty_v u v (Nat.le_refl _) (Nat.le_refl _) (fun M_2 hF => ?_))
      refine g_iinc 24 hC (x3 + (1 : Int32)) (lv' := [(3, .int _), (1, .ref _), (2, .ref _)]) dX12_joined_21 rfl 2 rfl rfl (by decide) rfl ?_
      refine g_goto 7 hC dX12_joined_24 (by decide) ?_
      refine g_sub [1, 2, 0] rfl ?_
      exact hK7 _ _ _ hu _ hF
def F_X12_joined (Lc Ls : Nat) (M : gM) (a0 : Nat) (a1 : Nat) (Q : Nat → gM → Prop)  : Prop :=
  ∃ c_3 s_4, (0 + c_3 ≤ Lc ∧ 0 + s_4 ≤ Ls) ∧
  rc M 12 a0 ∧ F_X12_copied c_3 s_4 M a0 fun a_2 M_1 =>
  ∃ n_5, F_X12_joined_b7 Q Lc Ls a1 a_2 n_5 (0 : Int32) (0 + c_3) (0 + s_4) M_1
theorem met_X12_joined {M : gM} {a0 : Nat} {a1 : Nat} {Q : Nat → gM → Prop} {Lc Ls : Nat} (hF : F_X12_joined Lc Ls M a0 a1 Q) : gMt yX12_joined (ws_ yX12_joined cX12_joined 4 (some (.object "SendTheBox$House"))) (rm_X12_joined Lc Ls) M [.ref a0, .ref a1] (gQa Q) := by
  refine gMet (bytes := cX12_joined) (maxL := 4) (ret := (some (.object "SendTheBox$House"))) rfl rfl (by decide) (Nat.le_of_ble_eq_true rfl) (lv := [(0, .ref a0), (1, .ref a1)]) rfl (fun G hC hin => ?_)
  have hu : 0 ≤ Lc ∧ 0 ≤ Ls := ⟨Nat.zero_le _, Nat.zero_le _⟩
  unfold F_X12_joined at hF
  refine g_aload_n 1 hC dX12_joined_0 rfl 0 rfl rfl ?_
  obtain ⟨c_3, s_4, hu, hF⟩ := hF
  refine g_cV (rest := []) wl_X12_48 hd_X12_copied (ci := 12) rfl 4 hC hF.1 (met_X12_copied hF.2) rfl ⟨Nat.le_of_ble_eq_true rfl, Nat.le_of_ble_eq_true rfl⟩ hu rfl (Nat.le_of_ble_eq_true rfl) dX12_joined_1 rfl (g_ty_a (0 + c_3) (0 + s_4) (Nat.le_refl _) (Nat.le_refl _) (fun a_2 M_1 hF => ?_))
  refine g_astore_n 5 hC (lv' := [(2, .ref _), (0, .ref _), (1, .ref _)]) dX12_joined_4 rfl rfl (by decide) rfl ?_
  refine g_iconst 6 hC (0 : Int32) dX12_joined_5 (by decide) rfl ?_
  refine g_istore_n 7 hC (lv' := [(3, .int _), (2, .ref _), (0, .ref _), (1, .ref _)]) dX12_joined_6 rfl rfl (by decide) rfl ?_
  refine g_sub [3, 1, 0] rfl ?_
  obtain ⟨n_5, hF⟩ := hF
  exact w_X12_joined_b7 hC _ _ n_5 _ _ _ hu _ hF