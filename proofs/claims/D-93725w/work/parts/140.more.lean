/-! ROWS of gAt: statics, String constants, new cells -/
set_option maxRecDepth 100000
theorem g_cat1 (r : Option Nat) : (va_rf r).category = 1 := by cases r <;> rfl
theorem g_narR (ty : FieldType) (r : Option Nat) (h : ty.isReference = true) : narrow ty (va_rf r) = va_rf r := by
  cases ty <;> cases r <;> first | rfl | cases h
theorem g_fitR (ty : FieldType) (r : Option Nat) (h : ty.isReference = true) : fits ty (va_rf r) = true := by
  cases ty <;> cases r <;> first | rfl | cases h
theorem g_old {s0 s : State} {C n d : String} {v : Value} (hW : s0.WarmedH s.vm) (hX : gX s0 s.heap) (h : va_Z C n d v (gA s0) s0 s0.heap) : va_Z C n d v (gA s0) s s.heap := (va_Z.kept h (fun q h1 _ => hX.2 q h1)).moved hW.alike
theorem g_oldq {s0 s : State} {C n d : String} (hW : s0.WarmedH s.vm) (hX : gX s0 s.heap) (h : va_Zq C n d (gA s0) s0 s0.heap) : va_Zq C n d (gA s0) s s.heap := (va_Zq.kept h (fun q h1 _ => hX.2 q h1)).moved hW.alike
theorem g_notA {s0 : State} : ∀ a : Nat, a < s0.heap.size → ¬ gA s0 a := fun a h z => absurd (Nat.lt_of_lt_of_le h z) (Nat.lt_irrefl _)
theorem sz_compact {s0 : State} {b : Nat} {D : va_G} {dA : FieldType → ClassId} (h : gS0 s0 b D dA) : va_Z "java/lang/String" "COMPACT_STRINGS" "Z" (.int 1) (gA s0) s0 s0.heap :=
  va_Zof (h.2.1 _ q699) (h.2.1 _ (lw_all_tbl q77)) (va_eqi (flat_of_before _ h.2.2.1 _ (by decide +kernel))) g_notA
theorem sz_hi {s0 : State} {b : Nat} {D : va_G} {dA : FieldType → ClassId} (h : gS0 s0 b D dA) : va_Z "java/lang/StringUTF16" "HI_BYTE_SHIFT" "I" (.int 0) (gA s0) s0 s0.heap :=
  va_Zof (h.2.1 _ q798) (h.2.1 _ (lw_all_tbl q95)) (va_eqi (flat_of_before _ h.2.2.1 _ (by decide +kernel))) g_notA
theorem sz_lo {s0 : State} {b : Nat} {D : va_G} {dA : FieldType → ClassId} (h : gS0 s0 b D dA) : va_Z "java/lang/StringUTF16" "LO_BYTE_SHIFT" "I" (.int 8) (gA s0) s0 s0.heap :=
  va_Zof (h.2.1 _ q800) (h.2.1 _ (lw_all_tbl q95)) (va_eqi (flat_of_before _ h.2.2.1 _ (by decide +kernel))) g_notA
theorem sz_assert {s0 : State} {b : Nat} {D : va_G} {dA : FieldType → ClassId} (h : gS0 s0 b D dA) : va_Z "java/lang/StringUTF16" "$assertionsDisabled" "Z" (.int 1) (gA s0) s0 s0.heap :=
  va_Zof (h.2.1 _ q796) (h.2.1 _ (lw_all_tbl q95)) (va_eqi (flat_of_before _ h.2.2.1 _ (by decide +kernel))) g_notA
theorem sq_form {s0 : State} {b : Nat} {D : va_G} {dA : FieldType → ClassId} (h : gS0 s0 b D dA) : va_Zq "jdk/internal/util/Preconditions" "SIOOBE_FORMATTER" "Ljava/util/function/BiFunction;" (gA s0) s0 s0.heap :=
  va_Zqof (h.2.1 _ q788) (h.2.1 _ (lw_all_tbl q100)) (flat_of_before _ h.2.2.1 _ (by decide +kernel)) g_notA
theorem sq_unas {s0 : State} {b : Nat} {D : va_G} {dA : FieldType → ClassId} (h : gS0 s0 b D dA) : va_Zq "java/lang/Throwable" "UNASSIGNED_STACK" "[Ljava/lang/StackTraceElement;" (gA s0) s0 s0.heap :=
  va_Zqof (h.2.1 _ q186) (h.2.1 _ (lw_all_tbl q73)) (flat_of_before _ h.2.2.1 _ (by decide +kernel)) g_notA
theorem sq_sent {s0 : State} {b : Nat} {D : va_G} {dA : FieldType → ClassId} (h : gS0 s0 b D dA) : va_Zq "java/lang/Throwable" "SUPPRESSED_SENTINEL" "Ljava/util/List;" (gA s0) s0 s0.heap :=
  va_Zqof (h.2.1 _ q188) (h.2.1 _ (lw_all_tbl q73)) (flat_of_before _ h.2.2.1 _ (by decide +kernel)) g_notA
/-- new array, new object, reference store: the words of the F's -/
def nA (M : gM) (u v Lc Ls : Nat) (ty : FieldType) (i : Int32) (N : Nat) (κ : Nat → gM → Prop) : Prop := (¬ i < 0 ∧ i.toNatClampNeg = N ∧ N ≤ 1000000) ∧ (u + 1 ≤ Lc ∧ v + N ≤ Ls) ∧ ∀ q, kd M q = none → κ q (sN M q (.inr (ty, N)))
def nO (M : gM) (u v Lc Ls : Nat) (ci N : Nat) (κ : Nat → gM → Prop) : Prop := (u + 1 ≤ Lc ∧ v + N ≤ Ls) ∧ ∀ q, kd M q = none → κ q (sN M q (.inl ci))
def uR (M : gM) (ty : FieldType) (ci : Nat) (a : Nat) (i : Int32) (x : Nat) (κ : gM → Prop) : Prop := (∃ n, kd M a = some (true, .inr (ty, n)) ∧ vp_in i n) ∧ rc M ci x ∧ κ (sR M a i.toNatClampNeg (some x))
theorem g_dflt (ty : FieldType) (h : ty ≠ .float ∧ ty ≠ .double) : defaultValue ty = gv ty 0 0 none := by
  cases ty <;> first | rfl | exact absurd rfl h.1 | exact absurd rfl h.2
section GMORE
variable {G : gG} {cc : ByteArray} {nL : Nat} {own : String} {ret : Option FieldType} {Qf : Option Value → gM → Prop} {rm : Room} {cells slots : Nat} {M : gM} {lv : List (Nat × Value)} {pc : Nat} {st : List Value}
theorem g_gets (n : Nat) (hC : gCx G cc nL own ret Qf rm) {C nm ds : String} {index : Nat} {v : Value} (hZ : ∀ {s0 : State} {b : Nat} {D : va_G} {dA : FieldType → ClassId}, gS0 s0 b D dA → va_Z C nm ds v (gA s0) s0 s0.heap) (hlink : (Cond.fieldLink own index C nm ds) ∈ lw_all) (hdg : decode cc pc = .ok (.getstatic index, 3)) (hn : pc + 3 = n) (k : gAt G cells slots M lv n (v :: st)) : gAt G cells slots M lv pc st := by
  obtain ⟨⟨s0, D, dA⟩, ⟨p, l, e, R⟩, ⟨s, m, args, below, meth, c⟩, nL', Q⟩ := G
  obtain ⟨⟨hx, hb, hml, hown, hts⟩, hret, hlk, hW0, hX0, hfl, ⟨b0, hS0⟩, rfl, rfl, hQ⟩ := hC
  subst hn
  intro H locs ls h1 h2 h3
  exact va_gets hx hb (g_old hW0 hX0 (hZ hS0)) h2 hown (hts _ hlink) (fun _ h => h) hdg (k H locs ls h1 h2 h3)
theorem g_getsq (n : Nat) (hC : gCx G cc nL own ret Qf rm) {C nm ds : String} {index : Nat} (hZ : ∀ {s0 : State} {b : Nat} {D : va_G} {dA : FieldType → ClassId}, gS0 s0 b D dA → va_Zq C nm ds (gA s0) s0 s0.heap) (hlink : (Cond.fieldLink own index C nm ds) ∈ lw_all) (hdg : decode cc pc = .ok (.getstatic index, 3)) (hn : pc + 3 = n) (k : ∀ r, gAt G cells slots M lv n (va_rf r :: st)) : gAt G cells slots M lv pc st := by
  obtain ⟨⟨s0, D, dA⟩, ⟨p, l, e, R⟩, ⟨s, m, args, below, meth, c⟩, nL', Q⟩ := G
  obtain ⟨⟨hx, hb, hml, hown, hts⟩, hret, hlk, hW0, hX0, hfl, ⟨b0, hS0⟩, rfl, rfl, hQ⟩ := hC
  subst hn
  intro H locs ls h1 h2 h3
  rcases g_oldq hW0 hX0 (hZ hS0) with h | ⟨t, h⟩
  · exact va_gets hx hb h h2 hown (hts _ hlink) (fun _ h => h) hdg (k none H locs ls h1 h2 h3)
  · exact va_gets hx hb h h2 hown (hts _ hlink) (fun _ h => h) hdg (k (some t) H locs ls h1 h2 h3)
theorem g_getsP (n : Nat) (hC : gCx G cc nL own ret Qf rm) {index : Nat} (hlink : (Cond.fieldLink own index "SendTheBox" "PLACE" "[I") ∈ lw_all) (hdg : decode cc pc = .ok (.getstatic index, 3)) (hn : pc + 3 = n) (k : gAt G cells slots M lv n (.ref (gl M 0) :: st)) : gAt G cells slots M lv pc st := by
  obtain ⟨⟨s0, D, dA⟩, ⟨p, l, e, R⟩, ⟨s, m, args, below, meth, c⟩, nL', Q⟩ := G
  obtain ⟨⟨hx, hb, hml, hown, hts⟩, hret, hlk, hW0, hX0, hfl, ⟨b0, hS0⟩, rfl, rfl, hQ⟩ := hC
  subst hn
  intro H locs ls h1 h2 h3
  exact va_gets hx hb (g_old hW0 hX0 h1.2.2.1) h2 hown (hts _ hlink) (fun _ h => h) hdg (k H locs ls h1 h2 h3)
theorem g_getsPN (n : Nat) (hC : gCx G cc nL own ret Qf rm) {index : Nat} {host : String} (hlink : (Cond.fieldLinkNest own index "SendTheBox" "PLACE" "[I" host) ∈ lw_tbl) (hdg : decode cc pc = .ok (.getstatic index, 3)) (hn : pc + 3 = n) (k : gAt G cells slots M lv n (.ref (gl M 0) :: st)) : gAt G cells slots M lv pc st := by
  obtain ⟨⟨s0, D, dA⟩, ⟨p, l, e, R⟩, ⟨s, m, args, below, meth, c⟩, nL', Q⟩ := G
  obtain ⟨⟨hx, hb, hml, hown, hts⟩, hret, hlk, hW0, hX0, hfl, ⟨b0, hS0⟩, rfl, rfl, hQ⟩ := hC
  subst hn
  intro H locs ls h1 h2 h3
  exact va_getsN hx hb (g_old hW0 hX0 h1.2.2.1) h2 hown (va_Nw.use rfl (va_Nw.warmF hW0 (va_Nw.of rfl (hS0.2.1 _ hlink)))) (fun _ h => h) hdg (k H locs ls h1 h2 h3)
theorem g_ldcS (n : Nat) (hC : gCx G cc nL own ret Qf rm) {index j : Nat} {tx : String} (hj : gStr[j]? = some (own, index, tx)) (hdg : decode cc pc = .ok (.ldc index, 2)) (hn : pc + 2 = n) (k : gAt G cells slots M lv n (.ref (gl M (j + 1)) :: st)) : gAt G cells slots M lv pc st := by
  obtain ⟨⟨s0, D, dA⟩, ⟨p, l, e, R⟩, ⟨s, m, args, below, meth, c⟩, nL', Q⟩ := G
  obtain ⟨⟨hx, hb, hml, hown, hts⟩, hret, hlk, hW0, hX0, hfl, ⟨b0, hS0⟩, rfl, rfl, hQ⟩ := hC
  subst hn
  intro H locs ls h1 h2 h3
  exact va_ldcS hx hb hown (vk_R.warm hW0 (h1.2.2.2 j _ hj)) hdg (k H locs ls h1 h2 h3)
theorem g_objInit (n : Nat) (hC : gCx G cc nL own ret Qf rm) {index a : Nat} (hl : (Cond.methodLink own index objectInit) ∈ lw_all) (hi : (Cond.instanceMethod objectInit) ∈ lw_all) (hc : (Cond.code objectInit ⟨#[0xb1]⟩ 1 none) ∈ lw_all) (hf : 1 ≤ rm.frames) (hlo : (st.map fun v => v.category).sum + 12 ≤ rm.locals) (hdg : decode cc pc = .ok (.invokespecial index, 3)) (hn : pc + 3 = n) (k : gAt G cells slots M lv n st) : gAt G cells slots M lv pc (.ref a :: st) := by
  obtain ⟨⟨s0, D, dA⟩, ⟨p, l, e, R⟩, ⟨s, m, args, below, meth, c⟩, nL', Q⟩ := G
  obtain ⟨⟨hx, hb, hml, hown, hts⟩, hret, hlk, hW0, hX0, hfl, ⟨b0, hS0⟩, rfl, rfl, hQ⟩ := hC
  subst hn
  intro H locs ls h1 h2 h3
  exact W.objInit hx hb hown (hts _ hl) (hts _ hi) (hts _ hc) rfl (by rw [hml]; exact h3.1) rfl hdg hf (by show 2 * 0 + _ + 12 ≤ _; rw [Nat.mul_zero, Nat.zero_add]; exact hlo) (k H locs ls h1 h2 h3)
theorem g_newa (n : Nat) (hC : gCx G cc nL own ret Qf rm) {atype : ArrayType} {ty : FieldType} (hty : newarray.typeOf atype = ty) (hin : ty ∈ gTl) (hra : ∀ (U : State) (cA : ClassId), va_RA U cA ty → U.vm.findClass ("[" ++ ty.toString) = some cA) (hdf : ty ≠ .float ∧ ty ≠ .double) (hcb : componentBytes ty ≤ 8) (harr : (Cond.arrayClass ty) ∈ lw_all) {i : Int32} {N : Nat} {κ : Nat → gM → Prop} (hF : nA M cells slots rm.cells rm.slots ty i N κ) (hdg : decode cc pc = .ok (.newarray atype, 2)) (hn : pc + 2 = n) (kk : ∀ q M1, κ q M1 → gAt G (cells + 1) (slots + N) M1 lv n (.ref q :: st)) : gAt G cells slots M lv pc (.int i :: st) := by
  obtain ⟨⟨s0, D, dA⟩, ⟨p, l, e, R⟩, ⟨s, m, args, below, meth, c⟩, nL', Q⟩ := G
  obtain ⟨⟨hx, hb, hml, hown, hts⟩, hret, hlk, hW0, hX0, hfl, ⟨b0, hS0⟩, rfl, rfl, hQ⟩ := hC
  subst hn
  subst hty
  obtain ⟨⟨i1, i2, i3⟩, ⟨b1, b2⟩, hF⟩ := hF
  intro H locs ls h1 h2 h3
  refine va_newaK hx hb (hts _ harr) rfl hdg rfl i1 i2 (by have := Nat.mul_le_mul i3 hcb; omega) b1 b2 rfl fun H1 cA e1 z1 o1 hAr hNm => ?_
  obtain ⟨t0, ht0⟩ := List.getElem?_of_mem hin
  have hra := hra s _ ((g_kT hS0 hW0).2 t0 (dA _, _) (by rw [List.getElem?_map, ht0]; rfl)).2
  have hcA : cA = dA (newarray.typeOf atype) := Option.some.inj (hNm.symm.trans hra)
  subst hcA
  obtain ⟨g1, g2⟩ := gC.new (t := .inr (newarray.typeOf atype, N)) h1 (hX0.of h2).1 o1 (by
    unfold gat
    have : (sN M H.size (.inr (newarray.typeOf atype, N))).1 H.size = some (true, .inr (newarray.typeOf atype, N)) := if_pos rfl
    rw [this]
    show H1[H.size]? = some (arrV _ N _)
    rw [e1]
    congr 2
    funext k
    rw [g_dflt _ hdf]
    show _ = gv _ (if H.size = H.size then 0 else _) (if H.size = H.size then 0 else _) (if H.size = H.size then none else _)
    rw [if_pos rfl, if_pos rfl, if_pos rfl])
  exact kk H.size _ (hF H.size g2) H1 locs ls g1 ⟨Nat.le_trans h2.1 (by omega), fun x q1 q2 => (o1 x (Nat.lt_of_lt_of_le q1 h2.1)).trans (h2.2.1 x q1 q2), h2.2.2⟩ h3
theorem g_new {C : String} {T : u_T} {N ci index : Nat} (hin : ∀ w ∈ u_ws C T N, w ∈ lw_all) (hty : ∀ k, k < N → parseFieldDescriptor (T k).2.2.1 = some (gTy ci k)) (hdf : ∀ k, k < N → gTy ci k ≠ .float ∧ gTy ci k ≠ .double) (hc : gCl[ci]? = some (C, T, N)) (hcl : (Cond.classLink own index C) ∈ lw_all) (hinst : (Cond.instantiable C N) ∈ lw_all) (hini : (Cond.initialized C) ∈ lw_all) (n : Nat) (hC : gCx G cc nL own ret Qf rm) {κ : Nat → gM → Prop} (hF : nO M cells slots rm.cells rm.slots ci N κ) (hdg : decode cc pc = .ok (.new index, 3)) (hn : pc + 3 = n) (kk : ∀ q M1, κ q M1 → gAt G (cells + 1) (slots + N) M1 lv n (.ref q :: st)) : gAt G cells slots M lv pc st := by
  obtain ⟨⟨s0, D, dA⟩, ⟨p, l, e, R⟩, ⟨s, m, args, below, meth, c⟩, nL', Q⟩ := G
  obtain ⟨⟨hx, hb, hml, hown, hts⟩, hret, hlk, hW0, hX0, hfl, ⟨b0, hS0⟩, rfl, rfl, hQ⟩ := hC
  subst hn
  obtain ⟨⟨b1, b2⟩, hF⟩ := hF
  intro H locs ls h1 h2 h3
  have hKn := (g_kT hS0 hW0).1 ci _ hc
  refine W.newcK hx hb hown (hts _ hcl) (hts _ hinst) (hts _ hini) rfl hdg b1 b2 hKn.2.1 rfl fun H1 kC hkC e1 z1 o1 => ?_
  obtain ⟨g1, g2⟩ := gC.new (t := .inl ci) h1 (hX0.of h2).1 o1 (by
    unfold gat
    have : (sN M H.size (.inl ci)).1 H.size = some (true, .inl ci) := if_pos rfl
    rw [this]
    refine ⟨_, hc, (u_born (gTy ci) hts hin hKn hkC e1 hty).to (fun k hk => ?_)⟩
    rw [g_dflt _ (hdf k hk)]
    show _ = gv _ (if H.size = H.size then 0 else _) (if H.size = H.size then 0 else _) (if H.size = H.size then none else _)
    rw [if_pos rfl, if_pos rfl, if_pos rfl])
  exact kk H.size _ (hF H.size g2) H1 locs ls g1 ⟨Nat.le_trans h2.1 (by omega), fun x q1 q2 => (o1 x (Nat.lt_of_lt_of_le q1 h2.1)).trans (h2.2.1 x q1 q2), h2.2.2⟩ h3
end GMORE
