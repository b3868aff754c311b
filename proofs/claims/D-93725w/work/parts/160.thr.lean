/-! THROWING METHODS AND HANDLERS over gAt -/
set_option maxRecDepth 100000
def gXC (Xf : String → Nat → gM → Prop) (s0 : State) (D : va_G) (dA : FieldType → ClassId) : String → Addr → State → State → Prop := fun E q st t => (∃ u, Xf E q u ∧ gC s0 D dA u t.heap) ∧ va_F (gA s0) st t
def gMx (y : MethodName) (ws : List Cond) (rm : Room) (M : gM) (av : List Value) (Qf : Option Value → gM → Prop) (Xf : String → Nat → gM → Prop) : Prop :=
  ∀ (l : Launch) (s0 : State) (b : Nat) (D : va_G) (dA : FieldType → ClassId), l.flags = flags0 → gS0 s0 b D dA → vx_Met l y ws rm (va_Pc av (gU s0 D dA M)) (gQ Qf s0 D dA) (gXC Xf s0 D dA) rm.cells rm.slots (gA s0)
/-- a cell is thrown in the frame at pc -/
def gTh (G : gG) (cells slots : Nat) (M : gM) (lv : List (Nat × Value)) (pc : Nat) (E : String) (q : Nat) : Prop := match G with
  | ((s0, D, dA), (p, l, e, R), (s, m, args, below, meth, c), nL, Q) => ∀ (H : Heap) (locs : List Loc) (ls : Array Slot) (ce : Cell) (rest : List Value), gC s0 D dA M H → va_S (gA s0) s.heap H locs → lv_has ls nL lv → H[q]? = some ce → ce.vm = .none → s.vm.findClass E = some ce.cls → vx_W p l e R s m args below meth c H locs cells slots Q (F0 m pc ls rest) q
/-- what a throw out of the method owes, and the handlers' table -/
def gTx (G : gG) (Xf : String → Nat → gM → Prop) (rm : Room) (tb : List ExceptionTableEntry) : Prop := match G with
  | ((s0, D, dA), (p, l, e, R), (s, m, args, below, meth, c), nL, Q) => c.exceptionTable.toList = tb ∧ ∀ t, vx_MQ below (fun _ _ _ _ => False) (gXC Xf s0 D dA) args s rm.cells rm.slots (gA s0) t → Q t
theorem gMetX {y : MethodName} {ws ws' : List Cond} {bytes : ByteArray} {maxL : Nat} {ret : Option FieldType} {rm : Room} {M : gM} {av : List Value} {Qf : Option Value → gM → Prop} {Xf : String → Nat → gM → Prop} (hw : ws = Cond.code y bytes maxL ret :: ws') (hlw : ws' = lw_all) (hy : plainName y.cls = true) (hlen : (lg_sl av).length ≤ maxL) {lv : List (Nat × Value)} (hlv : lv_args 0 av = lv)
    (k : ∀ G : gG, gCx G bytes maxL y.cls ret Qf rm → gTx G Xf rm [] → G.2.2.1.2.2.2.2.1.name = y.name → gAt G 0 0 M lv 0 []) : gMx y ws rm M av Qf Xf := by
  intro l s0 b D dA hfl hS0
  refine vx_ofW (cc := bytes) (maxL := maxL) (ret := ret) hy hw ?_
  intro p e s m args below meth c s₁ B hml htb hv
  obtain ⟨rfl, hW0, hX0, hC0⟩ := hv
  have hts := atoms_spec (ws := ws) B.pre
  have hts : ∀ w ∈ lw_all, w.before av.toArray s = true := fun w h => hts w (by rw [hw, hlw]; exact List.mem_cons_of_mem _ h)
  have hown : s.vm.findClass y.cls = some m.cls := findClass_of_methodNamed B.named
  have hl := lv_entry av (n := maxL) hlen
  rw [lg_entry_eq]
  have key := k ((s0, D, dA), (p, l, e, rm), (s, m, av.toArray, below, meth, c), maxL, vx_MQ below (gQ Qf s0 D dA) (gXC Xf s0 D dA) av.toArray s rm.cells rm.slots (gA s0)) ⟨⟨B.exec, B.bytes, hml, hown, hts⟩, B.returns, B.notSynchronized, hW0, hX0, hfl, ⟨b, hS0⟩, rfl, rfl, fun t ⟨o, h1, h2, h3, h4⟩ => ⟨o, h1, h2, Or.inl ⟨h3, h4⟩⟩⟩
    ⟨List.eq_nil_iff_forall_not_mem.mpr (fun x hx => htb x hx), fun t ⟨o, h1, h2, h3⟩ => ⟨o, h1, h2, h3.elim (fun z => z.1.elim) Or.inr⟩⟩ (name_of_methodNamed B.named B.method).1
  exact key s.heap [] _ hC0 va_S.rf (by rw [← hlv]; exact hl)
theorem gMetH {y : MethodName} {ws ws' : List Cond} {bytes : ByteArray} {maxL : Nat} {ret : Option FieldType} {hh : List (Nat × Nat × Nat × Nat)} {rm : Room} {M : gM} {av : List Value} {Qf : Option Value → gM → Prop} {Xf : String → Nat → gM → Prop} (hw : ws = Cond.codeWith y bytes maxL ret hh :: ws') (hlw : ws' = lw_all) (hy : plainName y.cls = true) (hlen : (lg_sl av).length ≤ maxL) {lv : List (Nat × Value)} (hlv : lv_args 0 av = lv)
    (k : ∀ G : gG, gCx G bytes maxL y.cls ret Qf rm → gTx G Xf rm (tableOf hh) → G.2.2.1.2.2.2.2.1.name = y.name → gAt G 0 0 M lv 0 []) : gMx y ws rm M av Qf Xf := by
  intro l s0 b D dA hfl hS0
  refine vx_ofWH (cc := bytes) (maxL := maxL) (ret := ret) hy hw ?_
  intro p e s m args below meth c s₁ B hml hv
  obtain ⟨rfl, hW0, hX0, hC0⟩ := hv
  have hts0 := atoms_spec (ws := ws) B.pre
  have hts : ∀ w ∈ lw_all, w.before av.toArray s = true := fun w h => hts0 w (by rw [hw, hlw]; exact List.mem_cons_of_mem _ h)
  have htb : c.exceptionTable.toList = tableOf hh := vx_table (x := y) (y := y) B (hts0 _ (by rw [hw]; exact List.mem_cons_self))
  have hown : s.vm.findClass y.cls = some m.cls := findClass_of_methodNamed B.named
  have hl := lv_entry av (n := maxL) hlen
  rw [lg_entry_eq]
  have key := k ((s0, D, dA), (p, l, e, rm), (s, m, av.toArray, below, meth, c), maxL, vx_MQ below (gQ Qf s0 D dA) (gXC Xf s0 D dA) av.toArray s rm.cells rm.slots (gA s0)) ⟨⟨B.exec, B.bytes, hml, hown, hts⟩, B.returns, B.notSynchronized, hW0, hX0, hfl, ⟨b, hS0⟩, rfl, rfl, fun t ⟨o, h1, h2, h3, h4⟩ => ⟨o, h1, h2, Or.inl ⟨h3, h4⟩⟩⟩
    ⟨htb, fun t ⟨o, h1, h2, h3⟩ => ⟨o, h1, h2, h3.elim (fun z => z.1.elim) Or.inr⟩⟩ (name_of_methodNamed B.named B.method).1
  exact key s.heap [] _ hC0 va_S.rf (by rw [← hlv]; exact hl)
theorem g_nc {s0 s : State} {b : Nat} {D : va_G} {dA : FieldType → ClassId} {E nm : String} (h : gS0 s0 b D dA) (hW : s0.WarmedH s.vm) (hm : (Cond.not (Cond.castable E nm)) ∈ flatC (Jvm.Cond.and given_1 narrow_1)) : va_Nc E nm s := va_Nc.moved hW.alike (va_Nc.of (flat_of_before _ h.2.2.1 _ hm))
section GTHR
variable {G : gG} {cc : ByteArray} {nL : Nat} {own : String} {ret : Option FieldType} {Qf : Option Value → gM → Prop} {Xf : String → Nat → gM → Prop} {rm : Room} {tb : List ExceptionTableEntry} {cells slots : Nat} {M : gM} {lv : List (Nat × Value)} {pc : Nat} {st : List Value}
/-- which handler's rows are passed by: it doesn't cover the place, or it is of another class -/
def gPass (own : String) (pc : Nat) (E : String) (z : ExceptionTableEntry) : Prop := covers z pc = false ∨ (z.catchType ≠ 0 ∧ ∃ nm : String, Cond.classLink own z.catchType nm ∈ lw_all ∧ (Cond.not (Cond.castable E nm)) ∈ flatC (Jvm.Cond.and given_1 narrow_1))
theorem g_athrow {ci : Nat} {C : String} {T : u_T} {N : Nat} (hc : gCl[ci]? = some (C, T, N)) (hC : gCx G cc nL own ret Qf rm) {q : Nat} (hk : kd M q = some (true, .inl ci)) (hdg : decode cc pc = .ok (.athrow, 1)) (k : gTh G cells slots M lv pc C q) : gAt G cells slots M lv pc (.ref q :: st) := by
  obtain ⟨⟨s0, D, dA⟩, ⟨p, l, e, R⟩, ⟨s, m, args, below, meth, c⟩, nL', Q⟩ := G
  obtain ⟨⟨hx, hb, hml, hown, hts⟩, hret, hlk, hW0, hX0, hfl, ⟨b0, hS0⟩, rfl, rfl, hQ⟩ := hC
  intro H locs ls h1 h2 h3
  obtain ⟨r, hr1, cell, q1, q2, q3, q4⟩ := g_objT (h1.1 q) hk
  obtain ⟨hS, hfc, -⟩ := (g_kT hS0 hW0).1 ci _ hc
  exact vx_athrow hx hb hdg (k H locs ls cell st h1 h2 h3 q1 q3 (by rw [q2]; exact hfc))
theorem g_out (hC : gCx G cc nL own ret Qf rm) (hT : gTx G Xf rm tb) {E : String} {q : Nat} (hp : ∀ z ∈ tb, gPass own pc E z) (hX : Xf E q M) (hu : cells ≤ rm.cells ∧ slots ≤ rm.slots) : gTh G cells slots M lv pc E q := by
  obtain ⟨⟨s0, D, dA⟩, ⟨p, l, e, R⟩, ⟨s, m, args, below, meth, c⟩, nL', Q⟩ := G
  obtain ⟨⟨hx, hb, hml, hown, hts⟩, hret, hlk, hW0, hX0, hfl, ⟨b0, hS0⟩, rfl, rfl, hQ⟩ := hC
  obtain ⟨htb, hQx⟩ := hT
  intro H locs ls ce rest h1 h2 h3 h4 h5 h6
  have key : vx_W p l e R s m args below meth c H locs cells slots (vx_MQ below (fun _ _ _ _ => False) (gXC Xf s0 D dA) args s R.cells R.slots (gA s0)) (F0 m pc ls rest) q := vx_outP hown hlk (fun z hz => (hp z (by rw [← htb]; exact hz)).imp id (fun ⟨h0, nm, k1, k2⟩ => ⟨h0, nm, hts _ k1, g_nc hS0 hW0 k2⟩)) h4 h5 h6 (fun t ht _ => ⟨⟨M, hX, by rw [ht]; exact h1⟩, h2.F ht⟩) h2.2.2 hu.1 hu.2
  exact fun T hT X => (key T hT X).imp (fun t q => ⟨q.1, hQx t q.2⟩)
theorem g_catch (hC : gCx G cc nL own ret Qf rm) (hT : gTx G Xf rm tb) {E name : String} {q : Nat} (pre : List ExceptionTableEntry) (x : ExceptionTableEntry) (suf : List ExceptionTableEntry) (hsp : tb = pre ++ x :: suf) (hp : ∀ z ∈ pre, gPass own pc E z) (hx' : covers x pc = true) (h0 : x.catchType ≠ 0) (hli : Cond.classLink own x.catchType name ∈ lw_all) (hca : Cond.castable E name ∈ lw_tbl) (t : Nat) (ht : x.handlerPc = t) (k : gAt G cells slots M lv t [.ref q]) : gTh G cells slots M lv pc E q := by
  obtain ⟨⟨s0, D, dA⟩, ⟨p, l, e, R⟩, ⟨s, m, args, below, meth, c⟩, nL', Q⟩ := G
  obtain ⟨⟨hx, hb, hml, hown, hts⟩, hret, hlk, hW0, hX0, hfl, ⟨b0, hS0⟩, rfl, rfl, hQ⟩ := hC
  obtain ⟨htb, hQx⟩ := hT
  subst ht
  intro H locs ls ce rest h1 h2 h3 h4 h5 h6
  exact vx_catch hown pre x suf (by rw [htb, hsp]) (fun z hz => (hp z hz).imp id (fun ⟨h0, nm, k1, k2⟩ => ⟨h0, nm, hts _ k1, g_nc hS0 hW0 k2⟩)) hx' h0 (hts _ hli) (va_Nw.use rfl (va_Nw.warmC hW0 (va_Nw.of rfl (hS0.2.1 _ hca)))) h4 h5 h6 (k H locs ls h1 h2 h3)
theorem g_afterX {s0 : State} {D : va_G} {dA : FieldType → ClassId} {p : Program} {l : Launch} {e : Env} {R : Room} {s : State} {m : MethodId} {args : Array Value} {below : List Frame} {meth : Method} {c : Code} {nL : Nat} {Q : State → Prop} {H : Heap} {locs : List Loc} {ls : Array Slot} {mc ms : Nat} {st0 rest : List Value} {Qf' : Option Value → gM → Prop} {Xf' : String → Nat → gM → Prop} {av : Array Value} {n : Nat} (hr : vx_Run p l e R s m args below meth c H locs cells slots mc ms (F0 m pc ls st0) rest (gQ Qf' s0 D dA av) (gXC Xf' s0 D dA) (gA s0)) (hn : pc + 3 = n) (h2 : va_S (gA s0) s.heap H locs) (h3 : lv_has ls nL lv)
    (kk : ∀ v M1, Qf' v M1 → gAt ((s0, D, dA), (p, l, e, R), (s, m, args, below, meth, c), nL, Q) (cells + mc) (slots + ms) M1 lv n (v.toList ++ rest))
    (kx : ∀ E q M1, Xf' E q M1 → gTh ((s0, D, dA), (p, l, e, R), (s, m, args, below, meth, c), nL, Q) (cells + mc) (slots + ms) M1 lv pc E q) : W p l e R s m args below meth c H locs cells slots Q (F0 m pc ls st0) := by
  subst hn
  intro T hT X
  rcases hr T hT X with ⟨v, st₀, t, T', L, h0, X', hL, e1, e2, ⟨⟨v', u, hv, hq, hc⟩, hz, hk⟩, st⟩ | ⟨q, st₀, t, T', L, E, ce, h0, X', hL, e1, e2, ⟨⟨u, hq, hc⟩, hz, hk⟩, hce, hcv, hcl, st⟩
  · cases hv
    rw [h0] at hz hk
    obtain ⟨t2, a1, b1⟩ := kk v u hq T'.heap (locs ++ L) ls (by rw [e1]; exact hc)
      ⟨Nat.le_trans h2.1 (by rw [e1]; exact hz), fun q g1 g2 => by rw [e1, hk q (Nat.lt_of_lt_of_le g1 h2.1) g2]; exact h2.2.1 q g1 g2, fun q hq => by
        rcases List.mem_append.mp hq with h | h
        · exact h2.2.2 q h
        · exact hL q h⟩ h3 T' rfl X'
    exact ⟨t2, st t2 a1, b1⟩
  · rw [h0] at hz hk
    obtain ⟨t2, a1, b1⟩ := kx E q u hq T'.heap (locs ++ L) ls ce rest (by rw [e1]; exact hc)
      ⟨Nat.le_trans h2.1 (by rw [e1]; exact hz), fun q g1 g2 => by rw [e1, hk q (Nat.lt_of_lt_of_le g1 h2.1) g2]; exact h2.2.1 q g1 g2, fun q hq => by
        rcases List.mem_append.mp hq with h | h
        · exact h2.2.2 q h
        · exact hL q h⟩ h3 (by rw [e1]; exact hce) hcv hcl T' rfl X'
    exact ⟨t2, st.trans a1, b1⟩
theorem g_xV {y : MethodName} {bytes : ByteArray} {maxL : Nat} {ret' : Option FieldType} {C : String} {T : u_T} {N ci index : Nat} {na : Nat} {rm' : Room} {a : Nat} {As rest st0 : List Value} {Qf' : Option Value → gM → Prop} {Xf' : String → Nat → gM → Prop} (hwd : GoodIn lw_all (wsV own index C y (ws_ y bytes maxL ret'))) (hd : y.cls = C ∧ y.cls ≠ "java/lang/invoke/MethodHandle" ∧ y.cls ≠ "java/lang/invoke/VarHandle" ∧ (parseMethodDescriptor y.desc).map (fun d => d.parameters.length) = some na) (hc : gCl[ci]? = some (C, T, N)) (n : Nat) (hC : gCx G cc nL own ret Qf rm) (hrc : rc M ci a) (hM : gMx y (ws_ y bytes maxL ret') rm' M (.ref a :: As) Qf' Xf') (hna : As.length = na) (hR : rm'.frames + 1 ≤ rm.frames ∧ 8 + (maxL + 11) + rm'.locals ≤ rm.locals) (hf : cells + rm'.cells ≤ rm.cells ∧ slots + rm'.slots ≤ rm.slots) (hst : st0 = As.reverse ++ .ref a :: rest) (hroom : (rest.map fun v => v.category).sum ≤ 8) (hdg : decode cc pc = .ok (.invokevirtual index, 3)) (hn : pc + 3 = n) (kk : ∀ v M1, Qf' v M1 → gAt G (cells + rm'.cells) (slots + rm'.slots) M1 lv n (v.toList ++ rest)) (kx : ∀ E q M1, Xf' E q M1 → gTh G (cells + rm'.cells) (slots + rm'.slots) M1 lv pc E q) : gAt G cells slots M lv pc st0 := by
  obtain ⟨⟨s0, D, dA⟩, ⟨p, l, e, R⟩, ⟨s, m, args, below, meth, c⟩, nL', Q⟩ := G
  obtain ⟨⟨hx, hb, hml, hown, hts⟩, hret, hlk, hW0, hX0, hfl, ⟨b0, hS0⟩, rfl, rfl, hQ⟩ := hC
  obtain ⟨w, hkd⟩ := hrc
  intro H locs ls h1 h2 h3
  refine g_afterX (vx_runV (As := As) (rest := rest) ⟨hx, hb, hml, hown, hts⟩ (hM l s0 b0 D dA hfl hS0) (cwV na hts hwd rfl rfl rfl hd hR) ⟨gU.blind, ?_, fun U hU hW => ⟨rfl, State.WarmedH.trans hW0 hW, by rw [hU]; exact hX0.of h2, by rw [hU]; exact h1⟩⟩ rfl hna h3.1 hst (lv_room hroom) hdg hf) hn h2 h3 kk kx
  obtain ⟨r, hr1, cell, q1, q2, q3, q4⟩ := g_obj (h1.1 a) hkd
  have hr : r = (C, T, N) := Option.some.inj (hr1.symm.trans hc)
  subst hr
  obtain ⟨hS, hfc, -⟩ := (g_kT hS0 hW0).1 ci _ hc
  exact ⟨cell, q1, q3.2, by rw [q2]; exact hfc⟩
theorem g_xS {y : MethodName} {bytes : ByteArray} {maxL : Nat} {ret' : Option FieldType} {index : Nat} {na : Nat} {rm' : Room} {As rest st0 : List Value} {Qf' : Option Value → gM → Prop} {Xf' : String → Nat → gM → Prop} (hwd : GoodIn lw_all (va_wsS own index y (ws_ y bytes maxL ret'))) (hd : y.cls ≠ "java/lang/invoke/MethodHandle" ∧ y.cls ≠ "java/lang/invoke/VarHandle" ∧ (parseMethodDescriptor y.desc).map (fun d => d.parameters.length) = some na) (n : Nat) (hC : gCx G cc nL own ret Qf rm) (hM : gMx y (ws_ y bytes maxL ret') rm' M As Qf' Xf') (hna : As.length = na) (hR : rm'.frames + 1 ≤ rm.frames ∧ 8 + (maxL + 11) + rm'.locals ≤ rm.locals) (hf : cells + rm'.cells ≤ rm.cells ∧ slots + rm'.slots ≤ rm.slots) (hst : st0 = As.reverse ++ rest) (hroom : (rest.map fun v => v.category).sum ≤ 8) (hdg : decode cc pc = .ok (.invokestatic index, 3)) (hn : pc + 3 = n) (kk : ∀ v M1, Qf' v M1 → gAt G (cells + rm'.cells) (slots + rm'.slots) M1 lv n (v.toList ++ rest)) (kx : ∀ E q M1, Xf' E q M1 → gTh G (cells + rm'.cells) (slots + rm'.slots) M1 lv pc E q) : gAt G cells slots M lv pc st0 := by
  obtain ⟨⟨s0, D, dA⟩, ⟨p, l, e, R⟩, ⟨s, m, args, below, meth, c⟩, nL', Q⟩ := G
  obtain ⟨⟨hx, hb, hml, hown, hts⟩, hret, hlk, hW0, hX0, hfl, ⟨b0, hS0⟩, rfl, rfl, hQ⟩ := hC
  intro H locs ls h1 h2 h3
  exact g_afterX (vx_runS (As := As) (rest := rest) ⟨hx, hb, hml, hown, hts⟩ (hM l s0 b0 D dA hfl hS0) (va_cwS na hts hwd rfl rfl rfl hd hR) ⟨gU.blind, fun U hU hW => ⟨rfl, State.WarmedH.trans hW0 hW, by rw [hU]; exact hX0.of h2, by rw [hU]; exact h1⟩⟩ rfl hna h3.1 hst (lv_room hroom) hdg hf) hn h2 h3 kk kx
theorem g_xVW {y : MethodName} {bytes : ByteArray} {maxL : Nat} {ret' : Option FieldType} {hh : List (Nat × Nat × Nat × Nat)} {C : String} {T : u_T} {N ci index : Nat} {na : Nat} {rm' : Room} {a : Nat} {As rest st0 : List Value} {Qf' : Option Value → gM → Prop} {Xf' : String → Nat → gM → Prop} (hwd : GoodIn lw_all (wsV own index C y (wsW_ y bytes maxL ret' hh))) (hd : y.cls = C ∧ y.cls ≠ "java/lang/invoke/MethodHandle" ∧ y.cls ≠ "java/lang/invoke/VarHandle" ∧ (parseMethodDescriptor y.desc).map (fun d => d.parameters.length) = some na) (hc : gCl[ci]? = some (C, T, N)) (n : Nat) (hC : gCx G cc nL own ret Qf rm) (hrc : rc M ci a) (hM : gMx y (wsW_ y bytes maxL ret' hh) rm' M (.ref a :: As) Qf' Xf') (hna : As.length = na) (hR : rm'.frames + 1 ≤ rm.frames ∧ 8 + (maxL + 11) + rm'.locals ≤ rm.locals) (hf : cells + rm'.cells ≤ rm.cells ∧ slots + rm'.slots ≤ rm.slots) (hst : st0 = As.reverse ++ .ref a :: rest) (hroom : (rest.map fun v => v.category).sum ≤ 8) (hdg : decode cc pc = .ok (.invokevirtual index, 3)) (hn : pc + 3 = n) (kk : ∀ v M1, Qf' v M1 → gAt G (cells + rm'.cells) (slots + rm'.slots) M1 lv n (v.toList ++ rest)) (kx : ∀ E q M1, Xf' E q M1 → gTh G (cells + rm'.cells) (slots + rm'.slots) M1 lv pc E q) : gAt G cells slots M lv pc st0 := by
  obtain ⟨⟨s0, D, dA⟩, ⟨p, l, e, R⟩, ⟨s, m, args, below, meth, c⟩, nL', Q⟩ := G
  obtain ⟨⟨hx, hb, hml, hown, hts⟩, hret, hlk, hW0, hX0, hfl, ⟨b0, hS0⟩, rfl, rfl, hQ⟩ := hC
  obtain ⟨w, hkd⟩ := hrc
  intro H locs ls h1 h2 h3
  refine g_afterX (vx_runVX (As := As) (rest := rest) ⟨hx, hb, hml, hown, hts⟩ (hM l s0 b0 D dA hfl hS0) (vx_cwVW na hts hwd rfl rfl rfl hd hR) ⟨gU.blind, ?_, fun U hU hW => ⟨rfl, State.WarmedH.trans hW0 hW, by rw [hU]; exact hX0.of h2, by rw [hU]; exact h1⟩⟩ rfl hna h3.1 hst (lv_room hroom) hdg hf) hn h2 h3 kk kx
  obtain ⟨r, hr1, cell, q1, q2, q3, q4⟩ := g_obj (h1.1 a) hkd
  have hr : r = (C, T, N) := Option.some.inj (hr1.symm.trans hc)
  subst hr
  obtain ⟨hS, hfc, -⟩ := (g_kT hS0 hW0).1 ci _ hc
  exact ⟨cell, q1, q3.2, by rw [q2]; exact hfc⟩
theorem g_xSW {y : MethodName} {bytes : ByteArray} {maxL : Nat} {ret' : Option FieldType} {hh : List (Nat × Nat × Nat × Nat)} {index : Nat} {na : Nat} {rm' : Room} {As rest st0 : List Value} {Qf' : Option Value → gM → Prop} {Xf' : String → Nat → gM → Prop} (hwd : GoodIn lw_all (va_wsS own index y (wsW_ y bytes maxL ret' hh))) (hd : y.cls ≠ "java/lang/invoke/MethodHandle" ∧ y.cls ≠ "java/lang/invoke/VarHandle" ∧ (parseMethodDescriptor y.desc).map (fun d => d.parameters.length) = some na) (n : Nat) (hC : gCx G cc nL own ret Qf rm) (hM : gMx y (wsW_ y bytes maxL ret' hh) rm' M As Qf' Xf') (hna : As.length = na) (hR : rm'.frames + 1 ≤ rm.frames ∧ 8 + (maxL + 11) + rm'.locals ≤ rm.locals) (hf : cells + rm'.cells ≤ rm.cells ∧ slots + rm'.slots ≤ rm.slots) (hst : st0 = As.reverse ++ rest) (hroom : (rest.map fun v => v.category).sum ≤ 8) (hdg : decode cc pc = .ok (.invokestatic index, 3)) (hn : pc + 3 = n) (kk : ∀ v M1, Qf' v M1 → gAt G (cells + rm'.cells) (slots + rm'.slots) M1 lv n (v.toList ++ rest)) (kx : ∀ E q M1, Xf' E q M1 → gTh G (cells + rm'.cells) (slots + rm'.slots) M1 lv pc E q) : gAt G cells slots M lv pc st0 := by
  obtain ⟨⟨s0, D, dA⟩, ⟨p, l, e, R⟩, ⟨s, m, args, below, meth, c⟩, nL', Q⟩ := G
  obtain ⟨⟨hx, hb, hml, hown, hts⟩, hret, hlk, hW0, hX0, hfl, ⟨b0, hS0⟩, rfl, rfl, hQ⟩ := hC
  intro H locs ls h1 h2 h3
  exact g_afterX (vx_runSX (As := As) (rest := rest) ⟨hx, hb, hml, hown, hts⟩ (hM l s0 b0 D dA hfl hS0) (vx_cwSW na hts hwd rfl rfl rfl hd hR) ⟨gU.blind, fun U hU hW => ⟨rfl, State.WarmedH.trans hW0 hW, by rw [hU]; exact hX0.of h2, by rw [hU]; exact h1⟩⟩ rfl hna h3.1 hst (lv_room hroom) hdg hf) hn h2 h3 kk kx
end GTHR
