/-! further calls over gAt -/
set_option maxRecDepth 100000
section GCALL2
variable {G : gG} {cc : ByteArray} {nL : Nat} {own : String} {ret : Option FieldType} {Qf : Option Value → gM → Prop} {rm : Room} {cells slots : Nat} {M : gM} {lv : List (Nat × Value)} {pc : Nat} {st : List Value}
theorem g_widen {cells' slots' : Nat} (h1 : cells ≤ cells') (h2 : slots ≤ slots') (k : gAt G cells' slots' M lv pc st) : gAt G cells slots M lv pc st := by
  obtain ⟨⟨s0, D, dA⟩, ⟨p, l, e, R⟩, ⟨s, m, args, below, meth, c⟩, nL', Q⟩ := G
  intro H locs ls g1 g2 g3
  exact W.widen h1 h2 (k H locs ls g1 g2 g3)
theorem g_cSN {y : MethodName} {bytes : ByteArray} {maxL : Nat} {ret' : Option FieldType} {index : Nat} {na : Nat} {rm' : Room} {As rest st0 : List Value} {Qf' : Option Value → gM → Prop} {host : String} (hl : (Cond.methodLinkNest own index y host) ∈ lw_tbl) (hcd : (Cond.code y bytes maxL ret') ∈ lw_all) (hini : (Cond.initialized y.cls) ∈ lw_all) (hst' : (Cond.static y) ∈ lw_all) (hd : y.cls ≠ "java/lang/invoke/MethodHandle" ∧ y.cls ≠ "java/lang/invoke/VarHandle" ∧ (parseMethodDescriptor y.desc).map (fun d => d.parameters.length) = some na) (n : Nat) (hC : gCx G cc nL own ret Qf rm) (hM : gMt y (ws_ y bytes maxL ret') rm' M As Qf') (hna : As.length = na) (hR : rm'.frames + 1 ≤ rm.frames ∧ 8 + (maxL + 11) + rm'.locals ≤ rm.locals) (hf : cells + rm'.cells ≤ rm.cells ∧ slots + rm'.slots ≤ rm.slots) (hst : st0 = As.reverse ++ rest) (hroom : (rest.map fun v => v.category).sum ≤ 8) (hdg : decode cc pc = .ok (.invokestatic index, 3)) (hn : pc + 3 = n) (kk : ∀ v M1, Qf' v M1 → gAt G (cells + rm'.cells) (slots + rm'.slots) M1 lv n (v.toList ++ rest)) : gAt G cells slots M lv pc st0 := by
  obtain ⟨⟨s0, D, dA⟩, ⟨p, l, e, R⟩, ⟨s, m, args, below, meth, c⟩, nL', Q⟩ := G
  obtain ⟨⟨hx, hb, hml, hown, hts⟩, hret, hlk, hW0, hX0, hfl, ⟨b0, hS0⟩, rfl, rfl, hQ⟩ := hC
  intro H locs ls h1 h2 h3
  exact g_after (va_runSN (As := As) (rest := rest) ⟨hx, hb, hml, hown, hts⟩ (hM l s0 b0 D dA hfl hS0) ⟨va_cnB na hts (lw_meth hcd) rfl rfl rfl (va_Nw.warmM hW0 (va_Nw.of rfl (hS0.2.1 _ hl))) (hts _ hini) hd hR, hts _ hst', trivial⟩ ⟨gU.blind, fun U hU hW => ⟨rfl, State.WarmedH.trans hW0 hW, by rw [hU]; exact hX0.of h2, by rw [hU]; exact h1⟩⟩ rfl hna h3.1 hst (lv_room hroom) hdg hf) hn h2 h3 kk
theorem g_cIN {y : MethodName} {bytes : ByteArray} {maxL : Nat} {index : Nat} {na : Nat} {rm' : Room} {As rest st0 : List Value} {Qf' : Option Value → gM → Prop} {host : String} {a : Nat} (hl : (Cond.methodLinkNest own index y host) ∈ lw_tbl) (hcd : (Cond.code y bytes maxL none) ∈ lw_all) (hini : (Cond.initialized y.cls) ∈ lw_all) (hins : (Cond.instanceMethod y) ∈ lw_all) (hy1 : y.name = "<init>") (hd : y.cls ≠ "java/lang/invoke/MethodHandle" ∧ y.cls ≠ "java/lang/invoke/VarHandle" ∧ (parseMethodDescriptor y.desc).map (fun d => d.parameters.length) = some na) (n : Nat) (hC : gCx G cc nL own ret Qf rm) (hM : gMt y (ws_ y bytes maxL none) rm' M (.ref a :: As) Qf') (hna : As.length = na) (hR : rm'.frames + 1 ≤ rm.frames ∧ 8 + (maxL + 11) + rm'.locals ≤ rm.locals) (hf : cells + rm'.cells ≤ rm.cells ∧ slots + rm'.slots ≤ rm.slots) (hst : st0 = As.reverse ++ .ref a :: rest) (hroom : (rest.map fun v => v.category).sum ≤ 8) (hdg : decode cc pc = .ok (.invokespecial index, 3)) (hn : pc + 3 = n) (kk : ∀ v M1, Qf' v M1 → gAt G (cells + rm'.cells) (slots + rm'.slots) M1 lv n (v.toList ++ rest)) : gAt G cells slots M lv pc st0 := by
  obtain ⟨⟨s0, D, dA⟩, ⟨p, l, e, R⟩, ⟨s, m, args, below, meth, c⟩, nL', Q⟩ := G
  obtain ⟨⟨hx, hb, hml, hown, hts⟩, hret, hlk, hW0, hX0, hfl, ⟨b0, hS0⟩, rfl, rfl, hQ⟩ := hC
  intro H locs ls h1 h2 h3
  exact g_after (va_runIN (As := As) (rest := rest) ⟨hx, hb, hml, hown, hts⟩ (hM l s0 b0 D dA hfl hS0) ⟨va_cnB na hts (lw_meth hcd) rfl rfl rfl (va_Nw.warmM hW0 (va_Nw.of rfl (hS0.2.1 _ hl))) (hts _ hini) hd hR, hy1, hts _ hins⟩ ⟨gU.blind, fun U hU hW => ⟨rfl, State.WarmedH.trans hW0 hW, by rw [hU]; exact hX0.of h2, by rw [hU]; exact h1⟩⟩ rfl hna h3.1 hst (lv_room hroom) hdg hf) hn h2 h3 kk
theorem g_cU {y : MethodName} {bytes : ByteArray} {maxL : Nat} {ret' : Option FieldType} {index : Nat} {na : Nat} {rm' : Room} {As rest st0 : List Value} {Qf' : Option Value → gM → Prop} {x : MethodName} {C owner : String} {T : u_T} {N ci a : Nat} (hwd : GoodIn lw_all (va_wsU own index C owner x y (ws_ y bytes maxL ret'))) (hyx : y = ⟨owner, x.name, x.desc⟩) (hd : owner ≠ "java/lang/invoke/MethodHandle" ∧ owner ≠ "java/lang/invoke/VarHandle" ∧ (parseMethodDescriptor x.desc).map (fun d => d.parameters.length) = some na) (hc : gCl[ci]? = some (C, T, N)) (n : Nat) (hC : gCx G cc nL own ret Qf rm) (hrc : rc M ci a) (hM : gMt y (ws_ y bytes maxL ret') rm' M (.ref a :: As) Qf') (hna : As.length = na) (hR : rm'.frames + 1 ≤ rm.frames ∧ 8 + (maxL + 11) + rm'.locals ≤ rm.locals) (hf : cells + rm'.cells ≤ rm.cells ∧ slots + rm'.slots ≤ rm.slots) (hst : st0 = As.reverse ++ .ref a :: rest) (hroom : (rest.map fun v => v.category).sum ≤ 8) (hdg : decode cc pc = .ok (.invokevirtual index, 3)) (hn : pc + 3 = n) (kk : ∀ v M1, Qf' v M1 → gAt G (cells + rm'.cells) (slots + rm'.slots) M1 lv n (v.toList ++ rest)) : gAt G cells slots M lv pc st0 := by
  obtain ⟨⟨s0, D, dA⟩, ⟨p, l, e, R⟩, ⟨s, m, args, below, meth, c⟩, nL', Q⟩ := G
  obtain ⟨⟨hx, hb, hml, hown, hts⟩, hret, hlk, hW0, hX0, hfl, ⟨b0, hS0⟩, rfl, rfl, hQ⟩ := hC
  obtain ⟨w, hkd⟩ := hrc
  intro H locs ls h1 h2 h3
  refine g_after (va_runU (As := As) (rest := rest) ⟨hx, hb, hml, hown, hts⟩ (hM l s0 b0 D dA hfl hS0) (va_cwU na hts hwd rfl rfl rfl hyx hd hR) ⟨gU.blind, ?_, fun U hU hW => ⟨rfl, State.WarmedH.trans hW0 hW, by rw [hU]; exact hX0.of h2, by rw [hU]; exact h1⟩⟩ rfl hna h3.1 hst (lv_room hroom) hdg hf) hn h2 h3 kk
  obtain ⟨r, hr1, cell, q1, q2, q3, q4⟩ := g_obj (h1.1 a) hkd
  have hr : r = (C, T, N) := Option.some.inj (hr1.symm.trans hc)
  subst hr
  obtain ⟨hS, hfc, -⟩ := (g_kT hS0 hW0).1 ci _ hc
  exact ⟨cell, q1, q3.2, by rw [q2]; exact hfc⟩
theorem g_cO {y : MethodName} {bytes : ByteArray} {maxL : Nat} {ret' : Option FieldType} {index : Nat} {na : Nat} {rm' : Room} {As rest st0 : List Value} {Qf' : Option Value → gM → Prop} {x : MethodName} {C owner : String} {T : u_T} {N ci a : Nat} {b9 : ByteArray} {m9 : Nat} {r9 : Option FieldType} (hwd : GoodIn lw_all (va_wsO own index C owner x y (ws_ y bytes maxL ret'))) (h9 : (Cond.code ⟨owner, x.name, x.desc⟩ b9 m9 r9) ∈ lw_all) (hd : owner ≠ "java/lang/invoke/MethodHandle" ∧ owner ≠ "java/lang/invoke/VarHandle" ∧ (parseMethodDescriptor x.desc).map (fun d => d.parameters.length) = some na) (hc : gCl[ci]? = some (C, T, N)) (n : Nat) (hC : gCx G cc nL own ret Qf rm) (hrc : rc M ci a) (hM : gMt y (ws_ y bytes maxL ret') rm' M (.ref a :: As) Qf') (hna : As.length = na) (hR : rm'.frames + 1 ≤ rm.frames ∧ 8 + (maxL + 11) + rm'.locals ≤ rm.locals) (hf : cells + rm'.cells ≤ rm.cells ∧ slots + rm'.slots ≤ rm.slots) (hst : st0 = As.reverse ++ .ref a :: rest) (hroom : (rest.map fun v => v.category).sum ≤ 8) (hdg : decode cc pc = .ok (.invokevirtual index, 3)) (hn : pc + 3 = n) (kk : ∀ v M1, Qf' v M1 → gAt G (cells + rm'.cells) (slots + rm'.slots) M1 lv n (v.toList ++ rest)) : gAt G cells slots M lv pc st0 := by
  obtain ⟨⟨s0, D, dA⟩, ⟨p, l, e, R⟩, ⟨s, m, args, below, meth, c⟩, nL', Q⟩ := G
  obtain ⟨⟨hx, hb, hml, hown, hts⟩, hret, hlk, hW0, hX0, hfl, ⟨b0, hS0⟩, rfl, rfl, hQ⟩ := hC
  obtain ⟨w, hkd⟩ := hrc
  intro H locs ls h1 h2 h3
  refine g_after (va_runU (As := As) (rest := rest) ⟨hx, hb, hml, hown, hts⟩ (hM l s0 b0 D dA hfl hS0) (va_cwO na hts hwd rfl rfl rfl h9 hd hR) ⟨gU.blind, ?_, fun U hU hW => ⟨rfl, State.WarmedH.trans hW0 hW, by rw [hU]; exact hX0.of h2, by rw [hU]; exact h1⟩⟩ rfl hna h3.1 hst (lv_room hroom) hdg hf) hn h2 h3 kk
  obtain ⟨r, hr1, cell, q1, q2, q3, q4⟩ := g_obj (h1.1 a) hkd
  have hr : r = (C, T, N) := Option.some.inj (hr1.symm.trans hc)
  subst hr
  obtain ⟨hS, hfc, -⟩ := (g_kT hS0 hW0).1 ci _ hc
  exact ⟨cell, q1, q3.2, by rw [q2]; exact hfc⟩
theorem g_cA {y : MethodName} {bytes : ByteArray} {maxL : Nat} {ret' : Option FieldType} {index : Nat} {na : Nat} {rm' : Room} {As rest st0 : List Value} {Qf' : Option Value → gM → Prop} {x : MethodName} {C owner : String} {T : u_T} {N ci a : Nat} (hwd : GoodIn lw_all (va_wsU own index C owner x y (ws_ y bytes maxL ret'))) (hdc : (Cond.declares ⟨owner, x.name, x.desc⟩) ∈ lw_tbl) (hd : owner ≠ "java/lang/invoke/MethodHandle" ∧ owner ≠ "java/lang/invoke/VarHandle" ∧ (parseMethodDescriptor x.desc).map (fun d => d.parameters.length) = some na) (hc : gCl[ci]? = some (C, T, N)) (n : Nat) (hC : gCx G cc nL own ret Qf rm) (hrc : rc M ci a) (hM : gMt y (ws_ y bytes maxL ret') rm' M (.ref a :: As) Qf') (hna : As.length = na) (hR : rm'.frames + 1 ≤ rm.frames ∧ 8 + (maxL + 11) + rm'.locals ≤ rm.locals) (hf : cells + rm'.cells ≤ rm.cells ∧ slots + rm'.slots ≤ rm.slots) (hst : st0 = As.reverse ++ .ref a :: rest) (hroom : (rest.map fun v => v.category).sum ≤ 8) (hdg : decode cc pc = .ok (.invokevirtual index, 3)) (hn : pc + 3 = n) (kk : ∀ v M1, Qf' v M1 → gAt G (cells + rm'.cells) (slots + rm'.slots) M1 lv n (v.toList ++ rest)) : gAt G cells slots M lv pc st0 := by
  obtain ⟨⟨s0, D, dA⟩, ⟨p, l, e, R⟩, ⟨s, m, args, below, meth, c⟩, nL', Q⟩ := G
  obtain ⟨⟨hx, hb, hml, hown, hts⟩, hret, hlk, hW0, hX0, hfl, ⟨b0, hS0⟩, rfl, rfl, hQ⟩ := hC
  obtain ⟨w, hkd⟩ := hrc
  intro H locs ls h1 h2 h3
  refine g_after (va_runU (As := As) (rest := rest) ⟨hx, hb, hml, hown, hts⟩ (hM l s0 b0 D dA hfl hS0) (va_cwA na hts hwd rfl rfl rfl (va_Nw.warmD hW0 (va_Nw.of rfl (hS0.2.1 _ hdc))) hd hR) ⟨gU.blind, ?_, fun U hU hW => ⟨rfl, State.WarmedH.trans hW0 hW, by rw [hU]; exact hX0.of h2, by rw [hU]; exact h1⟩⟩ rfl hna h3.1 hst (lv_room hroom) hdg hf) hn h2 h3 kk
  obtain ⟨r, hr1, cell, q1, q2, q3, q4⟩ := g_obj (h1.1 a) hkd
  have hr : r = (C, T, N) := Option.some.inj (hr1.symm.trans hc)
  subst hr
  obtain ⟨hS, hfc, -⟩ := (g_kT hS0 hW0).1 ci _ hc
  exact ⟨cell, q1, q3.2, by rw [q2]; exact hfc⟩
theorem g_cSU {y : MethodName} {bytes : ByteArray} {maxL : Nat} {ret' : Option FieldType} {index : Nat} {na : Nat} {rm' : Room} {As rest st0 : List Value} {Qf' : Option Value → gM → Prop} {C : String} {T : u_T} {N ci a : Nat} (hwd : GoodIn lw_all (va_wsSU own index y (ws_ y bytes maxL ret'))) (hd : y.name ≠ "<init>" ∧ (parseMethodDescriptor y.desc).map (fun d => d.parameters.length) = some na) (hc : gCl[ci]? = some (C, T, N)) (n : Nat) (hC : gCx G cc nL own ret Qf rm) (hrc : rc M ci a) (hM : gMt y (ws_ y bytes maxL ret') rm' M (.ref a :: As) Qf') (hna : As.length = na) (hR : rm'.frames + 1 ≤ rm.frames ∧ 8 + (maxL + 11) + rm'.locals ≤ rm.locals) (hf : cells + rm'.cells ≤ rm.cells ∧ slots + rm'.slots ≤ rm.slots) (hst : st0 = As.reverse ++ .ref a :: rest) (hroom : (rest.map fun v => v.category).sum ≤ 8) (hdg : decode cc pc = .ok (.invokespecial index, 3)) (hn : pc + 3 = n) (kk : ∀ v M1, Qf' v M1 → gAt G (cells + rm'.cells) (slots + rm'.slots) M1 lv n (v.toList ++ rest)) : gAt G cells slots M lv pc st0 := by
  obtain ⟨⟨s0, D, dA⟩, ⟨p, l, e, R⟩, ⟨s, m, args, below, meth, c⟩, nL', Q⟩ := G
  obtain ⟨⟨hx, hb, hml, hown, hts⟩, hret, hlk, hW0, hX0, hfl, ⟨b0, hS0⟩, rfl, rfl, hQ⟩ := hC
  obtain ⟨w, hkd⟩ := hrc
  intro H locs ls h1 h2 h3
  refine g_after (va_runSU (As := As) (rest := rest) ((g_kT hS0 hW0).1 ci _ hc).2 ⟨hx, hb, hml, hown, hts⟩ (hM l s0 b0 D dA hfl hS0) (va_cwSU na hts hwd rfl rfl rfl hd hR) ⟨gU.blind, ?_, fun U hU hW => ⟨rfl, State.WarmedH.trans hW0 hW, by rw [hU]; exact hX0.of h2, by rw [hU]; exact h1⟩⟩ rfl hna h3.1 hst (lv_room hroom) hdg hf) hn h2 h3 kk
  obtain ⟨r, hr1, cell, q1, q2, q3, q4⟩ := g_obj (h1.1 a) hkd
  have hr : r = (C, T, N) := Option.some.inj (hr1.symm.trans hc)
  subst hr
  obtain ⟨hS, hfc, -⟩ := (g_kT hS0 hW0).1 ci _ hc
  exact ⟨cell, q1, q3.2, by rw [q2]; exact hfc⟩
theorem g_after5 {s0 : State} {D : va_G} {dA : FieldType → ClassId} {p : Program} {l : Launch} {e : Env} {R : Room} {s : State} {m : MethodId} {args : Array Value} {below : List Frame} {meth : Method} {c : Code} {nL : Nat} {Q : State → Prop} {H : Heap} {locs : List Loc} {ls : Array Slot} {mc ms : Nat} {st0 rest : List Value} {Qf' : Option Value → gM → Prop} {av : Array Value} {n : Nat} (hr : va_Run5 p l e R s m args below meth c H locs cells slots mc ms (F0 m pc ls st0) rest (gQ Qf' s0 D dA av) (gA s0)) (hn : pc + 5 = n) (h2 : va_S (gA s0) s.heap H locs) (h3 : lv_has ls nL lv)
    (kk : ∀ v M1, Qf' v M1 → gAt ((s0, D, dA), (p, l, e, R), (s, m, args, below, meth, c), nL, Q) (cells + mc) (slots + ms) M1 lv n (v.toList ++ rest)) : W p l e R s m args below meth c H locs cells slots Q (F0 m pc ls st0) := by
  subst hn
  intro T hT X
  obtain ⟨v, st₀, t, T', L, h0, X', hL, e1, e2, ⟨⟨v', u, hv, hq, hc⟩, hz, hk⟩, st⟩ := hr T hT X
  cases hv
  rw [h0] at hz hk
  obtain ⟨t2, a1, b1⟩ := kk v u hq T'.heap (locs ++ L) ls (by rw [e1]; exact hc)
    ⟨Nat.le_trans h2.1 (by rw [e1]; exact hz), fun q g1 g2 => by rw [e1, hk q (Nat.lt_of_lt_of_le g1 h2.1) g2]; exact h2.2.1 q g1 g2, fun q hq => by
      rcases List.mem_append.mp hq with h | h
      · exact h2.2.2 q h
      · exact hL q h⟩ h3 T' rfl X'
  exact ⟨t2, st t2 a1, b1⟩
theorem g_cF {y : MethodName} {bytes : ByteArray} {maxL : Nat} {ret' : Option FieldType} {index : Nat} {na : Nat} {rm' : Room} {As rest st0 : List Value} {Qf' : Option Value → gM → Prop} {x : MethodName} {C : String} {T : u_T} {N ci a count : Nat} (hwd : GoodIn lw_all (va_wsF own index C x y (ws_ y bytes maxL ret'))) (w1 : (Cond.declares x) ∈ lw_tbl) (w2 : (Cond.interfaceMethod x.cls x.cls x.name x.desc) ∈ lw_tbl) (w3 : (Cond.publicMethod y) ∈ lw_tbl) (w4 : (Cond.unhidden C x.name x.desc) ∈ lw_tbl) (w5 : (Cond.castable C x.cls) ∈ lw_tbl) (hd : x.cls ≠ "java/lang/invoke/MethodHandle" ∧ x.cls ≠ "java/lang/invoke/VarHandle" ∧ (parseMethodDescriptor x.desc).map (fun d => d.parameters.length) = some na) (hc : gCl[ci]? = some (C, T, N)) (n : Nat) (hC : gCx G cc nL own ret Qf rm) (hrc : rc M ci a) (hM : gMt y (ws_ y bytes maxL ret') rm' M (.ref a :: As) Qf') (hna : As.length = na) (hR : rm'.frames + 1 ≤ rm.frames ∧ 8 + (maxL + 11) + rm'.locals ≤ rm.locals) (hf : cells + rm'.cells ≤ rm.cells ∧ slots + rm'.slots ≤ rm.slots) (hst : st0 = As.reverse ++ .ref a :: rest) (hroom : (rest.map fun v => v.category).sum ≤ 8) (hdg : decode cc pc = .ok (.invokeinterface index count, 5)) (hn : pc + 5 = n) (kk : ∀ v M1, Qf' v M1 → gAt G (cells + rm'.cells) (slots + rm'.slots) M1 lv n (v.toList ++ rest)) : gAt G cells slots M lv pc st0 := by
  obtain ⟨⟨s0, D, dA⟩, ⟨p, l, e, R⟩, ⟨s, m, args, below, meth, c⟩, nL', Q⟩ := G
  obtain ⟨⟨hx, hb, hml, hown, hts⟩, hret, hlk, hW0, hX0, hfl, ⟨b0, hS0⟩, rfl, rfl, hQ⟩ := hC
  obtain ⟨w, hkd⟩ := hrc
  intro H locs ls h1 h2 h3
  refine g_after5 (va_runF (As := As) (rest := rest) ((g_kT hS0 hW0).1 ci _ hc).2 ⟨hx, hb, hml, hown, hts⟩ (hM l s0 b0 D dA hfl hS0) (va_cwF na hts hwd rfl rfl rfl (va_Fw.moved ⟨hd.1, hd.2.1⟩ hW0.alike (va_Fw.of (hS0.2.1 _ w1) (hS0.2.1 _ w2) (hS0.2.1 _ w3) (hS0.2.1 _ w4) (hS0.2.1 _ w5))) hd hR) ⟨gU.blind, ?_, fun U hU hW => ⟨rfl, State.WarmedH.trans hW0 hW, by rw [hU]; exact hX0.of h2, by rw [hU]; exact h1⟩⟩ rfl hna h3.1 hst (lv_room hroom) hdg hf) hn h2 h3 kk
  obtain ⟨r, hr1, cell, q1, q2, q3, q4⟩ := g_obj (h1.1 a) hkd
  have hr : r = (C, T, N) := Option.some.inj (hr1.symm.trans hc)
  subst hr
  obtain ⟨hS, hfc, -⟩ := (g_kT hS0 hW0).1 ci _ hc
  exact ⟨cell, q1, q3.2, by rw [q2]; exact hfc⟩
theorem g_anew (n : Nat) (hC : gCx G cc nL own ret Qf rm) {index : Nat} {C : String} (hin : (FieldType.object C) ∈ gTl) (hcl : (Cond.classLink own index C) ∈ lw_all) (hov : (Cond.arrayOver (.object C)) ∈ lw_tbl) {i : Int32} {N : Nat} {κ : Nat → gM → Prop} (hF : nA M cells slots rm.cells rm.slots (.object C) i N κ) (hdg : decode cc pc = .ok (.anewarray index, 3)) (hn : pc + 3 = n) (kk : ∀ q M1, κ q M1 → gAt G (cells + 1) (slots + N) M1 lv n (.ref q :: st)) : gAt G cells slots M lv pc (.int i :: st) := by
  obtain ⟨⟨s0, D, dA⟩, ⟨p, l, e, R⟩, ⟨s, m, args, below, meth, c⟩, nL', Q⟩ := G
  obtain ⟨⟨hx, hb, hml, hown, hts⟩, hret, hlk, hW0, hX0, hfl, ⟨b0, hS0⟩, rfl, rfl, hQ⟩ := hC
  subst hn
  obtain ⟨⟨i1, i2, i3⟩, ⟨b1, b2⟩, hF⟩ := hF
  subst i2
  intro H locs ls h1 h2 h3
  have hAO : va_AO C s := va_AO.moved hW0.alike (show va_AO C s0 from hS0.2.1 _ hov)
  refine W.anew hx hb hown (hts _ hcl) (show (Cond.arrayOver (.object C)).before args s = true from hAO) rfl hdg rfl i1 (by omega) b1 b2 fun cA kA comp k1 k2 k3 k4 => ?_
  obtain ⟨t0, ht0⟩ := List.getElem?_of_mem hin
  obtain ⟨kA', comp', k1', k2', k3', k4'⟩ := ((g_kT hS0 hW0).2 t0 (dA (.object C), .object C) (by rw [List.getElem?_map, ht0]; rfl)).2
  have hcA : cA = dA (.object C) := Option.some.inj (k1.symm.trans k4')
  subst hcA
  have o1 : ∀ q : Nat, q < H.size → (H.push { cls := dA (.object C), slots := Array.replicate i.toNatClampNeg .null, vm := .none })[q]? = H[q]? := fun q hq => by rw [Array.getElem?_push, if_neg (Nat.ne_of_lt hq)]
  obtain ⟨g1, g2⟩ := gC.new (t := .inr (.object C, i.toNatClampNeg)) h1 (hX0.of h2).1 o1 (by
    unfold gat
    have : (sN M H.size (.inr (.object C, i.toNatClampNeg))).1 H.size = some (true, .inr (.object C, i.toNatClampNeg)) := if_pos rfl
    rw [this]
    show _ = some (arrV _ _ (fun k => gv _ (if H.size = H.size then 0 else _) (if H.size = H.size then 0 else _) (if H.size = H.size then none else _)))
    rw [Array.getElem?_push, if_pos rfl]
    simp only [if_true]
    show _ = some (arrV _ _ (fun _ => Value.null))
    rw [← arrV_new])
  exact kk H.size _ (hF H.size g2) _ locs ls g1 ⟨Nat.le_trans h2.1 (by simp), fun x q1 q2 => (o1 x (Nat.lt_of_lt_of_le q1 h2.1)).trans (h2.2.1 x q1 q2), h2.2.2⟩ h3
theorem g_aast {C : String} {T : u_T} {N ci : Nat} (hin : (FieldType.object C) ∈ gTl) (hc : gCl[ci]? = some (C, T, N)) (n : Nat) (hC : gCx G cc nL own ret Qf rm) {a x : Nat} {i : Int32} {κ : gM → Prop} (hF : uR M (.object C) ci a i x κ) (hdg : decode cc pc = .ok (.aastore, 1)) (hn : pc + 1 = n) (k : ∀ M1, κ M1 → gAt G cells slots M1 lv n st) : gAt G cells slots M lv pc (.ref x :: .int i :: .ref a :: st) := by
  obtain ⟨⟨s0, D, dA⟩, ⟨p, l, e, R⟩, ⟨s, m, args, below, meth, c⟩, nL', Q⟩ := G
  obtain ⟨⟨hx, hb, hml, hown, hts⟩, hret, hlk, hW0, hX0, hfl, ⟨b0, hS0⟩, rfl, rfl, hQ⟩ := hC
  subst hn
  obtain ⟨⟨N0, hk, hin'⟩, ⟨w, hkx⟩, hF⟩ := hF
  intro H locs ls h1 h2 h3
  have hlt : i.toNatClampNeg < N0 := Nat.not_le.mp fun q => hin' (Or.inr q)
  have h0 : ¬ i < 0 := fun q => hin' (Or.inl q)
  obtain ⟨r', hr', cellV, g1, g2, g3, -⟩ := g_obj (h1.1 x) hkx
  have hcls := ((g_kT hS0 hW0).1 ci _ hc).2
  obtain ⟨t0, ht0⟩ := List.getElem?_of_mem hin
  obtain ⟨kA, comp, k1, k2, k3, -⟩ := ((g_kT hS0 hW0).2 t0 (dA (.object C), .object C) (by rw [List.getElem?_map, ht0]; rfl)).2
  have hcomp : comp = D.1 ci := Option.some.inj (k3.symm.trans hcls.1)
  subst hcomp
  obtain ⟨kC, hkC, -⟩ := hcls.2
  refine W.aast hx hb (g_cellT (h1.1 a) hk) (fun q h => by cases h) (fun h => by cases h) k1 k2 rfl hkC ⟨h0, by show _ < (arrV _ _ _).slots.size; rw [arrV_size]; exact hlt⟩ g1 (fun q h => by have := g3.2; rw [h] at this; cases this) (by rw [g2]; exact hkC) (by rw [g2]; exact va_assign hcls) rfl rfl hdg fun H1 e z oq => ?_
  refine k _ hF H1 _ ls ?_ (h2.put z oq (h1.aw hk)) h3
  refine h1.put1 hk rfl (fun b j hne => rfl) (fun b j hne => rfl) (fun b j hne => if_neg (fun q => hne q.1)) rfl oq e (fun j => ?_)
  show va_rf (if a = a ∧ j = i.toNatClampNeg then some x else M.2.2.2.1 a j) = _
  by_cases hj : j = i.toNatClampNeg
  · rw [if_pos ⟨rfl, hj⟩, if_pos hj]; rfl
  · rw [if_neg (fun q => hj q.2), if_neg hj]; rfl

theorem g_min (n : Nat) (hC : gCx G cc nL own ret Qf rm) {index : Nat} (hl : (Cond.methodLink own index ⟨"java/lang/Math", "min", "(II)I"⟩) ∈ lw_all) (hf : 1 ≤ rm.frames) (hlo : (st.map fun v => v.category).sum + 13 ≤ rm.locals) (hcz : cells ≤ rm.cells ∧ slots ≤ rm.slots) {x y : Int32} (hdg : decode cc pc = .ok (.invokestatic index, 3)) (hn : pc + 3 = n) (k : gAt G cells slots M lv n (.int (if y < x then y else x) :: st)) : gAt G cells slots M lv pc (.int y :: .int x :: st) := by
  obtain ⟨⟨s0, D, dA⟩, ⟨p, l, e, R⟩, ⟨s, m, args, below, meth, c⟩, nL', Q⟩ := G
  obtain ⟨⟨hx, hb, hml, hown, hts⟩, hret, hlk, hW0, hX0, hfl, ⟨b0, hS0⟩, rfl, rfl, hQ⟩ := hC
  subst hn
  intro H locs ls h1 h2 h3
  exact va_mmin hx hb (by rw [hml]; exact h3.1.symm) hown (hts _ hl) (hts _ q757) (hts _ q97) (hts _ q758) hf hlo hcz.1 hcz.2 hdg (k H locs ls h1 h2 h3)
theorem g_max (n : Nat) (hC : gCx G cc nL own ret Qf rm) {index : Nat} (hl : (Cond.methodLink own index ⟨"java/lang/Math", "max", "(II)I"⟩) ∈ lw_all) (hf : 1 ≤ rm.frames) (hlo : (st.map fun v => v.category).sum + 13 ≤ rm.locals) (hcz : cells ≤ rm.cells ∧ slots ≤ rm.slots) {x y : Int32} (hdg : decode cc pc = .ok (.invokestatic index, 3)) (hn : pc + 3 = n) (k : gAt G cells slots M lv n (.int (if x < y then y else x) :: st)) : gAt G cells slots M lv pc (.int y :: .int x :: st) := by
  obtain ⟨⟨s0, D, dA⟩, ⟨p, l, e, R⟩, ⟨s, m, args, below, meth, c⟩, nL', Q⟩ := G
  obtain ⟨⟨hx, hb, hml, hown, hts⟩, hret, hlk, hW0, hX0, hfl, ⟨b0, hS0⟩, rfl, rfl, hQ⟩ := hC
  subst hn
  intro H locs ls h1 h2 h3
  exact va_mmax hx hb (by rw [hml]; exact h3.1.symm) hown (hts _ hl) (hts _ q744) (hts _ q97) (hts _ q745) hf hlo hcz.1 hcz.2 hdg (k H locs ls h1 h2 h3)
theorem g_maxJ (n : Nat) (hC : gCx G cc nL own ret Qf rm) {index : Nat} (hl : (Cond.methodLink own index ⟨"java/lang/Math", "max", "(JJ)J"⟩) ∈ lw_all) (hf : 1 ≤ rm.frames) (hlo : (st.map fun v => v.category).sum + 15 ≤ rm.locals) (hcz : cells ≤ rm.cells ∧ slots ≤ rm.slots) {x y : Int64} (hdg : decode cc pc = .ok (.invokestatic index, 3)) (hn : pc + 3 = n) (k : gAt G cells slots M lv n (.long (if y < x then x else y) :: st)) : gAt G cells slots M lv pc (.long y :: .long x :: st) := by
  obtain ⟨⟨s0, D, dA⟩, ⟨p, l, e, R⟩, ⟨s, m, args, below, meth, c⟩, nL', Q⟩ := G
  obtain ⟨⟨hx, hb, hml, hown, hts⟩, hret, hlk, hW0, hX0, hfl, ⟨b0, hS0⟩, rfl, rfl, hQ⟩ := hC
  subst hn
  intro H locs ls h1 h2 h3
  exact va_mmax_long hx hb (by rw [hml]; exact h3.1.symm) hown (hts _ hl) (hts _ q1271) (hts _ q97) (hts _ q1272) hf hlo hcz.1 hcz.2 hdg (k H locs ls h1 h2 h3)
theorem g_ty_i {κ : Int32 → gM → Prop} {c0 s0 : Nat} {n : Nat} {rest : List Value} (c1 s1 : Nat) (h1 : c0 ≤ c1) (h2 : s0 ≤ s1) (kk : ∀ r M1, κ r M1 → gAt G c1 s1 M1 lv n (.int r :: rest)) : ∀ v M1, gQi κ v M1 → gAt G c0 s0 M1 lv n (v.toList ++ rest) := by
  rintro _ M1 ⟨r, rfl, h⟩
  exact g_widen h1 h2 (kk r M1 h)
theorem g_ty_j {κ : Int64 → gM → Prop} {c0 s0 : Nat} {n : Nat} {rest : List Value} (c1 s1 : Nat) (h1 : c0 ≤ c1) (h2 : s0 ≤ s1) (kk : ∀ r M1, κ r M1 → gAt G c1 s1 M1 lv n (.long r :: rest)) : ∀ v M1, gQj κ v M1 → gAt G c0 s0 M1 lv n (v.toList ++ rest) := by
  rintro _ M1 ⟨r, rfl, h⟩
  exact g_widen h1 h2 (kk r M1 h)
theorem g_ty_a {κ : Nat → gM → Prop} {c0 s0 : Nat} {n : Nat} {rest : List Value} (c1 s1 : Nat) (h1 : c0 ≤ c1) (h2 : s0 ≤ s1) (kk : ∀ r M1, κ r M1 → gAt G c1 s1 M1 lv n (.ref r :: rest)) : ∀ v M1, gQa κ v M1 → gAt G c0 s0 M1 lv n (v.toList ++ rest) := by
  rintro _ M1 ⟨r, rfl, h⟩
  exact g_widen h1 h2 (kk r M1 h)
theorem g_ty_q {κ : Option Nat → gM → Prop} {c0 s0 : Nat} {n : Nat} {rest : List Value} (c1 s1 : Nat) (h1 : c0 ≤ c1) (h2 : s0 ≤ s1) (kk : ∀ r M1, κ r M1 → gAt G c1 s1 M1 lv n (va_rf r :: rest)) : ∀ v M1, gQq κ v M1 → gAt G c0 s0 M1 lv n (v.toList ++ rest) := by
  rintro _ M1 ⟨r, rfl, h⟩
  exact g_widen h1 h2 (kk r M1 h)
theorem g_ty_v {κ : gM → Prop} {c0 s0 : Nat} {n : Nat} {rest : List Value} (c1 s1 : Nat) (h1 : c0 ≤ c1) (h2 : s0 ≤ s1) (kk : ∀ M1, κ M1 → gAt G c1 s1 M1 lv n rest) : ∀ v M1, gQv κ v M1 → gAt G c0 s0 M1 lv n (v.toList ++ rest) := by
  rintro _ M1 ⟨rfl, h⟩
  exact g_widen h1 h2 (kk M1 h)
theorem g_tx {κ : String → Nat → gM → Prop} {c0 s0 : Nat} (c1 s1 : Nat) (h1 : c0 ≤ c1) (h2 : s0 ≤ s1) (kx : ∀ E q M1, κ E q M1 → gTh G c1 s1 M1 lv pc E q) : ∀ E q M1, κ E q M1 → gTh G c0 s0 M1 lv pc E q := by
  obtain ⟨⟨s0, D, dA⟩, ⟨p, l, e, R⟩, ⟨s, m, args, below, meth, c⟩, nL', Q⟩ := G
  intro E q M1 h H locs ls ce rest g1 g2 g3 g4 g5 g6
  exact vx_widen h1 h2 (kx E q M1 h H locs ls ce rest g1 g2 g3 g4 g5 g6)
end GCALL2
