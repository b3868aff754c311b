/-! ROWS of gAt: one an instruction -/
set_option maxRecDepth 100000
theorem g_mono {p : Program} {l : Launch} {e : Env} {R : Room} {s : State} {m : MethodId} {args : Array Value} {below : List Frame} {meth : Method} {c : Code} {H : Heap} {locs : List Loc} {cells slots : Nat} {Q Q1 : State → Prop} {g : JFrame} (h : ∀ t, Q1 t → Q t) (k : W p l e R s m args below meth c H locs cells slots Q1 g) : W p l e R s m args below meth c H locs cells slots Q g := fun T hT X => (k T hT X).imp (fun t q => ⟨q.1, h t q.2⟩)
section GROWS
variable {G : gG} {cc : ByteArray} {nL : Nat} {own : String} {ret : Option FieldType} {Qf : Option Value → gM → Prop} {rm : Room} {cells slots : Nat} {M : gM} {lv : List (Nat × Value)} {pc : Nat} {st : List Value}
theorem g_iconst (n : Nat) (hC : gCx G cc nL own ret Qf rm) {z : Int} (v : Int32) (hdg : decode cc pc = .ok (.iconst z, 1)) (hv : Int32.ofInt z = v) (hn : pc + 1 = n) (k : gAt G cells slots M lv n (.int v :: st)) : gAt G cells slots M lv pc st := by
  obtain ⟨⟨s0, D, dA⟩, ⟨p, l, e, R⟩, ⟨s, m, args, below, meth, c⟩, nL', Q⟩ := G
  obtain ⟨⟨hx, hb, hml, hown, hts⟩, hret, hlk, hW0, hX0, hfl, hS0, rfl, rfl, hQ⟩ := hC
  subst hn
  intro H locs ls h1 h2 h3
  exact lv_iconst hx hb hdg hv (k H locs ls h1 h2 h3)
theorem g_bipush (n : Nat) (hC : gCx G cc nL own ret Qf rm) {z : Int} (v : Int32) (hdg : decode cc pc = .ok (.bipush z, 2)) (hv : (Int8.ofInt z).toInt32 = v) (hn : pc + 2 = n) (k : gAt G cells slots M lv n (.int v :: st)) : gAt G cells slots M lv pc st := by
  obtain ⟨⟨s0, D, dA⟩, ⟨p, l, e, R⟩, ⟨s, m, args, below, meth, c⟩, nL', Q⟩ := G
  obtain ⟨⟨hx, hb, hml, hown, hts⟩, hret, hlk, hW0, hX0, hfl, hS0, rfl, rfl, hQ⟩ := hC
  subst hn
  intro H locs ls h1 h2 h3
  exact lv_bipush hx hb hdg hv (k H locs ls h1 h2 h3)
theorem g_sipush (n : Nat) (hC : gCx G cc nL own ret Qf rm) {z : Int} (v : Int32) (hdg : decode cc pc = .ok (.sipush z, 3)) (hv : (Int16.ofInt z).toInt32 = v) (hn : pc + 3 = n) (k : gAt G cells slots M lv n (.int v :: st)) : gAt G cells slots M lv pc st := by
  obtain ⟨⟨s0, D, dA⟩, ⟨p, l, e, R⟩, ⟨s, m, args, below, meth, c⟩, nL', Q⟩ := G
  obtain ⟨⟨hx, hb, hml, hown, hts⟩, hret, hlk, hW0, hX0, hfl, hS0, rfl, rfl, hQ⟩ := hC
  subst hn
  intro H locs ls h1 h2 h3
  exact lv_sipush hx hb hdg hv (k H locs ls h1 h2 h3)
theorem g_lconst (n : Nat) (hC : gCx G cc nL own ret Qf rm) {z : Fin 2} (v : Int64) (hdg : decode cc pc = .ok (.lconst z, 1)) (hv : Int64.ofNat (z : Nat) = v) (hn : pc + 1 = n) (k : gAt G cells slots M lv n (.long v :: st)) : gAt G cells slots M lv pc st := by
  obtain ⟨⟨s0, D, dA⟩, ⟨p, l, e, R⟩, ⟨s, m, args, below, meth, c⟩, nL', Q⟩ := G
  obtain ⟨⟨hx, hb, hml, hown, hts⟩, hret, hlk, hW0, hX0, hfl, hS0, rfl, rfl, hQ⟩ := hC
  subst hn
  intro H locs ls h1 h2 h3
  exact lv_lconst hx hb hdg hv (k H locs ls h1 h2 h3)
theorem g_ldc (n : Nat) (hC : gCx G cc nL own ret Qf rm) {index : Nat} {v : Int32} (hw : (Jvm.Cond.constant own index v) ∈ lw_all) (hdg : decode cc pc = .ok (.ldc index, 2)) (hn : pc + 2 = n) (k : gAt G cells slots M lv n (.int v :: st)) : gAt G cells slots M lv pc st := by
  obtain ⟨⟨s0, D, dA⟩, ⟨p, l, e, R⟩, ⟨s, m, args, below, meth, c⟩, nL', Q⟩ := G
  obtain ⟨⟨hx, hb, hml, hown, hts⟩, hret, hlk, hW0, hX0, hfl, hS0, rfl, rfl, hQ⟩ := hC
  subst hn
  intro H locs ls h1 h2 h3
  exact lv_ldc hx hb hown (hts _ hw) hdg (k H locs ls h1 h2 h3)
theorem g_ldc2 (n : Nat) (hC : gCx G cc nL own ret Qf rm) {index : Nat} {v : Int64} (hw : (Jvm.Cond.constantLong own index v) ∈ lw_all) (hdg : decode cc pc = .ok (.ldc2_w index, 3)) (hn : pc + 3 = n) (k : gAt G cells slots M lv n (.long v :: st)) : gAt G cells slots M lv pc st := by
  obtain ⟨⟨s0, D, dA⟩, ⟨p, l, e, R⟩, ⟨s, m, args, below, meth, c⟩, nL', Q⟩ := G
  obtain ⟨⟨hx, hb, hml, hown, hts⟩, hret, hlk, hW0, hX0, hfl, hS0, rfl, rfl, hQ⟩ := hC
  subst hn
  intro H locs ls h1 h2 h3
  exact lv_ldc2 hx hb hown (hts _ hw) hdg (k H locs ls h1 h2 h3)
theorem g_ldcw (n : Nat) (hC : gCx G cc nL own ret Qf rm) {index : Nat} {v : Int32} (hw : (Jvm.Cond.constant own index v) ∈ lw_all) (hdg : decode cc pc = .ok (.ldc_w index, 3)) (hn : pc + 3 = n) (k : gAt G cells slots M lv n (.int v :: st)) : gAt G cells slots M lv pc st := by
  obtain ⟨⟨s0, D, dA⟩, ⟨p, l, e, R⟩, ⟨s, m, args, below, meth, c⟩, nL', Q⟩ := G
  obtain ⟨⟨hx, hb, hml, hown, hts⟩, hret, hlk, hW0, hX0, hfl, hS0, rfl, rfl, hQ⟩ := hC
  subst hn
  intro H locs ls h1 h2 h3
  exact lv_ldcw hx hb hown (hts _ hw) hdg (k H locs ls h1 h2 h3)
theorem g_null (n : Nat) (hC : gCx G cc nL own ret Qf rm) (hdg : decode cc pc = .ok (.aconst_null, 1)) (hn : pc + 1 = n) (k : gAt G cells slots M lv n (va_rf none :: st)) : gAt G cells slots M lv pc st := by
  obtain ⟨⟨s0, D, dA⟩, ⟨p, l, e, R⟩, ⟨s, m, args, below, meth, c⟩, nL', Q⟩ := G
  obtain ⟨⟨hx, hb, hml, hown, hts⟩, hret, hlk, hW0, hX0, hfl, hS0, rfl, rfl, hQ⟩ := hC
  subst hn
  intro H locs ls h1 h2 h3
  exact lv_null hx hb hdg (k H locs ls h1 h2 h3)
theorem g_iload_n (n : Nat) (hC : gCx G cc nL own ret Qf rm) {j : Fin 4} {i : Nat} {x : Int32} (hdg : decode cc pc = .ok (.iload_n j, 1)) (hn : pc + 1 = n) (q : Nat) (hq : lv[q]? = some (i, .int x)) (hi : (j : Nat) = i) (k : gAt G cells slots M lv n (.int x :: st)) : gAt G cells slots M lv pc st := by
  obtain ⟨⟨s0, D, dA⟩, ⟨p, l, e, R⟩, ⟨s, m, args, below, meth, c⟩, nL', Q⟩ := G
  obtain ⟨⟨hx, hb, hml, hown, hts⟩, hret, hlk, hW0, hX0, hfl, hS0, rfl, rfl, hQ⟩ := hC
  subst hn
  intro H locs ls h1 h2 h3
  exact lv_iload_n hx hb hdg hi (lv_at h3 q hq) (k H locs ls h1 h2 h3)
theorem g_iload (n : Nat) (hC : gCx G cc nL own ret Qf rm) {i : Nat} {x : Int32} (hdg : decode cc pc = .ok (.iload i, 2)) (hn : pc + 2 = n) (q : Nat) (hq : lv[q]? = some (i, .int x)) (k : gAt G cells slots M lv n (.int x :: st)) : gAt G cells slots M lv pc st := by
  obtain ⟨⟨s0, D, dA⟩, ⟨p, l, e, R⟩, ⟨s, m, args, below, meth, c⟩, nL', Q⟩ := G
  obtain ⟨⟨hx, hb, hml, hown, hts⟩, hret, hlk, hW0, hX0, hfl, hS0, rfl, rfl, hQ⟩ := hC
  subst hn
  intro H locs ls h1 h2 h3
  exact lv_iload hx hb hdg (lv_at h3 q hq) (k H locs ls h1 h2 h3)
theorem g_lload_n (n : Nat) (hC : gCx G cc nL own ret Qf rm) {j : Fin 4} {i : Nat} {x : Int64} (hdg : decode cc pc = .ok (.lload_n j, 1)) (hn : pc + 1 = n) (q : Nat) (hq : lv[q]? = some (i, .long x)) (hi : (j : Nat) = i) (k : gAt G cells slots M lv n (.long x :: st)) : gAt G cells slots M lv pc st := by
  obtain ⟨⟨s0, D, dA⟩, ⟨p, l, e, R⟩, ⟨s, m, args, below, meth, c⟩, nL', Q⟩ := G
  obtain ⟨⟨hx, hb, hml, hown, hts⟩, hret, hlk, hW0, hX0, hfl, hS0, rfl, rfl, hQ⟩ := hC
  subst hn
  intro H locs ls h1 h2 h3
  exact lv_lload_n hx hb hdg hi (lv_at h3 q hq) (k H locs ls h1 h2 h3)
theorem g_lload (n : Nat) (hC : gCx G cc nL own ret Qf rm) {i : Nat} {x : Int64} (hdg : decode cc pc = .ok (.lload i, 2)) (hn : pc + 2 = n) (q : Nat) (hq : lv[q]? = some (i, .long x)) (k : gAt G cells slots M lv n (.long x :: st)) : gAt G cells slots M lv pc st := by
  obtain ⟨⟨s0, D, dA⟩, ⟨p, l, e, R⟩, ⟨s, m, args, below, meth, c⟩, nL', Q⟩ := G
  obtain ⟨⟨hx, hb, hml, hown, hts⟩, hret, hlk, hW0, hX0, hfl, hS0, rfl, rfl, hQ⟩ := hC
  subst hn
  intro H locs ls h1 h2 h3
  exact lv_lload hx hb hdg (lv_at h3 q hq) (k H locs ls h1 h2 h3)
theorem g_aload_n (n : Nat) (hC : gCx G cc nL own ret Qf rm) {j : Fin 4} {i : Nat} {x : Nat} (hdg : decode cc pc = .ok (.aload_n j, 1)) (hn : pc + 1 = n) (q : Nat) (hq : lv[q]? = some (i, .ref x)) (hi : (j : Nat) = i) (k : gAt G cells slots M lv n (.ref x :: st)) : gAt G cells slots M lv pc st := by
  obtain ⟨⟨s0, D, dA⟩, ⟨p, l, e, R⟩, ⟨s, m, args, below, meth, c⟩, nL', Q⟩ := G
  obtain ⟨⟨hx, hb, hml, hown, hts⟩, hret, hlk, hW0, hX0, hfl, hS0, rfl, rfl, hQ⟩ := hC
  subst hn
  intro H locs ls h1 h2 h3
  exact lv_aload_n hx hb hdg hi (lv_at h3 q hq) (k H locs ls h1 h2 h3)
theorem g_aload (n : Nat) (hC : gCx G cc nL own ret Qf rm) {i : Nat} {x : Nat} (hdg : decode cc pc = .ok (.aload i, 2)) (hn : pc + 2 = n) (q : Nat) (hq : lv[q]? = some (i, .ref x)) (k : gAt G cells slots M lv n (.ref x :: st)) : gAt G cells slots M lv pc st := by
  obtain ⟨⟨s0, D, dA⟩, ⟨p, l, e, R⟩, ⟨s, m, args, below, meth, c⟩, nL', Q⟩ := G
  obtain ⟨⟨hx, hb, hml, hown, hts⟩, hret, hlk, hW0, hX0, hfl, hS0, rfl, rfl, hQ⟩ := hC
  subst hn
  intro H locs ls h1 h2 h3
  exact lv_aload hx hb hdg (lv_at h3 q hq) (k H locs ls h1 h2 h3)
theorem g_qload_n (n : Nat) (hC : gCx G cc nL own ret Qf rm) {j : Fin 4} {i : Nat} {x : Option Nat} (hdg : decode cc pc = .ok (.aload_n j, 1)) (hn : pc + 1 = n) (q : Nat) (hq : lv[q]? = some (i, va_rf x)) (hi : (j : Nat) = i) (k : gAt G cells slots M lv n (va_rf x :: st)) : gAt G cells slots M lv pc st := by
  obtain ⟨⟨s0, D, dA⟩, ⟨p, l, e, R⟩, ⟨s, m, args, below, meth, c⟩, nL', Q⟩ := G
  obtain ⟨⟨hx, hb, hml, hown, hts⟩, hret, hlk, hW0, hX0, hfl, hS0, rfl, rfl, hQ⟩ := hC
  subst hn
  intro H locs ls h1 h2 h3
  cases x with
  | none => exact lv_aload_nN hx hb hdg hi (lv_at h3 q hq) (k H locs ls h1 h2 h3)
  | some x => exact lv_aload_n hx hb hdg hi (lv_at h3 q hq) (k H locs ls h1 h2 h3)
theorem g_qload (n : Nat) (hC : gCx G cc nL own ret Qf rm) {i : Nat} {x : Option Nat} (hdg : decode cc pc = .ok (.aload i, 2)) (hn : pc + 2 = n) (q : Nat) (hq : lv[q]? = some (i, va_rf x)) (k : gAt G cells slots M lv n (va_rf x :: st)) : gAt G cells slots M lv pc st := by
  obtain ⟨⟨s0, D, dA⟩, ⟨p, l, e, R⟩, ⟨s, m, args, below, meth, c⟩, nL', Q⟩ := G
  obtain ⟨⟨hx, hb, hml, hown, hts⟩, hret, hlk, hW0, hX0, hfl, hS0, rfl, rfl, hQ⟩ := hC
  subst hn
  intro H locs ls h1 h2 h3
  cases x with
  | none => exact lv_aloadN hx hb hdg (lv_at h3 q hq) (k H locs ls h1 h2 h3)
  | some x => exact lv_aload hx hb hdg (lv_at h3 q hq) (k H locs ls h1 h2 h3)
theorem g_istore_n (n : Nat) (hC : gCx G cc nL own ret Qf rm) {j : Fin 4} {i : Nat} {x : Int32} {lv' : List (Nat × Value)} (hdg : decode cc pc = .ok (.istore_n j, 1)) (hn : pc + 1 = n) (hi : (j : Nat) = i) (hlt : i < nL) (hl : (i, Value.int x) :: lv.filter (fun q => !(q.1 == i) && !(q.1 + 1 == i && q.2.category == 2)) = lv') (k : gAt G cells slots M lv' n st) : gAt G cells slots M lv pc (.int x :: st) := by
  obtain ⟨⟨s0, D, dA⟩, ⟨p, l, e, R⟩, ⟨s, m, args, below, meth, c⟩, nL', Q⟩ := G
  obtain ⟨⟨hx, hb, hml, hown, hts⟩, hret, hlk, hW0, hX0, hfl, hS0, rfl, rfl, hQ⟩ := hC
  subst hn
  intro H locs ls h1 h2 h3
  exact lv_istore_n hx hb hdg hi h3 hlt hl (fun ls h3 => (k H locs ls h1 h2 h3))
theorem g_istore (n : Nat) (hC : gCx G cc nL own ret Qf rm) {i : Nat} {x : Int32} {lv' : List (Nat × Value)} (hdg : decode cc pc = .ok (.istore i, 2)) (hn : pc + 2 = n) (hlt : i < nL) (hl : (i, Value.int x) :: lv.filter (fun q => !(q.1 == i) && !(q.1 + 1 == i && q.2.category == 2)) = lv') (k : gAt G cells slots M lv' n st) : gAt G cells slots M lv pc (.int x :: st) := by
  obtain ⟨⟨s0, D, dA⟩, ⟨p, l, e, R⟩, ⟨s, m, args, below, meth, c⟩, nL', Q⟩ := G
  obtain ⟨⟨hx, hb, hml, hown, hts⟩, hret, hlk, hW0, hX0, hfl, hS0, rfl, rfl, hQ⟩ := hC
  subst hn
  intro H locs ls h1 h2 h3
  exact lv_istore hx hb hdg h3 hlt hl (fun ls h3 => (k H locs ls h1 h2 h3))
theorem g_lstore_n (n : Nat) (hC : gCx G cc nL own ret Qf rm) {j : Fin 4} {i : Nat} {x : Int64} {lv' : List (Nat × Value)} (hdg : decode cc pc = .ok (.lstore_n j, 1)) (hn : pc + 1 = n) (hi : (j : Nat) = i) (hlt : i + 1 < nL) (hl : (i, Value.long x) :: lv.filter (fun q => !(q.1 == i) && (!(q.1 == i + 1) && !(q.1 + 1 == i && q.2.category == 2))) = lv') (k : gAt G cells slots M lv' n st) : gAt G cells slots M lv pc (.long x :: st) := by
  obtain ⟨⟨s0, D, dA⟩, ⟨p, l, e, R⟩, ⟨s, m, args, below, meth, c⟩, nL', Q⟩ := G
  obtain ⟨⟨hx, hb, hml, hown, hts⟩, hret, hlk, hW0, hX0, hfl, hS0, rfl, rfl, hQ⟩ := hC
  subst hn
  intro H locs ls h1 h2 h3
  exact lv_lstore_n hx hb hdg hi h3 hlt hl (fun ls h3 => (k H locs ls h1 h2 h3))
theorem g_lstore (n : Nat) (hC : gCx G cc nL own ret Qf rm) {i : Nat} {x : Int64} {lv' : List (Nat × Value)} (hdg : decode cc pc = .ok (.lstore i, 2)) (hn : pc + 2 = n) (hlt : i + 1 < nL) (hl : (i, Value.long x) :: lv.filter (fun q => !(q.1 == i) && (!(q.1 == i + 1) && !(q.1 + 1 == i && q.2.category == 2))) = lv') (k : gAt G cells slots M lv' n st) : gAt G cells slots M lv pc (.long x :: st) := by
  obtain ⟨⟨s0, D, dA⟩, ⟨p, l, e, R⟩, ⟨s, m, args, below, meth, c⟩, nL', Q⟩ := G
  obtain ⟨⟨hx, hb, hml, hown, hts⟩, hret, hlk, hW0, hX0, hfl, hS0, rfl, rfl, hQ⟩ := hC
  subst hn
  intro H locs ls h1 h2 h3
  exact lv_lstore hx hb hdg h3 hlt hl (fun ls h3 => (k H locs ls h1 h2 h3))
theorem g_astore_n (n : Nat) (hC : gCx G cc nL own ret Qf rm) {j : Fin 4} {i : Nat} {x : Nat} {lv' : List (Nat × Value)} (hdg : decode cc pc = .ok (.astore_n j, 1)) (hn : pc + 1 = n) (hi : (j : Nat) = i) (hlt : i < nL) (hl : (i, Value.ref x) :: lv.filter (fun q => !(q.1 == i) && !(q.1 + 1 == i && q.2.category == 2)) = lv') (k : gAt G cells slots M lv' n st) : gAt G cells slots M lv pc (.ref x :: st) := by
  obtain ⟨⟨s0, D, dA⟩, ⟨p, l, e, R⟩, ⟨s, m, args, below, meth, c⟩, nL', Q⟩ := G
  obtain ⟨⟨hx, hb, hml, hown, hts⟩, hret, hlk, hW0, hX0, hfl, hS0, rfl, rfl, hQ⟩ := hC
  subst hn
  intro H locs ls h1 h2 h3
  exact lv_astore_n hx hb hdg hi h3 hlt hl (fun ls h3 => (k H locs ls h1 h2 h3))
theorem g_astore (n : Nat) (hC : gCx G cc nL own ret Qf rm) {i : Nat} {x : Nat} {lv' : List (Nat × Value)} (hdg : decode cc pc = .ok (.astore i, 2)) (hn : pc + 2 = n) (hlt : i < nL) (hl : (i, Value.ref x) :: lv.filter (fun q => !(q.1 == i) && !(q.1 + 1 == i && q.2.category == 2)) = lv') (k : gAt G cells slots M lv' n st) : gAt G cells slots M lv pc (.ref x :: st) := by
  obtain ⟨⟨s0, D, dA⟩, ⟨p, l, e, R⟩, ⟨s, m, args, below, meth, c⟩, nL', Q⟩ := G
  obtain ⟨⟨hx, hb, hml, hown, hts⟩, hret, hlk, hW0, hX0, hfl, hS0, rfl, rfl, hQ⟩ := hC
  subst hn
  intro H locs ls h1 h2 h3
  exact lv_astore hx hb hdg h3 hlt hl (fun ls h3 => (k H locs ls h1 h2 h3))
theorem g_qstore_n (n : Nat) (hC : gCx G cc nL own ret Qf rm) {j : Fin 4} {i : Nat} {x : Option Nat} {lv' : List (Nat × Value)} (hdg : decode cc pc = .ok (.astore_n j, 1)) (hn : pc + 1 = n) (hi : (j : Nat) = i) (hlt : i < nL) (hl : (i, va_rf x) :: lv.filter (fun q => !(q.1 == i) && !(q.1 + 1 == i && q.2.category == 2)) = lv') (k : gAt G cells slots M lv' n st) : gAt G cells slots M lv pc (va_rf x :: st) := by
  obtain ⟨⟨s0, D, dA⟩, ⟨p, l, e, R⟩, ⟨s, m, args, below, meth, c⟩, nL', Q⟩ := G
  obtain ⟨⟨hx, hb, hml, hown, hts⟩, hret, hlk, hW0, hX0, hfl, hS0, rfl, rfl, hQ⟩ := hC
  subst hn
  intro H locs ls h1 h2 h3
  cases x with
  | none => exact lv_astore_nN hx hb hdg hi h3 hlt hl (fun ls h3 => (k H locs ls h1 h2 h3))
  | some x => exact lv_astore_n hx hb hdg hi h3 hlt hl (fun ls h3 => (k H locs ls h1 h2 h3))
theorem g_qstore (n : Nat) (hC : gCx G cc nL own ret Qf rm) {i : Nat} {x : Option Nat} {lv' : List (Nat × Value)} (hdg : decode cc pc = .ok (.astore i, 2)) (hn : pc + 2 = n) (hlt : i < nL) (hl : (i, va_rf x) :: lv.filter (fun q => !(q.1 == i) && !(q.1 + 1 == i && q.2.category == 2)) = lv') (k : gAt G cells slots M lv' n st) : gAt G cells slots M lv pc (va_rf x :: st) := by
  obtain ⟨⟨s0, D, dA⟩, ⟨p, l, e, R⟩, ⟨s, m, args, below, meth, c⟩, nL', Q⟩ := G
  obtain ⟨⟨hx, hb, hml, hown, hts⟩, hret, hlk, hW0, hX0, hfl, hS0, rfl, rfl, hQ⟩ := hC
  subst hn
  intro H locs ls h1 h2 h3
  cases x with
  | none => exact lv_astoreN hx hb hdg h3 hlt hl (fun ls h3 => (k H locs ls h1 h2 h3))
  | some x => exact lv_astore hx hb hdg h3 hlt hl (fun ls h3 => (k H locs ls h1 h2 h3))
theorem g_iinc (n : Nat) (hC : gCx G cc nL own ret Qf rm) {i : Nat} {z : Int} {x : Int32} (v : Int32) {lv' : List (Nat × Value)} (hdg : decode cc pc = .ok (.iinc i z, 3)) (hn : pc + 3 = n) (q : Nat) (hq : lv[q]? = some (i, .int x)) (hv : x + Int32.ofInt z = v) (hlt : i < nL) (hl : (i, Value.int v) :: lv.filter (fun q => !(q.1 == i) && !(q.1 + 1 == i && q.2.category == 2)) = lv') (k : gAt G cells slots M lv' n st) : gAt G cells slots M lv pc st := by
  obtain ⟨⟨s0, D, dA⟩, ⟨p, l, e, R⟩, ⟨s, m, args, below, meth, c⟩, nL', Q⟩ := G
  obtain ⟨⟨hx, hb, hml, hown, hts⟩, hret, hlk, hW0, hX0, hfl, hS0, rfl, rfl, hQ⟩ := hC
  subst hn
  intro H locs ls h1 h2 h3
  exact lv_iinc hx hb hdg h3 hq hv hlt hl (fun ls h3 => (k H locs ls h1 h2 h3))
theorem g_iadd (n : Nat) (hC : gCx G cc nL own ret Qf rm) {x y : Int32} (hdg : decode cc pc = .ok (.iadd, 1)) (hn : pc + 1 = n) (k : gAt G cells slots M lv n (.int (x + y) :: st)) : gAt G cells slots M lv pc (.int y :: .int x :: st) := by
  obtain ⟨⟨s0, D, dA⟩, ⟨p, l, e, R⟩, ⟨s, m, args, below, meth, c⟩, nL', Q⟩ := G
  obtain ⟨⟨hx, hb, hml, hown, hts⟩, hret, hlk, hW0, hX0, hfl, hS0, rfl, rfl, hQ⟩ := hC
  subst hn
  intro H locs ls h1 h2 h3
  exact lv_iadd hx hb hdg (k H locs ls h1 h2 h3)
theorem g_isub (n : Nat) (hC : gCx G cc nL own ret Qf rm) {x y : Int32} (hdg : decode cc pc = .ok (.isub, 1)) (hn : pc + 1 = n) (k : gAt G cells slots M lv n (.int (x - y) :: st)) : gAt G cells slots M lv pc (.int y :: .int x :: st) := by
  obtain ⟨⟨s0, D, dA⟩, ⟨p, l, e, R⟩, ⟨s, m, args, below, meth, c⟩, nL', Q⟩ := G
  obtain ⟨⟨hx, hb, hml, hown, hts⟩, hret, hlk, hW0, hX0, hfl, hS0, rfl, rfl, hQ⟩ := hC
  subst hn
  intro H locs ls h1 h2 h3
  exact lv_isub hx hb hdg (k H locs ls h1 h2 h3)
theorem g_imul (n : Nat) (hC : gCx G cc nL own ret Qf rm) {x y : Int32} (hdg : decode cc pc = .ok (.imul, 1)) (hn : pc + 1 = n) (k : gAt G cells slots M lv n (.int (x * y) :: st)) : gAt G cells slots M lv pc (.int y :: .int x :: st) := by
  obtain ⟨⟨s0, D, dA⟩, ⟨p, l, e, R⟩, ⟨s, m, args, below, meth, c⟩, nL', Q⟩ := G
  obtain ⟨⟨hx, hb, hml, hown, hts⟩, hret, hlk, hW0, hX0, hfl, hS0, rfl, rfl, hQ⟩ := hC
  subst hn
  intro H locs ls h1 h2 h3
  exact lv_imul hx hb hdg (k H locs ls h1 h2 h3)
theorem g_iand (n : Nat) (hC : gCx G cc nL own ret Qf rm) {x y : Int32} (hdg : decode cc pc = .ok (.iand, 1)) (hn : pc + 1 = n) (k : gAt G cells slots M lv n (.int (x &&& y) :: st)) : gAt G cells slots M lv pc (.int y :: .int x :: st) := by
  obtain ⟨⟨s0, D, dA⟩, ⟨p, l, e, R⟩, ⟨s, m, args, below, meth, c⟩, nL', Q⟩ := G
  obtain ⟨⟨hx, hb, hml, hown, hts⟩, hret, hlk, hW0, hX0, hfl, hS0, rfl, rfl, hQ⟩ := hC
  subst hn
  intro H locs ls h1 h2 h3
  exact lv_iand hx hb hdg (k H locs ls h1 h2 h3)
theorem g_ior (n : Nat) (hC : gCx G cc nL own ret Qf rm) {x y : Int32} (hdg : decode cc pc = .ok (.ior, 1)) (hn : pc + 1 = n) (k : gAt G cells slots M lv n (.int (x ||| y) :: st)) : gAt G cells slots M lv pc (.int y :: .int x :: st) := by
  obtain ⟨⟨s0, D, dA⟩, ⟨p, l, e, R⟩, ⟨s, m, args, below, meth, c⟩, nL', Q⟩ := G
  obtain ⟨⟨hx, hb, hml, hown, hts⟩, hret, hlk, hW0, hX0, hfl, hS0, rfl, rfl, hQ⟩ := hC
  subst hn
  intro H locs ls h1 h2 h3
  exact lv_ior hx hb hdg (k H locs ls h1 h2 h3)
theorem g_ishl (n : Nat) (hC : gCx G cc nL own ret Qf rm) {x y : Int32} (hdg : decode cc pc = .ok (.ishl, 1)) (hn : pc + 1 = n) (k : gAt G cells slots M lv n (.int (x <<< (y &&& 31)) :: st)) : gAt G cells slots M lv pc (.int y :: .int x :: st) := by
  obtain ⟨⟨s0, D, dA⟩, ⟨p, l, e, R⟩, ⟨s, m, args, below, meth, c⟩, nL', Q⟩ := G
  obtain ⟨⟨hx, hb, hml, hown, hts⟩, hret, hlk, hW0, hX0, hfl, hS0, rfl, rfl, hQ⟩ := hC
  subst hn
  intro H locs ls h1 h2 h3
  exact lv_ishl hx hb hdg (k H locs ls h1 h2 h3)
theorem g_ishr (n : Nat) (hC : gCx G cc nL own ret Qf rm) {x y : Int32} (hdg : decode cc pc = .ok (.ishr, 1)) (hn : pc + 1 = n) (k : gAt G cells slots M lv n (.int (x >>> (y &&& 31)) :: st)) : gAt G cells slots M lv pc (.int y :: .int x :: st) := by
  obtain ⟨⟨s0, D, dA⟩, ⟨p, l, e, R⟩, ⟨s, m, args, below, meth, c⟩, nL', Q⟩ := G
  obtain ⟨⟨hx, hb, hml, hown, hts⟩, hret, hlk, hW0, hX0, hfl, hS0, rfl, rfl, hQ⟩ := hC
  subst hn
  intro H locs ls h1 h2 h3
  exact lv_ishr hx hb hdg (k H locs ls h1 h2 h3)
theorem g_iushr (n : Nat) (hC : gCx G cc nL own ret Qf rm) {x y : Int32} (hdg : decode cc pc = .ok (.iushr, 1)) (hn : pc + 1 = n) (k : gAt G cells slots M lv n (.int ((x.toUInt32 >>> (y.toUInt32 &&& Int32.toUInt32 31)).toInt32) :: st)) : gAt G cells slots M lv pc (.int y :: .int x :: st) := by
  obtain ⟨⟨s0, D, dA⟩, ⟨p, l, e, R⟩, ⟨s, m, args, below, meth, c⟩, nL', Q⟩ := G
  obtain ⟨⟨hx, hb, hml, hown, hts⟩, hret, hlk, hW0, hX0, hfl, hS0, rfl, rfl, hQ⟩ := hC
  subst hn
  intro H locs ls h1 h2 h3
  exact lv_iushr hx hb hdg rfl (k H locs ls h1 h2 h3)
theorem g_idiv (n : Nat) (hC : gCx G cc nL own ret Qf rm) {x y : Int32} (hne : ¬ y = 0) (hdg : decode cc pc = .ok (.idiv, 1)) (hn : pc + 1 = n) (k : gAt G cells slots M lv n (.int (x / y) :: st)) : gAt G cells slots M lv pc (.int y :: .int x :: st) := by
  obtain ⟨⟨s0, D, dA⟩, ⟨p, l, e, R⟩, ⟨s, m, args, below, meth, c⟩, nL', Q⟩ := G
  obtain ⟨⟨hx, hb, hml, hown, hts⟩, hret, hlk, hW0, hX0, hfl, hS0, rfl, rfl, hQ⟩ := hC
  subst hn
  intro H locs ls h1 h2 h3
  exact lv_idiv hx hb hdg hne (k H locs ls h1 h2 h3)
theorem g_irem (n : Nat) (hC : gCx G cc nL own ret Qf rm) {x y : Int32} (hne : ¬ y = 0) (hdg : decode cc pc = .ok (.irem, 1)) (hn : pc + 1 = n) (k : gAt G cells slots M lv n (.int (x - x / y * y) :: st)) : gAt G cells slots M lv pc (.int y :: .int x :: st) := by
  obtain ⟨⟨s0, D, dA⟩, ⟨p, l, e, R⟩, ⟨s, m, args, below, meth, c⟩, nL', Q⟩ := G
  obtain ⟨⟨hx, hb, hml, hown, hts⟩, hret, hlk, hW0, hX0, hfl, hS0, rfl, rfl, hQ⟩ := hC
  subst hn
  intro H locs ls h1 h2 h3
  exact lv_irem hx hb hdg hne (k H locs ls h1 h2 h3)
theorem g_ineg (n : Nat) (hC : gCx G cc nL own ret Qf rm) {x : Int32} (hdg : decode cc pc = .ok (.ineg, 1)) (hn : pc + 1 = n) (k : gAt G cells slots M lv n (.int (-x) :: st)) : gAt G cells slots M lv pc (.int x :: st) := by
  obtain ⟨⟨s0, D, dA⟩, ⟨p, l, e, R⟩, ⟨s, m, args, below, meth, c⟩, nL', Q⟩ := G
  obtain ⟨⟨hx, hb, hml, hown, hts⟩, hret, hlk, hW0, hX0, hfl, hS0, rfl, rfl, hQ⟩ := hC
  subst hn
  intro H locs ls h1 h2 h3
  exact lv_ineg hx hb hdg (k H locs ls h1 h2 h3)
theorem g_ladd (n : Nat) (hC : gCx G cc nL own ret Qf rm) {x y : Int64} (hdg : decode cc pc = .ok (.ladd, 1)) (hn : pc + 1 = n) (k : gAt G cells slots M lv n (.long (x + y) :: st)) : gAt G cells slots M lv pc (.long y :: .long x :: st) := by
  obtain ⟨⟨s0, D, dA⟩, ⟨p, l, e, R⟩, ⟨s, m, args, below, meth, c⟩, nL', Q⟩ := G
  obtain ⟨⟨hx, hb, hml, hown, hts⟩, hret, hlk, hW0, hX0, hfl, hS0, rfl, rfl, hQ⟩ := hC
  subst hn
  intro H locs ls h1 h2 h3
  exact lv_ladd hx hb hdg (k H locs ls h1 h2 h3)
theorem g_lsub (n : Nat) (hC : gCx G cc nL own ret Qf rm) {x y : Int64} (hdg : decode cc pc = .ok (.lsub, 1)) (hn : pc + 1 = n) (k : gAt G cells slots M lv n (.long (x - y) :: st)) : gAt G cells slots M lv pc (.long y :: .long x :: st) := by
  obtain ⟨⟨s0, D, dA⟩, ⟨p, l, e, R⟩, ⟨s, m, args, below, meth, c⟩, nL', Q⟩ := G
  obtain ⟨⟨hx, hb, hml, hown, hts⟩, hret, hlk, hW0, hX0, hfl, hS0, rfl, rfl, hQ⟩ := hC
  subst hn
  intro H locs ls h1 h2 h3
  exact lv_lsub hx hb hdg (k H locs ls h1 h2 h3)
theorem g_lmul (n : Nat) (hC : gCx G cc nL own ret Qf rm) {x y : Int64} (hdg : decode cc pc = .ok (.lmul, 1)) (hn : pc + 1 = n) (k : gAt G cells slots M lv n (.long (x * y) :: st)) : gAt G cells slots M lv pc (.long y :: .long x :: st) := by
  obtain ⟨⟨s0, D, dA⟩, ⟨p, l, e, R⟩, ⟨s, m, args, below, meth, c⟩, nL', Q⟩ := G
  obtain ⟨⟨hx, hb, hml, hown, hts⟩, hret, hlk, hW0, hX0, hfl, hS0, rfl, rfl, hQ⟩ := hC
  subst hn
  intro H locs ls h1 h2 h3
  exact lv_lmul hx hb hdg (k H locs ls h1 h2 h3)
theorem g_land (n : Nat) (hC : gCx G cc nL own ret Qf rm) {x y : Int64} (hdg : decode cc pc = .ok (.land, 1)) (hn : pc + 1 = n) (k : gAt G cells slots M lv n (.long (x &&& y) :: st)) : gAt G cells slots M lv pc (.long y :: .long x :: st) := by
  obtain ⟨⟨s0, D, dA⟩, ⟨p, l, e, R⟩, ⟨s, m, args, below, meth, c⟩, nL', Q⟩ := G
  obtain ⟨⟨hx, hb, hml, hown, hts⟩, hret, hlk, hW0, hX0, hfl, hS0, rfl, rfl, hQ⟩ := hC
  subst hn
  intro H locs ls h1 h2 h3
  exact lv_land hx hb hdg (k H locs ls h1 h2 h3)
theorem g_lor (n : Nat) (hC : gCx G cc nL own ret Qf rm) {x y : Int64} (hdg : decode cc pc = .ok (.lor, 1)) (hn : pc + 1 = n) (k : gAt G cells slots M lv n (.long (x ||| y) :: st)) : gAt G cells slots M lv pc (.long y :: .long x :: st) := by
  obtain ⟨⟨s0, D, dA⟩, ⟨p, l, e, R⟩, ⟨s, m, args, below, meth, c⟩, nL', Q⟩ := G
  obtain ⟨⟨hx, hb, hml, hown, hts⟩, hret, hlk, hW0, hX0, hfl, hS0, rfl, rfl, hQ⟩ := hC
  subst hn
  intro H locs ls h1 h2 h3
  exact lv_lor hx hb hdg (k H locs ls h1 h2 h3)
theorem g_ldiv (n : Nat) (hC : gCx G cc nL own ret Qf rm) {x y : Int64} (hne : ¬ y = 0) (hdg : decode cc pc = .ok (.ldiv, 1)) (hn : pc + 1 = n) (k : gAt G cells slots M lv n (.long (x / y) :: st)) : gAt G cells slots M lv pc (.long y :: .long x :: st) := by
  obtain ⟨⟨s0, D, dA⟩, ⟨p, l, e, R⟩, ⟨s, m, args, below, meth, c⟩, nL', Q⟩ := G
  obtain ⟨⟨hx, hb, hml, hown, hts⟩, hret, hlk, hW0, hX0, hfl, hS0, rfl, rfl, hQ⟩ := hC
  subst hn
  intro H locs ls h1 h2 h3
  exact lv_ldiv hx hb hdg hne (k H locs ls h1 h2 h3)
theorem g_lshl (n : Nat) (hC : gCx G cc nL own ret Qf rm) {x : Int64} {y : Int32} (hdg : decode cc pc = .ok (.lshl, 1)) (hn : pc + 1 = n) (k : gAt G cells slots M lv n (.long (x <<< (y.toInt64 &&& 63)) :: st)) : gAt G cells slots M lv pc (.int y :: .long x :: st) := by
  obtain ⟨⟨s0, D, dA⟩, ⟨p, l, e, R⟩, ⟨s, m, args, below, meth, c⟩, nL', Q⟩ := G
  obtain ⟨⟨hx, hb, hml, hown, hts⟩, hret, hlk, hW0, hX0, hfl, hS0, rfl, rfl, hQ⟩ := hC
  subst hn
  intro H locs ls h1 h2 h3
  exact lv_lshl hx hb hdg rfl (k H locs ls h1 h2 h3)
theorem g_i2l (n : Nat) (hC : gCx G cc nL own ret Qf rm) {x : Int32} (hdg : decode cc pc = .ok (.i2l, 1)) (hn : pc + 1 = n) (k : gAt G cells slots M lv n (.long (x.toInt64) :: st)) : gAt G cells slots M lv pc (.int x :: st) := by
  obtain ⟨⟨s0, D, dA⟩, ⟨p, l, e, R⟩, ⟨s, m, args, below, meth, c⟩, nL', Q⟩ := G
  obtain ⟨⟨hx, hb, hml, hown, hts⟩, hret, hlk, hW0, hX0, hfl, hS0, rfl, rfl, hQ⟩ := hC
  subst hn
  intro H locs ls h1 h2 h3
  exact lv_i2l hx hb hdg rfl (k H locs ls h1 h2 h3)
theorem g_l2i (n : Nat) (hC : gCx G cc nL own ret Qf rm) {x : Int64} (hdg : decode cc pc = .ok (.l2i, 1)) (hn : pc + 1 = n) (k : gAt G cells slots M lv n (.int (x.toInt32) :: st)) : gAt G cells slots M lv pc (.long x :: st) := by
  obtain ⟨⟨s0, D, dA⟩, ⟨p, l, e, R⟩, ⟨s, m, args, below, meth, c⟩, nL', Q⟩ := G
  obtain ⟨⟨hx, hb, hml, hown, hts⟩, hret, hlk, hW0, hX0, hfl, hS0, rfl, rfl, hQ⟩ := hC
  subst hn
  intro H locs ls h1 h2 h3
  exact lv_l2i hx hb hdg rfl (k H locs ls h1 h2 h3)
theorem g_i2b (n : Nat) (hC : gCx G cc nL own ret Qf rm) {x : Int32} (hdg : decode cc pc = .ok (.i2b, 1)) (hn : pc + 1 = n) (k : gAt G cells slots M lv n (.int (x.toInt8.toInt32) :: st)) : gAt G cells slots M lv pc (.int x :: st) := by
  obtain ⟨⟨s0, D, dA⟩, ⟨p, l, e, R⟩, ⟨s, m, args, below, meth, c⟩, nL', Q⟩ := G
  obtain ⟨⟨hx, hb, hml, hown, hts⟩, hret, hlk, hW0, hX0, hfl, hS0, rfl, rfl, hQ⟩ := hC
  subst hn
  intro H locs ls h1 h2 h3
  exact lv_i2b hx hb hdg rfl (k H locs ls h1 h2 h3)
theorem g_i2s (n : Nat) (hC : gCx G cc nL own ret Qf rm) {x : Int32} (hdg : decode cc pc = .ok (.i2s, 1)) (hn : pc + 1 = n) (k : gAt G cells slots M lv n (.int (x.toInt16.toInt32) :: st)) : gAt G cells slots M lv pc (.int x :: st) := by
  obtain ⟨⟨s0, D, dA⟩, ⟨p, l, e, R⟩, ⟨s, m, args, below, meth, c⟩, nL', Q⟩ := G
  obtain ⟨⟨hx, hb, hml, hown, hts⟩, hret, hlk, hW0, hX0, hfl, hS0, rfl, rfl, hQ⟩ := hC
  subst hn
  intro H locs ls h1 h2 h3
  exact lv_i2s hx hb hdg rfl (k H locs ls h1 h2 h3)
theorem g_i2c (n : Nat) (hC : gCx G cc nL own ret Qf rm) {x : Int32} (hdg : decode cc pc = .ok (.i2c, 1)) (hn : pc + 1 = n) (k : gAt G cells slots M lv n (.int ((x.toUInt32 % 65536).toInt32) :: st)) : gAt G cells slots M lv pc (.int x :: st) := by
  obtain ⟨⟨s0, D, dA⟩, ⟨p, l, e, R⟩, ⟨s, m, args, below, meth, c⟩, nL', Q⟩ := G
  obtain ⟨⟨hx, hb, hml, hown, hts⟩, hret, hlk, hW0, hX0, hfl, hS0, rfl, rfl, hQ⟩ := hC
  subst hn
  intro H locs ls h1 h2 h3
  exact lv_i2c hx hb hdg rfl (k H locs ls h1 h2 h3)
theorem g_dup (n : Nat) (hC : gCx G cc nL own ret Qf rm) {v : Value} (hdg : decode cc pc = .ok (.dup, 1)) (hn : pc + 1 = n) (hv : v.category = 1) (k : gAt G cells slots M lv n (v :: v :: st)) : gAt G cells slots M lv pc (v :: st) := by
  obtain ⟨⟨s0, D, dA⟩, ⟨p, l, e, R⟩, ⟨s, m, args, below, meth, c⟩, nL', Q⟩ := G
  obtain ⟨⟨hx, hb, hml, hown, hts⟩, hret, hlk, hW0, hX0, hfl, hS0, rfl, rfl, hQ⟩ := hC
  subst hn
  intro H locs ls h1 h2 h3
  exact lv_dup hx hb hdg hv (k H locs ls h1 h2 h3)
theorem g_pop (n : Nat) (hC : gCx G cc nL own ret Qf rm) {v : Value} (hdg : decode cc pc = .ok (.pop, 1)) (hn : pc + 1 = n) (hv : v.category = 1) (k : gAt G cells slots M lv n st) : gAt G cells slots M lv pc (v :: st) := by
  obtain ⟨⟨s0, D, dA⟩, ⟨p, l, e, R⟩, ⟨s, m, args, below, meth, c⟩, nL', Q⟩ := G
  obtain ⟨⟨hx, hb, hml, hown, hts⟩, hret, hlk, hW0, hX0, hfl, hS0, rfl, rfl, hQ⟩ := hC
  subst hn
  intro H locs ls h1 h2 h3
  exact lv_pop hx hb hdg hv (k H locs ls h1 h2 h3)
theorem g_dup_x1 (n : Nat) (hC : gCx G cc nL own ret Qf rm) {v w : Value} (hdg : decode cc pc = .ok (.dup_x1, 1)) (hn : pc + 1 = n) (hv : v.category = 1) (hw : w.category = 1) (k : gAt G cells slots M lv n (v :: w :: v :: st)) : gAt G cells slots M lv pc (v :: w :: st) := by
  obtain ⟨⟨s0, D, dA⟩, ⟨p, l, e, R⟩, ⟨s, m, args, below, meth, c⟩, nL', Q⟩ := G
  obtain ⟨⟨hx, hb, hml, hown, hts⟩, hret, hlk, hW0, hX0, hfl, hS0, rfl, rfl, hQ⟩ := hC
  subst hn
  intro H locs ls h1 h2 h3
  exact lv_dup_x1 hx hb hdg hv hw (k H locs ls h1 h2 h3)
theorem g_dup2_11 (n : Nat) (hC : gCx G cc nL own ret Qf rm) {v w : Value} (hdg : decode cc pc = .ok (.dup2, 1)) (hn : pc + 1 = n) (hv : v.category = 1) (hw : w.category = 1) (k : gAt G cells slots M lv n (v :: w :: v :: w :: st)) : gAt G cells slots M lv pc (v :: w :: st) := by
  obtain ⟨⟨s0, D, dA⟩, ⟨p, l, e, R⟩, ⟨s, m, args, below, meth, c⟩, nL', Q⟩ := G
  obtain ⟨⟨hx, hb, hml, hown, hts⟩, hret, hlk, hW0, hX0, hfl, hS0, rfl, rfl, hQ⟩ := hC
  subst hn
  intro H locs ls h1 h2 h3
  exact lv_dup2_11 hx hb hdg hv hw (k H locs ls h1 h2 h3)
theorem g_if_eq (n t : Nat) (hC : gCx G cc nL own ret Qf rm) {x : Int32} {off : Int} (hdg : decode cc pc = .ok (.ifCond .eq off, 3)) (ht : (pc : Int) + off = (t : Int)) (hn : pc + 3 = n) (kt : x = 0 → gAt G cells slots M lv t st) (kf : ¬ x = 0 → gAt G cells slots M lv n st) : gAt G cells slots M lv pc (.int x :: st) := by
  obtain ⟨⟨s0, D, dA⟩, ⟨p, l, e, R⟩, ⟨s, m, args, below, meth, c⟩, nL', Q⟩ := G
  obtain ⟨⟨hx, hb, hml, hown, hts⟩, hret, hlk, hW0, hX0, hfl, hS0, rfl, rfl, hQ⟩ := hC
  subst hn
  intro H locs ls h1 h2 h3
  exact lv_if_eq hx hb hdg ht (fun q => kt q H locs ls h1 h2 h3) (fun q => kf q H locs ls h1 h2 h3)
theorem g_icmp_eq (n t : Nat) (hC : gCx G cc nL own ret Qf rm) {x y : Int32} {off : Int} (hdg : decode cc pc = .ok (.if_icmp .eq off, 3)) (ht : (pc : Int) + off = (t : Int)) (hn : pc + 3 = n) (kt : x = y → gAt G cells slots M lv t st) (kf : ¬ x = y → gAt G cells slots M lv n st) : gAt G cells slots M lv pc (.int y :: .int x :: st) := by
  obtain ⟨⟨s0, D, dA⟩, ⟨p, l, e, R⟩, ⟨s, m, args, below, meth, c⟩, nL', Q⟩ := G
  obtain ⟨⟨hx, hb, hml, hown, hts⟩, hret, hlk, hW0, hX0, hfl, hS0, rfl, rfl, hQ⟩ := hC
  subst hn
  intro H locs ls h1 h2 h3
  exact lv_icmp_eq hx hb hdg ht (fun q => kt q H locs ls h1 h2 h3) (fun q => kf q H locs ls h1 h2 h3)
theorem g_lcmp_eq (n t : Nat) {pc1 : Nat} (hC : gCx G cc nL own ret Qf rm) {x y : Int64} {off : Int} (hd0 : decode cc pc = .ok (.lcmp, 1)) (hp : pc + 1 = pc1) (hdg : decode cc pc1 = .ok (.ifCond .eq off, 3)) (ht : (pc1 : Int) + off = (t : Int)) (hn : pc1 + 3 = n) (kt : x = y → gAt G cells slots M lv t st) (kf : ¬ x = y → gAt G cells slots M lv n st) : gAt G cells slots M lv pc (.long y :: .long x :: st) := by
  obtain ⟨⟨s0, D, dA⟩, ⟨p, l, e, R⟩, ⟨s, m, args, below, meth, c⟩, nL', Q⟩ := G
  obtain ⟨⟨hx, hb, hml, hown, hts⟩, hret, hlk, hW0, hX0, hfl, hS0, rfl, rfl, hQ⟩ := hC
  subst hp
  subst hn
  intro H locs ls h1 h2 h3
  exact W.lcmp hx hb hd0 (lv_if_eq hx hb hdg ht (fun q => kt ((lg_cmp_eq _ _).mp q) H locs ls h1 h2 h3) (fun q => kf (fun z => q ((lg_cmp_eq _ _).mpr z)) H locs ls h1 h2 h3))
theorem g_if_ne (n t : Nat) (hC : gCx G cc nL own ret Qf rm) {x : Int32} {off : Int} (hdg : decode cc pc = .ok (.ifCond .ne off, 3)) (ht : (pc : Int) + off = (t : Int)) (hn : pc + 3 = n) (kt : ¬ x = 0 → gAt G cells slots M lv t st) (kf : x = 0 → gAt G cells slots M lv n st) : gAt G cells slots M lv pc (.int x :: st) := by
  obtain ⟨⟨s0, D, dA⟩, ⟨p, l, e, R⟩, ⟨s, m, args, below, meth, c⟩, nL', Q⟩ := G
  obtain ⟨⟨hx, hb, hml, hown, hts⟩, hret, hlk, hW0, hX0, hfl, hS0, rfl, rfl, hQ⟩ := hC
  subst hn
  intro H locs ls h1 h2 h3
  exact lv_if_ne hx hb hdg ht (fun q => kt q H locs ls h1 h2 h3) (fun q => kf q H locs ls h1 h2 h3)
theorem g_icmp_ne (n t : Nat) (hC : gCx G cc nL own ret Qf rm) {x y : Int32} {off : Int} (hdg : decode cc pc = .ok (.if_icmp .ne off, 3)) (ht : (pc : Int) + off = (t : Int)) (hn : pc + 3 = n) (kt : ¬ x = y → gAt G cells slots M lv t st) (kf : x = y → gAt G cells slots M lv n st) : gAt G cells slots M lv pc (.int y :: .int x :: st) := by
  obtain ⟨⟨s0, D, dA⟩, ⟨p, l, e, R⟩, ⟨s, m, args, below, meth, c⟩, nL', Q⟩ := G
  obtain ⟨⟨hx, hb, hml, hown, hts⟩, hret, hlk, hW0, hX0, hfl, hS0, rfl, rfl, hQ⟩ := hC
  subst hn
  intro H locs ls h1 h2 h3
  exact lv_icmp_ne hx hb hdg ht (fun q => kt q H locs ls h1 h2 h3) (fun q => kf q H locs ls h1 h2 h3)
theorem g_lcmp_ne (n t : Nat) {pc1 : Nat} (hC : gCx G cc nL own ret Qf rm) {x y : Int64} {off : Int} (hd0 : decode cc pc = .ok (.lcmp, 1)) (hp : pc + 1 = pc1) (hdg : decode cc pc1 = .ok (.ifCond .ne off, 3)) (ht : (pc1 : Int) + off = (t : Int)) (hn : pc1 + 3 = n) (kt : ¬ x = y → gAt G cells slots M lv t st) (kf : x = y → gAt G cells slots M lv n st) : gAt G cells slots M lv pc (.long y :: .long x :: st) := by
  obtain ⟨⟨s0, D, dA⟩, ⟨p, l, e, R⟩, ⟨s, m, args, below, meth, c⟩, nL', Q⟩ := G
  obtain ⟨⟨hx, hb, hml, hown, hts⟩, hret, hlk, hW0, hX0, hfl, hS0, rfl, rfl, hQ⟩ := hC
  subst hp
  subst hn
  intro H locs ls h1 h2 h3
  exact W.lcmp hx hb hd0 (lv_if_ne hx hb hdg ht (fun q => kt (fun z => q ((lg_cmp_eq _ _).mpr z)) H locs ls h1 h2 h3) (fun q => kf ((lg_cmp_eq _ _).mp q) H locs ls h1 h2 h3))
theorem g_if_lt (n t : Nat) (hC : gCx G cc nL own ret Qf rm) {x : Int32} {off : Int} (hdg : decode cc pc = .ok (.ifCond .lt off, 3)) (ht : (pc : Int) + off = (t : Int)) (hn : pc + 3 = n) (kt : x < 0 → gAt G cells slots M lv t st) (kf : ¬ x < 0 → gAt G cells slots M lv n st) : gAt G cells slots M lv pc (.int x :: st) := by
  obtain ⟨⟨s0, D, dA⟩, ⟨p, l, e, R⟩, ⟨s, m, args, below, meth, c⟩, nL', Q⟩ := G
  obtain ⟨⟨hx, hb, hml, hown, hts⟩, hret, hlk, hW0, hX0, hfl, hS0, rfl, rfl, hQ⟩ := hC
  subst hn
  intro H locs ls h1 h2 h3
  exact lv_if_lt hx hb hdg ht (fun q => kt q H locs ls h1 h2 h3) (fun q => kf q H locs ls h1 h2 h3)
theorem g_icmp_lt (n t : Nat) (hC : gCx G cc nL own ret Qf rm) {x y : Int32} {off : Int} (hdg : decode cc pc = .ok (.if_icmp .lt off, 3)) (ht : (pc : Int) + off = (t : Int)) (hn : pc + 3 = n) (kt : x < y → gAt G cells slots M lv t st) (kf : ¬ x < y → gAt G cells slots M lv n st) : gAt G cells slots M lv pc (.int y :: .int x :: st) := by
  obtain ⟨⟨s0, D, dA⟩, ⟨p, l, e, R⟩, ⟨s, m, args, below, meth, c⟩, nL', Q⟩ := G
  obtain ⟨⟨hx, hb, hml, hown, hts⟩, hret, hlk, hW0, hX0, hfl, hS0, rfl, rfl, hQ⟩ := hC
  subst hn
  intro H locs ls h1 h2 h3
  exact lv_icmp_lt hx hb hdg ht (fun q => kt q H locs ls h1 h2 h3) (fun q => kf q H locs ls h1 h2 h3)
theorem g_lcmp_lt (n t : Nat) {pc1 : Nat} (hC : gCx G cc nL own ret Qf rm) {x y : Int64} {off : Int} (hd0 : decode cc pc = .ok (.lcmp, 1)) (hp : pc + 1 = pc1) (hdg : decode cc pc1 = .ok (.ifCond .lt off, 3)) (ht : (pc1 : Int) + off = (t : Int)) (hn : pc1 + 3 = n) (kt : x < y → gAt G cells slots M lv t st) (kf : ¬ x < y → gAt G cells slots M lv n st) : gAt G cells slots M lv pc (.long y :: .long x :: st) := by
  obtain ⟨⟨s0, D, dA⟩, ⟨p, l, e, R⟩, ⟨s, m, args, below, meth, c⟩, nL', Q⟩ := G
  obtain ⟨⟨hx, hb, hml, hown, hts⟩, hret, hlk, hW0, hX0, hfl, hS0, rfl, rfl, hQ⟩ := hC
  subst hp
  subst hn
  intro H locs ls h1 h2 h3
  exact W.lcmp hx hb hd0 (lv_if_lt hx hb hdg ht (fun q => kt ((lg_cmp_lt _ _).mp q) H locs ls h1 h2 h3) (fun q => kf (fun z => q ((lg_cmp_lt _ _).mpr z)) H locs ls h1 h2 h3))
theorem g_if_ge (n t : Nat) (hC : gCx G cc nL own ret Qf rm) {x : Int32} {off : Int} (hdg : decode cc pc = .ok (.ifCond .ge off, 3)) (ht : (pc : Int) + off = (t : Int)) (hn : pc + 3 = n) (kt : 0 ≤ x → gAt G cells slots M lv t st) (kf : ¬ 0 ≤ x → gAt G cells slots M lv n st) : gAt G cells slots M lv pc (.int x :: st) := by
  obtain ⟨⟨s0, D, dA⟩, ⟨p, l, e, R⟩, ⟨s, m, args, below, meth, c⟩, nL', Q⟩ := G
  obtain ⟨⟨hx, hb, hml, hown, hts⟩, hret, hlk, hW0, hX0, hfl, hS0, rfl, rfl, hQ⟩ := hC
  subst hn
  intro H locs ls h1 h2 h3
  exact lv_if_ge hx hb hdg ht (fun q => kt q H locs ls h1 h2 h3) (fun q => kf q H locs ls h1 h2 h3)
theorem g_icmp_ge (n t : Nat) (hC : gCx G cc nL own ret Qf rm) {x y : Int32} {off : Int} (hdg : decode cc pc = .ok (.if_icmp .ge off, 3)) (ht : (pc : Int) + off = (t : Int)) (hn : pc + 3 = n) (kt : y ≤ x → gAt G cells slots M lv t st) (kf : ¬ y ≤ x → gAt G cells slots M lv n st) : gAt G cells slots M lv pc (.int y :: .int x :: st) := by
  obtain ⟨⟨s0, D, dA⟩, ⟨p, l, e, R⟩, ⟨s, m, args, below, meth, c⟩, nL', Q⟩ := G
  obtain ⟨⟨hx, hb, hml, hown, hts⟩, hret, hlk, hW0, hX0, hfl, hS0, rfl, rfl, hQ⟩ := hC
  subst hn
  intro H locs ls h1 h2 h3
  exact lv_icmp_ge hx hb hdg ht (fun q => kt q H locs ls h1 h2 h3) (fun q => kf q H locs ls h1 h2 h3)
theorem g_lcmp_ge (n t : Nat) {pc1 : Nat} (hC : gCx G cc nL own ret Qf rm) {x y : Int64} {off : Int} (hd0 : decode cc pc = .ok (.lcmp, 1)) (hp : pc + 1 = pc1) (hdg : decode cc pc1 = .ok (.ifCond .ge off, 3)) (ht : (pc1 : Int) + off = (t : Int)) (hn : pc1 + 3 = n) (kt : y ≤ x → gAt G cells slots M lv t st) (kf : ¬ y ≤ x → gAt G cells slots M lv n st) : gAt G cells slots M lv pc (.long y :: .long x :: st) := by
  obtain ⟨⟨s0, D, dA⟩, ⟨p, l, e, R⟩, ⟨s, m, args, below, meth, c⟩, nL', Q⟩ := G
  obtain ⟨⟨hx, hb, hml, hown, hts⟩, hret, hlk, hW0, hX0, hfl, hS0, rfl, rfl, hQ⟩ := hC
  subst hp
  subst hn
  intro H locs ls h1 h2 h3
  exact W.lcmp hx hb hd0 (lv_if_ge hx hb hdg ht (fun q => kt ((lg_cmp_ge _ _).mp q) H locs ls h1 h2 h3) (fun q => kf (fun z => q ((lg_cmp_ge _ _).mpr z)) H locs ls h1 h2 h3))
theorem g_if_gt (n t : Nat) (hC : gCx G cc nL own ret Qf rm) {x : Int32} {off : Int} (hdg : decode cc pc = .ok (.ifCond .gt off, 3)) (ht : (pc : Int) + off = (t : Int)) (hn : pc + 3 = n) (kt : 0 < x → gAt G cells slots M lv t st) (kf : ¬ 0 < x → gAt G cells slots M lv n st) : gAt G cells slots M lv pc (.int x :: st) := by
  obtain ⟨⟨s0, D, dA⟩, ⟨p, l, e, R⟩, ⟨s, m, args, below, meth, c⟩, nL', Q⟩ := G
  obtain ⟨⟨hx, hb, hml, hown, hts⟩, hret, hlk, hW0, hX0, hfl, hS0, rfl, rfl, hQ⟩ := hC
  subst hn
  intro H locs ls h1 h2 h3
  exact lv_if_gt hx hb hdg ht (fun q => kt q H locs ls h1 h2 h3) (fun q => kf q H locs ls h1 h2 h3)
theorem g_icmp_gt (n t : Nat) (hC : gCx G cc nL own ret Qf rm) {x y : Int32} {off : Int} (hdg : decode cc pc = .ok (.if_icmp .gt off, 3)) (ht : (pc : Int) + off = (t : Int)) (hn : pc + 3 = n) (kt : y < x → gAt G cells slots M lv t st) (kf : ¬ y < x → gAt G cells slots M lv n st) : gAt G cells slots M lv pc (.int y :: .int x :: st) := by
  obtain ⟨⟨s0, D, dA⟩, ⟨p, l, e, R⟩, ⟨s, m, args, below, meth, c⟩, nL', Q⟩ := G
  obtain ⟨⟨hx, hb, hml, hown, hts⟩, hret, hlk, hW0, hX0, hfl, hS0, rfl, rfl, hQ⟩ := hC
  subst hn
  intro H locs ls h1 h2 h3
  exact lv_icmp_gt hx hb hdg ht (fun q => kt q H locs ls h1 h2 h3) (fun q => kf q H locs ls h1 h2 h3)
theorem g_lcmp_gt (n t : Nat) {pc1 : Nat} (hC : gCx G cc nL own ret Qf rm) {x y : Int64} {off : Int} (hd0 : decode cc pc = .ok (.lcmp, 1)) (hp : pc + 1 = pc1) (hdg : decode cc pc1 = .ok (.ifCond .gt off, 3)) (ht : (pc1 : Int) + off = (t : Int)) (hn : pc1 + 3 = n) (kt : y < x → gAt G cells slots M lv t st) (kf : ¬ y < x → gAt G cells slots M lv n st) : gAt G cells slots M lv pc (.long y :: .long x :: st) := by
  obtain ⟨⟨s0, D, dA⟩, ⟨p, l, e, R⟩, ⟨s, m, args, below, meth, c⟩, nL', Q⟩ := G
  obtain ⟨⟨hx, hb, hml, hown, hts⟩, hret, hlk, hW0, hX0, hfl, hS0, rfl, rfl, hQ⟩ := hC
  subst hp
  subst hn
  intro H locs ls h1 h2 h3
  exact W.lcmp hx hb hd0 (lv_if_gt hx hb hdg ht (fun q => kt ((lg_cmp_gt _ _).mp q) H locs ls h1 h2 h3) (fun q => kf (fun z => q ((lg_cmp_gt _ _).mpr z)) H locs ls h1 h2 h3))
theorem g_if_le (n t : Nat) (hC : gCx G cc nL own ret Qf rm) {x : Int32} {off : Int} (hdg : decode cc pc = .ok (.ifCond .le off, 3)) (ht : (pc : Int) + off = (t : Int)) (hn : pc + 3 = n) (kt : x ≤ 0 → gAt G cells slots M lv t st) (kf : ¬ x ≤ 0 → gAt G cells slots M lv n st) : gAt G cells slots M lv pc (.int x :: st) := by
  obtain ⟨⟨s0, D, dA⟩, ⟨p, l, e, R⟩, ⟨s, m, args, below, meth, c⟩, nL', Q⟩ := G
  obtain ⟨⟨hx, hb, hml, hown, hts⟩, hret, hlk, hW0, hX0, hfl, hS0, rfl, rfl, hQ⟩ := hC
  subst hn
  intro H locs ls h1 h2 h3
  exact lv_if_le hx hb hdg ht (fun q => kt q H locs ls h1 h2 h3) (fun q => kf q H locs ls h1 h2 h3)
theorem g_icmp_le (n t : Nat) (hC : gCx G cc nL own ret Qf rm) {x y : Int32} {off : Int} (hdg : decode cc pc = .ok (.if_icmp .le off, 3)) (ht : (pc : Int) + off = (t : Int)) (hn : pc + 3 = n) (kt : x ≤ y → gAt G cells slots M lv t st) (kf : ¬ x ≤ y → gAt G cells slots M lv n st) : gAt G cells slots M lv pc (.int y :: .int x :: st) := by
  obtain ⟨⟨s0, D, dA⟩, ⟨p, l, e, R⟩, ⟨s, m, args, below, meth, c⟩, nL', Q⟩ := G
  obtain ⟨⟨hx, hb, hml, hown, hts⟩, hret, hlk, hW0, hX0, hfl, hS0, rfl, rfl, hQ⟩ := hC
  subst hn
  intro H locs ls h1 h2 h3
  exact lv_icmp_le hx hb hdg ht (fun q => kt q H locs ls h1 h2 h3) (fun q => kf q H locs ls h1 h2 h3)
theorem g_lcmp_le (n t : Nat) {pc1 : Nat} (hC : gCx G cc nL own ret Qf rm) {x y : Int64} {off : Int} (hd0 : decode cc pc = .ok (.lcmp, 1)) (hp : pc + 1 = pc1) (hdg : decode cc pc1 = .ok (.ifCond .le off, 3)) (ht : (pc1 : Int) + off = (t : Int)) (hn : pc1 + 3 = n) (kt : x ≤ y → gAt G cells slots M lv t st) (kf : ¬ x ≤ y → gAt G cells slots M lv n st) : gAt G cells slots M lv pc (.long y :: .long x :: st) := by
  obtain ⟨⟨s0, D, dA⟩, ⟨p, l, e, R⟩, ⟨s, m, args, below, meth, c⟩, nL', Q⟩ := G
  obtain ⟨⟨hx, hb, hml, hown, hts⟩, hret, hlk, hW0, hX0, hfl, hS0, rfl, rfl, hQ⟩ := hC
  subst hp
  subst hn
  intro H locs ls h1 h2 h3
  exact W.lcmp hx hb hd0 (lv_if_le hx hb hdg ht (fun q => kt ((lg_cmp_le _ _).mp q) H locs ls h1 h2 h3) (fun q => kf (fun z => q ((lg_cmp_le _ _).mpr z)) H locs ls h1 h2 h3))
theorem g_goto (t : Nat) (hC : gCx G cc nL own ret Qf rm) {off : Int} (hdg : decode cc pc = .ok (.goto off, 3)) (ht : (pc : Int) + off = (t : Int)) (k : gAt G cells slots M lv t st) : gAt G cells slots M lv pc st := by
  obtain ⟨⟨s0, D, dA⟩, ⟨p, l, e, R⟩, ⟨s, m, args, below, meth, c⟩, nL', Q⟩ := G
  obtain ⟨⟨hx, hb, hml, hown, hts⟩, hret, hlk, hW0, hX0, hfl, hS0, rfl, rfl, hQ⟩ := hC
  intro H locs ls h1 h2 h3
  exact lv_goto hx hb hdg ht (k H locs ls h1 h2 h3)
theorem g_ifnull (n t : Nat) (hC : gCx G cc nL own ret Qf rm) {x : Option Nat} {off : Int} (hdg : decode cc pc = .ok (.ifnull off, 3)) (ht : (pc : Int) + off = (t : Int)) (hn : pc + 3 = n) (kt : x = none → gAt G cells slots M lv t st) (kf : ∀ a, x = some a → gAt G cells slots M lv n st) : gAt G cells slots M lv pc (va_rf x :: st) := by
  obtain ⟨⟨s0, D, dA⟩, ⟨p, l, e, R⟩, ⟨s, m, args, below, meth, c⟩, nL', Q⟩ := G
  obtain ⟨⟨hx, hb, hml, hown, hts⟩, hret, hlk, hW0, hX0, hfl, hS0, rfl, rfl, hQ⟩ := hC
  subst hn
  intro H locs ls h1 h2 h3
  cases x with
  | none => exact lv_ifnullN hx hb hdg ht (kt rfl H locs ls h1 h2 h3)
  | some x => exact lv_ifnull hx hb hdg (kf x rfl H locs ls h1 h2 h3)
theorem g_ifnonnull (n t : Nat) (hC : gCx G cc nL own ret Qf rm) {x : Option Nat} {off : Int} (hdg : decode cc pc = .ok (.ifnonnull off, 3)) (ht : (pc : Int) + off = (t : Int)) (hn : pc + 3 = n) (kt : ∀ a, x = some a → gAt G cells slots M lv t st) (kf : x = none → gAt G cells slots M lv n st) : gAt G cells slots M lv pc (va_rf x :: st) := by
  obtain ⟨⟨s0, D, dA⟩, ⟨p, l, e, R⟩, ⟨s, m, args, below, meth, c⟩, nL', Q⟩ := G
  obtain ⟨⟨hx, hb, hml, hown, hts⟩, hret, hlk, hW0, hX0, hfl, hS0, rfl, rfl, hQ⟩ := hC
  subst hn
  intro H locs ls h1 h2 h3
  cases x with
  | none => exact lv_ifnonnullN hx hb hdg (kf rfl H locs ls h1 h2 h3)
  | some x => exact lv_ifnonnull hx hb hdg ht (kt x rfl H locs ls h1 h2 h3)
theorem g_tsIn (t : Nat) (hC : gCx G cc nL own ret Qf rm) {dflt lo hi : Int} {offs : Array Int} {len : Nat} {x : Int32} {off : Int} (v : Int32) (hx0 : x = v) (hdg : decode cc pc = .ok (.tableswitch dflt lo hi offs, len)) (h1' : ¬ v.toInt < lo) (h2' : ¬ hi < v.toInt) (ho : offs[(v.toInt - lo).toNat]? = some off) (ht : (pc : Int) + off = (t : Int)) (k : gAt G cells slots M lv t st) : gAt G cells slots M lv pc (.int x :: st) := by
  subst hx0
  obtain ⟨⟨s0, D, dA⟩, ⟨p, l, e, R⟩, ⟨s, m, args, below, meth, c⟩, nL', Q⟩ := G
  obtain ⟨⟨hx, hb, hml, hown, hts⟩, hret, hlk, hW0, hX0, hfl, hS0, rfl, rfl, hQ⟩ := hC
  intro H locs ls h1 h2 h3
  exact lv_tableIn hx hb hdg h1' h2' ho ht (k H locs ls h1 h2 h3)
theorem g_tsOut (t : Nat) (hC : gCx G cc nL own ret Qf rm) {dflt lo hi : Int} {offs : Array Int} {len : Nat} {x : Int32} (hdg : decode cc pc = .ok (.tableswitch dflt lo hi offs, len)) (h : x.toInt < lo ∨ hi < x.toInt) (ht : (pc : Int) + dflt = (t : Int)) (k : gAt G cells slots M lv t st) : gAt G cells slots M lv pc (.int x :: st) := by
  obtain ⟨⟨s0, D, dA⟩, ⟨p, l, e, R⟩, ⟨s, m, args, below, meth, c⟩, nL', Q⟩ := G
  obtain ⟨⟨hx, hb, hml, hown, hts⟩, hret, hlk, hW0, hX0, hfl, hS0, rfl, rfl, hQ⟩ := hC
  intro H locs ls h1 h2 h3
  exact lv_tableOut hx hb hdg h ht (k H locs ls h1 h2 h3)
theorem g_sub (ks : List Nat) {lv' : List (Nat × Value)} (hl : lv_pick lv ks = lv') (k : gAt G cells slots M lv' pc st) : gAt G cells slots M lv pc st := by
  obtain ⟨⟨s0, D, dA⟩, ⟨p, l, e, R⟩, ⟨s, m, args, below, meth, c⟩, nL', Q⟩ := G
  intro H locs ls h1 h2 h3
  exact k H locs ls h1 h2 (lv_sub h3 ks hl)
theorem g_ireturn (hC : gCx G cc nL own (some .int) Qf rm) {v : Int32} (hF : Qf (some (.int v)) M) (hdg : decode cc pc = .ok (.ireturn, 1)) (hc : cells ≤ rm.cells) (hs : slots ≤ rm.slots) : gAt G cells slots M lv pc [.int v] := by
  obtain ⟨⟨s0, D, dA⟩, ⟨p, l, e, R⟩, ⟨s, m, args, below, meth, c⟩, nL', Q⟩ := G
  obtain ⟨⟨hx, hb, hml, hown, hts⟩, hret, hlk, hW0, hX0, hfl, hS0, rfl, rfl, hQ⟩ := hC
  intro H locs ls h1 h2 h3
  exact g_mono hQ (W.widen hc hs (W.iret hx hb hret (fun t ht hW => ⟨⟨_, M, rfl, hF, by rw [ht]; exact h1⟩, h2.F ht⟩) h2.2.2 hdg hlk))
theorem g_zreturn (hC : gCx G cc nL own (some .boolean) Qf rm) {v : Int32} (hF : Qf (some (.int v)) M) (hz : v = 0 ∨ v = 1) (hdg : decode cc pc = .ok (.ireturn, 1)) (hc : cells ≤ rm.cells) (hs : slots ≤ rm.slots) : gAt G cells slots M lv pc [.int v] := by
  obtain ⟨⟨s0, D, dA⟩, ⟨p, l, e, R⟩, ⟨s, m, args, below, meth, c⟩, nL', Q⟩ := G
  obtain ⟨⟨hx, hb, hml, hown, hts⟩, hret, hlk, hW0, hX0, hfl, hS0, rfl, rfl, hQ⟩ := hC
  intro H locs ls h1 h2 h3
  exact g_mono hQ (W.widen hc hs (W.zret hx hb hret (by rcases hz with rfl | rfl <;> rfl) (fun t ht hW => ⟨⟨_, M, rfl, hF, by rw [ht]; exact h1⟩, h2.F ht⟩) h2.2.2 hdg hlk))
theorem g_breturn {ty : FieldType} (hC : gCx G cc nL own (some ty) Qf rm) {v : Int32} (hF : Qf (some (.int v)) M) (hz : narrow ty (.int v) = .int v) (hdg : decode cc pc = .ok (.ireturn, 1)) (hc : cells ≤ rm.cells) (hs : slots ≤ rm.slots) : gAt G cells slots M lv pc [.int v] := by
  obtain ⟨⟨s0, D, dA⟩, ⟨p, l, e, R⟩, ⟨s, m, args, below, meth, c⟩, nL', Q⟩ := G
  obtain ⟨⟨hx, hb, hml, hown, hts⟩, hret, hlk, hW0, hX0, hfl, hS0, rfl, rfl, hQ⟩ := hC
  intro H locs ls h1 h2 h3
  exact g_mono hQ (W.widen hc hs (W.zret hx hb hret hz (fun t ht hW => ⟨⟨_, M, rfl, hF, by rw [ht]; exact h1⟩, h2.F ht⟩) h2.2.2 hdg hlk))
theorem g_lreturn (hC : gCx G cc nL own (some .long) Qf rm) {v : Int64} (hF : Qf (some (.long v)) M) (hdg : decode cc pc = .ok (.lreturn, 1)) (hc : cells ≤ rm.cells) (hs : slots ≤ rm.slots) : gAt G cells slots M lv pc [.long v] := by
  obtain ⟨⟨s0, D, dA⟩, ⟨p, l, e, R⟩, ⟨s, m, args, below, meth, c⟩, nL', Q⟩ := G
  obtain ⟨⟨hx, hb, hml, hown, hts⟩, hret, hlk, hW0, hX0, hfl, hS0, rfl, rfl, hQ⟩ := hC
  intro H locs ls h1 h2 h3
  exact g_mono hQ (W.widen hc hs (W.lret hx hb hret (fun t ht hW => ⟨⟨_, M, rfl, hF, by rw [ht]; exact h1⟩, h2.F ht⟩) h2.2.2 hdg hlk))
theorem g_areturn {rt : FieldType} (hC : gCx G cc nL own (some rt) Qf rm) (hrt : (∃ n, rt = .object n) ∨ ∃ t, rt = .array t) {v : Option Nat} (hF : Qf (some (va_rf v)) M) (hdg : decode cc pc = .ok (.areturn, 1)) (hc : cells ≤ rm.cells) (hs : slots ≤ rm.slots) : gAt G cells slots M lv pc [va_rf v] := by
  obtain ⟨⟨s0, D, dA⟩, ⟨p, l, e, R⟩, ⟨s, m, args, below, meth, c⟩, nL', Q⟩ := G
  obtain ⟨⟨hx, hb, hml, hown, hts⟩, hret, hlk, hW0, hX0, hfl, hS0, rfl, rfl, hQ⟩ := hC
  intro H locs ls h1 h2 h3
  exact g_mono hQ (W.widen hc hs (W.aret hx hb hret hrt (va_rf_or v) (fun t ht hW => ⟨⟨_, M, rfl, hF, by rw [ht]; exact h1⟩, h2.F ht⟩) h2.2.2 hdg hlk))
theorem g_return (hC : gCx G cc nL own none Qf rm) (hF : Qf none M) (hdg : decode cc pc = .ok (.return_, 1)) (hc : cells ≤ rm.cells) (hs : slots ≤ rm.slots) : gAt G cells slots M lv pc [] := by
  obtain ⟨⟨s0, D, dA⟩, ⟨p, l, e, R⟩, ⟨s, m, args, below, meth, c⟩, nL', Q⟩ := G
  obtain ⟨⟨hx, hb, hml, hown, hts⟩, hret, hlk, hW0, hX0, hfl, hS0, rfl, rfl, hQ⟩ := hC
  intro H locs ls h1 h2 h3
  exact g_mono hQ (W.widen hc hs (W.vret hx hb hret (fun t ht hW => ⟨⟨_, M, rfl, hF, by rw [ht]; exact h1⟩, h2.F ht⟩) h2.2.2 hdg hlk))
end GROWS
