/-! System.arraycopy that may throw -/
set_option maxRecDepth 100000
def gVn : Prop := (∀ w ∈ (vx_atN 8).filter goodWord, w ∈ lw_tbl) ∧ (∀ w ∈ (vx_atN 8).filter (fun w => !goodWord w), gCD w = true ∧ w ∈ lw_tbl)
theorem vm_npe : gVn := ⟨by decide +kernel, by decide +kernel⟩
section GVN
variable {G : gG} {cc : ByteArray} {nL : Nat} {own : String} {ret : Option FieldType} {Qf : Option Value → gM → Prop} {rm : Room} {cells slots : Nat} {M : gM} {lv : List (Nat × Value)} {pc : Nat} {st : List Value}
theorem g_vn {s0 : State} {D : va_G} {dA : FieldType → ClassId} {p : Program} {l : Launch} {e : Env} {R : Room} {s : State} {m : MethodId} {args : Array Value} {below : List Frame} {meth : Method} {c : Code} {nL : Nat} {Q : State → Prop} {H : Heap} {locs : List Loc} {ls : Array Slot} {b0 : Nat} {rest : List Value} {X text : String} {names : List String} {nb : Nat} {nf : NFrame} (n1 : nf.words = 0) (n2 : nf.awaiting = false) (n3 : nf.locked = none) (hx : p.tables.exec = Jvm.exec) (hml : c.maxLocals = nL) (hts : ∀ w ∈ lw_all, w.before args s = true) (hlk : meth.locks = false) (hW0 : s0.WarmedH s.vm) (hX0 : gX s0 s.heap) (hfl : l.flags = flags0) (hS0 : gS0 s0 b0 D dA) (hv : gVm X names) (htext : (text == notModelled) = false) (hnb : (stringBytes (stringToUtf16 text)).size ≤ nb) (hnb1 : nb ≤ 1000) (hfr : names.length + 5 < R.frames) (hlo : (rest.map fun v => v.category).sum + 10240 ≤ R.locals) (hsh : 13 * names.length + 55 ≤ 10240) (hc : cells + 3 ≤ R.cells) (hs : slots + (nb + 10) ≤ R.slots) (h1 : gC s0 D dA M H) (h2 : va_S (gA s0) s.heap H locs) (h3 : lv_has ls nL lv)
    (k : ∀ q, gTh ((s0, D, dA), (p, l, e, R), (s, m, args, below, meth, c), nL, Q) (cells + 3) (slots + (nb + 10)) M lv pc X q) : vn_Note p l e R s m args below meth c H locs cells slots Q (F0 m pc ls rest) nf X (some text) := by
  have hold : ∀ {n d : String}, vx_Zq Bundle.tN n d (gA s0) s0 s0.heap → vx_Zq Bundle.tN n d (gA s0) s s.heap := fun h => (vx_Zq.kept h (fun q h1 _ => hX0.2 q h1)).moved hW0.alike
  have hat : ∀ w ∈ vx_atM X names, w.before args s = true := fun w hw => by
    by_cases g : goodWord w = true
    · exact hts w (lw_g (hv.2.1 w (List.mem_filter.mpr ⟨hw, g⟩)) g)
    · obtain ⟨k1, k2⟩ := hv.2.2 w (List.mem_filter.mpr ⟨hw, by simpa using g⟩)
      exact gCD_at k1 hW0 (hS0.2.1 _ k2)
  refine vn_vm (A := gA s0) (nb := nb) n1 n2 n3 hx (g_notr hfl) hv.1.1 hv.1.2.1 hv.1.2.2.1 hv.1.2.2.2 hat (fun w hw => ?_) (hold (sx_unas hS0)) (hold (sx_sent hS0)) h2 (by rw [hml]; exact h3.1) htext hnb hnb1 hfr hlo hsh hc hs hlk (fun H1 q9 ce g1 g2 g3 g4 g5 g6 => k q9 H1 locs ls ce rest (h1.grow g2) g3 h3 g4 g5 g6)
  unfold vx_ot
  by_cases g : goodWord w = true
  · rw [g, Bool.or_true]
  · rw [gCD_ot (hv.2.2 w (List.mem_filter.mpr ⟨hw, by simpa using g⟩)).1, Bool.true_or]
theorem g_vnN {s0 : State} {D : va_G} {dA : FieldType → ClassId} {p : Program} {l : Launch} {e : Env} {R : Room} {s : State} {m : MethodId} {args : Array Value} {below : List Frame} {meth : Method} {c : Code} {nL : Nat} {Q : State → Prop} {H : Heap} {locs : List Loc} {ls : Array Slot} {b0 : Nat} {rest : List Value} {nf : NFrame} (n1 : nf.words = 0) (n2 : nf.awaiting = false) (n3 : nf.locked = none) (hx : p.tables.exec = Jvm.exec) (hml : c.maxLocals = nL) (hts : ∀ w ∈ lw_all, w.before args s = true) (hlk : meth.locks = false) (hW0 : s0.WarmedH s.vm) (hX0 : gX s0 s.heap) (hfl : l.flags = flags0) (hS0 : gS0 s0 b0 D dA) (hfr : 8 < R.frames) (hlo : (rest.map fun v => v.category).sum + 10240 ≤ R.locals) (hc : cells + 1 ≤ R.cells) (hs : slots + 8 ≤ R.slots) (h1 : gC s0 D dA M H) (h2 : va_S (gA s0) s.heap H locs) (h3 : lv_has ls nL lv)
    (k : ∀ q, gTh ((s0, D, dA), (p, l, e, R), (s, m, args, below, meth, c), nL, Q) (cells + 1) (slots + 8) M lv pc "java/lang/NullPointerException" q) : vn_Note p l e R s m args below meth c H locs cells slots Q (F0 m pc ls rest) nf "java/lang/NullPointerException" none := by
  have hv := vm_npe
  have hold : ∀ {n d : String}, vx_Zq Bundle.tN n d (gA s0) s0 s0.heap → vx_Zq Bundle.tN n d (gA s0) s s.heap := fun h => (vx_Zq.kept h (fun q h1 _ => hX0.2 q h1)).moved hW0.alike
  have hat : ∀ w ∈ vx_atN 8, w.before args s = true := fun w hw => by
    by_cases g : goodWord w = true
    · exact hts w (lw_g (hv.1 w (List.mem_filter.mpr ⟨hw, g⟩)) g)
    · obtain ⟨k1, k2⟩ := hv.2 w (List.mem_filter.mpr ⟨hw, by simpa using g⟩)
      exact gCD_at k1 hW0 (hS0.2.1 _ k2)
  refine vn_npe (A := gA s0) (nb := 8) n1 n2 n3 hx (g_notr hfl) hat (fun w hw => ?_) (hold (sx_unas hS0)) (hold (sx_sent hS0)) h2 (by rw [hml]; exact h3.1) hfr hlo hc hs hlk (fun H1 q9 ce g1 g2 g3 g4 g5 g6 => k q9 H1 locs ls ce rest (h1.grow g2) g3 h3 g4 g5 g6)
  unfold vx_ot
  by_cases g : goodWord w = true
  · rw [g, Bool.or_true]
  · rw [gCD_ot (hv.2 w (List.mem_filter.mpr ⟨hw, by simpa using g⟩)).1, Bool.true_or]
/-- the call of arraycopy, up to the machine's note that it throws -/
theorem vn_call {p : Program} {l : Launch} {e : Env} {R : Room} {s : State} {m : MethodId} {args : Array Value} {below : List Frame} {meth : Method} {c : Code} {Q : State → Prop} {H : Heap} {locs : List Loc} {ls : Array Slot} {rest : List Value} {index : Nat} (hx : p.tables.exec = Jvm.exec) (hb : c.code = cc) (hown : s.vm.findClass own = some m.cls) (hlink : (Cond.methodLink own index arraycopyName).before args s = true) (hnat : (Cond.native arraycopyName).before args s = true) (hstat : (Cond.static arraycopyName).before args s = true) (hini : (Cond.initialized "java/lang/System").before args s = true) (hsz : ls.size = c.maxLocals)
    {a b : Option Nat} {sp dp k : Int32} {cls : String} {msg : Option String} (hfr : 1 ≤ R.frames) (hlo : (rest.map fun v => v.category).sum + 60 ≤ R.locals)
    (hw : ∀ (U : State), U.heap = H → s.vm.Alike U.vm → ∀ E : CtlPost, (∀ acts', E (.throwNew cls msg) acts' U) → wp (Native.java_lang_System.arraycopy.sem #[va_rf a, .int sp, va_rf b, .int dp, .int k]) (fun _ _ _ _ => False) E e false [] U)
    (hdg : decode cc pc = .ok (.invokestatic index, 3)) (kk : ∀ nf : NFrame, nf.words = 0 → nf.awaiting = false → nf.locked = none → vn_Note p l e R s m args below meth c H locs cells slots Q (F0 m pc ls rest) nf cls msg) : W p l e R s m args below meth c H locs cells slots Q (F0 m pc ls (.int k :: .int dp :: va_rf b :: .int sp :: va_rf a :: rest)) := by
  intro T hT X
  obtain ⟨r, kS, methS, hnS, hmS, hkS, N⟩ := NativeOf.of_static hnat hstat (ps := [.object "java/lang/Object", .int, .object "java/lang/Object", .int, .int]) (ret := none) (by decide +kernel)
  have hinitS : kS.init = .initialized := Cond.initialized_spec (findClass_of_methodNamed hnS) hkS hini
  obtain ⟨vm', X', step⟩ := X.invokestatic hx hown hlink hnS hmS N.static hkS hinitS (by decide) (g := F0 m pc ls (.int k :: .int dp :: va_rf b :: .int sp :: va_rf a :: rest)) rfl (argsL := [va_rf a, .int sp, va_rf b, .int dp, .int k]) (rest := rest) (by rw [N.sig]; rfl) rfl (by rw [hb]; exact hdg)
  have hA' : s.vm.Alike vm' := X'.warmed.alike
  obtain ⟨kS', N'⟩ := N.alike hA'
  have hseen : seenByNative methS #[va_rf a, .int sp, va_rf b, .int dp, .int k] = #[va_rf a, .int sp, va_rf b, .int dp, .int k] := by
    cases a <;> cases b <;> simp [seenByNative, N.static, N.sig, narrow, va_rf]
  obtain ⟨t, a1, b1⟩ := kk { method := r, args := #[va_rf a, .int sp, va_rf b, .int dp, .int k], locked := none } rfl rfl rfl (T.setVm vm') hT X'
  refine ⟨t, step t fun acts => ?_, b1⟩
  have hU : ((T.setVm vm').setTop (F0 m pc ls rest)).pushFrame (.native { method := r, args := #[va_rf a, .int sp, va_rf b, .int dp, .int k], locked := none }) = (T.setVm vm').setFrames (.native { method := r, args := #[va_rf a, .int sp, va_rf b, .int dp, .int k], locked := none } :: .java (F0 m pc ls rest) :: below) := by
    obtain ⟨g₁, hfr⟩ := X'.frames_eq
    rw [State.pushFrame, State.frames_setTop _ hfr, State.setTop_of_frames _ hfr, State.setFrames_setFrames]
  have h9 : nativeFrameWords "java/lang/System" "arraycopy" 5 + 11 ≤ 60 := by decide +kernel
  have how : operandWords [va_rf a, .int sp, va_rf b, .int dp, .int k] = 5 := by cases a <;> cases b <;> rfl
  refine Steps.nativeThrowsNote (row := arraycopyRow) (cls := cls) (msg := msg) (T := fun u => u) (g := F0 m pc ls rest) X'.here acts N'.cls N'.meth N'.boot N'.native N'.noCode N'.noLock (by rw [N'.className, N'.name, N'.desc]; exact arraycopy_row p)
    (by rw [N'.className, N'.name, how]; exact X'.notFull hsz hfr (by show 2 * 0 + (rest.map fun v => v.category).sum + (nativeFrameWords "java/lang/System" "arraycopy" 5 + 11) ≤ _; omega)) ?_ ?_
  · intro E hE
    rw [hseen] at hE ⊢
    rw [arraycopyRow_sem]
    rw [hU] at hE ⊢
    exact hw ((T.setVm vm').setFrames _) hT hA' E hE
  · rw [hseen, hU, State.pushFrame, State.frames_setFrames _ (vn_cur X'), State.setFrames_setFrames]
    exact a1
/-! the texts -/
theorem acOk {t : String} (r : List Char) (h1 : t.toList = 'a' :: r) (h2 : t.toList.length ≤ 250) : (t == notModelled) = false ∧ (stringBytes (stringToUtf16 t)).size ≤ 1000 := by
  refine ⟨?_, ?_⟩
  · rw [beq_eq_false_iff_ne]
    intro h
    have h3 := congrArg String.toList h
    rw [h1] at h3
    have h4 : notModelled.toList.head? = some 'a' := by rw [← h3]; rfl
    exact absurd h4 (by decide +kernel)
  · have b1 := stringBytes_size_le (stringToUtf16 t)
    have b2 := utf16_size_le t
    omega
theorem acInt {i : Int} (h : -(10 : Int) ^ 10 < i ∧ i < 10 ^ 10) : (toString i).toList.length ≤ 11 := by
  show (Int.repr i).toList.length ≤ 11
  cases e : i with
  | ofNat m =>
    rw [e] at h
    have h1' : (m : Int) < 10 ^ 10 := h.2
    have := nat_print (n := m) (by omega)
    show (toString m).toList.length ≤ 11
    omega
  | negSucc m =>
    rw [e] at h
    have h2' : -(10 : Int) ^ 10 < -((m : Int) + 1) := by simpa [Int.negSucc_eq] using h.1
    have := nat_print (n := m.succ) (by omega)
    show ("-" ++ toString m.succ).toList.length ≤ 11
    rw [String.toList_append, List.length_append]
    have h0 : "-".toList.length = 1 := by decide
    omega
theorem acK (ty : FieldType) : (Native.java_lang_System.arraycopy.kindName ty).toList.length ≤ 12 := by
  cases ty <;> first | decide +kernel | exact (by decide +kernel : "object array".toList.length ≤ 12)
theorem acT (x y : FieldType) : ((toString "arraycopy: type mismatch: can not copy " ++ toString (Native.java_lang_System.arraycopy.kindName x) ++ toString "[] into " ++ toString (Native.java_lang_System.arraycopy.kindName y) ++ toString "[]" : String) == notModelled) = false ∧ (stringBytes (stringToUtf16 (toString "arraycopy: type mismatch: can not copy " ++ toString (Native.java_lang_System.arraycopy.kindName x) ++ toString "[] into " ++ toString (Native.java_lang_System.arraycopy.kindName y) ++ toString "[]" : String))).size ≤ 1000 := by
  have k1 := acK x
  have k2 := acK y
  generalize Native.java_lang_System.arraycopy.kindName x = a at k1
  generalize Native.java_lang_System.arraycopy.kindName y = b at k2
  have e : "arraycopy: type mismatch: can not copy ".toList.length = 39 ∧ "[] into ".toList.length = 8 ∧ "[]".toList.length = 2 := by decide +kernel
  refine acOk _ (show ("arraycopy: type mismatch: can not copy " ++ a ++ "[] into " ++ b ++ "[]").toList = 'a' :: ("rraycopy: type mismatch: can not copy ".toList ++ a.toList ++ "[] into ".toList ++ b.toList ++ "[]".toList) from by simp only [String.toList_append]; rfl) ?_
  show ("arraycopy: type mismatch: can not copy " ++ a ++ "[] into " ++ b ++ "[]").toList.length ≤ 250
  simp only [String.toList_append, List.length_append]
  omega
theorem acA (ty : FieldType) {n : Nat} (h : n < 2 ^ 31) : (toString (Native.java_lang_System.arraycopy.kindName ty) ++ toString "[" ++ toString n ++ toString "]" : String).toList.length ≤ 24 := by
  have k1 := acK ty
  have k2 := nat_print (n := n) (by omega)
  have e : "[".toList.length = 1 ∧ "]".toList.length = 1 := by decide +kernel
  show (Native.java_lang_System.arraycopy.kindName ty ++ "[" ++ toString n ++ "]").toList.length ≤ 24
  simp only [String.toList_append, List.length_append]
  omega
theorem acW {x y : FieldType} {n0 n1 : Nat} {sp dp k : Int32} {w : String} (h0 : n0 < 2 ^ 31) (h1 : n1 < 2 ^ 31) (h : copyFault x y n0 n1 sp dp k = some w) : w.toList.length ≤ 100 := by
  unfold copyFault at h
  have a0 := acA x h0
  have a1 := acA y h1
  have p1 := int32_print sp
  have p2 := int32_print dp
  have p3 := int32_print k
  have b1 := Int32.toInt_lt sp
  have b2 := Int32.le_toInt sp
  have b3 := Int32.toInt_lt dp
  have b4 := Int32.le_toInt dp
  have b5 := Int32.toInt_lt k
  have b6 := Int32.le_toInt k
  have q1 := acInt (i := sp.toInt + k.toInt) ⟨by omega, by omega⟩
  have q2 := acInt (i := dp.toInt + k.toInt) ⟨by omega, by omega⟩
  have e : "source index ".toList.length = 13 ∧ " out of bounds for ".toList.length = 19 ∧ "destination index ".toList.length = 18 ∧ "length ".toList.length = 7 ∧ " is negative".toList.length = 12 ∧ "last source index ".toList.length = 18 ∧ "last destination index ".toList.length = 23 := by decide +kernel
  generalize (toString (Native.java_lang_System.arraycopy.kindName x) ++ toString "[" ++ toString n0 ++ toString "]" : String) = s0 at a0 h
  generalize (toString (Native.java_lang_System.arraycopy.kindName y) ++ toString "[" ++ toString n1 ++ toString "]" : String) = s1 at a1 h
  split at h
  · cases h
    show ("source index " ++ toString sp ++ " out of bounds for " ++ s0).toList.length ≤ 100
    simp only [String.toList_append, List.length_append]
    omega
  split at h
  · cases h
    show ("destination index " ++ toString dp ++ " out of bounds for " ++ s1).toList.length ≤ 100
    simp only [String.toList_append, List.length_append]
    omega
  split at h
  · cases h
    show ("length " ++ toString k ++ " is negative").toList.length ≤ 100
    simp only [String.toList_append, List.length_append]
    omega
  split at h
  · cases h
    show ("last source index " ++ toString (sp.toInt + k.toInt) ++ " out of bounds for " ++ s0).toList.length ≤ 100
    simp only [String.toList_append, List.length_append]
    omega
  split at h
  · cases h
    show ("last destination index " ++ toString (dp.toInt + k.toInt) ++ " out of bounds for " ++ s1).toList.length ≤ 100
    simp only [String.toList_append, List.length_append]
    omega
  · cases h
theorem acB {x y : FieldType} {n0 n1 : Nat} {sp dp k : Int32} {w : String} (h0 : n0 < 2 ^ 31) (h1 : n1 < 2 ^ 31) (h : copyFault x y n0 n1 sp dp k = some w) : (("arraycopy: " ++ w) == notModelled) = false ∧ (stringBytes (stringToUtf16 ("arraycopy: " ++ w))).size ≤ 1000 := by
  have hw := acW h0 h1 h
  have e : "arraycopy: ".toList.length = 11 := by decide +kernel
  refine acOk _ (show ("arraycopy: " ++ w).toList = 'a' :: ("rraycopy: ".toList ++ w.toList) from by simp only [String.toList_append]; rfl) ?_
  simp only [String.toList_append, List.length_append]
  omega
/-- the range of a copy -/
def cpR (n0 n1 : Nat) (sp dp k : Int32) : Prop := (¬ sp < 0 ∧ ¬ dp < 0 ∧ ¬ k < 0) ∧ (sp.toNatClampNeg + k.toNatClampNeg ≤ n0 ∧ dp.toNatClampNeg + k.toNatClampNeg ≤ n1)
theorem cpF {x y : FieldType} {n0 n1 : Nat} {sp dp k : Int32} (h : ¬ cpR n0 n1 sp dp k) : ∃ w, copyFault x y n0 n1 sp dp k = some w := by
  unfold copyFault
  by_cases h1 : sp < 0
  · exact ⟨_, if_pos h1⟩
  by_cases h2 : dp < 0
  · exact ⟨_, by rw [if_neg h1, if_pos h2]⟩
  by_cases h3 : k < 0
  · exact ⟨_, by rw [if_neg h1, if_neg h2, if_pos h3]⟩
  by_cases h4 : sp.toInt + k.toInt > n0
  · exact ⟨_, by rw [if_neg h1, if_neg h2, if_neg h3, if_pos h4]⟩
  by_cases h5 : dp.toInt + k.toInt > n1
  · exact ⟨_, by rw [if_neg h1, if_neg h2, if_neg h3, if_neg h4, if_pos h5]⟩
  rw [g_nn sp h1, g_nn k h3] at h4
  rw [g_nn dp h2, g_nn k h3] at h5
  exact absurd ⟨⟨h1, h2, h3⟩, by omega, by omega⟩ h
def aCx (M : gM) (u v Lc Ls : Nat) (a : Option Nat) (sp : Int32) (b : Option Nat) (dp k : Int32) (κ : gM → Prop) (κn κs κb : Nat → Prop) : Prop :=
  ((a = none ∨ b = none) → (u + 1 ≤ Lc ∧ v + 8 ≤ Ls) ∧ ∀ q, κn q) ∧
  ∀ a0 b0, a = some a0 → b = some b0 → ∃ x n0 y n1, kd M a0 = some (true, .inr (x, n0)) ∧ kd M b0 = some (true, .inr (y, n1)) ∧ (x ∈ gPr ∧ y ∈ gPr) ∧ (n0 < 2 ^ 31 ∧ n1 < 2 ^ 31) ∧
    (x ≠ y → (u + 3 ≤ Lc ∧ v + 1010 ≤ Ls) ∧ ∀ q, κs q) ∧
    (x = y → cpR n0 n1 sp dp k → fitA M x a0 sp.toNatClampNeg k.toNatClampNeg ∧ κ (cpM M a0 sp.toNatClampNeg b0 dp.toNatClampNeg k.toNatClampNeg)) ∧
    (x = y → ¬ cpR n0 n1 sp dp k → (u + 3 ≤ Lc ∧ v + 1010 ≤ Ls) ∧ ∀ q, κb q)
theorem g_copyX (n : Nat) (hC : gCx G cc nL own ret Qf rm) {index : Nat} {a b : Option Nat} {sp dp k : Int32} {κ : gM → Prop} {κn κs κb : Nat → Prop} (hlink : (Cond.methodLink own index arraycopyName) ∈ lw_all) (hF : aCx M cells slots rm.cells rm.slots a sp b dp k κ κn κs κb) (hfr : 8 < rm.frames) (hlo : (st.map fun v => v.category).sum + 10240 ≤ rm.locals) (hdg : decode cc pc = .ok (.invokestatic index, 3)) (hn : pc + 3 = n) (kk : ∀ M1, κ M1 → gAt G cells slots M1 lv n st)
    (kn : ∀ q, (cells + 1 ≤ rm.cells ∧ slots + 8 ≤ rm.slots) → κn q → gTh G (cells + 1) (slots + 8) M lv pc "java/lang/NullPointerException" q) (ks : ∀ q, (cells + 3 ≤ rm.cells ∧ slots + 1010 ≤ rm.slots) → κs q → gTh G (cells + 3) (slots + 1010) M lv pc "java/lang/ArrayStoreException" q) (kb : ∀ q, (cells + 3 ≤ rm.cells ∧ slots + 1010 ≤ rm.slots) → κb q → gTh G (cells + 3) (slots + 1010) M lv pc "java/lang/ArrayIndexOutOfBoundsException" q) : gAt G cells slots M lv pc (.int k :: .int dp :: va_rf b :: .int sp :: va_rf a :: st) := by
  by_cases hnul : a = none ∨ b = none
  · obtain ⟨hu, hq⟩ := hF.1 hnul
    obtain ⟨⟨s0, D, dA⟩, ⟨p, l, e, R⟩, ⟨s, m, args, below, meth, c⟩, nL', Q⟩ := G
    obtain ⟨⟨hx, hb, hml, hown, hts⟩, hret, hlk, hW0, hX0, hfl, ⟨b0, hS0⟩, rfl, rfl, hQ⟩ := hC
    intro H locs ls h1 h2 h3
    refine vn_call hx hb hown (hts _ hlink) (hts _ q387) (hts _ q386) (hts _ q83) (by rw [hml]; exact h3.1) (by omega) (by omega) (fun U hU hA E hE => ?_) hdg (fun nf n1 n2 n3 => g_vnN n1 n2 n3 hx hml hts hlk hW0 hX0 hfl hS0 hfr hlo hu.1 hu.2 h1 h2 h3 (fun q => kn q hu (hq q)))
    cases a with
    | none => exact W.arraycopy_null1 sp dp k (va_rf b) (hE _)
    | some a0 =>
      cases b with
      | none => exact W.arraycopy_null2 a0 sp dp k (hE _)
      | some b1 => rcases hnul with h | h <;> cases h
  · cases a with
    | none => exact absurd (Or.inl rfl) hnul
    | some a0 =>
      cases b with
      | none => exact absurd (Or.inr rfl) hnul
      | some b1 =>
        obtain ⟨x, n0, y, n1, k0, k1, ⟨px, py⟩, ⟨l0, l1⟩, hs, hok, hbd⟩ := hF.2 a0 b1 rfl rfl
        by_cases hxy : x = y
        · subst hxy
          by_cases hr : cpR n0 n1 sp dp k
          · obtain ⟨f1, f2⟩ := hok rfl hr
            exact g_copyW n hC hlink ⟨true, x, n0, n1, k0, k1, px, hr.1, hr.2, f1, f2⟩ (by omega) (by omega) hdg hn kk
          · obtain ⟨hu, hq⟩ := hbd rfl hr
            obtain ⟨w, hw⟩ := cpF (x := x) (y := x) hr
            obtain ⟨⟨s0, D, dA⟩, ⟨p, l, e, R⟩, ⟨s, m, args, below, meth, c⟩, nL', Q⟩ := G
            obtain ⟨⟨hx, hb, hml, hown, hts⟩, hret, hlk, hW0, hX0, hfl, ⟨b0, hS0⟩, rfl, rfl, hQ⟩ := hC
            intro H locs ls h1 h2 h3
            have hok := acB l0 l1 hw
            refine vn_call (a := some a0) (b := some b1) hx hb hown (hts _ hlink) (hts _ q387) (hts _ q386) (hts _ q83) (by rw [hml]; exact h3.1) (by omega) (by omega) (fun U hU hA E hE => ?_) hdg (fun nf n1 n2 n3 => g_vn n1 n2 n3 hx hml hts hlk hW0 hX0 hfl hS0 vm_aioobe (nb := 1000) hok.1 hok.2 (Nat.le_refl _) hfr hlo (Nat.le_of_ble_eq_true rfl) hu.1 hu.2 h1 h2 h3 (fun q => kb q hu (hq q)))
            have hc0 := g_cellT (h1.1 a0) k0
            have hc1 := g_cellT (h1.1 b1) k1
            obtain ⟨-, kA, hkA, cA, hkdA⟩ := State.isArrayOf_alike hA (g_ar hS0 hW0 (gPr_tl px).1 0 (fun _ => .null))
            have e0 : (arrV (dA x) n0 (fun k => gv x (mI M a0 k) (mJ M a0 k) (mR M a0 k))).slots.size = n0 := arrV_size _ _ _
            have e1 : (arrV (dA x) n1 (fun k => gv x (mI M b1 k) (mJ M b1 k) (mR M b1 k))).slots.size = n1 := arrV_size _ _ _
            exact W.arraycopy_bounds (s := U) (cs := arrV (dA x) n0 (fun k => gv x (mI M a0 k) (mJ M a0 k) (mR M a0 k))) (cd := arrV (dA x) n1 (fun k => gv x (mI M b1 k) (mJ M b1 k) (mR M b1 k))) (by rw [hU]; exact hc0) (by rw [hU]; exact hc1) (fun _ h => by cases h) (fun _ h => by cases h) (ks := kA) (kd := kA) hkA hkA hkdA hkdA (by simp [(gPr_tl px).2]) (by rw [e0, e1]; exact hw) (hE _)
        · obtain ⟨hu, hq⟩ := hs hxy
          obtain ⟨⟨s0, D, dA⟩, ⟨p, l, e, R⟩, ⟨s, m, args, below, meth, c⟩, nL', Q⟩ := G
          obtain ⟨⟨hx, hb, hml, hown, hts⟩, hret, hlk, hW0, hX0, hfl, ⟨b0, hS0⟩, rfl, rfl, hQ⟩ := hC
          intro H locs ls h1 h2 h3
          have hok := acT x y
          refine vn_call (a := some a0) (b := some b1) hx hb hown (hts _ hlink) (hts _ q387) (hts _ q386) (hts _ q83) (by rw [hml]; exact h3.1) (by omega) (by omega) (fun U hU hA E hE => ?_) hdg (fun nf n1 n2 n3 => g_vn n1 n2 n3 hx hml hts hlk hW0 hX0 hfl hS0 vm_ase (nb := 1000) hok.1 hok.2 (Nat.le_refl _) (by have : (["java/lang/RuntimeException", "java/lang/Exception"] : List String).length = 2 := rfl; omega) hlo (Nat.le_of_ble_eq_true rfl) hu.1 hu.2 h1 h2 h3 (fun q => ks q hu (hq q)))
          have hc0 := g_cellT (h1.1 a0) k0
          have hc1 := g_cellT (h1.1 b1) k1
          obtain ⟨-, kA, hkA, cA, hkdA⟩ := State.isArrayOf_alike hA (g_ar hS0 hW0 (gPr_tl px).1 0 (fun _ => .null))
          obtain ⟨-, kB, hkB, cB, hkdB⟩ := State.isArrayOf_alike hA (g_ar hS0 hW0 (gPr_tl py).1 0 (fun _ => .null))
          exact W.arraycopy_types (s := U) (cs := arrV (dA x) n0 (fun k => gv x (mI M a0 k) (mJ M a0 k) (mR M a0 k))) (cd := arrV (dA y) n1 (fun k => gv y (mI M b1 k) (mJ M b1 k) (mR M b1 k))) (by rw [hU]; exact hc0) (by rw [hU]; exact hc1) (fun _ h => by cases h) (fun _ h => by cases h) hkA hkB hkdA hkdB (by simp [(gPr_tl px).2, (gPr_tl py).2, hxy]) (hE _)
end GVN
