/-! what the machine throws by itself -/
set_option maxRecDepth 100000
theorem gC.grow {s0 : State} {D : va_G} {dA : FieldType → ClassId} {M : gM} {H H1 : Heap} (h : gC s0 D dA M H) (hq : ∀ q : Nat, q < H.size → H1[q]? = H[q]?) : gC s0 D dA M H1 := by
  refine ⟨fun b => ?_, h.2⟩
  cases eb : M.1 b with
  | none => unfold gat; rw [eb]; trivial
  | some x => exact (h.1 b).kept (hq b ((h.1 b).lt (by rw [eb]; exact fun z => by cases z)))
theorem g_notr {l : Launch} (h : l.flags = flags0) : l.stackTraces = false := by
  unfold Launch.stackTraces
  rw [h]
  decide +kernel
theorem sx_unas {s0 : State} {b : Nat} {D : va_G} {dA : FieldType → ClassId} (h : gS0 s0 b D dA) : vx_Zq Bundle.tN "UNASSIGNED_STACK" Bundle.steD (gA s0) s0 s0.heap :=
  vx_Zqof (h.2.1 _ q186) (h.2.1 _ (lw_all_tbl q73)) (flat_of_before _ h.2.2.1 _ (by decide +kernel)) g_notA
theorem sx_sent {s0 : State} {b : Nat} {D : va_G} {dA : FieldType → ClassId} (h : gS0 s0 b D dA) : vx_Zq Bundle.tN "SUPPRESSED_SENTINEL" Bundle.listD (gA s0) s0 s0.heap :=
  vx_Zqof (h.2.1 _ q188) (h.2.1 _ (lw_all_tbl q73)) (flat_of_before _ h.2.2.1 _ (by decide +kernel)) g_notA
def gCD (w : Cond) : Bool := match w with
  | .castable _ _ => true
  | .declares _ => true
  | _ => false
theorem gCD_ot {w : Cond} (h : gCD w = true) : w.onTables = true := by
  cases w <;> first | rfl | cases h
theorem gCD_at {s0 s : State} {w : Cond} {a b : Array Value} (h : gCD w = true) (hW : s0.WarmedH s.vm) (hw : w.before a s0 = true) : w.before b s = true := by
  cases w <;> first | exact va_Nw.use rfl (va_Nw.warmC hW (va_Nw.of rfl hw)) | exact va_Nw.use rfl (va_Nw.warmD hW (va_Nw.of rfl hw)) | cases h
/-- the words of a machine's throw stand in the tables -/
def gVm (X : String) (names : List String) : Prop := (Bundle.fit X = true ∧ (∀ n ∈ names, Bundle.fit n = true) ∧ (X == "java/lang/StackOverflowError") = false ∧ (X == "java/lang/OutOfMemoryError") = false) ∧ (∀ w ∈ (vx_atM X names).filter goodWord, w ∈ lw_tbl) ∧ (∀ w ∈ (vx_atM X names).filter (fun w => !goodWord w), gCD w = true ∧ w ∈ lw_tbl)
theorem vm_nase : gVm "java/lang/NegativeArraySizeException" ["java/lang/RuntimeException", "java/lang/Exception"] := ⟨by decide +kernel, by decide +kernel, by decide +kernel⟩
theorem vm_aioobe : gVm "java/lang/ArrayIndexOutOfBoundsException" ["java/lang/IndexOutOfBoundsException", "java/lang/RuntimeException", "java/lang/Exception"] := ⟨by decide +kernel, by decide +kernel, by decide +kernel⟩
theorem vm_ase : gVm "java/lang/ArrayStoreException" ["java/lang/RuntimeException", "java/lang/Exception"] := ⟨by decide +kernel, by decide +kernel, by decide +kernel⟩
theorem vm_cce : gVm "java/lang/ClassCastException" ["java/lang/RuntimeException", "java/lang/Exception"] := ⟨by decide +kernel, by decide +kernel, by decide +kernel⟩
section GVM
variable {G : gG} {cc : ByteArray} {nL : Nat} {own : String} {ret : Option FieldType} {Qf : Option Value → gM → Prop} {rm : Room} {cells slots : Nat} {M : gM} {lv : List (Nat × Value)} {pc : Nat} {st : List Value}
theorem g_vm {s0 : State} {D : va_G} {dA : FieldType → ClassId} {p : Program} {l : Launch} {e : Env} {R : Room} {s : State} {m : MethodId} {args : Array Value} {below : List Frame} {meth : Method} {c : Code} {nL : Nat} {Q : State → Prop} {H : Heap} {locs : List Loc} {ls : Array Slot} {b0 : Nat} {rest : List Value} {X text : String} {names : List String} {nb : Nat} (hx : p.tables.exec = Jvm.exec) (hml : c.maxLocals = nL) (hts : ∀ w ∈ lw_all, w.before args s = true) (hlk : meth.locks = false) (hW0 : s0.WarmedH s.vm) (hX0 : gX s0 s.heap) (hfl : l.flags = flags0) (hS0 : gS0 s0 b0 D dA) (hv : gVm X names) (htext : (text == notModelled) = false) (hnb : (stringBytes (stringToUtf16 text)).size ≤ nb) (hnb1 : nb ≤ 1000) (hfr : names.length + 4 < R.frames) (hlo : (rest.map fun v => v.category).sum + 10240 ≤ R.locals) (hsh : 13 * names.length + 55 ≤ 10240) (hc : cells + 3 ≤ R.cells) (hs : slots + (nb + 10) ≤ R.slots) (h1 : gC s0 D dA M H) (h2 : va_S (gA s0) s.heap H locs) (h3 : lv_has ls nL lv)
    (k : ∀ q, gTh ((s0, D, dA), (p, l, e, R), (s, m, args, below, meth, c), nL, Q) (cells + 3) (slots + (nb + 10)) M lv pc X q) : vx_Note p l e R s m args below meth c H locs cells slots Q (F0 m pc ls rest) X text := by
  have hold : ∀ {n d : String}, vx_Zq Bundle.tN n d (gA s0) s0 s0.heap → vx_Zq Bundle.tN n d (gA s0) s s.heap := fun h => (vx_Zq.kept h (fun q h1 _ => hX0.2 q h1)).moved hW0.alike
  have hat : ∀ w ∈ vx_atM X names, w.before args s = true := fun w hw => by
    by_cases g : goodWord w = true
    · exact hts w (lw_g (hv.2.1 w (List.mem_filter.mpr ⟨hw, g⟩)) g)
    · obtain ⟨k1, k2⟩ := hv.2.2 w (List.mem_filter.mpr ⟨hw, by simpa using g⟩)
      exact gCD_at k1 hW0 (hS0.2.1 _ k2)
  refine vx_vm (A := gA s0) (nb := nb) hx (g_notr hfl) hv.1.1 hv.1.2.1 hv.1.2.2.1 hv.1.2.2.2 hat (fun w hw => ?_) (hold (sx_unas hS0)) (hold (sx_sent hS0)) h2 (by rw [hml]; exact h3.1) htext hnb hnb1 hfr hlo hsh hc hs hlk (fun H1 q9 ce g1 g2 g3 g4 g5 g6 => k q9 H1 locs ls ce rest (h1.grow g2) g3 h3 g4 g5 g6)
  unfold vx_ot
  by_cases g : goodWord w = true
  · rw [g, Bool.or_true]
  · rw [gCD_ot (hv.2.2 w (List.mem_filter.mpr ⟨hw, by simpa using g⟩)).1, Bool.true_or]
/-- the words of the F's: a load or a store that may throw -/
def xI (M : gM) (u v Lc Ls : Nat) (ty : FieldType) (a : Nat) (i : Int32) (κ : Int32 → Prop) (κx : Nat → Prop) : Prop := ∃ n, kd M a = some (true, .inr (ty, n)) ∧ n < 2 ^ 31 ∧ (vp_in i n → κ (mI M a i.toNatClampNeg)) ∧ (¬ vp_in i n → (u + 3 ≤ Lc ∧ v + 222 ≤ Ls) ∧ ∀ q, κx q)
def xJ (M : gM) (u v Lc Ls : Nat) (a : Nat) (i : Int32) (κ : Int64 → Prop) (κx : Nat → Prop) : Prop := ∃ n, kd M a = some (true, .inr (.long, n)) ∧ n < 2 ^ 31 ∧ (vp_in i n → κ (mJ M a i.toNatClampNeg)) ∧ (¬ vp_in i n → (u + 3 ≤ Lc ∧ v + 222 ≤ Ls) ∧ ∀ q, κx q)
def zI (M : gM) (u v Lc Ls : Nat) (ty : FieldType) (a : Nat) (i : Int32) (x : Int32) (κ : gM → Prop) (κx : Nat → Prop) : Prop := ∃ n, kd M a = some (true, .inr (ty, n)) ∧ n < 2 ^ 31 ∧ (vp_in i n → κ (sI M a i.toNatClampNeg (vp_nar ty x))) ∧ (¬ vp_in i n → (u + 3 ≤ Lc ∧ v + 222 ≤ Ls) ∧ ∀ q, κx q)
def zJ (M : gM) (u v Lc Ls : Nat) (a : Nat) (i : Int32) (x : Int64) (κ : gM → Prop) (κx : Nat → Prop) : Prop := ∃ n, kd M a = some (true, .inr (.long, n)) ∧ n < 2 ^ 31 ∧ (vp_in i n → κ (sJ M a i.toNatClampNeg x)) ∧ (¬ vp_in i n → (u + 3 ≤ Lc ∧ v + 222 ≤ Ls) ∧ ∀ q, κx q)
def nX (M : gM) (u v Lc Ls : Nat) (ty : FieldType) (i : Int32) (κ : Nat → gM → Prop) (κx : Nat → Prop) : Prop := (¬ i < 0 → nA M u v Lc Ls ty i i.toNatClampNeg κ) ∧ (i < 0 → (u + 3 ≤ Lc ∧ v + 54 ≤ Ls) ∧ ∀ q, κx q)
theorem g_singP {s0 : State} {D : va_G} {dA : FieldType → ClassId} {H : Heap} {a : Nat} {x : vp_A} {ty : FieldType} (h : H[a]? = some (vp_cell (dA ty) x)) : va_P D gCl [(a, .inl (dA ty, x))] H := by
  intro k q hq
  cases k with
  | zero => cases hq; exact h
  | succ k => cases hq
theorem g_ialdX (n : Nat) (hC : gCx G cc nL own ret Qf rm) {a : Nat} {i : Int32} {κ : Int32 → Prop} {κx : Nat → Prop} (hF : xI M cells slots rm.cells rm.slots .int a i κ κx) (hfr : 7 < rm.frames) (hlo : (st.map fun v => v.category).sum + 10240 ≤ rm.locals) (hdg : decode cc pc = .ok (.iaload, 1)) (hn : pc + 1 = n) (k : ∀ x, κ x → gAt G cells slots M lv n (.int x :: st)) (kx : ∀ q, (cells + 3 ≤ rm.cells ∧ slots + 222 ≤ rm.slots) → κx q → gTh G (cells + 3) (slots + 222) M lv pc "java/lang/ArrayIndexOutOfBoundsException" q) : gAt G cells slots M lv pc (.int i :: .ref a :: st) := by
  obtain ⟨n0, hk, hn0, hF1, hF2⟩ := hF
  by_cases hi : vp_in i n0
  · exact g_iald n hC ⟨⟨true, n0, hk, hi⟩, hF1 hi⟩ hdg hn k
  · obtain ⟨hu, hq⟩ := hF2 hi
    obtain ⟨⟨s0, D, dA⟩, ⟨p, l, e, R⟩, ⟨s, m, args, below, meth, c⟩, nL', Q⟩ := G
    obtain ⟨⟨hx, hb, hml, hown, hts⟩, hret, hlk, hW0, hX0, hfl, ⟨b0, hS0⟩, rfl, rfl, hQ⟩ := hC
    intro H locs ls h1 h2 h3
    refine vx_ialdZ (D := D) (cl := gCl) (ws := [(a, .inl (dA .int, (n0, .inl (mI M a))))]) (tys := gTl.map fun t => (dA t, t)) hx hb (g_kT hS0 hW0) (g_singP (s0 := s0) (g_cellT (h1.1 a) hk)) 0 (gTl.idxOf .int) rfl rfl hi hdg (fun tx ht => ?_)
    refine g_vm hx hml hts hlk hW0 hX0 hfl hS0 vm_aioobe (nb := 212) (by rw [ht]; exact index_text_modelled i n0) (by rw [ht]; exact index_text_bytes i hn0) (Nat.le_of_ble_eq_true rfl) hfr hlo (Nat.le_of_ble_eq_true rfl) hu.1 hu.2 h1 h2 h3 (fun q => kx q hu (hq q))
theorem g_baldX (n : Nat) (hC : gCx G cc nL own ret Qf rm) {a : Nat} {i : Int32} {κ : Int32 → Prop} {κx : Nat → Prop} (hF : xI M cells slots rm.cells rm.slots .byte a i κ κx) (hfr : 7 < rm.frames) (hlo : (st.map fun v => v.category).sum + 10240 ≤ rm.locals) (hdg : decode cc pc = .ok (.baload, 1)) (hn : pc + 1 = n) (k : ∀ x, κ x → gAt G cells slots M lv n (.int x :: st)) (kx : ∀ q, (cells + 3 ≤ rm.cells ∧ slots + 222 ≤ rm.slots) → κx q → gTh G (cells + 3) (slots + 222) M lv pc "java/lang/ArrayIndexOutOfBoundsException" q) : gAt G cells slots M lv pc (.int i :: .ref a :: st) := by
  obtain ⟨n0, hk, hn0, hF1, hF2⟩ := hF
  by_cases hi : vp_in i n0
  · exact g_bald n hC ⟨⟨true, n0, hk, hi⟩, hF1 hi⟩ hdg hn k
  · obtain ⟨hu, hq⟩ := hF2 hi
    obtain ⟨⟨s0, D, dA⟩, ⟨p, l, e, R⟩, ⟨s, m, args, below, meth, c⟩, nL', Q⟩ := G
    obtain ⟨⟨hx, hb, hml, hown, hts⟩, hret, hlk, hW0, hX0, hfl, ⟨b0, hS0⟩, rfl, rfl, hQ⟩ := hC
    intro H locs ls h1 h2 h3
    refine vx_baldZ (D := D) (cl := gCl) (ws := [(a, .inl (dA .byte, (n0, .inl (mI M a))))]) (tys := gTl.map fun t => (dA t, t)) hx hb (g_kT hS0 hW0) (g_singP (s0 := s0) (g_cellT (h1.1 a) hk)) 0 (gTl.idxOf .byte) rfl rfl hi hdg (fun tx ht => ?_)
    refine g_vm hx hml hts hlk hW0 hX0 hfl hS0 vm_aioobe (nb := 212) (by rw [ht]; exact index_text_modelled i n0) (by rw [ht]; exact index_text_bytes i hn0) (Nat.le_of_ble_eq_true rfl) hfr hlo (Nat.le_of_ble_eq_true rfl) hu.1 hu.2 h1 h2 h3 (fun q => kx q hu (hq q))
theorem g_zaldX (n : Nat) (hC : gCx G cc nL own ret Qf rm) {a : Nat} {i : Int32} {κ : Int32 → Prop} {κx : Nat → Prop} (hF : xI M cells slots rm.cells rm.slots .boolean a i κ κx) (hfr : 7 < rm.frames) (hlo : (st.map fun v => v.category).sum + 10240 ≤ rm.locals) (hdg : decode cc pc = .ok (.baload, 1)) (hn : pc + 1 = n) (k : ∀ x, κ x → gAt G cells slots M lv n (.int x :: st)) (kx : ∀ q, (cells + 3 ≤ rm.cells ∧ slots + 222 ≤ rm.slots) → κx q → gTh G (cells + 3) (slots + 222) M lv pc "java/lang/ArrayIndexOutOfBoundsException" q) : gAt G cells slots M lv pc (.int i :: .ref a :: st) := by
  obtain ⟨n0, hk, hn0, hF1, hF2⟩ := hF
  by_cases hi : vp_in i n0
  · exact g_zald n hC ⟨⟨true, n0, hk, hi⟩, hF1 hi⟩ hdg hn k
  · obtain ⟨hu, hq⟩ := hF2 hi
    obtain ⟨⟨s0, D, dA⟩, ⟨p, l, e, R⟩, ⟨s, m, args, below, meth, c⟩, nL', Q⟩ := G
    obtain ⟨⟨hx, hb, hml, hown, hts⟩, hret, hlk, hW0, hX0, hfl, ⟨b0, hS0⟩, rfl, rfl, hQ⟩ := hC
    intro H locs ls h1 h2 h3
    refine vx_zaldZ (D := D) (cl := gCl) (ws := [(a, .inl (dA .boolean, (n0, .inl (mI M a))))]) (tys := gTl.map fun t => (dA t, t)) hx hb (g_kT hS0 hW0) (g_singP (s0 := s0) (g_cellT (h1.1 a) hk)) 0 (gTl.idxOf .boolean) rfl rfl hi hdg (fun tx ht => ?_)
    refine g_vm hx hml hts hlk hW0 hX0 hfl hS0 vm_aioobe (nb := 212) (by rw [ht]; exact index_text_modelled i n0) (by rw [ht]; exact index_text_bytes i hn0) (Nat.le_of_ble_eq_true rfl) hfr hlo (Nat.le_of_ble_eq_true rfl) hu.1 hu.2 h1 h2 h3 (fun q => kx q hu (hq q))
theorem g_saldX (n : Nat) (hC : gCx G cc nL own ret Qf rm) {a : Nat} {i : Int32} {κ : Int32 → Prop} {κx : Nat → Prop} (hF : xI M cells slots rm.cells rm.slots .short a i κ κx) (hfr : 7 < rm.frames) (hlo : (st.map fun v => v.category).sum + 10240 ≤ rm.locals) (hdg : decode cc pc = .ok (.saload, 1)) (hn : pc + 1 = n) (k : ∀ x, κ x → gAt G cells slots M lv n (.int x :: st)) (kx : ∀ q, (cells + 3 ≤ rm.cells ∧ slots + 222 ≤ rm.slots) → κx q → gTh G (cells + 3) (slots + 222) M lv pc "java/lang/ArrayIndexOutOfBoundsException" q) : gAt G cells slots M lv pc (.int i :: .ref a :: st) := by
  obtain ⟨n0, hk, hn0, hF1, hF2⟩ := hF
  by_cases hi : vp_in i n0
  · exact g_sald n hC ⟨⟨true, n0, hk, hi⟩, hF1 hi⟩ hdg hn k
  · obtain ⟨hu, hq⟩ := hF2 hi
    obtain ⟨⟨s0, D, dA⟩, ⟨p, l, e, R⟩, ⟨s, m, args, below, meth, c⟩, nL', Q⟩ := G
    obtain ⟨⟨hx, hb, hml, hown, hts⟩, hret, hlk, hW0, hX0, hfl, ⟨b0, hS0⟩, rfl, rfl, hQ⟩ := hC
    intro H locs ls h1 h2 h3
    refine vx_saldZ (D := D) (cl := gCl) (ws := [(a, .inl (dA .short, (n0, .inl (mI M a))))]) (tys := gTl.map fun t => (dA t, t)) hx hb (g_kT hS0 hW0) (g_singP (s0 := s0) (g_cellT (h1.1 a) hk)) 0 (gTl.idxOf .short) rfl rfl hi hdg (fun tx ht => ?_)
    refine g_vm hx hml hts hlk hW0 hX0 hfl hS0 vm_aioobe (nb := 212) (by rw [ht]; exact index_text_modelled i n0) (by rw [ht]; exact index_text_bytes i hn0) (Nat.le_of_ble_eq_true rfl) hfr hlo (Nat.le_of_ble_eq_true rfl) hu.1 hu.2 h1 h2 h3 (fun q => kx q hu (hq q))
theorem g_laldX (n : Nat) (hC : gCx G cc nL own ret Qf rm) {a : Nat} {i : Int32} {κ : Int64 → Prop} {κx : Nat → Prop} (hF : xJ M cells slots rm.cells rm.slots a i κ κx) (hfr : 7 < rm.frames) (hlo : (st.map fun v => v.category).sum + 10240 ≤ rm.locals) (hdg : decode cc pc = .ok (.laload, 1)) (hn : pc + 1 = n) (k : ∀ x, κ x → gAt G cells slots M lv n (.long x :: st)) (kx : ∀ q, (cells + 3 ≤ rm.cells ∧ slots + 222 ≤ rm.slots) → κx q → gTh G (cells + 3) (slots + 222) M lv pc "java/lang/ArrayIndexOutOfBoundsException" q) : gAt G cells slots M lv pc (.int i :: .ref a :: st) := by
  obtain ⟨n0, hk, hn0, hF1, hF2⟩ := hF
  by_cases hi : vp_in i n0
  · exact g_lald n hC ⟨⟨true, n0, hk, hi⟩, hF1 hi⟩ hdg hn k
  · obtain ⟨hu, hq⟩ := hF2 hi
    obtain ⟨⟨s0, D, dA⟩, ⟨p, l, e, R⟩, ⟨s, m, args, below, meth, c⟩, nL', Q⟩ := G
    obtain ⟨⟨hx, hb, hml, hown, hts⟩, hret, hlk, hW0, hX0, hfl, ⟨b0, hS0⟩, rfl, rfl, hQ⟩ := hC
    intro H locs ls h1 h2 h3
    refine vx_laldZ (D := D) (cl := gCl) (ws := [(a, .inl (dA .long, (n0, .inr (.inl (mJ M a)))))]) (tys := gTl.map fun t => (dA t, t)) hx hb (g_kT hS0 hW0) (g_singP (s0 := s0) (g_cellT (h1.1 a) hk)) 0 (gTl.idxOf .long) rfl rfl hi hdg (fun tx ht => ?_)
    refine g_vm hx hml hts hlk hW0 hX0 hfl hS0 vm_aioobe (nb := 212) (by rw [ht]; exact index_text_modelled i n0) (by rw [ht]; exact index_text_bytes i hn0) (Nat.le_of_ble_eq_true rfl) hfr hlo (Nat.le_of_ble_eq_true rfl) hu.1 hu.2 h1 h2 h3 (fun q => kx q hu (hq q))
theorem g_iastX (n : Nat) (hC : gCx G cc nL own ret Qf rm) {a : Nat} {i : Int32} {x : Int32} {κ : gM → Prop} {κx : Nat → Prop} (hF : zI M cells slots rm.cells rm.slots .int a i x κ κx) (hfr : 7 < rm.frames) (hlo : (st.map fun v => v.category).sum + 10240 ≤ rm.locals) (hdg : decode cc pc = .ok (.iastore, 1)) (hn : pc + 1 = n) (k : ∀ M1, κ M1 → gAt G cells slots M1 lv n st) (kx : ∀ q, (cells + 3 ≤ rm.cells ∧ slots + 222 ≤ rm.slots) → κx q → gTh G (cells + 3) (slots + 222) M lv pc "java/lang/ArrayIndexOutOfBoundsException" q) : gAt G cells slots M lv pc (.int x :: .int i :: .ref a :: st) := by
  obtain ⟨n0, hk, hn0, hF1, hF2⟩ := hF
  by_cases hi : vp_in i n0
  · exact g_iast n hC ⟨⟨n0, hk, hi⟩, hF1 hi⟩ hdg hn k
  · obtain ⟨hu, hq⟩ := hF2 hi
    obtain ⟨⟨s0, D, dA⟩, ⟨p, l, e, R⟩, ⟨s, m, args, below, meth, c⟩, nL', Q⟩ := G
    obtain ⟨⟨hx, hb, hml, hown, hts⟩, hret, hlk, hW0, hX0, hfl, ⟨b0, hS0⟩, rfl, rfl, hQ⟩ := hC
    intro H locs ls h1 h2 h3
    refine vx_iastZ (D := D) (cl := gCl) (ws := [(a, .inl (dA .int, (n0, .inl (mI M a))))]) (tys := gTl.map fun t => (dA t, t)) hx hb (g_kT hS0 hW0) (g_singP (s0 := s0) (g_cellT (h1.1 a) hk)) 0 (gTl.idxOf .int) rfl rfl hi hdg (fun tx ht => ?_)
    refine g_vm hx hml hts hlk hW0 hX0 hfl hS0 vm_aioobe (nb := 212) (by rw [ht]; exact index_text_modelled i n0) (by rw [ht]; exact index_text_bytes i hn0) (Nat.le_of_ble_eq_true rfl) hfr hlo (Nat.le_of_ble_eq_true rfl) hu.1 hu.2 h1 h2 h3 (fun q => kx q hu (hq q))
theorem g_bastX (n : Nat) (hC : gCx G cc nL own ret Qf rm) {a : Nat} {i : Int32} {x : Int32} {κ : gM → Prop} {κx : Nat → Prop} (hF : zI M cells slots rm.cells rm.slots .byte a i x κ κx) (hfr : 7 < rm.frames) (hlo : (st.map fun v => v.category).sum + 10240 ≤ rm.locals) (hdg : decode cc pc = .ok (.bastore, 1)) (hn : pc + 1 = n) (k : ∀ M1, κ M1 → gAt G cells slots M1 lv n st) (kx : ∀ q, (cells + 3 ≤ rm.cells ∧ slots + 222 ≤ rm.slots) → κx q → gTh G (cells + 3) (slots + 222) M lv pc "java/lang/ArrayIndexOutOfBoundsException" q) : gAt G cells slots M lv pc (.int x :: .int i :: .ref a :: st) := by
  obtain ⟨n0, hk, hn0, hF1, hF2⟩ := hF
  by_cases hi : vp_in i n0
  · exact g_tast n W.bast (by decide) (fun _ _ _ => rfl) (fun _ => rfl) hC ⟨⟨n0, hk, hi⟩, hF1 hi⟩ hdg hn k
  · obtain ⟨hu, hq⟩ := hF2 hi
    obtain ⟨⟨s0, D, dA⟩, ⟨p, l, e, R⟩, ⟨s, m, args, below, meth, c⟩, nL', Q⟩ := G
    obtain ⟨⟨hx, hb, hml, hown, hts⟩, hret, hlk, hW0, hX0, hfl, ⟨b0, hS0⟩, rfl, rfl, hQ⟩ := hC
    intro H locs ls h1 h2 h3
    refine vx_bastZ (D := D) (cl := gCl) (ws := [(a, .inl (dA .byte, (n0, .inl (mI M a))))]) (tys := gTl.map fun t => (dA t, t)) hx hb (g_kT hS0 hW0) (g_singP (s0 := s0) (g_cellT (h1.1 a) hk)) 0 (gTl.idxOf .byte) rfl rfl hi hdg (fun tx ht => ?_)
    refine g_vm hx hml hts hlk hW0 hX0 hfl hS0 vm_aioobe (nb := 212) (by rw [ht]; exact index_text_modelled i n0) (by rw [ht]; exact index_text_bytes i hn0) (Nat.le_of_ble_eq_true rfl) hfr hlo (Nat.le_of_ble_eq_true rfl) hu.1 hu.2 h1 h2 h3 (fun q => kx q hu (hq q))
theorem g_zastX (n : Nat) (hC : gCx G cc nL own ret Qf rm) {a : Nat} {i : Int32} {x : Int32} {κ : gM → Prop} {κx : Nat → Prop} (hF : zI M cells slots rm.cells rm.slots .boolean a i x κ κx) (hfr : 7 < rm.frames) (hlo : (st.map fun v => v.category).sum + 10240 ≤ rm.locals) (hdg : decode cc pc = .ok (.bastore, 1)) (hn : pc + 1 = n) (k : ∀ M1, κ M1 → gAt G cells slots M1 lv n st) (kx : ∀ q, (cells + 3 ≤ rm.cells ∧ slots + 222 ≤ rm.slots) → κx q → gTh G (cells + 3) (slots + 222) M lv pc "java/lang/ArrayIndexOutOfBoundsException" q) : gAt G cells slots M lv pc (.int x :: .int i :: .ref a :: st) := by
  obtain ⟨n0, hk, hn0, hF1, hF2⟩ := hF
  by_cases hi : vp_in i n0
  · exact g_tast n W.zast (by decide) (fun _ _ _ => rfl) (fun _ => rfl) hC ⟨⟨n0, hk, hi⟩, hF1 hi⟩ hdg hn k
  · obtain ⟨hu, hq⟩ := hF2 hi
    obtain ⟨⟨s0, D, dA⟩, ⟨p, l, e, R⟩, ⟨s, m, args, below, meth, c⟩, nL', Q⟩ := G
    obtain ⟨⟨hx, hb, hml, hown, hts⟩, hret, hlk, hW0, hX0, hfl, ⟨b0, hS0⟩, rfl, rfl, hQ⟩ := hC
    intro H locs ls h1 h2 h3
    refine vx_zastZ (D := D) (cl := gCl) (ws := [(a, .inl (dA .boolean, (n0, .inl (mI M a))))]) (tys := gTl.map fun t => (dA t, t)) hx hb (g_kT hS0 hW0) (g_singP (s0 := s0) (g_cellT (h1.1 a) hk)) 0 (gTl.idxOf .boolean) rfl rfl hi hdg (fun tx ht => ?_)
    refine g_vm hx hml hts hlk hW0 hX0 hfl hS0 vm_aioobe (nb := 212) (by rw [ht]; exact index_text_modelled i n0) (by rw [ht]; exact index_text_bytes i hn0) (Nat.le_of_ble_eq_true rfl) hfr hlo (Nat.le_of_ble_eq_true rfl) hu.1 hu.2 h1 h2 h3 (fun q => kx q hu (hq q))
theorem g_sastX (n : Nat) (hC : gCx G cc nL own ret Qf rm) {a : Nat} {i : Int32} {x : Int32} {κ : gM → Prop} {κx : Nat → Prop} (hF : zI M cells slots rm.cells rm.slots .short a i x κ κx) (hfr : 7 < rm.frames) (hlo : (st.map fun v => v.category).sum + 10240 ≤ rm.locals) (hdg : decode cc pc = .ok (.sastore, 1)) (hn : pc + 1 = n) (k : ∀ M1, κ M1 → gAt G cells slots M1 lv n st) (kx : ∀ q, (cells + 3 ≤ rm.cells ∧ slots + 222 ≤ rm.slots) → κx q → gTh G (cells + 3) (slots + 222) M lv pc "java/lang/ArrayIndexOutOfBoundsException" q) : gAt G cells slots M lv pc (.int x :: .int i :: .ref a :: st) := by
  obtain ⟨n0, hk, hn0, hF1, hF2⟩ := hF
  by_cases hi : vp_in i n0
  · exact g_tast n W.sast (by decide) (fun _ _ _ => rfl) (fun _ => rfl) hC ⟨⟨n0, hk, hi⟩, hF1 hi⟩ hdg hn k
  · obtain ⟨hu, hq⟩ := hF2 hi
    obtain ⟨⟨s0, D, dA⟩, ⟨p, l, e, R⟩, ⟨s, m, args, below, meth, c⟩, nL', Q⟩ := G
    obtain ⟨⟨hx, hb, hml, hown, hts⟩, hret, hlk, hW0, hX0, hfl, ⟨b0, hS0⟩, rfl, rfl, hQ⟩ := hC
    intro H locs ls h1 h2 h3
    refine vx_sastZ (D := D) (cl := gCl) (ws := [(a, .inl (dA .short, (n0, .inl (mI M a))))]) (tys := gTl.map fun t => (dA t, t)) hx hb (g_kT hS0 hW0) (g_singP (s0 := s0) (g_cellT (h1.1 a) hk)) 0 (gTl.idxOf .short) rfl rfl hi hdg (fun tx ht => ?_)
    refine g_vm hx hml hts hlk hW0 hX0 hfl hS0 vm_aioobe (nb := 212) (by rw [ht]; exact index_text_modelled i n0) (by rw [ht]; exact index_text_bytes i hn0) (Nat.le_of_ble_eq_true rfl) hfr hlo (Nat.le_of_ble_eq_true rfl) hu.1 hu.2 h1 h2 h3 (fun q => kx q hu (hq q))
theorem g_lastX (n : Nat) (hC : gCx G cc nL own ret Qf rm) {a : Nat} {i : Int32} {x : Int64} {κ : gM → Prop} {κx : Nat → Prop} (hF : zJ M cells slots rm.cells rm.slots a i x κ κx) (hfr : 7 < rm.frames) (hlo : (st.map fun v => v.category).sum + 10240 ≤ rm.locals) (hdg : decode cc pc = .ok (.lastore, 1)) (hn : pc + 1 = n) (k : ∀ M1, κ M1 → gAt G cells slots M1 lv n st) (kx : ∀ q, (cells + 3 ≤ rm.cells ∧ slots + 222 ≤ rm.slots) → κx q → gTh G (cells + 3) (slots + 222) M lv pc "java/lang/ArrayIndexOutOfBoundsException" q) : gAt G cells slots M lv pc (.long x :: .int i :: .ref a :: st) := by
  obtain ⟨n0, hk, hn0, hF1, hF2⟩ := hF
  by_cases hi : vp_in i n0
  · exact g_last n hC ⟨⟨n0, hk, hi⟩, hF1 hi⟩ hdg hn k
  · obtain ⟨hu, hq⟩ := hF2 hi
    obtain ⟨⟨s0, D, dA⟩, ⟨p, l, e, R⟩, ⟨s, m, args, below, meth, c⟩, nL', Q⟩ := G
    obtain ⟨⟨hx, hb, hml, hown, hts⟩, hret, hlk, hW0, hX0, hfl, ⟨b0, hS0⟩, rfl, rfl, hQ⟩ := hC
    intro H locs ls h1 h2 h3
    refine vx_lastZ (D := D) (cl := gCl) (ws := [(a, .inl (dA .long, (n0, .inr (.inl (mJ M a)))))]) (tys := gTl.map fun t => (dA t, t)) hx hb (g_kT hS0 hW0) (g_singP (s0 := s0) (g_cellT (h1.1 a) hk)) 0 (gTl.idxOf .long) rfl rfl hi hdg (fun tx ht => ?_)
    refine g_vm hx hml hts hlk hW0 hX0 hfl hS0 vm_aioobe (nb := 212) (by rw [ht]; exact index_text_modelled i n0) (by rw [ht]; exact index_text_bytes i hn0) (Nat.le_of_ble_eq_true rfl) hfr hlo (Nat.le_of_ble_eq_true rfl) hu.1 hu.2 h1 h2 h3 (fun q => kx q hu (hq q))
theorem g_newaX (n : Nat) (hC : gCx G cc nL own ret Qf rm) {atype : ArrayType} {ty : FieldType} (hty : newarray.typeOf atype = ty) (hin : ty ∈ gTl) (hra : ∀ (U : State) (cA : ClassId), va_RA U cA ty → U.vm.findClass ("[" ++ ty.toString) = some cA) (hdf : ty ≠ .float ∧ ty ≠ .double) (hcb : componentBytes ty ≤ 8) (harr : (Cond.arrayClass ty) ∈ lw_all) {i : Int32} {κ : Nat → gM → Prop} {κx : Nat → Prop} (hF : nX M cells slots rm.cells rm.slots ty i κ κx) (hfr : 7 < rm.frames) (hlo : (st.map fun v => v.category).sum + 10240 ≤ rm.locals) (hdg : decode cc pc = .ok (.newarray atype, 2)) (hn : pc + 2 = n) (kk : ∀ q M1, (cells + 1 ≤ rm.cells ∧ slots + i.toNatClampNeg ≤ rm.slots) → κ q M1 → gAt G (cells + 1) (slots + i.toNatClampNeg) M1 lv n (.ref q :: st)) (kx : ∀ q, (cells + 3 ≤ rm.cells ∧ slots + 54 ≤ rm.slots) → κx q → gTh G (cells + 3) (slots + 54) M lv pc "java/lang/NegativeArraySizeException" q) : gAt G cells slots M lv pc (.int i :: st) := by
  by_cases hi : i < 0
  · obtain ⟨hu, hq⟩ := hF.2 hi
    obtain ⟨⟨s0, D, dA⟩, ⟨p, l, e, R⟩, ⟨s, m, args, below, meth, c⟩, nL', Q⟩ := G
    obtain ⟨⟨hx, hb, hml, hown, hts⟩, hret, hlk, hW0, hX0, hfl, ⟨b0, hS0⟩, rfl, rfl, hQ⟩ := hC
    intro H locs ls h1 h2 h3
    refine vx_newarrayZ hx hb hi hdg (fun tx ht => ?_)
    refine g_vm hx hml hts hlk hW0 hX0 hfl hS0 vm_nase (nb := 44) (by rw [ht]; exact negative_text_modelled hi) (by rw [ht]; exact negative_text_bytes i) (Nat.le_of_ble_eq_true rfl) (by have : (["java/lang/RuntimeException", "java/lang/Exception"] : List String).length = 2 := rfl; omega) hlo (Nat.le_of_ble_eq_true rfl) hu.1 hu.2 h1 h2 h3 (fun q => kx q hu (hq q))
  · have h9 := hF.1 hi
    exact g_newa n hC hty hin hra hdf hcb harr h9 hdg hn (fun q M1 h => kk q M1 h9.2.1 h)
end GVM
