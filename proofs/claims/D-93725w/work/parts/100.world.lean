/-! THE ABSTRACT MEMORY: every own cell by its kind, its ints, its longs, its references; one judgement gAt over it, and a row an instruction -/
set_option maxRecDepth 100000
abbrev gKd : Type := Option (Bool × (Nat ⊕ (FieldType × Nat)))
abbrev gM : Type := (Nat → gKd) × (Nat → Nat → Int32) × (Nat → Nat → Int64) × (Nat → Nat → Option Nat) × (Nat → Nat)
def kd (M : gM) (a : Nat) : gKd := M.1 a
def mI (M : gM) (a k : Nat) : Int32 := M.2.1 a k
def mJ (M : gM) (a k : Nat) : Int64 := M.2.2.1 a k
def mR (M : gM) (a k : Nat) : Option Nat := M.2.2.2.1 a k
/-- the addresses of constants: 0 is SendTheBox.PLACE, then the String constants -/
def gl (M : gM) (j : Nat) : Nat := M.2.2.2.2 j
def sI (M : gM) (a k : Nat) (x : Int32) : gM := (M.1, fun b j => if b = a ∧ j = k then x else M.2.1 b j, M.2.2.1, M.2.2.2)
def sJ (M : gM) (a k : Nat) (x : Int64) : gM := (M.1, M.2.1, fun b j => if b = a ∧ j = k then x else M.2.2.1 b j, M.2.2.2)
def sR (M : gM) (a k : Nat) (x : Option Nat) : gM := (M.1, M.2.1, M.2.2.1, fun b j => if b = a ∧ j = k then x else M.2.2.2.1 b j, M.2.2.2.2)
def sN (M : gM) (a : Nat) (t : Nat ⊕ (FieldType × Nat)) : gM := (fun b => if b = a then some (true, t) else M.1 b, fun b j => if b = a then 0 else M.2.1 b j, fun b j => if b = a then 0 else M.2.2.1 b j, fun b j => if b = a then none else M.2.2.2.1 b j, M.2.2.2.2)
def gv (ty : FieldType) (i : Int32) (j : Int64) (r : Option Nat) : Value := match ty with
  | .long => .long j
  | .object _ => va_rf r
  | .array _ => va_rf r
  | _ => .int i
abbrev gCl : List vw_C := [(RX0, TX0, 6), (RX1, TX1, 4), (RX2, TX2, 1), (RX3, TX3, 46), (RX4, TX4, 7), (RX6, TX6, 1), (RX6, TX6, 1), (RX7, TX7, 1), (RX8, TX8, 2), (RX9, TX6, 0), (RX10, TX10, 2), (RX11, TX11, 7), (RX12, TX12, 17), (RX13, TX13, 7), (RX14, TX14, 8), (RJ4, TJ4, 4), (RJ11, TJ11, 4)]
def gTy (ci : Nat) : Nat → FieldType := match ci with
  | 0 => tyX0
  | 1 => tyX1
  | 2 => tyX2
  | 3 => tyX3
  | 4 => tyX4
  | 5 => tyX6
  | 6 => tyX6
  | 7 => tyX7
  | 8 => tyX8
  | 9 => tyX6
  | 10 => tyX10
  | 11 => tyX11
  | 12 => tyX12
  | 13 => tyX13
  | 14 => tyX14
  | 15 => tyJ4
  | _ => tyJ11
abbrev gTl : List FieldType := [.int, .long, .byte, .short, .boolean, .object "SendTheBox$House", .object "SendTheBox$Sheet", .array .long, .array .int]
/-- what the memory says of one address: an own cell exactly (true), an old one as far as it can be read (false) -/
def gat (s0 : State) (D : va_G) (dA : FieldType → ClassId) (M : gM) (a : Nat) (H : Heap) : Prop := match M.1 a with
  | none => True
  | some (true, .inl ci) => ∃ r : vw_C, gCl[ci]? = some r ∧ t_OB a (D.1 ci) r.2.2 (D.2 ci) H (fun k => gv (gTy ci k) (M.2.1 a k) (M.2.2.1 a k) (M.2.2.2.1 a k))
  | some (true, .inr (ty, n)) => H[a]? = some (arrV (dA ty) n (fun k => gv ty (M.2.1 a k) (M.2.2.1 a k) (M.2.2.2.1 a k)))
  | some (false, .inl ci) => ∃ r : vw_C, gCl[ci]? = some r ∧ ∃ cell : Cell, H[a]? = some cell ∧ cell.cls = D.1 ci ∧ (cell.vm ≠ .unknown ∧ cell.vm.isStatics = false) ∧ ∀ k, k < r.2.2 → k < 2 → cell.slots[D.2 ci k]? = some (gv (gTy ci k) (M.2.1 a k) (M.2.2.1 a k) (M.2.2.2.1 a k))
  | some (false, .inr (ty, n)) => ∃ cell : Cell, H[a]? = some cell ∧ s0.isArrayOf cell ty ∧ cell.vm ≠ .unknown ∧ (n ≤ cell.slots.size ∧ cell.slots.size.toInt32 = Int32.ofNat n) ∧ ∀ k, k < n → cell.slots[k]? = some (gv ty (M.2.1 a k) (M.2.2.1 a k) (M.2.2.2.1 a k))
/-- the String constants: class, entry, text; the place j of this list is place j + 1 of gl -/
abbrev gStr : List (String × Nat × String) := [("SendTheBox$Reader", 60, ";"), ("SendTheBox$Reader", 87, "room"), ("SendTheBox$Reader", 97, "comes"), ("SendTheBox$Reader", 101, "hold"), ("SendTheBox$Reader", 108, "refuse"), ("SendTheBox$Reader", 112, "left"), ("SendTheBox$Reader", 113, "days"), ("SendTheBox$Reader", 117, "full"), ("SendTheBox$Reader", 121, "box"), ("SendTheBox$Reader", 127, "sort"), ("SendTheBoxModel", 188, "days"), ("SendTheBoxModel", 194, "box"), ("SendTheBoxModel", 196, "room"), ("SendTheBoxModel", 198, "full"), ("SendTheBoxModel", 200, "sort"), ("SendTheBoxModel", 202, "comes"), ("SendTheBoxModel", 204, "hold"), ("SendTheBoxModel", 206, "refuse"), ("SendTheBoxModel", 207, "left")]
/-- what stands at the places of gl -/
def gCst (s0 : State) (f : Nat → Nat) : Prop := va_Z "SendTheBox" "PLACE" "[I" (.ref (f 0)) (fun q => s0.heap.size ≤ q) s0 s0.heap ∧ ∀ (j : Nat) (q : String × Nat × String), gStr[j]? = some q → vk_R q.1 q.2.1 q.2.2 (f (j + 1)) s0
abbrev gA (s0 : State) : Nat → Prop := fun q => s0.heap.size ≤ q
def gC (s0 : State) (D : va_G) (dA : FieldType → ClassId) (M : gM) (H : Heap) : Prop := (∀ a, gat s0 D dA M a H) ∧ (∀ a t, M.1 a = some (true, t) → s0.heap.size ≤ a) ∧ gCst s0 M.2.2.2.2
def gX (s0 : State) (H : Heap) : Prop := s0.heap.size ≤ H.size ∧ ∀ q, q < s0.heap.size → H[q]? = s0.heap[q]?
def gS0 (s0 : State) (b : Nat) (D : va_G) (dA : FieldType → ClassId) : Prop := va_K D gCl (gTl.map fun t => (dA t, t)) s0 ∧ (∀ w ∈ lw_tbl, w.before #[Value.ref b] s0 = true) ∧ (Jvm.Cond.and given_1 narrow_1).before #[Value.ref b] s0 = true ∧ modulesRight_1 s0 = true
def gU (s0 : State) (D : va_G) (dA : FieldType → ClassId) (M : gM) (U : State) : Prop := s0.WarmedH U.vm ∧ gX s0 U.heap ∧ gC s0 D dA M U.heap
def gQ (Qf : Option Value → gM → Prop) (s0 : State) (D : va_G) (dA : FieldType → ClassId) : Array Value → State → Outcome → State → Prop := fun _ st oc t => (∃ v u, oc = .returned v ∧ Qf v u ∧ gC s0 D dA u t.heap) ∧ va_F (gA s0) st t
def gQi (Q : Int32 → gM → Prop) : Option Value → gM → Prop := fun v u => ∃ r, v = some (.int r) ∧ Q r u
def gQj (Q : Int64 → gM → Prop) : Option Value → gM → Prop := fun v u => ∃ r, v = some (.long r) ∧ Q r u
def gQa (Q : Nat → gM → Prop) : Option Value → gM → Prop := fun v u => ∃ r, v = some (.ref r) ∧ Q r u
def gQq (Q : Option Nat → gM → Prop) : Option Value → gM → Prop := fun v u => ∃ r, v = some (va_rf r) ∧ Q r u
def gQv (Q : gM → Prop) : Option Value → gM → Prop := fun v u => v = none ∧ Q u
/-- a contract: for this memory and these arguments the method comes to Qf -/
def gMt (y : MethodName) (ws : List Cond) (rm : Room) (M : gM) (av : List Value) (Qf : Option Value → gM → Prop) : Prop :=
  ∀ (l : Launch) (s0 : State) (b : Nat) (D : va_G) (dA : FieldType → ClassId), l.flags = flags0 → gS0 s0 b D dA → Met l y ws rm (va_Pc av (gU s0 D dA M)) (gQ Qf s0 D dA) rm.cells rm.slots (gA s0)
/-- where a method stands: everything that doesn't change in it -/
abbrev gG : Type := (State × va_G × (FieldType → ClassId)) × (Program × Launch × Env × Room) × (State × MethodId × Array Value × List Frame × Method × Code) × Nat × (State → Prop)
def gAt (G : gG) (cells slots : Nat) (M : gM) (lv : List (Nat × Value)) (pc : Nat) (st : List Value) : Prop := match G with
  | ((s0, D, dA), (p, l, e, R), (s, m, args, below, meth, c), nL, Q) => ∀ (H : Heap) (locs : List Loc) (ls : Array Slot), gC s0 D dA M H → va_S (gA s0) s.heap H locs → lv_has ls nL lv → W p l e R s m args below meth c H locs cells slots Q (F0 m pc ls st)
def gCx (G : gG) (cc : ByteArray) (n : Nat) (own : String) (ret : Option FieldType) (Qf : Option Value → gM → Prop) (rm : Room) : Prop := match G with
  | ((s0, D, dA), (p, l, e, R), (s, m, args, below, meth, c), nL, Q) => CallFix p m c cc nL s args lw_all own ∧ meth.sig.returnType = ret ∧ meth.locks = false ∧ s0.WarmedH s.vm ∧ gX s0 s.heap ∧ l.flags = flags0 ∧ (∃ b, gS0 s0 b D dA) ∧ R = rm ∧ nL = n ∧ ∀ t, MQ below (gQ Qf s0 D dA) args s rm.cells rm.slots (gA s0) t → Q t
theorem gat.kept {s0 : State} {D : va_G} {dA : FieldType → ClassId} {M : gM} {a : Nat} {H H1 : Heap} (h : gat s0 D dA M a H) (hq : H1[a]? = H[a]?) : gat s0 D dA M a H1 := by
  unfold gat at h ⊢
  split at h
  · trivial
  · obtain ⟨r, h1, h2⟩ := h
    exact ⟨r, h1, h2.kept hq⟩
  · exact hq.trans h
  · obtain ⟨r, h1, cell, h2, h3⟩ := h
    exact ⟨r, h1, cell, hq.trans h2, h3⟩
  · obtain ⟨cell, h2, h3⟩ := h
    exact ⟨cell, hq.trans h2, h3⟩
theorem gat.congr {s0 : State} {D : va_G} {dA : FieldType → ClassId} {M M1 : gM} {a : Nat} {H : Heap} (h : gat s0 D dA M a H) (h0 : M1.1 a = M.1 a) (h1 : ∀ k, M1.2.1 a k = M.2.1 a k) (h2 : ∀ k, M1.2.2.1 a k = M.2.2.1 a k) (h3 : ∀ k, M1.2.2.2.1 a k = M.2.2.2.1 a k) : gat s0 D dA M1 a H := by
  unfold gat at h ⊢
  simp only [h0, h1, h2, h3]
  exact h
theorem gat.lt {s0 : State} {D : va_G} {dA : FieldType → ClassId} {M : gM} {a : Nat} {H : Heap} (h : gat s0 D dA M a H) (hk : M.1 a ≠ none) : a < H.size := by
  unfold gat at h
  split at h
  · rename_i h0
    exact absurd h0 hk
  · obtain ⟨r, h1, cell, h2, -⟩ := h
    exact (Array.getElem?_eq_some_iff.mp h2).1
  · exact (Array.getElem?_eq_some_iff.mp h).1
  · obtain ⟨r, h1, cell, h2, -⟩ := h
    exact (Array.getElem?_eq_some_iff.mp h2).1
  · obtain ⟨cell, h2, -⟩ := h
    exact (Array.getElem?_eq_some_iff.mp h2).1
/-- a write at one address -/
theorem gC.put {s0 : State} {D : va_G} {dA : FieldType → ClassId} {M M1 : gM} {H H1 : Heap} (a : Nat) (h : gC s0 D dA M H) (hk : M1.1 = M.1) (h1 : ∀ b k, b ≠ a → M1.2.1 b k = M.2.1 b k) (h2 : ∀ b k, b ≠ a → M1.2.2.1 b k = M.2.2.1 b k) (h3 : ∀ b k, b ≠ a → M1.2.2.2.1 b k = M.2.2.2.1 b k) (h4 : M1.2.2.2.2 = M.2.2.2.2) (hq : ∀ q : Nat, q ≠ a → H1[q]? = H[q]?) (ha : gat s0 D dA M1 a H1) : gC s0 D dA M1 H1 := by
  refine ⟨fun b => ?_, fun b t hb => h.2.1 b t (by rw [← hk]; exact hb), by rw [h4]; exact h.2.2⟩
  by_cases e : b = a
  · rw [e]; exact ha
  · exact ((h.1 b).kept (hq b e)).congr (by rw [hk]) (fun k => h1 b k e) (fun k => h2 b k e) (fun k => h3 b k e)
/-- a new cell -/
theorem gC.new {s0 : State} {D : va_G} {dA : FieldType → ClassId} {M : gM} {H H1 : Heap} {t : Nat ⊕ (FieldType × Nat)} (h : gC s0 D dA M H) (hx : s0.heap.size ≤ H.size) (hq : ∀ q : Nat, q < H.size → H1[q]? = H[q]?) (ha : gat s0 D dA (sN M H.size t) H.size H1) : gC s0 D dA (sN M H.size t) H1 ∧ M.1 H.size = none := by
  have hn : M.1 H.size = none := by
    cases e : M.1 H.size with
    | none => rfl
    | some x => exact absurd ((h.1 H.size).lt (by rw [e]; exact fun z => by cases z)) (Nat.lt_irrefl _)
  refine ⟨⟨fun b => ?_, fun b t' hb => ?_, h.2.2⟩, hn⟩
  · by_cases e : b = H.size
    · rw [e]; exact ha
    · cases eb : M.1 b with
      | none =>
        unfold gat
        have : (sN M H.size t).1 b = none := by show (if b = H.size then _ else M.1 b) = none; rw [if_neg e, eb]
        rw [this]
        trivial
      | some x =>
        have hlt := (h.1 b).lt (by rw [eb]; exact fun z => by cases z)
        exact ((h.1 b).kept (hq b hlt)).congr (by show (if b = H.size then _ else M.1 b) = _; rw [if_neg e]) (fun k => by show (if b = H.size then _ else _) = _; rw [if_neg e]) (fun k => by show (if b = H.size then _ else _) = _; rw [if_neg e]) (fun k => by show (if b = H.size then _ else _) = _; rw [if_neg e])
  · by_cases e : b = H.size
    · rw [e]; exact hx
    · refine h.2.1 b t' ?_
      have : (sN M H.size t).1 b = M.1 b := by show (if b = H.size then _ else M.1 b) = M.1 b; rw [if_neg e]
      rw [← this]
      exact hb
theorem gX.of {s0 : State} {H0 H : Heap} {locs : List Loc} (h : gX s0 H0) (hS : va_S (gA s0) H0 H locs) : gX s0 H := ⟨Nat.le_trans h.1 hS.1, fun q hq => (hS.2.1 q (Nat.lt_of_lt_of_le hq h.1) (fun z => absurd (Nat.lt_of_lt_of_le hq z) (Nat.lt_irrefl _))).trans (h.2 q hq)⟩
theorem gC.aw {s0 : State} {D : va_G} {dA : FieldType → ClassId} {M : gM} {H : Heap} {a : Nat} {t : Nat ⊕ (FieldType × Nat)} (h : gC s0 D dA M H) (hk : kd M a = some (true, t)) : gA s0 a := h.2.1 a t hk
theorem gU.blind {s0 : State} {D : va_G} {dA : FieldType → ClassId} {M : gM} {av : List Value} : FrameBlind (va_Pc av (gU s0 D dA M)) := by
  intro a U g mk h
  exact h
theorem gMet {y : MethodName} {ws ws' : List Cond} {bytes : ByteArray} {maxL : Nat} {ret : Option FieldType} {rm : Room} {M : gM} {av : List Value} {Qf : Option Value → gM → Prop} (hw : ws = Cond.code y bytes maxL ret :: ws') (hlw : ws' = lw_all) (hy : plainName y.cls = true) (hlen : (lg_sl av).length ≤ maxL) {lv : List (Nat × Value)} (hlv : lv_args 0 av = lv)
    (k : ∀ G : gG, gCx G bytes maxL y.cls ret Qf rm → G.2.2.1.2.2.2.2.1.name = y.name → gAt G 0 0 M lv 0 []) : gMt y ws rm M av Qf := by
  intro l s0 b D dA hfl hS0
  refine Met.ofW (cc := bytes) (maxL := maxL) (ret := ret) hy hw ?_
  intro p e s m args below meth c s₁ B hml hv
  obtain ⟨rfl, hW0, hX0, hC0⟩ := hv
  have hts := atoms_spec (ws := ws) B.pre
  have hts : ∀ w ∈ lw_all, w.before av.toArray s = true := fun w h => hts w (by rw [hw, hlw]; exact List.mem_cons_of_mem _ h)
  have hown : s.vm.findClass y.cls = some m.cls := findClass_of_methodNamed B.named
  have hl := lv_entry av (n := maxL) hlen
  rw [lg_entry_eq]
  have key := k ((s0, D, dA), (p, l, e, rm), (s, m, av.toArray, below, meth, c), maxL, MQ below (gQ Qf s0 D dA) av.toArray s rm.cells rm.slots (gA s0)) ⟨⟨B.exec, B.bytes, hml, hown, hts⟩, B.returns, B.notSynchronized, hW0, hX0, hfl, ⟨b, hS0⟩, rfl, rfl, fun _ h => h⟩ (name_of_methodNamed B.named B.method).1
  exact key s.heap [] _ hC0 va_S.rf (by rw [← hlv]; exact hl)
