/-! multianewarray of two dimensions -/
set_option maxRecDepth 100000
/-- the outer row as it is filled -/
def oF (h i : Nat) : Nat → Value := fun j => if j < i then .ref (h + 1 + j) else .null
def mnS (U : State) (cA cB : ClassId) (N K : Nat) (dv : Value) : Nat → State
  | 0 => U.pushCell (arrV cA N (oF U.heap.size 0))
  | i + 1 => ((mnS U cA cB N K dv i).pushCell (arrV cB K (fun _ => dv))).setCell U.heap.size (arrV cA N (oF U.heap.size (i + 1)))
theorem oF_next (h i : Nat) : updV (oF h i) i (.ref (h + 1 + i)) = oF h (i + 1) := by
  funext j
  unfold updV oF
  by_cases e : j = i
  · rw [if_pos e, if_pos (by omega), e]
  · rw [if_neg e]
    by_cases g : j < i
    · rw [if_pos g, if_pos (by omega)]
    · rw [if_neg g, if_neg (by omega)]
theorem mnS_facts (U : State) (cA cB : ClassId) (N K : Nat) (dv : Value) : ∀ i, (mnS U cA cB N K dv i).vm = U.vm ∧ (mnS U cA cB N K dv i).heap.size = U.heap.size + 1 + i ∧ (mnS U cA cB N K dv i).slotsUsed = U.slotsUsed + N + i * K ∧ (mnS U cA cB N K dv i).heap[U.heap.size]? = some (arrV cA N (oF U.heap.size i)) ∧ (∀ q, q < U.heap.size → (mnS U cA cB N K dv i).heap[q]? = U.heap[q]?) ∧ ∀ j, j < i → (mnS U cA cB N K dv i).heap[U.heap.size + 1 + j]? = some (arrV cB K (fun _ => dv)) := by
  intro i
  induction i with
  | zero =>
    refine ⟨rfl, ?_, ?_, State.heap_pushCell_size _ _, fun q hq => ?_, fun j hj => absurd hj (Nat.not_lt_zero _)⟩
    · show (U.pushCell _).heap.size = _
      rw [State.heap_size_pushCell]
    · show U.slotsUsed + (arrV cA N (oF U.heap.size 0)).slots.size = _
      rw [arrV_size]
      omega
    · show (U.heap.push _)[q]? = _
      rw [Array.getElem?_push, if_neg (by omega)]
  | succ i ih =>
    obtain ⟨h1, h2, h3, h4, h5, h6⟩ := ih
    have hs : ((mnS U cA cB N K dv i).pushCell (arrV cB K (fun _ => dv))).heap.size = U.heap.size + 1 + i + 1 := by rw [State.heap_size_pushCell, h2]
    have hp : ∀ q, q < U.heap.size + 1 + i → ((mnS U cA cB N K dv i).pushCell (arrV cB K (fun _ => dv))).heap[q]? = (mnS U cA cB N K dv i).heap[q]? := fun q hq => by
      show ((mnS U cA cB N K dv i).heap.push _)[q]? = _
      rw [Array.getElem?_push, if_neg (by rw [h2]; omega)]
    refine ⟨h1, ?_, ?_, State.heap_setCell_self (c := arrV cA N (oF U.heap.size i)) (by rw [hp _ (by omega)]; exact h4), fun q hq => ?_, fun j hj => ?_⟩
    · show (((mnS U cA cB N K dv i).pushCell (arrV cB K (fun _ => dv))).heap.setIfInBounds _ _).size = _
      rw [Array.size_setIfInBounds, hs]
      omega
    · show (mnS U cA cB N K dv i).slotsUsed + (arrV cB K (fun _ => dv)).slots.size = _
      rw [arrV_size, h3, Nat.succ_mul]
      omega
    · show (((mnS U cA cB N K dv i).pushCell (arrV cB K (fun _ => dv))).setCell U.heap.size _).heap[q]? = _
      rw [State.heap_setCell_other (show U.heap.size ≠ q by omega), hp _ (by omega), h5 q hq]
    · show (((mnS U cA cB N K dv i).pushCell (arrV cB K (fun _ => dv))).setCell U.heap.size _).heap[_]? = _
      rw [State.heap_setCell_other (show U.heap.size ≠ U.heap.size + 1 + j by omega)]
      by_cases e : j = i
      · subst e
        have := State.heap_pushCell_size (mnS U cA cB N K dv j) (arrV cB K (fun _ => dv))
        rw [h2] at this
        exact this
      · rw [hp _ (by omega)]
        exact h6 j (by omega)
theorem mnS_top (U : State) (f : JFrame) (cA cB : ClassId) (N K : Nat) (dv : Value) : ∀ i, mnS (U.setTop f) cA cB N K dv i = (mnS U cA cB N K dv i).setTop f := by
  intro i
  induction i with
  | zero => simp only [mnS, State.heap_setTop, State.pushCell_setTop]
  | succ i ih => simp only [mnS, ih, State.heap_setTop, State.pushCell_setTop, State.setCell_setTop]
section MNA
variable {E : CtlPost} {e : Env} {d : Bool} {acts : List Action} {s : State}
theorem mn_make {cA cB cc : ClassId} {k kc : Class} {ty : FieldType} {n m : Int32} (hk : s.vm.classes[cA]? = some k) (hkind : k.kind = .array cB (.array ty)) (hkc : s.vm.classes[cB]? = some kc) (hkindc : kc.kind = .array cc ty) (hn : ¬ n < 0) (hm : ¬ m < 0)
    (hl1 : ¬ n.toNatClampNeg > e.platform.arrayLengthLimit) (hh1 : ¬ n.toNatClampNeg * componentBytes (.array ty) > e.platform.maxHeapBytes) (hl2 : ¬ m.toNatClampNeg > e.platform.arrayLengthLimit) (hh2 : ¬ m.toNatClampNeg * componentBytes ty > e.platform.maxHeapBytes)
    (hdf : fits ty (defaultValue ty) = true) (hc : s.heap.size + 1 + n.toNatClampNeg ≤ e.platform.maxCells) (hs : s.slotsUsed + n.toNatClampNeg + n.toNatClampNeg * m.toNatClampNeg ≤ e.platform.maxSlots)
    {Q : Addr → Pre} (hq : ∀ d' acts', Q s.heap.size d' acts' (mnS s cA cB n.toNatClampNeg m.toNatClampNeg (defaultValue ty) n.toNatClampNeg)) : wp (multianewarray.make cA [n, m]) Q E e d acts s := by
  have hfind : ([m].find? (· < 0)) = none := by simp [hm]
  rw [multianewarray.make]
  simp only [wp_bind', W.ite, hn, if_false, wp_pure', W.theClass, hk, hkind, Option.some.injEq, exists_eq_left']
  refine W.newArray_of hk hkind hl1 hh1 (by omega) (by have := Nat.zero_le (n.toNatClampNeg * m.toNatClampNeg); omega) rfl fun acts0 => ?_
  have e0 : ({ cls := cA, slots := Array.replicate n.toNatClampNeg Value.null } : Cell) = arrV cA n.toNatClampNeg (oF s.heap.size 0) := (arrV_new cA _ _).trans (by
    congr 1)
  rw [e0]
  simp only [hfind]
  rw [ite_self, wp_bind', Std.Legacy.Range.forIn_eq_forIn_range']
  have hsz : ([:n.toNatClampNeg] : Std.Legacy.Range).size = n.toNatClampNeg := by simp [Std.Legacy.Range.size]
  rw [hsz]
  show wp (forIn (List.range' 0 n.toNatClampNeg 1) PUnit.unit _) _ E e _ _ _
  refine wp_forIn_inv (fun rest s' => ∃ i, i ≤ n.toNatClampNeg ∧ rest = List.range' i (n.toNatClampNeg - i) ∧ s' = mnS s cA cB n.toNatClampNeg m.toNatClampNeg (defaultValue ty) i) _ _ ⟨0, Nat.zero_le _, rfl, rfl⟩ ?_ ?_
  · rintro x rest s' d' acts' Q' ⟨i, hi, hl, rfl⟩ hnext
    cases hz : n.toNatClampNeg - i with
    | zero => rw [hz] at hl; simp at hl
    | succ r =>
      rw [hz, List.range'_succ] at hl
      obtain ⟨rfl, rfl⟩ := List.cons.inj hl
      obtain ⟨f1, f2, f3, f4, f5, f6⟩ := mnS_facts s cA cB n.toNatClampNeg m.toNatClampNeg (defaultValue ty) x
      have hmul : x * m.toNatClampNeg + m.toNatClampNeg ≤ n.toNatClampNeg * m.toNatClampNeg := by
        have := Nat.mul_le_mul_right m.toNatClampNeg (show x + 1 ≤ n.toNatClampNeg by omega)
        rw [Nat.succ_mul] at this
        exact this
      simp only [wp_bind']
      rw [multianewarray.make]
      simp only [wp_bind', W.ite, hm, if_false, wp_pure', W.theClass, f1, hkc, hkindc, Option.some.injEq, exists_eq_left']
      refine W.newArray_of (by rw [f1]; exact hkc) hkindc hl2 hh2 (by rw [f2]; omega) (by rw [f3]; omega) hdf fun acts1 => ?_
      have e1 : ({ cls := cB, slots := Array.replicate m.toNatClampNeg (defaultValue ty) } : Cell) = arrV cB m.toNatClampNeg (fun _ => defaultValue ty) := arrV_new cB _ _
      rw [e1]
      simp only [wp_bind', W.writeLoc, wp_pure']
      have hcell : ((mnS s cA cB n.toNatClampNeg m.toNatClampNeg (defaultValue ty) x).pushCell (arrV cB m.toNatClampNeg (fun _ => defaultValue ty))).heap[s.heap.size]? = some (arrV cA n.toNatClampNeg (oF s.heap.size x)) := by
        show ((mnS s cA cB n.toNatClampNeg m.toNatClampNeg (defaultValue ty) x).heap.push _)[_]? = _
        rw [Array.getElem?_push, if_neg (by rw [f2]; omega)]
        exact f4
      refine ⟨arrV cA n.toNatClampNeg (oF s.heap.size x), hcell, (fun h => by cases h), (by rw [arrV_size]; omega), ?_, hnext _ _ _ ⟨x + 1, by omega, by rw [show n.toNatClampNeg - (x + 1) = r by omega], ?_⟩⟩
      · have hk9 : (mnS s cA cB n.toNatClampNeg m.toNatClampNeg (defaultValue ty) x).vm.classes[cA]? = some k := by rw [f1]; exact hk
        show State.fitsSlot _ cA .none x _ = true
        simp [State.fitsSlot, State.slotType?, hk9, hkind, fits]
      · show _ = ((mnS s cA cB n.toNatClampNeg m.toNatClampNeg (defaultValue ty) x).pushCell (arrV cB m.toNatClampNeg (fun _ => defaultValue ty))).setCell s.heap.size (arrV cA n.toNatClampNeg (oF s.heap.size (x + 1)))
        rw [f2, arrV_store, oF_next]
  · rintro s' d' acts' ⟨i, hi, hl, rfl⟩
    have : i = n.toNatClampNeg := by
      have := congrArg List.length hl
      simp at this
      omega
    subst this
    exact hq _ _
end MNA
theorem mn_over {args : Array Value} {s : State} {t : FieldType} (h : (Cond.arrayOver (.array t)).before args s = true) : ∃ comp c k, s.vm.findClass (FieldType.array t).toString = some comp ∧ s.vm.classes[c]? = some k ∧ k.kind = .array comp (.array t) ∧ s.vm.findClass ("[" ++ (FieldType.array t).toString) = some c := by
  simp only [Cond.before, Cond.holds, Cond.value, beq_iff_eq] at h
  cases hc : s.vm.findClass (FieldType.array t).toString with
  | none => simp [hc] at h
  | some comp =>
    simp only [hc, Option.bind_some, Option.bind_eq_some_iff, Option.map_eq_some_iff] at h
    obtain ⟨c, hi, k, hk, hb⟩ := h
    obtain ⟨hlt, hp, -⟩ := Array.findIdx?_eq_some_iff_getElem.mp hi
    have hkk : s.vm.classes[c] = k := (Array.getElem?_eq_some_iff.mp hk).2
    rw [hkk] at hp
    cases hkind : k.kind with
    | array component ty =>
      rw [hkind] at hb hp
      simp at hb hp
      exact ⟨comp, c, k, rfl, hk, by rw [hkind, hp, hb.1], hb.2⟩
    | _ => rw [hkind] at hb; simp at hb
section MNB
variable {p : Program} {l : Launch} {e : Env} {R : Room} {s : State} {m : MethodId} {args : Array Value} {below : List Frame} {meth : Method} {c : Code} {T : State} {locs : List Loc} {cells slots : Nat}
theorem mn_stand (X : Stand p l e R s m args below meth c T locs cells slots) (cA cB : ClassId) (N K : Nat) (dv : Value) : ∀ i, Stand p l e R s m args below meth c (mnS T cA cB N K dv i) locs (cells + 1 + i) (slots + N + i * K) := by
  intro i
  induction i with
  | zero =>
    have h := X.pushed (arrV cA N (oF T.heap.size 0))
    rw [arrV_size] at h
    rw [Nat.zero_mul]
    exact h
  | succ i ih =>
    obtain ⟨f1, f2, f3, f4, f5, f6⟩ := mnS_facts T cA cB N K dv i
    have h := ih.pushed (arrV cB K (fun _ => dv))
    rw [arrV_size] at h
    have hcell : ((mnS T cA cB N K dv i).pushCell (arrV cB K (fun _ => dv))).heap[T.heap.size]? = some (arrV cA N (oF T.heap.size i)) := by
      show ((mnS T cA cB N K dv i).heap.push _)[_]? = _
      rw [Array.getElem?_push, if_neg (by rw [f2]; omega)]
      exact f4
    have h2 := h.stored hcell i (.ref (T.heap.size + 1 + i))
    rw [arrV_store, oF_next] at h2
    have h3 := h2.forget (fun y hy => by
      simp only [List.mem_cons, List.not_mem_nil, or_false] at hy
      rw [hy]
      exact X.same.2.1)
    rw [show slots + N + (i + 1) * K = slots + N + i * K + K by rw [Nat.succ_mul]; omega]
    exact h3
theorem mn_step (X : Stand p l e R s m args below meth c T locs cells slots) (hexec : p.tables.exec = Jvm.exec) {own : String} {index : Nat} {ty : FieldType} (hown : s.vm.findClass own = some m.cls) (hclink : (Cond.classLink own index ("[" ++ (FieldType.array ty).toString)).before args s = true) (hover : ∃ comp c k, s.vm.findClass (FieldType.array ty).toString = some comp ∧ s.vm.classes[c]? = some k ∧ k.kind = .array comp (.array ty) ∧ s.vm.findClass ("[" ++ (FieldType.array ty).toString) = some c) (harr : (Cond.arrayClass ty).before args s = true)
    {g : JFrame} (hg : g.method = m) (hdg : decode c.code g.pc = .ok (.multianewarray index 2, 4)) {n k : Int32} {rest : List Value} (hstack : g.stack = .int k :: .int n :: rest) (hn : ¬ n < 0) (hk : ¬ k < 0) (hb1 : n.toNatClampNeg * 4 ≤ 536870912) (hb2 : k.toNatClampNeg * componentBytes ty ≤ 536870912) (hb3 : k.toNatClampNeg ≤ 536870912) (hdf : fits ty (defaultValue ty) = true)
    (hcells : cells + (1 + n.toNatClampNeg) ≤ R.cells) (hslots : slots + (n.toNatClampNeg + n.toNatClampNeg * k.toNatClampNeg) ≤ R.slots) :
    ∃ (vm₁ : Vm) (cA cB : ClassId), s.vm.findClass ("[" ++ (FieldType.array ty).toString) = some cA ∧ s.vm.findClass (FieldType.array ty).toString = some cB ∧ Stand p l e R s m args below meth c (mnS (T.setVm vm₁) cA cB n.toNatClampNeg k.toNatClampNeg (defaultValue ty) n.toNatClampNeg) locs (cells + 1 + n.toNatClampNeg) (slots + n.toNatClampNeg + n.toNatClampNeg * k.toNatClampNeg) ∧
      ∀ target, Steps p.tables e below ((mnS (T.setVm vm₁) cA cB n.toNatClampNeg k.toNatClampNeg (defaultValue ty) n.toNatClampNeg).setTop { g with pc := g.pc + 4, stack := .ref T.heap.size :: rest }) target → Steps p.tables e below (T.setTop g) target := by
  subst hg
  have hpl : e.platform.magicAccessors = ({} : Platform).magicAccessors := by rw [X.admits.platform]
  obtain ⟨cB, cA, kA, hcB, hkA, hkindA, hnA⟩ := hover
  obtain ⟨cB', kC, cc, hcB', hkC, hkindC⟩ := Cond.arrayClass_spec harr
  have ecB : cB' = cB := Option.some.inj (hcB'.symm.trans hcB)
  subst ecB
  obtain ⟨c0, hfc0, hcl⟩ := Cond.classLink_spec hown hclink e.platform hpl
  cases hnA.symm.trans hfc0
  obtain ⟨hg₁, hwarm₁, hready₁⟩ := State.classEntry (e := e) X.warmed hcl
  generalize T.vm.noted g.method.cls index (.cls cA) = vm₁ at hg₁ hwarm₁ hready₁
  obtain ⟨kA₁, hkA₁, heA⟩ := hwarm₁.alike.2.2 _ _ hkA
  obtain ⟨kC₁, hkC₁, heC⟩ := hwarm₁.alike.2.2 _ _ hkC
  have XF := mn_stand (X.noted hwarm₁) cA cB' n.toNatClampNeg k.toNatClampNeg (defaultValue ty) n.toNatClampNeg
  obtain ⟨hr1, hr2⟩ := X.roomAbove hcells hslots
  refine ⟨vm₁, cA, cB', hnA, hcB, XF, fun target hrest => ?_⟩
  jvm_step X.here [hexec, hdg]
  simp only [multianewarray.sem, wp_bind', W.resolveClassAt_links (State.method?_setTop g X.here.top) hg₁]
  rw [W.popN, if_neg (by decide)]
  refine ⟨g, State.topJava?_setTop' (s := T.setVm vm₁) g X.here.top, [.int n, .int k], rest, rfl, hstack, ?_⟩
  simp only [List.mapM_cons, List.mapM_nil, wp_bind', wp_pure']
  refine mn_make (k := kA₁) (kc := kC₁) (cB := cB') (cc := cc) (ty := ty) hkA₁ (by rw [heA]; exact hkindA) hkC₁ (by rw [heC]; exact hkindC) hn hk (by rw [Launch.admits_arrayLengthLimit X.admits]; omega) (by rw [Launch.admits_maxHeapBytes X.admits]; show ¬ n.toNatClampNeg * 4 > 536870912; omega) (by rw [Launch.admits_arrayLengthLimit X.admits]; omega) (by rw [Launch.admits_maxHeapBytes X.admits]; omega) hdf (by show T.heap.size + 1 + _ ≤ _; omega) (by show T.slotsUsed + _ + _ ≤ _; omega) (fun d' acts' => ?_)
  have eS : ((T.setTop g).setVm vm₁).setTop { g with stack := rest } = (T.setVm vm₁).setTop { g with stack := rest } := by
    show ((T.setVm vm₁).setTop g).setTop _ = _
    rw [State.setTop_setTop]
  rw [eS, mnS_top]
  simp only [wp_bind', W.mark, W.pushRef, State.topJava?_setTop' _ XF.here.top, Option.some.injEq, exists_eq_left', State.setTop_setTop, State.heap_setTop]
  intro acts
  simp [jvm, XF.here.top]
  exact hrest
end MNB
theorem arrV_congr {c : ClassId} {n : Nat} {f g : Nat → Value} (h : ∀ j, j < n → f j = g j) : arrV c n f = arrV c n g := by
  unfold arrV
  congr 2
  funext j
  exact h j.val j.isLt
/-- rows of rows at q -/
def mnM (M : gM) (q : Nat) (ty : FieldType) (N K : Nat) : gM :=
  (fun b => if b = q then some (true, .inr (.array ty, N)) else if q < b ∧ b ≤ q + N then some (true, .inr (ty, K)) else M.1 b, fun b j => if q ≤ b ∧ b ≤ q + N then 0 else M.2.1 b j, fun b j => if q ≤ b ∧ b ≤ q + N then 0 else M.2.2.1 b j, fun b j => if b = q then some (q + 1 + j) else if q ≤ b ∧ b ≤ q + N then none else M.2.2.2.1 b j, M.2.2.2.2)
def nMN (M : gM) (u v Lc Ls : Nat) (ty : FieldType) (N K : Nat) (κ : Nat → gM → Prop) : Prop := (u + (1 + N) ≤ Lc ∧ v + (N + N * K) ≤ Ls) ∧ ∀ q, (∀ b, q ≤ b → kd M b = none) → κ q (mnM M q ty N K)
section GMNA
variable {G : gG} {cc : ByteArray} {nL : Nat} {own : String} {ret : Option FieldType} {Qf : Option Value → gM → Prop} {rm : Room} {cells slots : Nat} {M : gM} {lv : List (Nat × Value)} {pc : Nat} {st : List Value}
theorem g_mna (n : Nat) (hC : gCx G cc nL own ret Qf rm) {index : Nat} {ty : FieldType} {nm : String} {i k : Int32} {N K : Nat} (hty : ty = .int ∨ ty = .long) (hnm : nm = "[" ++ (FieldType.array ty).toString) (hl : (Cond.classLink own index nm) ∈ lw_all) (ho : (Cond.arrayOver (.array ty)) ∈ lw_tbl) (ha : (Cond.arrayClass ty) ∈ lw_all) (hi : ¬ i < 0 ∧ i.toNatClampNeg = N) (hk : ¬ k < 0 ∧ k.toNatClampNeg = K) (hb : N ≤ 1000 ∧ K ≤ 1000) {κ : Nat → gM → Prop} (hF : nMN M cells slots rm.cells rm.slots ty N K κ) (hdg : decode cc pc = .ok (.multianewarray index 2, 4)) (hn : pc + 4 = n) (kk : ∀ q M1, κ q M1 → gAt G (cells + (1 + N)) (slots + (N + N * K)) M1 lv n (.ref q :: st)) : gAt G cells slots M lv pc (.int k :: .int i :: st) := by
  obtain ⟨⟨s0, D, dA⟩, ⟨p, l, e, R⟩, ⟨s, m, args, below, meth, c⟩, nL', Q⟩ := G
  obtain ⟨⟨hx, hcb, hml, hown, hts⟩, hret, hlk, hW0, hX0, hfl, ⟨b0, hS0⟩, rfl, rfl, hQ⟩ := hC
  subst hn
  subst hnm
  obtain ⟨⟨u1, u2⟩, hF⟩ := hF
  obtain ⟨i1, rfl⟩ := hi
  obtain ⟨k1, rfl⟩ := hk
  intro H locs ls h1 h2 h3 T hT X
  have hov : ∃ comp c k, s.vm.findClass (FieldType.array ty).toString = some comp ∧ s.vm.classes[c]? = some k ∧ k.kind = .array comp (.array ty) ∧ s.vm.findClass ("[" ++ (FieldType.array ty).toString) = some c := by
    obtain ⟨cp, c9, k9, g1, g2, g3, g4⟩ := mn_over (hS0.2.1 _ ho)
    obtain ⟨k8, g5, g6⟩ := hW0.alike.2.2 _ _ g2
    exact ⟨cp, c9, k8, by rw [hW0.alike.findClass]; exact g1, g5, by rw [g6]; exact g3, by rw [hW0.alike.findClass]; exact g4⟩
  have hcb' : componentBytes ty ≤ 8 ∧ fits ty (defaultValue ty) = true ∧ (.array ty) ∈ gTl ∧ ty ∈ gTl ∧ ty ∈ gPr := by rcases hty with rfl | rfl <;> exact ⟨by decide, rfl, by decide, by decide, by decide⟩
  obtain ⟨vm₁, cA, cB, n1, n2, X', step⟩ := mn_step X hx hown (hts _ hl) hov (hts _ ha) (g := F0 m pc ls (.int k :: .int i :: st)) rfl (by rw [hcb]; exact hdg) (rest := st) rfl i1 k1 (by omega) (by have := Nat.mul_le_mul hb.2 hcb'.1; omega) (by omega) hcb'.2.1 u1 u2
  have hcA : cA = dA (.array ty) := by
    obtain ⟨t0, ht0⟩ := List.getElem?_of_mem hcb'.2.2.1
    have := ((g_kT hS0 hW0).2 t0 (dA _, _) (by rw [List.getElem?_map, ht0]; rfl)).2
    exact Option.some.inj (n1.symm.trans this)
  have hcB : cB = dA ty := by
    obtain ⟨t0, ht0⟩ := List.getElem?_of_mem hcb'.2.2.2.1
    have := ((g_kT hS0 hW0).2 t0 (dA _, _) (by rw [List.getElem?_map, ht0]; rfl)).2
    have h8 : s.vm.findClass (FieldType.array ty).toString = some (dA ty) := by rcases hty with rfl | rfl <;> exact this
    exact Option.some.inj (n2.symm.trans h8)
  subst hcA
  subst hcB
  obtain ⟨f1, f2, f3, f4, f5, f6⟩ := mnS_facts (T.setVm vm₁) (dA (.array ty)) (dA ty) i.toNatClampNeg k.toNatClampNeg (defaultValue ty) i.toNatClampNeg
  have hTs : (T.setVm vm₁).heap = H := hT
  rw [hTs] at f2 f4 f5 f6
  generalize hH1 : (mnS (T.setVm vm₁) (dA (.array ty)) (dA ty) i.toNatClampNeg k.toNatClampNeg (defaultValue ty) i.toNatClampNeg).heap = H1 at f2 f4 f5 f6
  have hfree : ∀ b, H.size ≤ b → kd M b = none := fun b hb => by
    cases e9 : M.1 b with
    | none => exact e9
    | some x => exact absurd ((h1.1 b).lt (by rw [e9]; exact fun z => by cases z)) (by omega)
  have hg : gC s0 D dA (mnM M H.size ty i.toNatClampNeg k.toNatClampNeg) H1 := by
    refine ⟨fun b => ?_, fun b t' hb => ?_, h1.2.2⟩
    · by_cases e1 : b = H.size
      · subst e1
        unfold gat
        have : (mnM M H.size ty i.toNatClampNeg k.toNatClampNeg).1 H.size = some (true, .inr (.array ty, i.toNatClampNeg)) := if_pos rfl
        rw [this]
        show H1[H.size]? = some (arrV _ _ _)
        rw [f4]
        congr 1
        refine arrV_congr (fun j hj => ?_)
        show oF H.size _ j = gv (.array ty) _ _ (if H.size = H.size then _ else _)
        rw [if_pos rfl]
        exact if_pos hj
      · by_cases e2 : H.size < b ∧ b ≤ H.size + i.toNatClampNeg
        · unfold gat
          have : (mnM M H.size ty i.toNatClampNeg k.toNatClampNeg).1 b = some (true, .inr (ty, k.toNatClampNeg)) := by
            show (if b = H.size then _ else if _ then _ else _) = _
            rw [if_neg e1, if_pos e2]
          rw [this]
          show H1[b]? = some (arrV _ _ _)
          have := f6 (b - H.size - 1) (by omega)
          rw [show H.size + 1 + (b - H.size - 1) = b by omega] at this
          rw [this]
          congr 1
          refine arrV_congr (fun j hj => ?_)
          show _ = gv ty (if H.size ≤ b ∧ b ≤ H.size + _ then _ else _) (if H.size ≤ b ∧ b ≤ H.size + _ then _ else _) _
          rw [if_pos ⟨by omega, e2.2⟩, if_pos ⟨by omega, e2.2⟩]
          rcases hty with rfl | rfl <;> rfl
        · have e0 : (mnM M H.size ty i.toNatClampNeg k.toNatClampNeg).1 b = M.1 b := by
            show (if b = H.size then _ else if _ then _ else _) = _
            rw [if_neg e1, if_neg e2]
          cases eb : M.1 b with
          | none =>
            unfold gat
            rw [e0, eb]
            trivial
          | some x =>
            have hlt := (h1.1 b).lt (by rw [eb]; exact fun z => by cases z)
            have e3 : ¬ (H.size ≤ b ∧ b ≤ H.size + i.toNatClampNeg) := by omega
            exact ((h1.1 b).kept (f5 b hlt)).congr e0 (fun k => if_neg e3) (fun k => if_neg e3) (fun k => by
              show (if b = H.size then _ else if _ then _ else _) = _
              rw [if_neg e1, if_neg e3])
    · by_cases e9 : H.size ≤ b
      · exact Nat.le_trans (hX0.of h2).1 e9
      · refine h1.2.1 b t' ?_
        have : (mnM M H.size ty i.toNatClampNeg k.toNatClampNeg).1 b = M.1 b := by
          show (if b = H.size then _ else if _ then _ else _) = _
          rw [if_neg (by omega), if_neg (by omega)]
        rw [← this]
        exact hb
  have hrw : cells + 1 + i.toNatClampNeg = cells + (1 + i.toNatClampNeg) ∧ slots + i.toNatClampNeg + i.toNatClampNeg * k.toNatClampNeg = slots + (i.toNatClampNeg + i.toNatClampNeg * k.toNatClampNeg) := ⟨by omega, by omega⟩
  rw [hrw.1, hrw.2] at X'
  obtain ⟨t, b1, b2⟩ := kk H.size _ (hF H.size hfree) H1 locs ls hg ⟨Nat.le_trans h2.1 (by omega), fun y h4 h5 => (f5 y (Nat.lt_of_lt_of_le h4 h2.1)).trans (h2.2.1 y h4 h5), h2.2.2⟩ h3 _ hH1 X'
  refine ⟨t, step t ?_, b2⟩
  rw [hT]
  exact b1
end GMNA
