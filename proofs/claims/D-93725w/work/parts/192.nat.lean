/-! if_acmp, System.arraycopy, clone -/
set_option maxRecDepth 100000
abbrev gPr : List FieldType := [.int, .long, .byte, .short, .boolean]
/-- n elements of a0 from sp on, to a from dp on -/
def cpM (M : gM) (a0 sp a dp n : Nat) : gM := (M.1, fun b j => if b = a ∧ dp ≤ j ∧ j < dp + n then M.2.1 a0 (sp + (j - dp)) else M.2.1 b j, fun b j => if b = a ∧ dp ≤ j ∧ j < dp + n then M.2.2.1 a0 (sp + (j - dp)) else M.2.2.1 b j, M.2.2.2)
/-- a clone of a at q -/
def clM (M : gM) (a q : Nat) (ty : FieldType) (n : Nat) : gM := (fun b => if b = q then some (true, .inr (ty, n)) else M.1 b, fun b j => if b = q then M.2.1 a j else M.2.1 b j, fun b j => if b = q then M.2.2.1 a j else M.2.2.1 b j, M.2.2.2)
def fitA (M : gM) (ty : FieldType) (a lo n : Nat) : Prop := ∀ i, i < n → fits ty (gv ty (mI M a (lo + i)) (mJ M a (lo + i)) none) = true
def aCp (M : gM) (a0 : Nat) (sp : Int32) (a : Nat) (dp n : Int32) (κ : gM → Prop) : Prop := ∃ w ty n0 n1, kd M a0 = some (w, .inr (ty, n0)) ∧ kd M a = some (true, .inr (ty, n1)) ∧ ty ∈ gPr ∧ (¬ sp < 0 ∧ ¬ dp < 0 ∧ ¬ n < 0) ∧ (sp.toNatClampNeg + n.toNatClampNeg ≤ n0 ∧ dp.toNatClampNeg + n.toNatClampNeg ≤ n1) ∧ fitA M ty a0 sp.toNatClampNeg n.toNatClampNeg ∧ κ (cpM M a0 sp.toNatClampNeg a dp.toNatClampNeg n.toNatClampNeg)
def nC (M : gM) (u v Lc Ls : Nat) (ty : FieldType) (a : Nat) (κ : Nat → Nat → gM → Prop) : Prop := ∃ n, kd M a = some (true, .inr (ty, n)) ∧ ty ∈ gPr ∧ fitA M ty a 0 n ∧ (u + 1 ≤ Lc ∧ v + n ≤ Ls) ∧ ∀ q, kd M q = none → κ n q (clM M a q ty n)
theorem gPr_gv {ty : FieldType} (h : ty ∈ gPr) (i : Int32) (j : Int64) (r r' : Option Nat) : gv ty i j r = gv ty i j r' := by
  simp only [gPr, List.mem_cons, List.not_mem_nil, or_false] at h
  rcases h with rfl | rfl | rfl | rfl | rfl <;> rfl
theorem gPr_tl {ty : FieldType} (h : ty ∈ gPr) : ty ∈ gTl ∧ refKind ty = false := by
  simp only [gPr, List.mem_cons, List.not_mem_nil, or_false] at h
  rcases h with rfl | rfl | rfl | rfl | rfl <;> exact ⟨by decide, rfl⟩
theorem gPr_tk {ty : FieldType} (h : ty ∈ gPr) (i : Int32) (j : Int64) (r : Option Nat) (U : State) (d : ClassId) : U.takes d (gv ty i j r) := by
  simp only [gPr, List.mem_cons, List.not_mem_nil, or_false] at h
  rcases h with rfl | rfl | rfl | rfl | rfl <;> exact trivial
theorem g_nn (z : Int32) (hz : ¬ z < 0) : z.toInt = (z.toNatClampNeg : Int) := by
  have hz0 : (0 : Int) ≤ z.toInt := by
    have := Int32.not_lt.mp hz
    simpa using Int32.le_iff_toInt_le.mp this
  show z.toInt = ((z.toInt.toNat : Nat) : Int)
  omega
section GNAT
variable {G : gG} {cc : ByteArray} {nL : Nat} {own : String} {ret : Option FieldType} {Qf : Option Value → gM → Prop} {rm : Room} {cells slots : Nat} {M : gM} {lv : List (Nat × Value)} {pc : Nat} {st : List Value}
theorem g_acmp_eq (n t : Nat) (hC : gCx G cc nL own ret Qf rm) {x y : Option Nat} {off : Int} (hdg : decode cc pc = .ok (.if_acmp .eq off, 3)) (ht : (pc : Int) + off = (t : Int)) (hn : pc + 3 = n) (kt : x = y → gAt G cells slots M lv t st) (kf : ¬ x = y → gAt G cells slots M lv n st) : gAt G cells slots M lv pc (va_rf y :: va_rf x :: st) := by
  obtain ⟨⟨s0, D, dA⟩, ⟨p, l, e, R⟩, ⟨s, m, args, below, meth, c⟩, nL', Q⟩ := G
  obtain ⟨⟨hx, hb, hml, hown, hts⟩, hret, hlk, hW0, hX0, hfl, ⟨b0, hS0⟩, rfl, rfl, hQ⟩ := hC
  subst hn
  intro H locs ls h1 h2 h3
  exact lv_acmp_eq hx hb hdg ht (fun q => kt q H locs ls h1 h2 h3) (fun q => kf q H locs ls h1 h2 h3)
theorem g_acmp_ne (n t : Nat) (hC : gCx G cc nL own ret Qf rm) {x y : Option Nat} {off : Int} (hdg : decode cc pc = .ok (.if_acmp .ne off, 3)) (ht : (pc : Int) + off = (t : Int)) (hn : pc + 3 = n) (kt : ¬ x = y → gAt G cells slots M lv t st) (kf : x = y → gAt G cells slots M lv n st) : gAt G cells slots M lv pc (va_rf y :: va_rf x :: st) := by
  obtain ⟨⟨s0, D, dA⟩, ⟨p, l, e, R⟩, ⟨s, m, args, below, meth, c⟩, nL', Q⟩ := G
  obtain ⟨⟨hx, hb, hml, hown, hts⟩, hret, hlk, hW0, hX0, hfl, ⟨b0, hS0⟩, rfl, rfl, hQ⟩ := hC
  subst hn
  intro H locs ls h1 h2 h3
  exact lv_acmp_ne hx hb hdg ht (fun q => kt q H locs ls h1 h2 h3) (fun q => kf q H locs ls h1 h2 h3)
theorem g_copy (n : Nat) (hC : gCx G cc nL own ret Qf rm) {index a0 a : Nat} {sp dp k : Int32} {κ : gM → Prop} (hlink : (Cond.methodLink own index arraycopyName) ∈ lw_all) (hF : aCp M a0 sp a dp k κ) (hfr : 1 ≤ rm.frames) (hlo : (st.map fun v => v.category).sum + (nativeFrameWords "java/lang/System" "arraycopy" 5 + 11) ≤ rm.locals) (hdg : decode cc pc = .ok (.invokestatic index, 3)) (hn : pc + 3 = n) (kk : ∀ M1, κ M1 → gAt G cells slots M1 lv n st) : gAt G cells slots M lv pc (.int k :: .int dp :: .ref a :: .int sp :: .ref a0 :: st) := by
  obtain ⟨⟨s0, D, dA⟩, ⟨p, l, e, R⟩, ⟨s, m, args, below, meth, c⟩, nL', Q⟩ := G
  obtain ⟨⟨hx, hb, hml, hown, hts⟩, hret, hlk, hW0, hX0, hfl, ⟨b0, hS0⟩, rfl, rfl, hQ⟩ := hC
  subst hn
  obtain ⟨w, ty, n0, n1, hk0, hk1, hty, ⟨p1, p2, p3⟩, ⟨p4, p5⟩, hfit, hF⟩ := hF
  intro H locs ls h1 h2 h3
  obtain ⟨cs, hcs, his, hun, hsz, hsl⟩ := g_cell hS0 hW0 (gPr_tl hty).1 (h1.1 a0) hk0
  have hcd := g_cellT (h1.1 a) hk1
  obtain ⟨his0, k0, hkk0, cm0, hkd0⟩ := his
  obtain ⟨-, k1, hkk1, cm1, hkd1⟩ := g_ar hS0 hW0 (gPr_tl hty).1 n1 (fun k => gv ty (mI M a k) (mJ M a k) (mR M a k))
  intro T hT X
  obtain ⟨vm', X', step⟩ := X.arraycopy hx hown (hts _ hlink) (hts _ q387) (hts _ q386) (hts _ q83) (src := a0) (dst := a) (cs := cs) (cd := arrV (dA ty) n1 (fun k => gv ty (mI M a k) (mJ M a k) (mR M a k))) (srcPos := sp) (destPos := dp) (n := k) (by rw [hT]; exact hcs) (by rw [hT]; exact hcd)
    his0 (fun _ h => by cases h) hun (fun h => by cases h) hkk0 hkk1 hkd0 hkd1 (by simp [(gPr_tl hty).2]) p1 p2 p3
    (by rw [g_nn sp p1, g_nn k p3]; have := hsz.1; omega)
    (by rw [g_nn dp p2, g_nn k p3, arrV_size]; omega)
    (fun vm₁ _ i hi => by
      have e : cs.slots.getD (sp.toNatClampNeg + i) .null = gv ty (mI M a0 (sp.toNatClampNeg + i)) (mJ M a0 (sp.toNatClampNeg + i)) (mR M a0 (sp.toNatClampNeg + i)) := by
        rw [Array.getD_eq_getD_getElem?, hsl _ (by omega)]
        rfl
      rw [e]
      refine ⟨?_, gPr_tk hty _ _ _ _ _⟩
      rw [gPr_gv hty _ _ _ none]
      exact hfit i hi)
    (g := F0 m pc ls (.int k :: .int dp :: .ref a :: .int sp :: .ref a0 :: st)) rfl (by rw [hml]; exact h3.1) (rest := st) rfl (by rw [hb]; exact hdg) hfr (by show 2 * 0 + _ + _ ≤ _; omega)
  have e1 : copied cs (arrV (dA ty) n1 (fun k => gv ty (mI M a k) (mJ M a k) (mR M a k))) sp dp k = arrV (dA ty) n1 (va_cpy (fun k => gv ty (mI M a0 k) (mJ M a0 k) (mR M a0 k)) (fun k => gv ty (mI M a k) (mJ M a k) (mR M a k)) sp.toNatClampNeg dp.toNatClampNeg k.toNatClampNeg) := va_copiedX (fun z => z) cs (dA ty) _ _ hsl p4
  rw [e1] at X' step
  have hl : a < H.size := (Array.getElem?_eq_some_iff.mp hcd).1
  generalize hv : va_cpy (fun k => gv ty (mI M a0 k) (mJ M a0 k) (mR M a0 k)) (fun k => gv ty (mI M a k) (mJ M a k) (mR M a k)) sp.toNatClampNeg dp.toNatClampNeg k.toNatClampNeg = fv at X' step
  have hheap : ((T.setVm vm').setCell a (arrV (dA ty) n1 fv)).heap = H.setIfInBounds a (arrV (dA ty) n1 fv) := by rw [← hT]; rfl
  have oq : ∀ q : Nat, q ≠ a → (H.setIfInBounds a (arrV (dA ty) n1 fv))[q]? = H[q]? := fun q hq => by simp [Array.getElem?_setIfInBounds, Ne.symm hq]
  have hown9 := h1.aw hk1
  obtain ⟨t, a1, b1⟩ := kk _ hF _ _ ls (gC.put (M1 := cpM M a0 sp.toNatClampNeg a dp.toNatClampNeg k.toNatClampNeg) a h1 rfl (fun b j hb => if_neg (fun z => hb z.1)) (fun b j hb => if_neg (fun z => hb z.1)) (fun _ _ _ => rfl) rfl oq (by
      unfold gat
      have : (cpM M a0 sp.toNatClampNeg a dp.toNatClampNeg k.toNatClampNeg).1 a = some (true, .inr (ty, n1)) := hk1
      rw [this]
      show (H.setIfInBounds a _)[a]? = some (arrV _ n1 _)
      rw [Array.getElem?_setIfInBounds_self_of_lt hl, ← hv]
      congr 2
      funext j
      show (if _ then _ else _) = gv ty (if _ then _ else _) (if _ then _ else _) _
      by_cases hj : dp.toNatClampNeg ≤ j ∧ j < dp.toNatClampNeg + k.toNatClampNeg
      · rw [if_pos hj, if_pos ⟨rfl, hj⟩, if_pos ⟨rfl, hj⟩]
        exact gPr_gv hty _ _ _ _
      · rw [if_neg hj, if_neg (fun z => hj z.2), if_neg (fun z => hj z.2)]
        rfl)) (⟨by simp; exact h2.1, fun q g1 g2 => by
      rw [oq q (fun e => g2 (by rw [e]; exact hown9))]
      exact h2.2.1 q g1 g2, fun q hq => by
      rcases List.mem_append.mp hq with h | h
      · exact h2.2.2 q h
      · obtain ⟨z, -, hz⟩ := List.mem_map.mp h
        rw [← hz]
        exact hown9⟩) h3 _ hheap X'
  exact ⟨t, step t a1, b1⟩
theorem g_clone (n : Nat) (hC : gCx G cc nL own ret Qf rm) {index a : Nat} {ty : FieldType} {ad : String} {κ : Nat → Nat → gM → Prop} (had : ("[" ++ ty.toString) = ad) (hlink : (Cond.methodLink own index ⟨ad, "clone", "()Ljava/lang/Object;"⟩) ∈ lw_all) (hsame : (Cond.sameMethod ad "java/lang/Object" "clone" "()Ljava/lang/Object;") ∈ lw_all) (hsel : (Cond.selects ad ⟨ad, "clone", "()Ljava/lang/Object;"⟩ ⟨"java/lang/Object", "clone", "()Ljava/lang/Object;"⟩) ∈ lw_all) (hcl : (Cond.castable ad "java/lang/Cloneable") ∈ lw_tbl) (hF : nC M cells slots rm.cells rm.slots ty a κ) (hfr : 1 ≤ rm.frames) (hlo : (st.map fun v => v.category).sum + 14 ≤ rm.locals) (hdg : decode cc pc = .ok (.invokevirtual index, 3)) (hn : pc + 3 = n) (kk : ∀ N q M1, (cells + 1 ≤ rm.cells ∧ slots + N ≤ rm.slots) → κ N q M1 → gAt G (cells + 1) (slots + N) M1 lv n (.ref q :: st)) : gAt G cells slots M lv pc (.ref a :: st) := by
  obtain ⟨⟨s0, D, dA⟩, ⟨p, l, e, R⟩, ⟨s, m, args, below, meth, c⟩, nL', Q⟩ := G
  obtain ⟨⟨hx, hb, hml, hown, hts⟩, hret, hlk, hW0, hX0, hfl, ⟨b0, hS0⟩, rfl, rfl, hQ⟩ := hC
  subst hn
  obtain ⟨N, hk, hty, hfit, ⟨u1, u2⟩, hF⟩ := hF
  intro H locs ls h1 h2 h3
  have hc := g_cellT (h1.1 a) hk
  have hr := g_kcls hS0 hW0 (h1.1 a) hk (show kOk (.inr (ty, N)) by
    simp only [gPr, List.mem_cons, List.not_mem_nil, or_false] at hty
    exact hty)
  have hnm : s.vm.findClass ad = some (dA ty) := by
    obtain ⟨cell, g1, g2, g3⟩ := hr
    cases hc.symm.trans g1
    rw [← had]
    exact g3
  obtain ⟨c0, t0', f1, f2, f3⟩ := Cond.castable_spec (va_Nw.use (A := args) rfl (va_Nw.warmC hW0 (va_Nw.of rfl (hS0.2.1 _ hcl))))
  cases hnm.symm.trans f1
  intro T hT X
  obtain ⟨-, kA, hkA, comp, hkind⟩ := State.isArrayOf_alike X.warmed.alike (g_ar hS0 hW0 (gPr_tl hty).1 0 (fun _ => .null))
  obtain ⟨-, kS, hkS, compS, hkindS⟩ := g_ar hS0 hW0 (gPr_tl hty).1 0 (fun _ => .null)
  obtain ⟨vm', X', step⟩ := X.cloneArray hx hown (hts _ hlink) (hts _ hsame) (hts _ q479) (hts _ q480) (hts _ hsel) (a := a) (cell := arrV (dA ty) N (fun k => gv ty (mI M a k) (mJ M a k) (mR M a k))) (by rw [hT]; exact hc) (fun k h => by cases h) (fun h => by cases h) hnm f2 f3
    (fun i v hv => by
      have hk' : T.vm.classes[dA ty]? = some kA := hkA
      have := va_fit (ty := ty) (fun i hi => by have := hfit i hi; rw [Nat.zero_add] at this; rw [gPr_gv hty _ _ _ none]; exact this) i v hv
      show T.fitsSlot (dA ty) .none i v = true
      simpa [State.fitsSlot, State.slotType?, hk', hkind] using this)
    (g := F0 m pc ls (.ref a :: st)) rfl (by rw [hml]; exact h3.1) rfl (by rw [hb]; exact hdg) hfr (by show 2 * 0 + _ + 14 ≤ _; omega) u1 (by rw [arrV_size]; exact u2) (hloader := Vm.clonesLoader_of_array hkS hkindS)
  have hcellE : ({ cls := (arrV (dA ty) N (fun k => gv ty (mI M a k) (mJ M a k) (mR M a k))).cls, slots := (arrV (dA ty) N (fun k => gv ty (mI M a k) (mJ M a k) (mR M a k))).slots } : Cell) = arrV (dA ty) N (fun k => gv ty (mI M a k) (mJ M a k) (mR M a k)) := rfl
  rw [hcellE, arrV_size] at X'
  rw [hcellE] at step
  generalize hH1 : H.push (arrV (dA ty) N (fun k => gv ty (mI M a k) (mJ M a k) (mR M a k))) = H1
  have z1 : H1.size = H.size + 1 := by rw [← hH1, Array.size_push]
  have e1 : H1[H.size]? = some (arrV (dA ty) N (fun k => gv ty (mI M a k) (mJ M a k) (mR M a k))) := by rw [← hH1, Array.getElem?_push_size]
  have o1 : ∀ q : Nat, q < H.size → H1[q]? = H[q]? := fun q hq => by rw [← hH1, Array.getElem?_push, if_neg (Nat.ne_of_lt hq)]
  have hal : a < H.size := (Array.getElem?_eq_some_iff.mp hc).1
  have hn9 : M.1 H.size = none := by
    cases e : M.1 H.size with
    | none => rfl
    | some x => exact absurd ((h1.1 H.size).lt (by rw [e]; exact fun z => by cases z)) (Nat.lt_irrefl _)
  have hg : gC s0 D dA (clM M a H.size ty N) H1 := by
    refine ⟨fun b => ?_, fun b t' hb => ?_, h1.2.2⟩
    · by_cases e : b = H.size
      · rw [e]
        unfold gat
        have : (clM M a H.size ty N).1 H.size = some (true, .inr (ty, N)) := if_pos rfl
        rw [this]
        show H1[H.size]? = some (arrV _ N _)
        rw [e1]
        congr 2
        funext j
        show _ = gv ty (if H.size = H.size then _ else _) (if H.size = H.size then _ else _) _
        rw [if_pos rfl, if_pos rfl]
        exact gPr_gv hty _ _ _ _
      · have e0 : (clM M a H.size ty N).1 b = M.1 b := if_neg e
        cases eb : M.1 b with
        | none =>
          unfold gat
          rw [e0, eb]
          trivial
        | some x =>
          have hlt := (h1.1 b).lt (by rw [eb]; exact fun z => by cases z)
          exact ((h1.1 b).kept (o1 b hlt)).congr e0 (fun k => if_neg e) (fun k => if_neg e) (fun k => rfl)
    · by_cases e : b = H.size
      · rw [e]; exact (hX0.of h2).1
      · refine h1.2.1 b t' ?_
        have : (clM M a H.size ty N).1 b = M.1 b := if_neg e
        rw [← this]
        exact hb
  obtain ⟨t, b1, b2⟩ := kk N H.size _ ⟨u1, u2⟩ (hF H.size hn9) H1 locs ls hg ⟨Nat.le_trans h2.1 (by omega), fun y h4 h5 => (o1 y (Nat.lt_of_lt_of_le h4 h2.1)).trans (h2.2.1 y h4 h5), h2.2.2⟩ h3
    ((T.setVm vm').pushCell (arrV (dA ty) N (fun k => gv ty (mI M a k) (mJ M a k) (mR M a k)))) (by rw [← hH1, ← hT]; rfl) X'
  refine ⟨t, step t ?_, b2⟩
  rw [hT]
  exact b1
theorem g_prv {s0 s : State} {y : MethodName} {A : Array Value} (hW : s0.WarmedH s.vm) (h : (Cond.privateMethod y).before A s0 = true) : s.PrivateAt y := by
  have h0 := Cond.privateMethod_at h
  intro mk meth hn hm
  have e : (s0.setVm s.vm).methodNamed? y = s0.methodNamed? y := State.methodNamed?_setVm hW.alike y
  exact h0 mk meth (by rw [← e]; exact hn) (by rw [← hW.alike.method?]; exact hm)
theorem g_selP {s : State} {args : Array Value} {C : String} {y : MethodName} {c : ClassId} (hc : s.vm.findClass C = some c) (hsame : (Cond.sameMethod y.cls y.cls y.name y.desc).before args s = true) (hpriv : s.PrivateAt y) (hinst : (Cond.instanceMethod y).before args s = true) : (Cond.selects C y y).before args s = true := by
  obtain ⟨mk, methM, hnamed, hmethM, -, -⟩ := Cond.instanceMethod_spec hinst
  obtain ⟨c1, ck, r, g1, g2, g3, g4, g5⟩ := Cond.sameMethod_found hsame
  have e5 : r = mk := Option.some.inj (g5.symm.trans hnamed)
  subst e5
  have hcls : r.cls = c1 := Option.some.inj ((findClass_of_methodNamed hnamed).symm.trans g1)
  have hsel : selectMethod {} s.vm c r = .method r := selectMethod_private hmethM (hpriv r methM hnamed hmethM)
  simp only [Cond.before, Cond.holds, Cond.value, hc, g4, hnamed, hsel, hcls, g2]
  simp
  exact g3
/-- a private method of the superclass, called by its own class on an object of C -/
theorem g_cP {y : MethodName} {bytes : ByteArray} {maxL : Nat} {ret' : Option FieldType} {index : Nat} {na : Nat} {rm' : Room} {As rest st0 : List Value} {Qf' : Option Value → gM → Prop} {C : String} {T : u_T} {N ci a : Nat} (hl : (Cond.methodLink own index y) ∈ lw_all) (hsm : (Cond.sameMethod y.cls y.cls y.name y.desc) ∈ lw_all) (hpv : (Cond.privateMethod y) ∈ lw_tbl) (hin : (Cond.instanceMethod y) ∈ lw_all) (hcd : (Cond.code y bytes maxL ret') ∈ lw_all) (hini : (Cond.initialized y.cls) ∈ lw_all) (hd : y.cls ≠ "java/lang/invoke/MethodHandle" ∧ y.cls ≠ "java/lang/invoke/VarHandle" ∧ (parseMethodDescriptor y.desc).map (fun d => d.parameters.length) = some na) (hc : gCl[ci]? = some (C, T, N)) (n : Nat) (hC : gCx G cc nL own ret Qf rm) (hrc : rc M ci a) (hM : gMt y (ws_ y bytes maxL ret') rm' M (.ref a :: As) Qf') (hna : As.length = na) (hR : rm'.frames + 1 ≤ rm.frames ∧ 8 + (maxL + 11) + rm'.locals ≤ rm.locals) (hf : cells + rm'.cells ≤ rm.cells ∧ slots + rm'.slots ≤ rm.slots) (hst : st0 = As.reverse ++ .ref a :: rest) (hroom : (rest.map fun v => v.category).sum ≤ 8) (hdg : decode cc pc = .ok (.invokevirtual index, 3)) (hn : pc + 3 = n) (kk : ∀ v M1, Qf' v M1 → gAt G (cells + rm'.cells) (slots + rm'.slots) M1 lv n (v.toList ++ rest)) : gAt G cells slots M lv pc st0 := by
  obtain ⟨⟨s0, D, dA⟩, ⟨p, l, e, R⟩, ⟨s, m, args, below, meth, c⟩, nL', Q⟩ := G
  obtain ⟨⟨hx, hb, hml, hown, hts⟩, hret, hlk, hW0, hX0, hfl, ⟨b0, hS0⟩, rfl, rfl, hQ⟩ := hC
  obtain ⟨w, hkd⟩ := hrc
  intro H locs ls h1 h2 h3
  obtain ⟨r, hr1, cell, q1, q2, q3, q4⟩ := g_obj (h1.1 a) hkd
  have hr : r = (C, T, N) := Option.some.inj (hr1.symm.trans hc)
  subst hr
  obtain ⟨hS, hfc, -⟩ := (g_kT hS0 hW0).1 ci _ hc
  have hG : GoodIn lw_all (ws_ y bytes maxL ret') := lw_meth hcd
  have hcu : va_CU R s args own C y.cls index y y bytes maxL ret' (ws_ y bytes maxL ret') rm' rm'.cells rm'.slots na := ⟨⟨rfl, rfl, hR.1, hR.2, pay_in hts hG, List.mem_cons_self⟩, hts _ hcd, hts _ hini, ⟨hd.1, hd.2.1⟩, fun sig h => by
    have h9 := hd.2.2
    rw [h] at h9
    exact (Option.some.inj h9).symm, hts _ hl, hts _ hsm, va_Decl.of (hts _ hin) (hts _ hcd), g_selP hfc (hts _ hsm) (g_prv hW0 (hS0.2.1 _ hpv)) (hts _ hin), hts _ hin⟩
  exact g_after (va_runU (As := As) (rest := rest) ⟨hx, hb, hml, hown, hts⟩ (hM l s0 b0 D dA hfl hS0) hcu ⟨gU.blind, ⟨cell, q1, q3.2, by rw [q2]; exact hfc⟩, fun U hU hW => ⟨rfl, State.WarmedH.trans hW0 hW, by rw [hU]; exact hX0.of h2, by rw [hU]; exact h1⟩⟩ rfl hna h3.1 hst (lv_room hroom) hdg hf) hn h2 h3 kk
theorem g_copyW (n : Nat) (hC : gCx G cc nL own ret Qf rm) {index a0 a : Nat} {sp dp k : Int32} {κ : gM → Prop} (hlink : (Cond.methodLink own index arraycopyName) ∈ lw_all) (hF : aCp M a0 sp a dp k κ) (hfr : 1 ≤ rm.frames) (hlo : (st.map fun v => v.category).sum + 60 ≤ rm.locals) (hdg : decode cc pc = .ok (.invokestatic index, 3)) (hn : pc + 3 = n) (kk : ∀ M1, κ M1 → gAt G cells slots M1 lv n st) : gAt G cells slots M lv pc (.int k :: .int dp :: .ref a :: .int sp :: .ref a0 :: st) := by
  have h9 : nativeFrameWords "java/lang/System" "arraycopy" 5 + 11 ≤ 60 := by decide +kernel
  exact g_copy n hC hlink hF hfr (by omega) hdg hn kk
end GNAT
