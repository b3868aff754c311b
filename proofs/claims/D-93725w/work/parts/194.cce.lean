/-! a checkcast that fails -/
set_option maxRecDepth 100000
theorem g_ccN {p : Program} {l : Launch} {e : Env} {R : Room} {s : State} {m : MethodId} {args : Array Value} {below : List Frame} {meth : Method} {c : Code} {T : State} {locs : List Loc} {cells slots : Nat} (X : Stand p l e R s m args below meth c T locs cells slots) (hexec : p.tables.exec = Jvm.exec)
    {own name : String} {index : Nat} (hown : s.vm.findClass own = some m.cls) (hlink : (Cond.classLink own index name).before args s = true)
    {a : Addr} {cell : Cell} {cT : ClassId} {ks : Class} (hcell : T.heap[a]? = some cell) (hobj : cell.vm.isStatics = false) (hks : s.vm.classes[cell.cls]? = some ks) (hcT : s.vm.findClass name = some cT) (hasg : s.vm.assignable cell.cls cT = false)
    {g : JFrame} (hg : g.method = m) {rest : List Value} (hstack : g.stack = .ref a :: rest) (hdg : decode c.code g.pc = .ok (.checkcast index, 3)) :
    ∃ vm' ks' kt', Stand p l e R s m args below meth c (T.setVm vm') locs cells slots ∧ vm'.classes[cell.cls]? = some ks' ∧ vm'.classes[cT]? = some kt' ∧ s.WarmedH vm' ∧
      ∀ target, Steps p.tables e below (((T.setVm vm').setTop g).pushFrame (.throwNew "java/lang/ClassCastException" (some (checkcast.message vm' ks' kt')) none)) target → Steps p.tables e below (T.setTop g) target := by
  have hpl : e.platform.magicAccessors = ({} : Platform).magicAccessors := by rw [X.admits.platform]
  obtain ⟨c', hc', hcl⟩ := Cond.classLink_spec hown hlink e.platform hpl
  cases hcT.symm.trans hc'
  obtain ⟨dk, _, _, kt, hd, _, _, _, _, hkt, _, hopen⟩ := hcl.here
  have hcl₀ := X.warmed.classLinks hcl
  have hW' : s.WarmedH (T.vm.noted m.cls index (.cls cT)) := X.warmed.noted hd hopen (State.rightAt_cls hcl)
  obtain ⟨ks', hks', -⟩ := hW'.alike.2.2 _ _ hks
  obtain ⟨kt', hkt', -⟩ := hW'.alike.2.2 _ _ hkt
  refine ⟨_, ks', kt', X.noted hW', hks', hkt', hW', fun target hrest => ?_⟩
  subst hg
  jvm_step X.here [hexec, hdg, checkcast.wp_cold (e := e) (s := T) (f := g) X.here.top hstack (resolveClass_links e.toSetting hcl₀) hcl₀.ready,
    checkcast.wp_ready (e := e) (s := T.setVm (T.vm.noted g.method.cls index (.cls cT))) (f := g) X.here.top hcl₀.ready hstack]
  refine ⟨cell, hcell, VmData.noStatics_of hobj, ks', hks', kt', hkt', ?_⟩
  rw [if_neg (by rw [hW'.alike.assignable, hasg]; exact Bool.false_ne_true)]
  exact hrest
def ccH : List String := ["module java.base of loader 'bootstrap'", "unnamed module of loader 'bootstrap'"]
def ccT (a b : String) : List String := (ccH.map fun h => (toString "class " ++ toString a ++ toString " cannot be cast to class " ++ toString b ++ toString " (" ++ toString (toString a ++ toString " and " ++ toString b ++ toString " are in " ++ toString h) ++ toString ")" : String)) ++ ccH.flatMap fun h => ccH.map fun g => (toString "class " ++ toString a ++ toString " cannot be cast to class " ++ toString b ++ toString " (" ++ toString (toString a ++ toString " is in " ++ toString h ++ toString "; " ++ toString b ++ toString " is in " ++ toString g) ++ toString ")" : String)
def ccOk (t : String) : Prop := (t == notModelled) = false ∧ (stringBytes (stringToUtf16 t)).size ≤ 1000
theorem ccOk_of {t : String} (r : List Char) (h1 : t.toList = 'c' :: r) (h2 : t.toList.length ≤ 250) : ccOk t := by
  refine ⟨?_, ?_⟩
  · rw [beq_eq_false_iff_ne]
    intro h
    have h3 := congrArg String.toList h
    rw [h1] at h3
    have h4 : notModelled.toList.head? = some 'c' := by rw [← h3]; rfl
    exact absurd h4 (by decide +kernel)
  · have b1 := stringBytes_size_le (stringToUtf16 t)
    have b2 := utf16_size_le t
    omega
theorem ccH_len : ∀ h ∈ ccH, h.toList.length ≤ 40 := by decide +kernel
theorem ccN_len : ∀ q ∈ gNP, (dotted q.1).toList.length ≤ 20 ∧ (dotted q.2).toList.length ≤ 20 := by decide +kernel
theorem ccL : "class ".toList.length = 6 ∧ " cannot be cast to class ".toList.length = 25 ∧ " (".toList.length = 2 ∧ " and ".toList.length = 5 ∧ " are in ".toList.length = 8 ∧ ")".toList.length = 1 ∧ " is in ".toList.length = 7 ∧ "; ".toList.length = 2 := by decide +kernel
theorem ccAll {q : String × String} (hq : q ∈ gNP) : ∀ t ∈ ccT (dotted q.1) (dotted q.2), ccOk t := by
  obtain ⟨n1, n2⟩ := ccN_len q hq
  obtain ⟨e1, e2, e3, e4, e5, e6, e7, e8⟩ := ccL
  generalize dotted q.1 = a at n1
  generalize dotted q.2 = b at n2
  intro t ht
  rcases List.mem_append.mp ht with h | h
  · obtain ⟨x, hx, rfl⟩ := List.mem_map.mp h
    have hl := ccH_len x hx
    refine ccOk_of _ (show ("class " ++ a ++ " cannot be cast to class " ++ b ++ " (" ++ (a ++ " and " ++ b ++ " are in " ++ x) ++ ")").toList = 'c' :: ("lass ".toList ++ a.toList ++ " cannot be cast to class ".toList ++ b.toList ++ " (".toList ++ (a ++ " and " ++ b ++ " are in " ++ x).toList ++ ")".toList) from by simp only [String.toList_append]; rfl) ?_
    show ("class " ++ a ++ " cannot be cast to class " ++ b ++ " (" ++ (a ++ " and " ++ b ++ " are in " ++ x) ++ ")").toList.length ≤ 250
    simp only [String.toList_append, List.length_append]
    omega
  · obtain ⟨x, hx, h⟩ := List.mem_flatMap.mp h
    obtain ⟨y, hy, rfl⟩ := List.mem_map.mp h
    have hl := ccH_len x hx
    have hl2 := ccH_len y hy
    refine ccOk_of _ (show ("class " ++ a ++ " cannot be cast to class " ++ b ++ " (" ++ (a ++ " is in " ++ x ++ "; " ++ b ++ " is in " ++ y) ++ ")").toList = 'c' :: ("lass ".toList ++ a.toList ++ " cannot be cast to class ".toList ++ b.toList ++ " (".toList ++ (a ++ " is in " ++ x ++ "; " ++ b ++ " is in " ++ y).toList ++ ")".toList) from by simp only [String.toList_append]; rfl) ?_
    show ("class " ++ a ++ " cannot be cast to class " ++ b ++ " (" ++ (a ++ " is in " ++ x ++ "; " ++ b ++ " is in " ++ y) ++ ")").toList.length ≤ 250
    simp only [String.toList_append, List.length_append]
    omega
theorem g_fcN {vm : Vm} {name : String} {c : ClassId} (h : vm.findClass name = some c) : ∃ k, vm.classes[c]? = some k ∧ k.name = name ∧ k.hidden = none ∧ k.loader = none := by
  obtain ⟨hlt, hp, -⟩ := Array.findIdx?_eq_some_iff_getElem.mp h
  refine ⟨vm.classes[c], by simp [hlt], ?_⟩
  simp only [Bool.and_eq_true, beq_iff_eq, Option.isNone_iff_eq_none] at hp
  exact ⟨hp.1.1.1, hp.1.1.2, hp.2⟩
theorem g_home {s0 : State} {vm : Vm} {k : Class} (hm : modulesRight_1 s0 = true) (hv : vm.modules = s0.vm.modules) (hl : k.loader = none) (hp : k.ofPrimitives = true ∨ castPackages_1.contains (packageOf k.name) = true) : vm.home k ∈ ccH := by
  have hmod : ∀ x, vm.moduleOf k = some x → x.name = "java.base" := by
    intro x hx
    unfold Vm.moduleOf at hx
    by_cases h : k.ofPrimitives = true
    · rw [if_pos h] at hx
      have := List.find?_some hx
      simpa using this
    · rw [if_neg h] at hx
      have h1 := List.find?_some hx
      have h2 := List.mem_of_find?_eq_some hx
      rw [hv] at h2
      have hp := hp.resolve_left h
      unfold modulesRight_1 at hm
      have h3 := List.all_eq_true.mp hm x h2
      simp only [Bool.and_eq_true, beq_iff_eq] at h1
      rw [hl] at h1
      simp only [h1.1, Option.isSome_none, Bool.false_or, Bool.or_eq_true, beq_iff_eq, Bool.not_eq_true'] at h3
      rcases h3 with h3 | h3
      · exact h3
      · exfalso
        have : (castPackages_1.any fun p => x.packages.contains p) = true := List.any_eq_true.mpr ⟨packageOf k.name, by simpa using hp, h1.2⟩
        rw [h3] at this
        cases this
  unfold Vm.home
  rw [hl]
  show _ ++ _ ++ "'bootstrap'" ∈ ccH
  cases e : vm.moduleOf k with
  | none => decide +kernel
  | some x =>
    show "module " ++ x.name ++ " of loader " ++ "'bootstrap'" ∈ ccH
    rw [hmod x e]; decide +kernel
theorem g_ccText {s0 : State} {vm : Vm} {ks kt : Class} {q : String × String} (hq : q ∈ gNP) (hm : modulesRight_1 s0 = true) (hv : vm.modules = s0.vm.modules) (h1 : ks.name = q.1) (h2 : ks.hidden = none) (h3 : ks.loader = none) (h4 : kt.name = q.2) (h5 : kt.hidden = none) (h6 : kt.loader = none) (hp1 : ks.ofPrimitives = true ∨ castPackages_1.contains (packageOf ks.name) = true) (hp2 : kt.ofPrimitives = true ∨ castPackages_1.contains (packageOf kt.name) = true) : ccOk (checkcast.message vm ks kt) := by
  have h8 := ccAll hq
  have e1 : ks.shown = dotted q.1 := by unfold Class.shown; rw [h2, h1]
  have e2 : kt.shown = dotted q.2 := by unfold Class.shown; rw [h5, h4]
  refine h8 _ ?_
  unfold checkcast.message Vm.homes
  rw [e1, e2]
  have m1 := g_home hm hv h3 hp1
  have m2 := g_home hm hv h6 hp2
  unfold ccT
  by_cases h : vm.sameModule ks kt = true
  · rw [if_pos h]
    exact List.mem_append_left _ (List.mem_map.mpr ⟨_, m1, rfl⟩)
  · rw [if_neg h]
    exact List.mem_append_right _ (List.mem_flatMap.mpr ⟨_, m1, List.mem_map.mpr ⟨_, m2, rfl⟩⟩)
def cX (M : gM) (u v Lc Ls : Nat) (r : Option Nat) (nm : String) (κ : Unit → Prop) (κx : Nat → Prop) : Prop := (r = none → κ ()) ∧ ∀ b, r = some b → ∃ t, kd M b = some (true, t) ∧ kOk t ∧ (((kN t, nm) ∈ gYP ∧ κ ()) ∨ ((kN t, nm) ∈ gNP ∧ (u + 3 ≤ Lc ∧ v + 1010 ≤ Ls) ∧ ∀ q, κx q))
theorem gNP_pk : ∀ q ∈ gNP, (castPackages_1.contains (packageOf q.1) = true ∨ q.1 ∈ ["[B", "[S", "[I", "[J", "[Z"]) ∧ (castPackages_1.contains (packageOf q.2) = true ∨ q.2 ∈ ["[B", "[S", "[I", "[J", "[Z"]) := by decide +kernel
section GCCE
variable {G : gG} {cc : ByteArray} {nL : Nat} {own : String} {ret : Option FieldType} {Qf : Option Value → gM → Prop} {rm : Room} {cells slots : Nat} {M : gM} {lv : List (Nat × Value)} {pc : Nat} {st : List Value}
theorem g_prim {k : Class} (h : k.name ∈ ["[B", "[S", "[I", "[J", "[Z"]) : k.ofPrimitives = true ∨ castPackages_1.contains (packageOf k.name) = true := by
  right
  generalize k.name = n at h
  simp only [List.mem_cons, List.not_mem_nil, or_false] at h
  rcases h with rfl | rfl | rfl | rfl | rfl <;> decide +kernel
theorem g_castX (n : Nat) (hC : gCx G cc nL own ret Qf rm) {nm : String} {index : Nat} {r : Option Nat} (hl : (Cond.classLink own index nm) ∈ lw_all) {κ : Unit → Prop} {κx : Nat → Prop} (hF : cX M cells slots rm.cells rm.slots r nm κ κx) (hfr : 7 < rm.frames) (hlo : ((va_rf r :: st).map fun v => v.category).sum + 10240 ≤ rm.locals) (hdg : decode cc pc = .ok (.checkcast index, 3)) (hn : pc + 3 = n) (k : κ () → gAt G cells slots M lv n (va_rf r :: st)) (kx : ∀ q, (cells + 3 ≤ rm.cells ∧ slots + 1010 ≤ rm.slots) → κx q → gTh G (cells + 3) (slots + 1010) M lv pc "java/lang/ClassCastException" q) : gAt G cells slots M lv pc (va_rf r :: st) := by
  cases r with
  | none => exact g_castq (r := none) n hC hl (κ := κ) ⟨fun b h => (by cases h), hF.1 rfl⟩ hdg hn k
  | some a =>
    obtain ⟨t, hk, ho, hF2⟩ := hF.2 a rfl
    clear hF
    rcases hF2 with ⟨hy, hF⟩ | ⟨hy, hu, hF⟩
    · exact g_castq (r := some a) n hC hl (κ := κ) ⟨fun b h => (by cases h; exact ⟨t, hk, ho, hy⟩), hF⟩ hdg hn k
    · obtain ⟨⟨s0, D, dA⟩, ⟨p, l, e, R⟩, ⟨s, m, args, below, meth, c⟩, nL', Q⟩ := G
      obtain ⟨⟨hx, hb, hml, hown, hts⟩, hret, hlk, hW0, hX0, hfl, ⟨b0, hS0⟩, rfl, rfl, hQ⟩ := hC
      intro H locs ls h1 h2 h3
      obtain ⟨cell, q1, q2, q3⟩ := g_kcls hS0 hW0 (h1.1 a) hk ho
      obtain ⟨c0, t0, f1, f2, f3⟩ := g_nc (s := s) hS0 hW0 (gNP_ok _ hy)
      have e0 : c0 = cell.cls := Option.some.inj (f1.symm.trans q3)
      subst e0
      obtain ⟨ks, hks, -⟩ := Vm.findClass_spec q3
      intro T hT X
      obtain ⟨vm', ks', kt', X', g1, g2, g3, step⟩ := g_ccN X hx hown (hts _ hl) (by rw [hT]; exact q1) q2 hks f2 f3 (g := F0 m pc ls (.ref a :: st)) rfl rfl (by rw [hb]; exact hdg)
      have hfk : vm'.findClass (kN t) = some cell.cls := by rw [g3.alike.findClass]; exact q3
      have hft : vm'.findClass nm = some t0 := by rw [g3.alike.findClass]; exact f2
      obtain ⟨k1, j1, j2, j3, j4⟩ := g_fcN hfk
      obtain ⟨k2, i1, i2, i3, i4⟩ := g_fcN hft
      cases j1.symm.trans g1
      cases i1.symm.trans g2
      have hv : vm'.modules = s0.vm.modules := by
        have a1 : vm'.modules = s.vm.modules := by rw [g3.alike.1]
        have a2 : s.vm.modules = s0.vm.modules := by rw [hW0.alike.1]
        exact a1.trans a2
      have hpk := gNP_pk _ hy
      have hok := g_ccText hy hS0.2.2.2 hv j2 j3 j4 i2 i3 i4 (by
        rcases hpk.1 with h | h
        · right; rw [j2]; exact h
        · exact g_prim (by rw [j2]; exact h)) (by
        rcases hpk.2 with h | h
        · right; rw [i2]; exact h
        · exact g_prim (by rw [i2]; exact h))
      have hN := g_vm (cells := cells) (slots := slots) (M := M) (lv := lv) (pc := pc) (Q := Q) (H := H) (locs := locs) (ls := ls) (rest := .ref a :: st) hx hml hts hlk hW0 hX0 hfl hS0 vm_cce (nb := 1000) hok.1 hok.2 (Nat.le_of_ble_eq_true rfl) (by have : (["java/lang/RuntimeException", "java/lang/Exception"] : List String).length = 2 := rfl; omega) hlo (Nat.le_of_ble_eq_true rfl) hu.1 hu.2 h1 h2 h3 (fun q => kx q hu (hF q))
      obtain ⟨t9, a9, b9⟩ := hN (T.setVm vm') hT X'
      exact ⟨t9, step t9 a9, b9⟩
end GCCE
