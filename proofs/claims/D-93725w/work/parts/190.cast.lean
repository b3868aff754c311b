/-! instanceof and checkcast over kinds -/
set_option maxRecDepth 100000
def gYP : List (String × String) := [("SendTheBox$Full", "SendTheBox$Rule"), ("SendTheBox$Full", "SendTheBox$Full"), ("SendTheBox$Daily", "SendTheBox$Rule"), ("SendTheBox$Daily", "SendTheBox$Daily"), ("SendTheBox$Both", "SendTheBox$Rule"), ("SendTheBox$Both", "SendTheBox$Full"), ("SendTheBox$Both", "SendTheBox$Both"), ("SendTheBox$Best", "SendTheBox$Rule"), ("SendTheBox$Best", "SendTheBox$Best"), ("SendTheBox$Told", "SendTheBox$Rule"), ("SendTheBox$Told", "SendTheBox$Told"), ("[B", "[B"), ("[S", "[S"), ("[I", "[I"), ("[J", "[J"), ("[Z", "[Z"), ("java/lang/String", "java/lang/String"), ("java/lang/StringBuilder", "java/lang/StringBuilder")]
def gNP : List (String × String) := [("SendTheBox$Full", "SendTheBox$Daily"), ("SendTheBox$Full", "SendTheBox$Both"), ("SendTheBox$Full", "SendTheBox$Best"), ("SendTheBox$Full", "SendTheBox$Told"), ("SendTheBox$Full", "[B"), ("SendTheBox$Full", "[S"), ("SendTheBox$Full", "[I"), ("SendTheBox$Full", "[J"), ("SendTheBox$Full", "[Z"), ("SendTheBox$Daily", "SendTheBox$Full"), ("SendTheBox$Daily", "SendTheBox$Both"), ("SendTheBox$Daily", "SendTheBox$Best"), ("SendTheBox$Daily", "SendTheBox$Told"), ("SendTheBox$Daily", "[B"), ("SendTheBox$Daily", "[S"), ("SendTheBox$Daily", "[I"), ("SendTheBox$Daily", "[J"), ("SendTheBox$Daily", "[Z"), ("SendTheBox$Both", "SendTheBox$Daily"), ("SendTheBox$Both", "SendTheBox$Best"), ("SendTheBox$Both", "SendTheBox$Told"), ("SendTheBox$Both", "[B"), ("SendTheBox$Both", "[S"), ("SendTheBox$Both", "[I"), ("SendTheBox$Both", "[J"), ("SendTheBox$Both", "[Z"), ("SendTheBox$Best", "SendTheBox$Full"), ("SendTheBox$Best", "SendTheBox$Daily"), ("SendTheBox$Best", "SendTheBox$Both"), ("SendTheBox$Best", "SendTheBox$Told"), ("SendTheBox$Best", "[B"), ("SendTheBox$Best", "[S"), ("SendTheBox$Best", "[I"), ("SendTheBox$Best", "[J"), ("SendTheBox$Best", "[Z"), ("SendTheBox$Told", "SendTheBox$Full"), ("SendTheBox$Told", "SendTheBox$Daily"), ("SendTheBox$Told", "SendTheBox$Both"), ("SendTheBox$Told", "SendTheBox$Best"), ("SendTheBox$Told", "[B"), ("SendTheBox$Told", "[S"), ("SendTheBox$Told", "[I"), ("SendTheBox$Told", "[J"), ("SendTheBox$Told", "[Z"), ("[B", "SendTheBox$Rule"), ("[B", "SendTheBox$Full"), ("[B", "SendTheBox$Daily"), ("[B", "SendTheBox$Both"), ("[B", "SendTheBox$Best"), ("[B", "SendTheBox$Told"), ("[B", "[S"), ("[B", "[I"), ("[B", "[J"), ("[B", "[Z"), ("[S", "SendTheBox$Rule"), ("[S", "SendTheBox$Full"), ("[S", "SendTheBox$Daily"), ("[S", "SendTheBox$Both"), ("[S", "SendTheBox$Best"), ("[S", "SendTheBox$Told"), ("[S", "[B"), ("[S", "[I"), ("[S", "[J"), ("[S", "[Z"), ("[I", "SendTheBox$Rule"), ("[I", "SendTheBox$Full"), ("[I", "SendTheBox$Daily"), ("[I", "SendTheBox$Both"), ("[I", "SendTheBox$Best"), ("[I", "SendTheBox$Told"), ("[I", "[B"), ("[I", "[S"), ("[I", "[J"), ("[I", "[Z"), ("[J", "SendTheBox$Rule"), ("[J", "SendTheBox$Full"), ("[J", "SendTheBox$Daily"), ("[J", "SendTheBox$Both"), ("[J", "SendTheBox$Best"), ("[J", "SendTheBox$Told"), ("[J", "[B"), ("[J", "[S"), ("[J", "[I"), ("[J", "[Z"), ("[Z", "SendTheBox$Rule"), ("[Z", "SendTheBox$Full"), ("[Z", "SendTheBox$Daily"), ("[Z", "SendTheBox$Both"), ("[Z", "SendTheBox$Best"), ("[Z", "SendTheBox$Told"), ("[Z", "[B"), ("[Z", "[S"), ("[Z", "[I"), ("[Z", "[J")]
theorem gYP_ok : ∀ q ∈ gYP, q.1 = q.2 ∨ (Cond.castable q.1 q.2) ∈ lw_tbl := by decide +kernel
def gNI : List Nat := [241, 261, 281, 301, 331, 361, 391, 421, 451, 222, 262, 282, 302, 332, 362, 392, 422, 452, 242, 283, 303, 333, 363, 393, 423, 453, 223, 243, 263, 304, 334, 364, 394, 424, 454, 224, 244, 264, 284, 335, 365, 395, 425, 455, 316, 476, 486, 496, 506, 516, 377, 406, 437, 467, 317, 477, 487, 497, 507, 517, 347, 407, 438, 468, 315, 475, 485, 495, 505, 515, 346, 376, 436, 466, 318, 478, 488, 498, 508, 518, 348, 378, 408, 469, 319, 479, 489, 499, 509, 519, 349, 379, 409, 439]
theorem gNP_eq : gNI.filterMap (fun i => (flatC (Jvm.Cond.and given_1 narrow_1))[i]?) = gNP.map (fun q => Cond.not (Cond.castable q.1 q.2)) := by decide +kernel
theorem gNP_ok : ∀ q ∈ gNP, (Cond.not (Cond.castable q.1 q.2)) ∈ flatC (Jvm.Cond.and given_1 narrow_1) := by
  intro q hq
  have h : Cond.not (Cond.castable q.1 q.2) ∈ gNP.map (fun q => Cond.not (Cond.castable q.1 q.2)) := List.mem_map.mpr ⟨q, hq, rfl⟩
  rw [← gNP_eq] at h
  obtain ⟨i, -, hi⟩ := List.mem_filterMap.mp h
  exact List.mem_of_getElem? hi
/-- the name of a kind's class -/
def kN (t : Nat ⊕ (FieldType × Nat)) : String := match t with
  | .inl ci => (gCl.getD ci (RX0, TX0, 0)).1
  | .inr (ty, _) => "[" ++ ty.toString
def kOk (t : Nat ⊕ (FieldType × Nat)) : Prop := match t with
  | .inl ci => ci < 17
  | .inr (ty, _) => ty = .int ∨ ty = .long ∨ ty = .byte ∨ ty = .short ∨ ty = .boolean
def iO (M : gM) (a : Nat) (nm : String) (κ : Int32 → Prop) : Prop := ∃ t, kd M a = some (true, t) ∧ kOk t ∧ (((kN t, nm) ∈ gYP ∧ κ 1) ∨ ((kN t, nm) ∈ gNP ∧ κ 0))
def iOq (M : gM) (r : Option Nat) (nm : String) (κ : Int32 → Prop) : Prop := (r = none → κ 0) ∧ ∀ b, r = some b → iO M b nm κ
def cY (M : gM) (a : Nat) (nm : String) : Prop := ∃ t, kd M a = some (true, t) ∧ kOk t ∧ (kN t, nm) ∈ gYP
def cYq (M : gM) (r : Option Nat) (nm : String) (κ : Unit → Prop) : Prop := (∀ b, r = some b → cY M b nm) ∧ κ ()
theorem g_kcls {s0 s : State} {b : Nat} {D : va_G} {dA : FieldType → ClassId} {M : gM} {a : Nat} {H : Heap} {t : Nat ⊕ (FieldType × Nat)} (hS : gS0 s0 b D dA) (hW : s0.WarmedH s.vm) (h : gat s0 D dA M a H) (hk : kd M a = some (true, t)) (ho : kOk t) : ∃ cell : Cell, H[a]? = some cell ∧ cell.vm.isStatics = false ∧ s.vm.findClass (kN t) = some cell.cls := by
  match t, ho with
  | .inl ci, ho =>
    obtain ⟨r, h1, cell, h2, h3, h4, -⟩ := g_objT h hk
    obtain ⟨hs, hfc, -⟩ := (g_kT hS hW).1 ci r h1
    refine ⟨cell, h2, by rw [h4]; rfl, ?_⟩
    show s.vm.findClass (gCl.getD ci (RX0, TX0, 0)).1 = _
    rw [List.getD_eq_getElem?_getD, h1, h3]
    exact hfc
  | .inr (ty, n), ho =>
    refine ⟨_, g_cellT h hk, rfl, ?_⟩
    show s.vm.findClass ("[" ++ ty.toString) = some (dA ty)
    have hK := (g_kT hS hW).2
    rcases ho with rfl | rfl | rfl | rfl | rfl
    · exact (hK 0 _ rfl).2
    · exact (hK 1 _ rfl).2
    · exact (hK 2 _ rfl).2
    · exact (hK 3 _ rfl).2
    · exact (hK 4 _ rfl).2
section GCAST
variable {G : gG} {cc : ByteArray} {nL : Nat} {own : String} {ret : Option FieldType} {Qf : Option Value → gM → Prop} {rm : Room} {cells slots : Nat} {M : gM} {lv : List (Nat × Value)} {pc : Nat} {st : List Value}
theorem g_inst (n : Nat) (hC : gCx G cc nL own ret Qf rm) {nm : String} {index a : Nat} (hl : (Cond.classLink own index nm) ∈ lw_all) {κ : Int32 → Prop} (hF : iO M a nm κ) (hdg : decode cc pc = .ok (.instanceof index, 3)) (hn : pc + 3 = n) (k : ∀ x, κ x → gAt G cells slots M lv n (.int x :: st)) : gAt G cells slots M lv pc (.ref a :: st) := by
  obtain ⟨⟨s0, D, dA⟩, ⟨p, l, e, R⟩, ⟨s, m, args, below, meth, c⟩, nL', Q⟩ := G
  obtain ⟨⟨hx, hb, hml, hown, hts⟩, hret, hlk, hW0, hX0, hfl, ⟨b0, hS0⟩, rfl, rfl, hQ⟩ := hC
  subst hn
  obtain ⟨t, hk, ho, hF⟩ := hF
  intro H locs ls h1 h2 h3
  have hr := g_kcls hS0 hW0 (h1.1 a) hk ho
  rcases hF with ⟨hy, hF⟩ | ⟨hy, hF⟩
  · rcases gYP_ok _ hy with h | h
    · exact va_instE hx hb hown (hts _ hl) (by rw [show nm = kN t from h.symm]; exact hr) hdg (k 1 hF H locs ls h1 h2 h3)
    · exact va_instY hx hb hown (hts _ hl) (va_Nw.warmC hW0 (va_Nw.of rfl (hS0.2.1 _ h))) hr hdg (k 1 hF H locs ls h1 h2 h3)
  · exact va_instNo hx hb hown (hts _ hl) (g_nc hS0 hW0 (gNP_ok _ hy)) hr hdg (k 0 hF H locs ls h1 h2 h3)
theorem g_instq (n : Nat) (hC : gCx G cc nL own ret Qf rm) {nm : String} {index : Nat} {r : Option Nat} (hl : (Cond.classLink own index nm) ∈ lw_all) {κ : Int32 → Prop} (hF : iOq M r nm κ) (hdg : decode cc pc = .ok (.instanceof index, 3)) (hn : pc + 3 = n) (k : ∀ x, κ x → gAt G cells slots M lv n (.int x :: st)) : gAt G cells slots M lv pc (va_rf r :: st) := by
  cases r with
  | some a => exact g_inst n hC hl (hF.2 a rfl) hdg hn k
  | none =>
    have h9 := k 0 (hF.1 rfl)
    obtain ⟨⟨s0, D, dA⟩, ⟨p, l, e, R⟩, ⟨s, m, args, below, meth, c⟩, nL', Q⟩ := G
    obtain ⟨⟨hx, hb, hml, hown, hts⟩, hret, hlk, hW0, hX0, hfl, ⟨b0, hS0⟩, rfl, rfl, hQ⟩ := hC
    subst hn
    intro H locs ls h1 h2 h3
    exact lv_instN hx hb hdg (h9 H locs ls h1 h2 h3)
theorem g_cast (n : Nat) (hC : gCx G cc nL own ret Qf rm) {nm : String} {index a : Nat} (hl : (Cond.classLink own index nm) ∈ lw_all) (hF : cY M a nm) (hdg : decode cc pc = .ok (.checkcast index, 3)) (hn : pc + 3 = n) (k : gAt G cells slots M lv n (.ref a :: st)) : gAt G cells slots M lv pc (.ref a :: st) := by
  obtain ⟨⟨s0, D, dA⟩, ⟨p, l, e, R⟩, ⟨s, m, args, below, meth, c⟩, nL', Q⟩ := G
  obtain ⟨⟨hx, hb, hml, hown, hts⟩, hret, hlk, hW0, hX0, hfl, ⟨b0, hS0⟩, rfl, rfl, hQ⟩ := hC
  subst hn
  obtain ⟨t, hk, ho, hy⟩ := hF
  intro H locs ls h1 h2 h3
  have hr := g_kcls hS0 hW0 (h1.1 a) hk ho
  rcases gYP_ok _ hy with h | h
  · exact va_castE hx hb hown (hts _ hl) (by rw [show nm = kN t from h.symm]; exact hr) hdg (k H locs ls h1 h2 h3)
  · exact va_castY hx hb hown (hts _ hl) (va_Nw.warmC hW0 (va_Nw.of rfl (hS0.2.1 _ h))) hr hdg (k H locs ls h1 h2 h3)
theorem g_castq (n : Nat) (hC : gCx G cc nL own ret Qf rm) {nm : String} {index : Nat} {r : Option Nat} (hl : (Cond.classLink own index nm) ∈ lw_all) {κ : Unit → Prop} (hF : cYq M r nm κ) (hdg : decode cc pc = .ok (.checkcast index, 3)) (hn : pc + 3 = n) (k : κ () → gAt G cells slots M lv n (va_rf r :: st)) : gAt G cells slots M lv pc (va_rf r :: st) := by
  cases r with
  | some a => exact g_cast n hC hl (hF.1 a rfl) hdg hn (k hF.2)
  | none =>
    have h9 := k hF.2
    obtain ⟨⟨s0, D, dA⟩, ⟨p, l, e, R⟩, ⟨s, m, args, below, meth, c⟩, nL', Q⟩ := G
    obtain ⟨⟨hx, hb, hml, hown, hts⟩, hret, hlk, hW0, hX0, hfl, ⟨b0, hS0⟩, rfl, rfl, hQ⟩ := hC
    subst hn
    intro H locs ls h1 h2 h3
    exact lv_castN hx hb hdg (h9 H locs ls h1 h2 h3)
end GCAST
