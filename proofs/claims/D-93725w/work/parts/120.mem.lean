/-! ROWS of gAt: heap and calls; the words of the F's -/
set_option maxRecDepth 100000
def rc (M : gM) (ci a : Nat) : Prop := ∃ w, kd M a = some (w, .inl ci)
def rk (M : gM) (ci a k : Nat) : Prop := ∃ w, kd M a = some (w, .inl ci) ∧ (w = true ∨ k < 2)
def gI (M : gM) (ci a k : Nat) (κ : Int32 → Prop) : Prop := rk M ci a k ∧ κ (mI M a k)
def gJ (M : gM) (ci a k : Nat) (κ : Int64 → Prop) : Prop := rk M ci a k ∧ κ (mJ M a k)
def gR (M : gM) (ci a k : Nat) (κ : Option Nat → Prop) : Prop := rk M ci a k ∧ κ (mR M a k)
def gN (M : gM) (ci a k : Nat) (κ : Nat → Prop) : Prop := rk M ci a k ∧ ∃ b, mR M a k = some b ∧ κ b
def pI (M : gM) (ci a k : Nat) (v : Int32) (κ : gM → Prop) : Prop := kd M a = some (true, .inl ci) ∧ κ (sI M a k v)
def pJ (M : gM) (ci a k : Nat) (v : Int64) (κ : gM → Prop) : Prop := kd M a = some (true, .inl ci) ∧ κ (sJ M a k v)
def pR (M : gM) (ci a k : Nat) (v : Option Nat) (κ : gM → Prop) : Prop := kd M a = some (true, .inl ci) ∧ κ (sR M a k v)
def aI (M : gM) (ty : FieldType) (a : Nat) (i : Int32) (κ : Int32 → Prop) : Prop := (∃ w n, kd M a = some (w, .inr (ty, n)) ∧ vp_in i n) ∧ κ (mI M a i.toNatClampNeg)
def aJ (M : gM) (a : Nat) (i : Int32) (κ : Int64 → Prop) : Prop := (∃ w n, kd M a = some (w, .inr (.long, n)) ∧ vp_in i n) ∧ κ (mJ M a i.toNatClampNeg)
def aR (M : gM) (ty : FieldType) (a : Nat) (i : Int32) (κ : Option Nat → Prop) : Prop := (∃ w n, kd M a = some (w, .inr (ty, n)) ∧ vp_in i n) ∧ κ (mR M a i.toNatClampNeg)
def aN (M : gM) (ty : FieldType) (a : Nat) (i : Int32) (κ : Nat → Prop) : Prop := (∃ w n, kd M a = some (w, .inr (ty, n)) ∧ vp_in i n) ∧ ∃ b, mR M a i.toNatClampNeg = some b ∧ κ b
def uI (M : gM) (a : Nat) (i : Int32) (x : Int32) (κ : gM → Prop) : Prop := (∃ n, kd M a = some (true, .inr (.int, n)) ∧ vp_in i n) ∧ κ (sI M a i.toNatClampNeg x)
def uT (M : gM) (ty : FieldType) (a : Nat) (i : Int32) (x : Int32) (κ : gM → Prop) : Prop := (∃ n, kd M a = some (true, .inr (ty, n)) ∧ vp_in i n) ∧ κ (sI M a i.toNatClampNeg (vp_nar ty x))
def uJ (M : gM) (a : Nat) (i : Int32) (x : Int64) (κ : gM → Prop) : Prop := (∃ n, kd M a = some (true, .inr (.long, n)) ∧ vp_in i n) ∧ κ (sJ M a i.toNatClampNeg x)
def aL (M : gM) (a : Nat) (κ : Int32 → Prop) : Prop := ∃ w ty n, kd M a = some (w, .inr (ty, n)) ∧ ty ∈ gTl ∧ κ (Int32.ofNat n)
def dN (r : Option Nat) (κ : Nat → Prop) : Prop := ∃ a, r = some a ∧ κ a
def dz (y : Int32) (κ : Prop) : Prop := ¬ y = 0 ∧ κ
def dzJ (y : Int64) (κ : Prop) : Prop := ¬ y = 0 ∧ κ
def zq (v : Int32) (κ : Prop) : Prop := (v = 0 ∨ v = 1) ∧ κ
theorem gv_int {ty : FieldType} (h : ty = .int ∨ ty = .byte ∨ ty = .short ∨ ty = .boolean ∨ ty = .char) (i : Int32) (j : Int64) (r : Option Nat) : gv ty i j r = .int i := by
  rcases h with rfl | rfl | rfl | rfl | rfl <;> rfl
theorem g_kT {s0 s : State} {b : Nat} {D : va_G} {dA : FieldType → ClassId} (h : gS0 s0 b D dA) (hW : s0.WarmedH s.vm) : va_K D gCl (gTl.map fun t => (dA t, t)) s := va_K.moved hW.alike h.1
theorem g_ar {s0 s : State} {b : Nat} {D : va_G} {dA : FieldType → ClassId} (h : gS0 s0 b D dA) (hW : s0.WarmedH s.vm) {ty : FieldType} (ht : ty ∈ gTl) : ArrOfT s (dA ty) ty := by
  obtain ⟨i, hi⟩ := List.getElem?_of_mem ht
  exact ((g_kT h hW).2 i (dA ty, ty) (by rw [List.getElem?_map, hi]; rfl)).1
theorem g_cellT {s0 : State} {D : va_G} {dA : FieldType → ClassId} {M : gM} {a : Nat} {H : Heap} {ty : FieldType} {n : Nat} (h : gat s0 D dA M a H) (hk : kd M a = some (true, .inr (ty, n))) : H[a]? = some (arrV (dA ty) n (fun k => gv ty (mI M a k) (mJ M a k) (mR M a k))) := by
  have hk : M.1 a = some (true, .inr (ty, n)) := hk
  unfold gat at h
  rw [hk] at h
  exact h
theorem g_cell {s0 s : State} {b : Nat} {D : va_G} {dA : FieldType → ClassId} {M : gM} {a : Nat} {H : Heap} {w : Bool} {ty : FieldType} {n : Nat} (hS : gS0 s0 b D dA) (hW : s0.WarmedH s.vm) (ht : ty ∈ gTl) (h : gat s0 D dA M a H) (hk : kd M a = some (w, .inr (ty, n))) : ∃ cell : Cell, H[a]? = some cell ∧ s.isArrayOf cell ty ∧ cell.vm ≠ .unknown ∧ (n ≤ cell.slots.size ∧ cell.slots.size.toInt32 = Int32.ofNat n) ∧ ∀ k, k < n → cell.slots[k]? = some (gv ty (mI M a k) (mJ M a k) (mR M a k)) := by
  cases w with
  | true => exact ⟨_, g_cellT h hk, g_ar hS hW ht n _, (fun q => by cases q), ⟨Nat.le_of_eq (arrV_size _ _ _).symm, congrArg Nat.toInt32 (arrV_size _ _ _)⟩, fun k hk => arrV_read _ _ hk⟩
  | false =>
    have hk : M.1 a = some (false, .inr (ty, n)) := hk
    unfold gat at h
    rw [hk] at h
    obtain ⟨cell, h1, h2, h3, h4, h5⟩ := h
    exact ⟨cell, h1, State.isArrayOf_alike hW.alike h2, h3, h4, h5⟩
theorem g_objT {s0 : State} {D : va_G} {dA : FieldType → ClassId} {M : gM} {a : Nat} {H : Heap} {ci : Nat} (h : gat s0 D dA M a H) (hk : kd M a = some (true, .inl ci)) : ∃ r : vw_C, gCl[ci]? = some r ∧ t_OB a (D.1 ci) r.2.2 (D.2 ci) H (fun k => gv (gTy ci k) (mI M a k) (mJ M a k) (mR M a k)) := by
  have hk : M.1 a = some (true, .inl ci) := hk
  unfold gat at h
  rw [hk] at h
  exact h
theorem g_obj {s0 : State} {D : va_G} {dA : FieldType → ClassId} {M : gM} {a : Nat} {H : Heap} {w : Bool} {ci : Nat} (h : gat s0 D dA M a H) (hk : kd M a = some (w, .inl ci)) : ∃ r : vw_C, gCl[ci]? = some r ∧ ∃ cell : Cell, H[a]? = some cell ∧ cell.cls = D.1 ci ∧ (cell.vm ≠ .unknown ∧ cell.vm.isStatics = false) ∧ ∀ k, k < r.2.2 → (w = true ∨ k < 2) → cell.slots[D.2 ci k]? = some (gv (gTy ci k) (mI M a k) (mJ M a k) (mR M a k)) := by
  cases w with
  | true =>
    obtain ⟨r, h1, cell, h2, h3, h4, h5⟩ := g_objT h hk
    exact ⟨r, h1, cell, h2, h3, ⟨by rw [h4]; exact (fun q => by cases q), by rw [h4]; rfl⟩, fun k hk _ => h5 k hk⟩
  | false =>
    have hk : M.1 a = some (false, .inl ci) := hk
    unfold gat at h
    rw [hk] at h
    obtain ⟨r, h1, cell, h2, h3, h4, h5⟩ := h
    exact ⟨r, h1, cell, h2, h3, h4, fun k hk hq => h5 k hk (hq.resolve_left (fun z => by cases z))⟩
section GMEM
variable {G : gG} {cc : ByteArray} {nL : Nat} {own : String} {ret : Option FieldType} {Qf : Option Value → gM → Prop} {rm : Room} {cells slots : Nat} {M : gM} {lv : List (Nat × Value)} {pc : Nat} {st : List Value}
theorem g_iald (n : Nat) (hC : gCx G cc nL own ret Qf rm) {a : Nat} {i : Int32} {κ : Int32 → Prop} (hF : aI M .int a i κ) (hdg : decode cc pc = .ok (.iaload, 1)) (hn : pc + 1 = n) (k : ∀ x, κ x → gAt G cells slots M lv n (.int x :: st)) : gAt G cells slots M lv pc (.int i :: .ref a :: st) := by
  obtain ⟨⟨s0, D, dA⟩, ⟨p, l, e, R⟩, ⟨s, m, args, below, meth, c⟩, nL', Q⟩ := G
  obtain ⟨⟨hx, hb, hml, hown, hts⟩, hret, hlk, hW0, hX0, hfl, ⟨b0, hS0⟩, rfl, rfl, hQ⟩ := hC
  subst hn
  obtain ⟨⟨w, N, hk, hin⟩, hF⟩ := hF
  intro H locs ls h1 h2 h3
  have hlt : i.toNatClampNeg < N := Nat.not_le.mp fun q => hin (Or.inr q)
  obtain ⟨cell, q1, q2, q3, q4, q5⟩ := g_cell hS0 hW0 (by decide) (h1.1 a) hk
  exact W.iald (v := .int (mI M a i.toNatClampNeg)) hx hb q1 q2 q3 (fun z => hin (z.imp_right (fun z => Nat.le_trans q4.1 z))) (q5 _ hlt) rfl rfl hdg (k _ hF H locs ls h1 h2 h3)
theorem g_bald (n : Nat) (hC : gCx G cc nL own ret Qf rm) {a : Nat} {i : Int32} {κ : Int32 → Prop} (hF : aI M .byte a i κ) (hdg : decode cc pc = .ok (.baload, 1)) (hn : pc + 1 = n) (k : ∀ x, κ x → gAt G cells slots M lv n (.int x :: st)) : gAt G cells slots M lv pc (.int i :: .ref a :: st) := by
  obtain ⟨⟨s0, D, dA⟩, ⟨p, l, e, R⟩, ⟨s, m, args, below, meth, c⟩, nL', Q⟩ := G
  obtain ⟨⟨hx, hb, hml, hown, hts⟩, hret, hlk, hW0, hX0, hfl, ⟨b0, hS0⟩, rfl, rfl, hQ⟩ := hC
  subst hn
  obtain ⟨⟨w, N, hk, hin⟩, hF⟩ := hF
  intro H locs ls h1 h2 h3
  have hlt : i.toNatClampNeg < N := Nat.not_le.mp fun q => hin (Or.inr q)
  obtain ⟨cell, q1, q2, q3, q4, q5⟩ := g_cell hS0 hW0 (by decide) (h1.1 a) hk
  exact W.bald (v := .int (mI M a i.toNatClampNeg)) hx hb q1 q2 q3 (fun z => hin (z.imp_right (fun z => Nat.le_trans q4.1 z))) (q5 _ hlt) rfl rfl hdg (k _ hF H locs ls h1 h2 h3)
theorem g_zald (n : Nat) (hC : gCx G cc nL own ret Qf rm) {a : Nat} {i : Int32} {κ : Int32 → Prop} (hF : aI M .boolean a i κ) (hdg : decode cc pc = .ok (.baload, 1)) (hn : pc + 1 = n) (k : ∀ x, κ x → gAt G cells slots M lv n (.int x :: st)) : gAt G cells slots M lv pc (.int i :: .ref a :: st) := by
  obtain ⟨⟨s0, D, dA⟩, ⟨p, l, e, R⟩, ⟨s, m, args, below, meth, c⟩, nL', Q⟩ := G
  obtain ⟨⟨hx, hb, hml, hown, hts⟩, hret, hlk, hW0, hX0, hfl, ⟨b0, hS0⟩, rfl, rfl, hQ⟩ := hC
  subst hn
  obtain ⟨⟨w, N, hk, hin⟩, hF⟩ := hF
  intro H locs ls h1 h2 h3
  have hlt : i.toNatClampNeg < N := Nat.not_le.mp fun q => hin (Or.inr q)
  obtain ⟨cell, q1, q2, q3, q4, q5⟩ := g_cell hS0 hW0 (by decide) (h1.1 a) hk
  exact W.zald (v := .int (mI M a i.toNatClampNeg)) hx hb q1 q2 q3 (fun z => hin (z.imp_right (fun z => Nat.le_trans q4.1 z))) (q5 _ hlt) rfl rfl hdg (k _ hF H locs ls h1 h2 h3)
theorem g_sald (n : Nat) (hC : gCx G cc nL own ret Qf rm) {a : Nat} {i : Int32} {κ : Int32 → Prop} (hF : aI M .short a i κ) (hdg : decode cc pc = .ok (.saload, 1)) (hn : pc + 1 = n) (k : ∀ x, κ x → gAt G cells slots M lv n (.int x :: st)) : gAt G cells slots M lv pc (.int i :: .ref a :: st) := by
  obtain ⟨⟨s0, D, dA⟩, ⟨p, l, e, R⟩, ⟨s, m, args, below, meth, c⟩, nL', Q⟩ := G
  obtain ⟨⟨hx, hb, hml, hown, hts⟩, hret, hlk, hW0, hX0, hfl, ⟨b0, hS0⟩, rfl, rfl, hQ⟩ := hC
  subst hn
  obtain ⟨⟨w, N, hk, hin⟩, hF⟩ := hF
  intro H locs ls h1 h2 h3
  have hlt : i.toNatClampNeg < N := Nat.not_le.mp fun q => hin (Or.inr q)
  obtain ⟨cell, q1, q2, q3, q4, q5⟩ := g_cell hS0 hW0 (by decide) (h1.1 a) hk
  exact W.sald (v := .int (mI M a i.toNatClampNeg)) hx hb q1 q2 q3 (fun z => hin (z.imp_right (fun z => Nat.le_trans q4.1 z))) (q5 _ hlt) rfl rfl hdg (k _ hF H locs ls h1 h2 h3)
theorem g_lald (n : Nat) (hC : gCx G cc nL own ret Qf rm) {a : Nat} {i : Int32} {κ : Int64 → Prop} (hF : aJ M a i κ) (hdg : decode cc pc = .ok (.laload, 1)) (hn : pc + 1 = n) (k : ∀ x, κ x → gAt G cells slots M lv n (.long x :: st)) : gAt G cells slots M lv pc (.int i :: .ref a :: st) := by
  obtain ⟨⟨s0, D, dA⟩, ⟨p, l, e, R⟩, ⟨s, m, args, below, meth, c⟩, nL', Q⟩ := G
  obtain ⟨⟨hx, hb, hml, hown, hts⟩, hret, hlk, hW0, hX0, hfl, ⟨b0, hS0⟩, rfl, rfl, hQ⟩ := hC
  subst hn
  obtain ⟨⟨w, N, hk, hin⟩, hF⟩ := hF
  intro H locs ls h1 h2 h3
  have hlt : i.toNatClampNeg < N := Nat.not_le.mp fun q => hin (Or.inr q)
  obtain ⟨cell, q1, q2, q3, q4, q5⟩ := g_cell hS0 hW0 (by decide) (h1.1 a) hk
  exact W.lald (v := .long (mJ M a i.toNatClampNeg)) hx hb q1 q2 q3 (fun z => hin (z.imp_right (fun z => Nat.le_trans q4.1 z))) (q5 _ hlt) rfl rfl hdg (k _ hF H locs ls h1 h2 h3)
theorem g_aald (n : Nat) (hC : gCx G cc nL own ret Qf rm) {a : Nat} {i : Int32} {ty : FieldType} {κ : Option Nat → Prop} (hF : aR M ty a i κ) (hty : ty ∈ gTl) (hr : ty.isReference = true) (hgv : ∀ i j r, gv ty i j r = va_rf r) (hdg : decode cc pc = .ok (.aaload, 1)) (hn : pc + 1 = n) (k : ∀ x, κ x → gAt G cells slots M lv n (va_rf x :: st)) : gAt G cells slots M lv pc (.int i :: .ref a :: st) := by
  obtain ⟨⟨s0, D, dA⟩, ⟨p, l, e, R⟩, ⟨s, m, args, below, meth, c⟩, nL', Q⟩ := G
  obtain ⟨⟨hx, hb, hml, hown, hts⟩, hret, hlk, hW0, hX0, hfl, ⟨b0, hS0⟩, rfl, rfl, hQ⟩ := hC
  subst hn
  obtain ⟨⟨w, N, hk, hin⟩, hF⟩ := hF
  intro H locs ls h1 h2 h3
  have hlt : i.toNatClampNeg < N := Nat.not_le.mp fun q => hin (Or.inr q)
  obtain ⟨cell, q1, q2, q3, q4, q5⟩ := g_cell hS0 hW0 hty (h1.1 a) hk
  exact W.aald (v := va_rf (mR M a i.toNatClampNeg)) hx hb q1 q2 hr q3 (fun z => hin (z.imp_right (fun z => Nat.le_trans q4.1 z))) (by rw [q5 _ hlt, hgv]) rfl rfl hdg (k _ hF H locs ls h1 h2 h3)
theorem g_aaldN (n : Nat) (hC : gCx G cc nL own ret Qf rm) {a : Nat} {i : Int32} {ty : FieldType} {κ : Nat → Prop} (hF : aN M ty a i κ) (hty : ty ∈ gTl) (hr : ty.isReference = true) (hgv : ∀ i j r, gv ty i j r = va_rf r) (hdg : decode cc pc = .ok (.aaload, 1)) (hn : pc + 1 = n) (k : ∀ x, κ x → gAt G cells slots M lv n (.ref x :: st)) : gAt G cells slots M lv pc (.int i :: .ref a :: st) := by
  obtain ⟨h0, b, hb, hF⟩ := hF
  exact g_aald n hC (κ := fun r => r = some b) ⟨h0, hb⟩ hty hr hgv hdg hn (fun x hx => by rw [hx]; exact k b hF)
theorem g_alen (n : Nat) (hC : gCx G cc nL own ret Qf rm) {a : Nat} {κ : Int32 → Prop} (hF : aL M a κ) (hdg : decode cc pc = .ok (.arraylength, 1)) (hn : pc + 1 = n) (k : ∀ x, κ x → gAt G cells slots M lv n (.int x :: st)) : gAt G cells slots M lv pc (.ref a :: st) := by
  obtain ⟨⟨s0, D, dA⟩, ⟨p, l, e, R⟩, ⟨s, m, args, below, meth, c⟩, nL', Q⟩ := G
  obtain ⟨⟨hx, hb, hml, hown, hts⟩, hret, hlk, hW0, hX0, hfl, ⟨b0, hS0⟩, rfl, rfl, hQ⟩ := hC
  subst hn
  obtain ⟨w, ty, N, hk, hty, hF⟩ := hF
  intro H locs ls h1 h2 h3
  obtain ⟨cell, q1, q2, q3, q4, q5⟩ := g_cell hS0 hW0 hty (h1.1 a) hk
  exact W.alen hx hb q1 q2 q4.2 rfl rfl hdg (k _ hF H locs ls h1 h2 h3)
theorem gC.put1 {s0 : State} {D : va_G} {dA : FieldType → ClassId} {M M1 : gM} {H H1 : Heap} {a : Nat} {ty : FieldType} {N j : Nat} {x : Value} (h : gC s0 D dA M H) (hk : kd M a = some (true, .inr (ty, N))) (hkd : M1.1 = M.1) (h1 : ∀ b k, b ≠ a → M1.2.1 b k = M.2.1 b k) (h2 : ∀ b k, b ≠ a → M1.2.2.1 b k = M.2.2.1 b k) (h3 : ∀ b k, b ≠ a → M1.2.2.2.1 b k = M.2.2.2.1 b k) (h4 : M1.2.2.2.2 = M.2.2.2.2) (hq : ∀ q : Nat, q ≠ a → H1[q]? = H[q]?) (he : H1[a]? = some ((arrV (dA ty) N (fun k => gv ty (mI M a k) (mJ M a k) (mR M a k))).setSlot j x)) (hv : ∀ k, gv ty (mI M1 a k) (mJ M1 a k) (mR M1 a k) = if k = j then x else gv ty (mI M a k) (mJ M a k) (mR M a k)) : gC s0 D dA M1 H1 := by
  refine h.put a hkd h1 h2 h3 h4 hq ?_
  have hk1 : M1.1 a = some (true, .inr (ty, N)) := by rw [hkd]; exact hk
  unfold gat
  rw [hk1]
  show H1[a]? = some (arrV (dA ty) N (fun k => gv ty (mI M1 a k) (mJ M1 a k) (mR M1 a k)))
  rw [he, arrV_store]
  congr 2
  funext k
  rw [hv k]
  rfl
theorem g_iast (n : Nat) (hC : gCx G cc nL own ret Qf rm) {a : Nat} {i x : Int32} {κ : gM → Prop} (hF : uI M a i x κ) (hdg : decode cc pc = .ok (.iastore, 1)) (hn : pc + 1 = n) (k : ∀ M1, κ M1 → gAt G cells slots M1 lv n st) : gAt G cells slots M lv pc (.int x :: .int i :: .ref a :: st) := by
  obtain ⟨⟨s0, D, dA⟩, ⟨p, l, e, R⟩, ⟨s, m, args, below, meth, c⟩, nL', Q⟩ := G
  obtain ⟨⟨hx, hb, hml, hown, hts⟩, hret, hlk, hW0, hX0, hfl, ⟨b0, hS0⟩, rfl, rfl, hQ⟩ := hC
  subst hn
  obtain ⟨⟨N, hk, hin⟩, hF⟩ := hF
  intro H locs ls h1 h2 h3
  refine W.iast hx hb (g_cellT (h1.1 a) hk) (g_ar hS0 hW0 (by decide) N _) (fun q => by cases q) (by show ¬ (i < 0 ∨ (arrV _ _ _).slots.size ≤ _); rw [arrV_size]; exact hin) rfl rfl hdg fun H1 e z oq => ?_
  refine k _ hF H1 _ ls ?_ (h2.put z oq (h1.aw hk)) h3
  refine h1.put1 hk rfl (fun b j hne => if_neg (fun q => hne q.1)) (fun b j hne => rfl) (fun b j hne => rfl) rfl oq e (fun j => ?_)
  show gv .int (if a = a ∧ j = i.toNatClampNeg then x else M.2.1 a j) _ _ = _
  by_cases hj : j = i.toNatClampNeg
  · rw [if_pos ⟨rfl, hj⟩, if_pos hj]; rfl
  · rw [if_neg (fun q => hj q.2), if_neg hj]; rfl
theorem g_last (n : Nat) (hC : gCx G cc nL own ret Qf rm) {a : Nat} {i : Int32} {x : Int64} {κ : gM → Prop} (hF : uJ M a i x κ) (hdg : decode cc pc = .ok (.lastore, 1)) (hn : pc + 1 = n) (k : ∀ M1, κ M1 → gAt G cells slots M1 lv n st) : gAt G cells slots M lv pc (.long x :: .int i :: .ref a :: st) := by
  obtain ⟨⟨s0, D, dA⟩, ⟨p, l, e, R⟩, ⟨s, m, args, below, meth, c⟩, nL', Q⟩ := G
  obtain ⟨⟨hx, hb, hml, hown, hts⟩, hret, hlk, hW0, hX0, hfl, ⟨b0, hS0⟩, rfl, rfl, hQ⟩ := hC
  subst hn
  obtain ⟨⟨N, hk, hin⟩, hF⟩ := hF
  intro H locs ls h1 h2 h3
  refine W.last hx hb (g_cellT (h1.1 a) hk) (g_ar hS0 hW0 (by decide) N _) (fun q => by cases q) (by show ¬ (i < 0 ∨ (arrV _ _ _).slots.size ≤ _); rw [arrV_size]; exact hin) rfl rfl hdg fun H1 e z oq => ?_
  refine k _ hF H1 _ ls ?_ (h2.put z oq (h1.aw hk)) h3
  refine h1.put1 hk rfl (fun b j hne => rfl) (fun b j hne => if_neg (fun q => hne q.1)) (fun b j hne => rfl) rfl oq e (fun j => ?_)
  show gv .long _ (if a = a ∧ j = i.toNatClampNeg then x else M.2.2.1 a j) _ = _
  by_cases hj : j = i.toNatClampNeg
  · rw [if_pos ⟨rfl, hj⟩, if_pos hj]; rfl
  · rw [if_neg (fun q => hj q.2), if_neg hj]; rfl
theorem g_tast {ty : FieldType} (n : Nat) {ins : Instr} (hrow : ∀ {p : Program} {l : Launch} {e : Env} {R : Room} {s : State} {m : MethodId} {args : Array Value} {below : List Frame} {meth : Method} {c : Code} {H : Heap} {locs : List Loc} {cells slots : Nat} {Q : State → Prop} {cc : ByteArray} (_ : p.tables.exec = Jvm.exec) (_ : c.code = cc) {a : Addr} {cell : Cell} {j : Int32} {x : Int32} (_ : H[a]? = some cell) (_ : s.isArrayOf cell ty) (_ : cell.vm ≠ .unknown)
    (_ : ¬ (j < 0 ∨ cell.slots.size ≤ j.toNatClampNeg)) {g : JFrame} (_ : g.method = m) {rest : List Value} (_ : g.stack = .int x :: .int j :: .ref a :: rest) (_ : decode cc g.pc = .ok (ins, 1))
    (_ : ∀ H' : Heap, H'[a]? = some (cell.setSlot j.toNatClampNeg (narrow ty (.int x))) → H'.size = H.size → (∀ q, q ≠ a → H'[q]? = H[q]?) → W p l e R s m args below meth c H' (locs ++ [⟨a, j.toNatClampNeg⟩]) cells slots Q { g with pc := g.pc + 1, stack := rest }), W p l e R s m args below meth c H locs cells slots Q g) (hty : ty ∈ gTl) (hgv : ∀ i j r, gv ty i j r = .int i) (hnr : ∀ x, narrow ty (.int x) = .int (vp_nar ty x)) (hC : gCx G cc nL own ret Qf rm) {a : Nat} {i x : Int32} {κ : gM → Prop} (hF : uT M ty a i x κ) (hdg : decode cc pc = .ok (ins, 1)) (hn : pc + 1 = n) (k : ∀ M1, κ M1 → gAt G cells slots M1 lv n st) : gAt G cells slots M lv pc (.int x :: .int i :: .ref a :: st) := by
  obtain ⟨⟨s0, D, dA⟩, ⟨p, l, e, R⟩, ⟨s, m, args, below, meth, c⟩, nL', Q⟩ := G
  obtain ⟨⟨hx, hb, hml, hown, hts⟩, hret, hlk, hW0, hX0, hfl, ⟨b0, hS0⟩, rfl, rfl, hQ⟩ := hC
  subst hn
  obtain ⟨⟨N, hk, hin⟩, hF⟩ := hF
  intro H locs ls h1 h2 h3
  refine hrow hx hb (g_cellT (h1.1 a) hk) (g_ar hS0 hW0 hty N _) (fun q => by cases q) (by show ¬ (i < 0 ∨ (arrV _ _ _).slots.size ≤ _); rw [arrV_size]; exact hin) rfl rfl hdg fun H1 e z oq => ?_
  refine k _ hF H1 _ ls ?_ (h2.put z oq (h1.aw hk)) h3
  refine h1.put1 hk rfl (fun b j hne => if_neg (fun q => hne q.1)) (fun b j hne => rfl) (fun b j hne => rfl) rfl oq e (fun j => ?_)
  rw [hgv, hgv, hnr]
  show Value.int (if a = a ∧ j = i.toNatClampNeg then vp_nar ty x else M.2.1 a j) = _
  by_cases hj : j = i.toNatClampNeg
  · rw [if_pos ⟨rfl, hj⟩, if_pos hj]
  · rw [if_neg (fun q => hj q.2), if_neg hj]; rfl
/-- getfield -/
theorem g_get (n : Nat) (hC : gCx G cc nL own ret Qf rm) {C : String} {T : u_T} {N ci index a k : Nat} (hr : rk M ci a k) (hin : ∀ w ∈ u_ws C T N, w ∈ lw_all) (hc : gCl[ci]? = some (C, T, N)) (hk : k < N) (hlink : (Cond.fieldLink own index (T k).1 (T k).2.1 (T k).2.2.1) ∈ lw_all) (hdg : decode cc pc = .ok (.getfield index, 3)) (hn : pc + 3 = n) (kk : gAt G cells slots M lv n (gv (gTy ci k) (mI M a k) (mJ M a k) (mR M a k) :: st)) : gAt G cells slots M lv pc (.ref a :: st) := by
  obtain ⟨⟨s0, D, dA⟩, ⟨p, l, e, R⟩, ⟨s, m, args, below, meth, c⟩, nL', Q⟩ := G
  obtain ⟨⟨hx, hb, hml, hown, hts⟩, hret, hlk, hW0, hX0, hfl, ⟨b0, hS0⟩, rfl, rfl, hQ⟩ := hC
  subst hn
  obtain ⟨w, hkd, hw⟩ := hr
  intro H locs ls h1 h2 h3
  obtain ⟨r, hr1, cell, q1, q2, q3, q4⟩ := g_obj (h1.1 a) hkd
  have hr : r = (C, T, N) := Option.some.inj (hr1.symm.trans hc)
  subst hr
  obtain ⟨hS, hfc, kC, hkC, hkind⟩ := (g_kT hS0 hW0).1 ci _ hc
  obtain ⟨cf, kf, fi, f, hi, hsl⟩ := hS k hk
  refine W.getf hx hb hown (hts _ hlink) hi (u_facts hfc hkC (u_lays hts hin hk) hi).1 q1 q3.1 (v := gv (gTy ci k) (mI M a k) (mJ M a k) (mR M a k)) ?_ rfl rfl hdg (kk H locs ls h1 h2 h3)
  rw [hsl, q4 k hk hw]
theorem g_getI {C : String} {T : u_T} {N ci index a k : Nat} (hin : ∀ w ∈ u_ws C T N, w ∈ lw_all) (hc : gCl[ci]? = some (C, T, N)) (hk : k < N) (hlink : (Cond.fieldLink own index (T k).1 (T k).2.1 (T k).2.2.1) ∈ lw_all) (hgv : ∀ i j r, gv (gTy ci k) i j r = .int i) (n : Nat) (hC : gCx G cc nL own ret Qf rm) {κ : Int32 → Prop} (hF : gI M ci a k κ) (hdg : decode cc pc = .ok (.getfield index, 3)) (hn : pc + 3 = n) (kk : ∀ x, κ x → gAt G cells slots M lv n (.int x :: st)) : gAt G cells slots M lv pc (.ref a :: st) := by
  refine g_get n hC hF.1 hin hc hk hlink hdg hn ?_
  rw [hgv]
  exact kk _ hF.2
theorem g_getJ {C : String} {T : u_T} {N ci index a k : Nat} (hin : ∀ w ∈ u_ws C T N, w ∈ lw_all) (hc : gCl[ci]? = some (C, T, N)) (hk : k < N) (hlink : (Cond.fieldLink own index (T k).1 (T k).2.1 (T k).2.2.1) ∈ lw_all) (hgv : ∀ i j r, gv (gTy ci k) i j r = .long j) (n : Nat) (hC : gCx G cc nL own ret Qf rm) {κ : Int64 → Prop} (hF : gJ M ci a k κ) (hdg : decode cc pc = .ok (.getfield index, 3)) (hn : pc + 3 = n) (kk : ∀ x, κ x → gAt G cells slots M lv n (.long x :: st)) : gAt G cells slots M lv pc (.ref a :: st) := by
  refine g_get n hC hF.1 hin hc hk hlink hdg hn ?_
  rw [hgv]
  exact kk _ hF.2
theorem g_getR {C : String} {T : u_T} {N ci index a k : Nat} (hin : ∀ w ∈ u_ws C T N, w ∈ lw_all) (hc : gCl[ci]? = some (C, T, N)) (hk : k < N) (hlink : (Cond.fieldLink own index (T k).1 (T k).2.1 (T k).2.2.1) ∈ lw_all) (hgv : ∀ i j r, gv (gTy ci k) i j r = va_rf r) (n : Nat) (hC : gCx G cc nL own ret Qf rm) {κ : Option Nat → Prop} (hF : gR M ci a k κ) (hdg : decode cc pc = .ok (.getfield index, 3)) (hn : pc + 3 = n) (kk : ∀ x, κ x → gAt G cells slots M lv n (va_rf x :: st)) : gAt G cells slots M lv pc (.ref a :: st) := by
  refine g_get n hC hF.1 hin hc hk hlink hdg hn ?_
  rw [hgv]
  exact kk _ hF.2
theorem g_getN {C : String} {T : u_T} {N ci index a k : Nat} (hin : ∀ w ∈ u_ws C T N, w ∈ lw_all) (hc : gCl[ci]? = some (C, T, N)) (hk : k < N) (hlink : (Cond.fieldLink own index (T k).1 (T k).2.1 (T k).2.2.1) ∈ lw_all) (hgv : ∀ i j r, gv (gTy ci k) i j r = va_rf r) (n : Nat) (hC : gCx G cc nL own ret Qf rm) {κ : Nat → Prop} (hF : gN M ci a k κ) (hdg : decode cc pc = .ok (.getfield index, 3)) (hn : pc + 3 = n) (kk : ∀ x, κ x → gAt G cells slots M lv n (.ref x :: st)) : gAt G cells slots M lv pc (.ref a :: st) := by
  refine g_get n hC hF.1 hin hc hk hlink hdg hn ?_
  obtain ⟨b, hb, hF⟩ := hF.2
  rw [hgv, hb]
  exact kk _ hF
/-- putfield: not final, or final in its own constructor -/
theorem g_put {C : String} {T : u_T} {N ci index a k : Nat} (hin : ∀ w ∈ u_ws C T N, w ∈ lw_all) (ty0 : Nat → FieldType) (hty0 : ∀ k, k < N → parseFieldDescriptor (T k).2.2.1 = some (ty0 k)) (hnm : ∀ a, a < N → ∀ b, b < N → a ≠ b → (T a).2.1 ≠ (T b).2.1) (hc : gCl[ci]? = some (C, T, N)) (hk : k < N) (hlink : (Cond.fieldLink own index (T k).1 (T k).2.1 (T k).2.2.1) ∈ lw_all) (hfin : (T k).2.2.2 = false) {ty : FieldType} {v : Value} (hd : parseFieldDescriptor (T k).2.2.1 = some ty) (hnr : narrow ty v = v) (hfit : fits ty v = true) (n : Nat) (hC : gCx G cc nL own ret Qf rm) {M1 : gM} (hkd : kd M a = some (true, .inl ci)) (hkd1 : M1.1 = M.1) (e1 : ∀ b k, b ≠ a → M1.2.1 b k = M.2.1 b k) (e2 : ∀ b k, b ≠ a → M1.2.2.1 b k = M.2.2.1 b k) (e3 : ∀ b k, b ≠ a → M1.2.2.2.1 b k = M.2.2.2.1 b k) (e4 : M1.2.2.2.2 = M.2.2.2.2) (hv : ∀ j, gv (gTy ci j) (mI M1 a j) (mJ M1 a j) (mR M1 a j) = if j = k then v else gv (gTy ci j) (mI M a j) (mJ M a j) (mR M a j)) (hdg : decode cc pc = .ok (.putfield index, 3)) (hn : pc + 3 = n) (kk : gAt G cells slots M1 lv n st) : gAt G cells slots M lv pc (v :: .ref a :: st) := by
  obtain ⟨⟨s0, D, dA⟩, ⟨p, l, e, R⟩, ⟨s, m, args, below, meth, c⟩, nL', Q⟩ := G
  obtain ⟨⟨hx, hb, hml, hown, hts⟩, hret, hlk, hW0, hX0, hfl, ⟨b0, hS0⟩, rfl, rfl, hQ⟩ := hC
  subst hn
  intro H locs ls h1 h2 h3
  have hap := va_apart (own := own) hts hin ty0 hty0 hnm (g_kT hS0 hW0) hc
  obtain ⟨r, hr1, cell, q1, q2, q3, q4⟩ := g_objT (h1.1 a) hkd
  have hr : r = (C, T, N) := Option.some.inj (hr1.symm.trans hc)
  subst hr
  obtain ⟨hS, hfc, kC, hkC, hkind⟩ := (g_kT hS0 hW0).1 ci _ hc
  obtain ⟨cf, kf, fi, f, hi, hsl⟩ := hS k hk
  have hlay := hts _ (hin _ (u_in_lay hk))
  unfold u_lay at hlay
  rw [if_neg (by rw [hfin]; decide)] at hlay
  have hst := (u_facts hfc hkC (u_lays hts hin hk) hi).1
  have h6 := u_store hfc hkC hkind hlay hi hd hnr hfit
  refine W.putK hx hb (f := f) ⟨hown, hts _ hlink, ⟨_, _, _, hi⟩, hst⟩ (by rw [q2]; exact h6) q1 q3 (by rw [hsl]; exact k2_hasslot (q4 k hk)) rfl rfl hdg fun H' e1' e2' e3' => ?_
  rw [hsl] at e1' ⊢
  refine kk H' _ ls ?_ (h2.put e2' e3' (h1.aw hkd)) h3
  refine h1.put a hkd1 e1 e2 e3 e4 e3' ?_
  have hk1 : M1.1 a = some (true, .inl ci) := by rw [hkd1]; exact hkd
  unfold gat
  rw [hk1]
  refine ⟨_, hc, t_OB.to (V := updV (fun j => gv (gTy ci j) (mI M a j) (mJ M a j) (mR M a j)) k v) ⟨_, e1', q2, q3, t_set q4 hap hk v⟩ (fun j _ => ?_)⟩
  show (if j = k then v else _) = _
  exact (hv j).symm
theorem g_putF {C : String} {T : u_T} {N ci index a k : Nat} (hin : ∀ w ∈ u_ws C T N, w ∈ lw_all) (ty0 : Nat → FieldType) (hty0 : ∀ k, k < N → parseFieldDescriptor (T k).2.2.1 = some (ty0 k)) (hnm : ∀ a, a < N → ∀ b, b < N → a ≠ b → (T a).2.1 ≠ (T b).2.1) (hc : gCl[ci]? = some (C, T, N)) (hk : k < N) (hlink : (Cond.fieldLink own index (T k).1 (T k).2.1 (T k).2.2.1) ∈ lw_all) (hfin : (T k).2.2.2 = true) (hdecl : (T k).1 = own) {ty : FieldType} {v : Value} (hd : parseFieldDescriptor (T k).2.2.1 = some ty) (hnr : narrow ty v = v) (hfit : fits ty v = true) (n : Nat) (hC : gCx G cc nL own ret Qf rm) (hini : G.2.2.1.2.2.2.2.1.name = "<init>") {M1 : gM} (hkd : kd M a = some (true, .inl ci)) (hkd1 : M1.1 = M.1) (e1 : ∀ b k, b ≠ a → M1.2.1 b k = M.2.1 b k) (e2 : ∀ b k, b ≠ a → M1.2.2.1 b k = M.2.2.1 b k) (e3 : ∀ b k, b ≠ a → M1.2.2.2.1 b k = M.2.2.2.1 b k) (e4 : M1.2.2.2.2 = M.2.2.2.2) (hv : ∀ j, gv (gTy ci j) (mI M1 a j) (mJ M1 a j) (mR M1 a j) = if j = k then v else gv (gTy ci j) (mI M a j) (mJ M a j) (mR M a j)) (hdg : decode cc pc = .ok (.putfield index, 3)) (hn : pc + 3 = n) (kk : gAt G cells slots M1 lv n st) : gAt G cells slots M lv pc (v :: .ref a :: st) := by
  obtain ⟨⟨s0, D, dA⟩, ⟨p, l, e, R⟩, ⟨s, m, args, below, meth, c⟩, nL', Q⟩ := G
  obtain ⟨⟨hx, hb, hml, hown, hts⟩, hret, hlk, hW0, hX0, hfl, ⟨b0, hS0⟩, rfl, rfl, hQ⟩ := hC
  subst hn
  have hin2 : meth.name = "<init>" := hini
  intro H locs ls h1 h2 h3
  have hap := va_apart (own := own) hts hin ty0 hty0 hnm (g_kT hS0 hW0) hc
  obtain ⟨r, hr1, cell, q1, q2, q3, q4⟩ := g_objT (h1.1 a) hkd
  have hr : r = (C, T, N) := Option.some.inj (hr1.symm.trans hc)
  subst hr
  obtain ⟨hS, hfc, kC, hkC, hkind⟩ := (g_kT hS0 hW0).1 ci _ hc
  obtain ⟨cf, kf, fi, f, hi, hsl⟩ := hS k hk
  have hlay := hts _ (hin _ (u_in_lay hk))
  unfold u_lay at hlay
  rw [if_pos hfin] at hlay
  have hst := (u_facts hfc hkC (u_lays hts hin hk) hi).1
  have hcf : m.cls = cf := by
    obtain ⟨_, _, c', _, _, _, -, -, hf', -, -, -, hown2, -⟩ := Cond.laysFinal_spec hlay
    have e1 : c' = cf := by have := hi.symm.trans hf'; simp at this; exact this.1.symm
    rw [hdecl] at hown2
    rw [← e1]; exact Option.some.inj (hown.symm.trans hown2)
  have h6 := u_fits hfc hkC hkind (Or.inr hlay) hi hd hnr hfit
  refine W.putFinK hx hb hown (hts _ hlink) hi hst hcf hin2 (by rw [q2]; exact h6) q1 q3 (by rw [hsl]; exact k2_hasslot (q4 k hk)) rfl rfl hdg fun H' e1' e2' e3' => ?_
  rw [hsl] at e1' ⊢
  refine kk H' _ ls ?_ (h2.put e2' e3' (h1.aw hkd)) h3
  refine h1.put a hkd1 e1 e2 e3 e4 e3' ?_
  have hk1 : M1.1 a = some (true, .inl ci) := by rw [hkd1]; exact hkd
  unfold gat
  rw [hk1]
  refine ⟨_, hc, t_OB.to (V := updV (fun j => gv (gTy ci j) (mI M a j) (mJ M a j) (mR M a j)) k v) ⟨_, e1', q2, q3, t_set q4 hap hk v⟩ (fun j _ => ?_)⟩
  show (if j = k then v else _) = _
  exact (hv j).symm
theorem g_putI {C : String} {T : u_T} {N ci index a k : Nat} (hin : ∀ w ∈ u_ws C T N, w ∈ lw_all) (ty0 : Nat → FieldType) (hty0 : ∀ k, k < N → parseFieldDescriptor (T k).2.2.1 = some (ty0 k)) (hnm : ∀ a, a < N → ∀ b, b < N → a ≠ b → (T a).2.1 ≠ (T b).2.1) (hc : gCl[ci]? = some (C, T, N)) (hk : k < N) (hlink : (Cond.fieldLink own index (T k).1 (T k).2.1 (T k).2.2.1) ∈ lw_all) (hfin : (T k).2.2.2 = false) {ty : FieldType} (hd : parseFieldDescriptor (T k).2.2.1 = some ty) (hgv : ∀ i j r, gv (gTy ci k) i j r = .int i) {v : Int32} (hnr : narrow ty (.int v) = .int v) (hfit : fits ty (.int v) = true) (n : Nat) (hC : gCx G cc nL own ret Qf rm) {κ : gM → Prop} (hF : pI M ci a k v κ) (hdg : decode cc pc = .ok (.putfield index, 3)) (hn : pc + 3 = n) (kk : ∀ M1, κ M1 → gAt G cells slots M1 lv n st) : gAt G cells slots M lv pc (.int v :: .ref a :: st) := by
  refine g_put hin ty0 hty0 hnm hc hk hlink hfin hd hnr hfit n hC (M1 := sI M a k v) hF.1 rfl (fun b j hne => if_neg (fun q => hne q.1)) (fun b j hne => rfl) (fun b j hne => rfl) rfl (fun j => ?_) hdg hn (kk _ hF.2)
  show gv (gTy ci j) (if a = a ∧ j = k then v else M.2.1 a j) (M.2.2.1 a j) (M.2.2.2.1 a j) = _
  by_cases hj : j = k
  · rw [if_pos hj, if_pos ⟨rfl, hj⟩, hj, hgv]
  · rw [if_neg hj, if_neg (fun q => hj q.2)]; rfl
theorem g_putFI {C : String} {T : u_T} {N ci index a k : Nat} (hin : ∀ w ∈ u_ws C T N, w ∈ lw_all) (ty0 : Nat → FieldType) (hty0 : ∀ k, k < N → parseFieldDescriptor (T k).2.2.1 = some (ty0 k)) (hnm : ∀ a, a < N → ∀ b, b < N → a ≠ b → (T a).2.1 ≠ (T b).2.1) (hc : gCl[ci]? = some (C, T, N)) (hk : k < N) (hlink : (Cond.fieldLink own index (T k).1 (T k).2.1 (T k).2.2.1) ∈ lw_all) (hfin : (T k).2.2.2 = true) (hdecl : (T k).1 = own) {ty : FieldType} (hd : parseFieldDescriptor (T k).2.2.1 = some ty) (hgv : ∀ i j r, gv (gTy ci k) i j r = .int i) {v : Int32} (hnr : narrow ty (.int v) = .int v) (hfit : fits ty (.int v) = true) (n : Nat) (hC : gCx G cc nL own ret Qf rm) (hini : G.2.2.1.2.2.2.2.1.name = "<init>") {κ : gM → Prop} (hF : pI M ci a k v κ) (hdg : decode cc pc = .ok (.putfield index, 3)) (hn : pc + 3 = n) (kk : ∀ M1, κ M1 → gAt G cells slots M1 lv n st) : gAt G cells slots M lv pc (.int v :: .ref a :: st) := by
  refine g_putF hin ty0 hty0 hnm hc hk hlink hfin hdecl hd hnr hfit n hC hini (M1 := sI M a k v) hF.1 rfl (fun b j hne => if_neg (fun q => hne q.1)) (fun b j hne => rfl) (fun b j hne => rfl) rfl (fun j => ?_) hdg hn (kk _ hF.2)
  show gv (gTy ci j) (if a = a ∧ j = k then v else M.2.1 a j) (M.2.2.1 a j) (M.2.2.2.1 a j) = _
  by_cases hj : j = k
  · rw [if_pos hj, if_pos ⟨rfl, hj⟩, hj, hgv]
  · rw [if_neg hj, if_neg (fun q => hj q.2)]; rfl
theorem g_putJ {C : String} {T : u_T} {N ci index a k : Nat} (hin : ∀ w ∈ u_ws C T N, w ∈ lw_all) (ty0 : Nat → FieldType) (hty0 : ∀ k, k < N → parseFieldDescriptor (T k).2.2.1 = some (ty0 k)) (hnm : ∀ a, a < N → ∀ b, b < N → a ≠ b → (T a).2.1 ≠ (T b).2.1) (hc : gCl[ci]? = some (C, T, N)) (hk : k < N) (hlink : (Cond.fieldLink own index (T k).1 (T k).2.1 (T k).2.2.1) ∈ lw_all) (hfin : (T k).2.2.2 = false) {ty : FieldType} (hd : parseFieldDescriptor (T k).2.2.1 = some ty) (hgv : ∀ i j r, gv (gTy ci k) i j r = .long j) {v : Int64} (hnr : narrow ty (.long v) = .long v) (hfit : fits ty (.long v) = true) (n : Nat) (hC : gCx G cc nL own ret Qf rm) {κ : gM → Prop} (hF : pJ M ci a k v κ) (hdg : decode cc pc = .ok (.putfield index, 3)) (hn : pc + 3 = n) (kk : ∀ M1, κ M1 → gAt G cells slots M1 lv n st) : gAt G cells slots M lv pc (.long v :: .ref a :: st) := by
  refine g_put hin ty0 hty0 hnm hc hk hlink hfin hd hnr hfit n hC (M1 := sJ M a k v) hF.1 rfl (fun b j hne => rfl) (fun b j hne => if_neg (fun q => hne q.1)) (fun b j hne => rfl) rfl (fun j => ?_) hdg hn (kk _ hF.2)
  show gv (gTy ci j) (M.2.1 a j) (if a = a ∧ j = k then v else M.2.2.1 a j) (M.2.2.2.1 a j) = _
  by_cases hj : j = k
  · rw [if_pos hj, if_pos ⟨rfl, hj⟩, hj, hgv]
  · rw [if_neg hj, if_neg (fun q => hj q.2)]; rfl
theorem g_putFJ {C : String} {T : u_T} {N ci index a k : Nat} (hin : ∀ w ∈ u_ws C T N, w ∈ lw_all) (ty0 : Nat → FieldType) (hty0 : ∀ k, k < N → parseFieldDescriptor (T k).2.2.1 = some (ty0 k)) (hnm : ∀ a, a < N → ∀ b, b < N → a ≠ b → (T a).2.1 ≠ (T b).2.1) (hc : gCl[ci]? = some (C, T, N)) (hk : k < N) (hlink : (Cond.fieldLink own index (T k).1 (T k).2.1 (T k).2.2.1) ∈ lw_all) (hfin : (T k).2.2.2 = true) (hdecl : (T k).1 = own) {ty : FieldType} (hd : parseFieldDescriptor (T k).2.2.1 = some ty) (hgv : ∀ i j r, gv (gTy ci k) i j r = .long j) {v : Int64} (hnr : narrow ty (.long v) = .long v) (hfit : fits ty (.long v) = true) (n : Nat) (hC : gCx G cc nL own ret Qf rm) (hini : G.2.2.1.2.2.2.2.1.name = "<init>") {κ : gM → Prop} (hF : pJ M ci a k v κ) (hdg : decode cc pc = .ok (.putfield index, 3)) (hn : pc + 3 = n) (kk : ∀ M1, κ M1 → gAt G cells slots M1 lv n st) : gAt G cells slots M lv pc (.long v :: .ref a :: st) := by
  refine g_putF hin ty0 hty0 hnm hc hk hlink hfin hdecl hd hnr hfit n hC hini (M1 := sJ M a k v) hF.1 rfl (fun b j hne => rfl) (fun b j hne => if_neg (fun q => hne q.1)) (fun b j hne => rfl) rfl (fun j => ?_) hdg hn (kk _ hF.2)
  show gv (gTy ci j) (M.2.1 a j) (if a = a ∧ j = k then v else M.2.2.1 a j) (M.2.2.2.1 a j) = _
  by_cases hj : j = k
  · rw [if_pos hj, if_pos ⟨rfl, hj⟩, hj, hgv]
  · rw [if_neg hj, if_neg (fun q => hj q.2)]; rfl
theorem g_putR {C : String} {T : u_T} {N ci index a k : Nat} (hin : ∀ w ∈ u_ws C T N, w ∈ lw_all) (ty0 : Nat → FieldType) (hty0 : ∀ k, k < N → parseFieldDescriptor (T k).2.2.1 = some (ty0 k)) (hnm : ∀ a, a < N → ∀ b, b < N → a ≠ b → (T a).2.1 ≠ (T b).2.1) (hc : gCl[ci]? = some (C, T, N)) (hk : k < N) (hlink : (Cond.fieldLink own index (T k).1 (T k).2.1 (T k).2.2.1) ∈ lw_all) (hfin : (T k).2.2.2 = false) {ty : FieldType} (hd : parseFieldDescriptor (T k).2.2.1 = some ty) (hgv : ∀ i j r, gv (gTy ci k) i j r = va_rf r) {v : Option Nat} (hnr : narrow ty (va_rf v) = va_rf v) (hfit : fits ty (va_rf v) = true) (n : Nat) (hC : gCx G cc nL own ret Qf rm) {κ : gM → Prop} (hF : pR M ci a k v κ) (hdg : decode cc pc = .ok (.putfield index, 3)) (hn : pc + 3 = n) (kk : ∀ M1, κ M1 → gAt G cells slots M1 lv n st) : gAt G cells slots M lv pc (va_rf v :: .ref a :: st) := by
  refine g_put hin ty0 hty0 hnm hc hk hlink hfin hd hnr hfit n hC (M1 := sR M a k v) hF.1 rfl (fun b j hne => rfl) (fun b j hne => rfl) (fun b j hne => if_neg (fun q => hne q.1)) rfl (fun j => ?_) hdg hn (kk _ hF.2)
  show gv (gTy ci j) (M.2.1 a j) (M.2.2.1 a j) (if a = a ∧ j = k then v else M.2.2.2.1 a j) = _
  by_cases hj : j = k
  · rw [if_pos hj, if_pos ⟨rfl, hj⟩, hj, hgv]
  · rw [if_neg hj, if_neg (fun q => hj q.2)]; rfl
theorem g_putFR {C : String} {T : u_T} {N ci index a k : Nat} (hin : ∀ w ∈ u_ws C T N, w ∈ lw_all) (ty0 : Nat → FieldType) (hty0 : ∀ k, k < N → parseFieldDescriptor (T k).2.2.1 = some (ty0 k)) (hnm : ∀ a, a < N → ∀ b, b < N → a ≠ b → (T a).2.1 ≠ (T b).2.1) (hc : gCl[ci]? = some (C, T, N)) (hk : k < N) (hlink : (Cond.fieldLink own index (T k).1 (T k).2.1 (T k).2.2.1) ∈ lw_all) (hfin : (T k).2.2.2 = true) (hdecl : (T k).1 = own) {ty : FieldType} (hd : parseFieldDescriptor (T k).2.2.1 = some ty) (hgv : ∀ i j r, gv (gTy ci k) i j r = va_rf r) {v : Option Nat} (hnr : narrow ty (va_rf v) = va_rf v) (hfit : fits ty (va_rf v) = true) (n : Nat) (hC : gCx G cc nL own ret Qf rm) (hini : G.2.2.1.2.2.2.2.1.name = "<init>") {κ : gM → Prop} (hF : pR M ci a k v κ) (hdg : decode cc pc = .ok (.putfield index, 3)) (hn : pc + 3 = n) (kk : ∀ M1, κ M1 → gAt G cells slots M1 lv n st) : gAt G cells slots M lv pc (va_rf v :: .ref a :: st) := by
  refine g_putF hin ty0 hty0 hnm hc hk hlink hfin hdecl hd hnr hfit n hC hini (M1 := sR M a k v) hF.1 rfl (fun b j hne => rfl) (fun b j hne => rfl) (fun b j hne => if_neg (fun q => hne q.1)) rfl (fun j => ?_) hdg hn (kk _ hF.2)
  show gv (gTy ci j) (M.2.1 a j) (M.2.2.1 a j) (if a = a ∧ j = k then v else M.2.2.2.1 a j) = _
  by_cases hj : j = k
  · rw [if_pos hj, if_pos ⟨rfl, hj⟩, hj, hgv]
  · rw [if_neg hj, if_neg (fun q => hj q.2)]; rfl
/-- what a call says -/
theorem g_after {s0 : State} {D : va_G} {dA : FieldType → ClassId} {p : Program} {l : Launch} {e : Env} {R : Room} {s : State} {m : MethodId} {args : Array Value} {below : List Frame} {meth : Method} {c : Code} {nL : Nat} {Q : State → Prop} {H : Heap} {locs : List Loc} {ls : Array Slot} {mc ms : Nat} {st0 rest : List Value} {Qf' : Option Value → gM → Prop} {av : Array Value} {n : Nat} (hr : va_Run p l e R s m args below meth c H locs cells slots mc ms (F0 m pc ls st0) rest (gQ Qf' s0 D dA av) (gA s0)) (hn : pc + 3 = n) (h2 : va_S (gA s0) s.heap H locs) (h3 : lv_has ls nL lv)
    (kk : ∀ v M1, Qf' v M1 → gAt ((s0, D, dA), (p, l, e, R), (s, m, args, below, meth, c), nL, Q) (cells + mc) (slots + ms) M1 lv n (v.toList ++ rest)) : W p l e R s m args below meth c H locs cells slots Q (F0 m pc ls st0) := by
  subst hn
  intro T hT X
  obtain ⟨v, st₀, t, T', L, h0, X', hL, e1, e2, ⟨⟨v', u, hv, hq, hc⟩, hz, hk⟩, st⟩ := hr T hT X
  cases hv
  rw [h0] at hz hk
  obtain ⟨t2, a1, b1⟩ := kk v u hq T'.heap (locs ++ L) ls (by rw [e1]; exact hc)
    ⟨Nat.le_trans h2.1 (by rw [e1]; exact hz), fun q g1 g2 => by rw [e1, hk q (Nat.lt_of_lt_of_le g1 h2.1) g2]; exact h2.2.1 q g1 g2, fun q hq => by
      rcases List.mem_append.mp hq with h | h
      · exact h2.2.2 q h
      · exact hL q h⟩ h3 T' rfl X'
  exact ⟨t2, st t2 a1, b1⟩
theorem g_cV {y : MethodName} {bytes : ByteArray} {maxL : Nat} {ret' : Option FieldType} {C : String} {T : u_T} {N ci index : Nat} {na : Nat} {rm' : Room} {a : Nat} {As rest st0 : List Value} {Qf' : Option Value → gM → Prop} (hwd : GoodIn lw_all (wsV own index C y (ws_ y bytes maxL ret'))) (hd : y.cls = C ∧ y.cls ≠ "java/lang/invoke/MethodHandle" ∧ y.cls ≠ "java/lang/invoke/VarHandle" ∧ (parseMethodDescriptor y.desc).map (fun d => d.parameters.length) = some na) (hc : gCl[ci]? = some (C, T, N)) (n : Nat) (hC : gCx G cc nL own ret Qf rm) (hrc : rc M ci a) (hM : gMt y (ws_ y bytes maxL ret') rm' M (.ref a :: As) Qf') (hna : As.length = na) (hR : rm'.frames + 1 ≤ rm.frames ∧ 8 + (maxL + 11) + rm'.locals ≤ rm.locals) (hf : cells + rm'.cells ≤ rm.cells ∧ slots + rm'.slots ≤ rm.slots) (hst : st0 = As.reverse ++ .ref a :: rest) (hroom : (rest.map fun v => v.category).sum ≤ 8) (hdg : decode cc pc = .ok (.invokevirtual index, 3)) (hn : pc + 3 = n) (kk : ∀ v M1, Qf' v M1 → gAt G (cells + rm'.cells) (slots + rm'.slots) M1 lv n (v.toList ++ rest)) : gAt G cells slots M lv pc st0 := by
  obtain ⟨⟨s0, D, dA⟩, ⟨p, l, e, R⟩, ⟨s, m, args, below, meth, c⟩, nL', Q⟩ := G
  obtain ⟨⟨hx, hb, hml, hown, hts⟩, hret, hlk, hW0, hX0, hfl, ⟨b0, hS0⟩, rfl, rfl, hQ⟩ := hC
  obtain ⟨w, hkd⟩ := hrc
  intro H locs ls h1 h2 h3
  refine g_after (va_runV (As := As) (rest := rest) ⟨hx, hb, hml, hown, hts⟩ (hM l s0 b0 D dA hfl hS0) (cwV na hts hwd rfl rfl rfl hd hR) ⟨gU.blind, ?_, fun U hU hW => ⟨rfl, State.WarmedH.trans hW0 hW, by rw [hU]; exact hX0.of h2, by rw [hU]; exact h1⟩⟩ rfl hna h3.1 hst (lv_room hroom) hdg hf) hn h2 h3 kk
  obtain ⟨r, hr1, cell, q1, q2, q3, q4⟩ := g_obj (h1.1 a) hkd
  have hr : r = (C, T, N) := Option.some.inj (hr1.symm.trans hc)
  subst hr
  obtain ⟨hS, hfc, -⟩ := (g_kT hS0 hW0).1 ci _ hc
  exact ⟨cell, q1, q3.2, by rw [q2]; exact hfc⟩
theorem g_cS {y : MethodName} {bytes : ByteArray} {maxL : Nat} {ret' : Option FieldType} {index : Nat} {na : Nat} {rm' : Room} {As rest st0 : List Value} {Qf' : Option Value → gM → Prop} (hwd : GoodIn lw_all (va_wsS own index y (ws_ y bytes maxL ret'))) (hd : y.cls ≠ "java/lang/invoke/MethodHandle" ∧ y.cls ≠ "java/lang/invoke/VarHandle" ∧ (parseMethodDescriptor y.desc).map (fun d => d.parameters.length) = some na) (n : Nat) (hC : gCx G cc nL own ret Qf rm) (hM : gMt y (ws_ y bytes maxL ret') rm' M As Qf') (hna : As.length = na) (hR : rm'.frames + 1 ≤ rm.frames ∧ 8 + (maxL + 11) + rm'.locals ≤ rm.locals) (hf : cells + rm'.cells ≤ rm.cells ∧ slots + rm'.slots ≤ rm.slots) (hst : st0 = As.reverse ++ rest) (hroom : (rest.map fun v => v.category).sum ≤ 8) (hdg : decode cc pc = .ok (.invokestatic index, 3)) (hn : pc + 3 = n) (kk : ∀ v M1, Qf' v M1 → gAt G (cells + rm'.cells) (slots + rm'.slots) M1 lv n (v.toList ++ rest)) : gAt G cells slots M lv pc st0 := by
  obtain ⟨⟨s0, D, dA⟩, ⟨p, l, e, R⟩, ⟨s, m, args, below, meth, c⟩, nL', Q⟩ := G
  obtain ⟨⟨hx, hb, hml, hown, hts⟩, hret, hlk, hW0, hX0, hfl, ⟨b0, hS0⟩, rfl, rfl, hQ⟩ := hC
  intro H locs ls h1 h2 h3
  exact g_after (va_runS (As := As) (rest := rest) ⟨hx, hb, hml, hown, hts⟩ (hM l s0 b0 D dA hfl hS0) (va_cwS na hts hwd rfl rfl rfl hd hR) ⟨gU.blind, fun U hU hW => ⟨rfl, State.WarmedH.trans hW0 hW, by rw [hU]; exact hX0.of h2, by rw [hU]; exact h1⟩⟩ rfl hna h3.1 hst (lv_room hroom) hdg hf) hn h2 h3 kk
theorem g_cI {y : MethodName} {bytes : ByteArray} {maxL : Nat} {index : Nat} {na : Nat} {rm' : Room} {a : Nat} {As rest st0 : List Value} {Qf' : Option Value → gM → Prop} (hcd : Cond.code y bytes maxL none ∈ lw_all) (hini : Cond.initialized y.cls ∈ lw_all) (hli : Cond.methodLink own index y ∈ lw_all) (hins : Cond.instanceMethod y ∈ lw_all) (hy1 : y.name = "<init>") (hd : y.cls ≠ "java/lang/invoke/MethodHandle" ∧ y.cls ≠ "java/lang/invoke/VarHandle" ∧ (parseMethodDescriptor y.desc).map (fun d => d.parameters.length) = some na) (n : Nat) (hC : gCx G cc nL own ret Qf rm) (hM : gMt y (ws_ y bytes maxL none) rm' M (.ref a :: As) Qf') (hna : As.length = na) (hR : rm'.frames + 1 ≤ rm.frames ∧ 8 + (maxL + 11) + rm'.locals ≤ rm.locals) (hf : cells + rm'.cells ≤ rm.cells ∧ slots + rm'.slots ≤ rm.slots) (hst : st0 = As.reverse ++ .ref a :: rest) (hroom : (rest.map fun v => v.category).sum ≤ 8) (hdg : decode cc pc = .ok (.invokespecial index, 3)) (hn : pc + 3 = n) (kk : ∀ v M1, Qf' v M1 → gAt G (cells + rm'.cells) (slots + rm'.slots) M1 lv n (v.toList ++ rest)) : gAt G cells slots M lv pc st0 := by
  obtain ⟨⟨s0, D, dA⟩, ⟨p, l, e, R⟩, ⟨s, m, args, below, meth, c⟩, nL', Q⟩ := G
  obtain ⟨⟨hx, hb, hml, hown, hts⟩, hret, hlk, hW0, hX0, hfl, ⟨b0, hS0⟩, rfl, rfl, hQ⟩ := hC
  intro H locs ls h1 h2 h3
  exact g_after (va_runI (As := As) (rest := rest) ⟨hx, hb, hml, hown, hts⟩ (hM l s0 b0 D dA hfl hS0) (cwI na hts (lw_meth hcd) rfl rfl rfl (hts _ hini) (hts _ hli) (hts _ hins) hy1 hd hR) ⟨gU.blind, fun U hU hW => ⟨rfl, State.WarmedH.trans hW0 hW, by rw [hU]; exact hX0.of h2, by rw [hU]; exact h1⟩⟩ rfl hna h3.1 hst (lv_room hroom) hdg hf) hn h2 h3 kk
end GMEM
