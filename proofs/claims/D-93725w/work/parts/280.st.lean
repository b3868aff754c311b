/-! the law's start -/
set_option maxRecDepth 100000
theorem st_cls {s : State} {b : Nat} (hts : ∀ w ∈ lw_tbl, w.before #[Value.ref b] s = true) : ∀ (ci : Nat) (r : vw_C), gCl[ci]? = some r → ∃ (cC : ClassId) (iS : Nat → Nat), u_Kn s r.1 r.2.1 r.2.2 cC iS
  | ci, r, h => match ci, h with
  | 0, h => by cases h; exact u_known hts (fun w h => lw_all_tbl (in_X0 w h)) (hts _ (lw_all_tbl q104))
  | 1, h => by cases h; exact u_known hts (fun w h => lw_all_tbl (in_X1 w h)) (hts _ (lw_all_tbl q112))
  | 2, h => by cases h; exact u_known hts (fun w h => lw_all_tbl (in_X2 w h)) (hts _ (lw_all_tbl q138))
  | 3, h => by cases h; exact u_known hts (fun w h => lw_all_tbl (in_X3 w h)) (hts _ (lw_all_tbl q1378))
  | 4, h => by cases h; exact u_known hts (fun w h => lw_all_tbl (in_X4 w h)) (hts _ (lw_all_tbl q304))
  | 5, h => by cases h; exact u_known hts (fun w h => lw_all_tbl (in_X6 w h)) (hts _ (lw_all_tbl q429))
  | 6, h => by cases h; exact u_known hts (fun w h => lw_all_tbl (in_X6 w h)) (hts _ (lw_all_tbl q429))
  | 7, h => by cases h; exact u_known hts (fun w h => lw_all_tbl (in_X7 w h)) (hts _ (lw_all_tbl q443))
  | 8, h => by cases h; exact u_known hts (fun w h => lw_all_tbl (in_X8 w h)) (hts _ (lw_all_tbl q453))
  | 9, h => by cases h; exact u_known hts (fun w h => absurd h List.not_mem_nil) (hts _ (lw_all_tbl q466))
  | 10, h => by cases h; exact u_known hts (fun w h => lw_all_tbl (in_X10 w h)) (hts _ (lw_all_tbl q473))
  | 11, h => by cases h; exact u_known hts (fun w h => lw_all_tbl (in_X11 w h)) (hts _ (lw_all_tbl q566))
  | 12, h => by cases h; exact u_known hts (fun w h => lw_all_tbl (in_X12 w h)) (hts _ (lw_all_tbl q572))
  | 13, h => by cases h; exact u_known hts (fun w h => lw_all_tbl (in_X13 w h)) (hts _ (lw_all_tbl q872))
  | 14, h => by cases h; exact u_known hts (fun w h => lw_all_tbl (in_X14 w h)) (hts _ (lw_all_tbl q1282))
  | 15, h => by cases h; exact u_known hts (fun w h => lw_all_tbl (in_J4 w h)) (hts _ (lw_all_tbl q253))
  | 16, h => by cases h; exact u_known hts (fun w h => lw_all_tbl (in_J11 w h)) (hts _ (lw_all_tbl q690))
  | n + 17, h => by cases h
theorem st_prim {s : State} {b : Nat} {ty : FieldType} (hts : ∀ w ∈ lw_tbl, w.before #[Value.ref b] s = true) (hw : (Cond.arrayClass ty) ∈ lw_all) (hr : ∀ cA, s.vm.findClass ("[" ++ ty.toString) = some cA → va_RA s cA ty) : ∃ cA, ArrOfT s cA ty ∧ va_RA s cA ty := by
  obtain ⟨c, k, comp, h1, h2, h3⟩ := Cond.arrayClass_spec (hts _ (lw_all_tbl hw))
  exact ⟨c, fun n z => ⟨fun k h => (by cases h), k, h2, comp, h3⟩, hr c h1⟩
theorem st_obj {s : State} {b : Nat} {C : String} (hts : ∀ w ∈ lw_tbl, w.before #[Value.ref b] s = true) (hw : (Cond.arrayOver (.object C)) ∈ lw_tbl) : ∃ cA, ArrOfT s cA (.object C) ∧ va_RA s cA (.object C) := by
  obtain ⟨comp, c, k, h1, -, h2, h3, h4⟩ := Cond.arrayOver_spec (hts _ hw)
  exact ⟨c, fun n z => ⟨fun k h => (by cases h), k, h2, comp, h3⟩, k, comp, h2, h3, h1, h4⟩
theorem st_arr {s : State} {b : Nat} {ty : FieldType} (hts : ∀ w ∈ lw_tbl, w.before #[Value.ref b] s = true) (hw : (Cond.arrayOver (.array ty)) ∈ lw_tbl) : ∃ cA, ArrOfT s cA (.array ty) ∧ va_RA s cA (.array ty) := by
  obtain ⟨comp, c, k, h1, h2, h3, h4⟩ := mn_over (hts _ hw)
  exact ⟨c, fun n z => ⟨fun k h => (by cases h), k, h2, comp, h3⟩, h4⟩
theorem st_ty {s : State} {b : Nat} (hts : ∀ w ∈ lw_tbl, w.before #[Value.ref b] s = true) : ∀ ty ∈ gTl, ∃ cA, ArrOfT s cA ty ∧ va_RA s cA ty := by
  intro ty h
  simp only [gTl, List.mem_cons, List.not_mem_nil, or_false] at h
  rcases h with rfl | rfl | rfl | rfl | rfl | rfl | rfl | rfl | rfl
  · exact st_prim hts q147 (fun _ h => h)
  · exact st_prim hts q273 (fun _ h => h)
  · exact st_prim hts q254 (fun _ h => h)
  · exact st_prim hts q272 (fun _ h => h)
  · exact st_prim hts q274 (fun _ h => h)
  · exact st_obj hts q118
  · exact st_obj hts q137
  · exact st_arr hts q1384
  · exact st_arr hts q1386
theorem st_S0 {s : State} {b : Nat} (hts : ∀ w ∈ lw_tbl, w.before #[Value.ref b] s = true) (hg : (Jvm.Cond.and given_1 narrow_1).before #[Value.ref b] s = true) (hm : modulesRight_1 s = true) : ∃ (D : va_G) (dA : FieldType → ClassId), gS0 s b D dA := by
  have h1 : ∀ ci : Nat, ∃ q : ClassId × (Nat → Nat), ∀ r : vw_C, gCl[ci]? = some r → u_Kn s r.1 r.2.1 r.2.2 q.1 q.2 := by
    intro ci
    cases e : gCl[ci]? with
    | none => exact ⟨(0, fun _ => 0), fun r h => by cases h⟩
    | some r =>
      obtain ⟨c, i, h⟩ := st_cls hts ci r e
      exact ⟨(c, i), fun r' h' => by cases h'; exact h⟩
  obtain ⟨f, hf⟩ := Classical.axiomOfChoice h1
  have h2 : ∀ ty : FieldType, ∃ cA : ClassId, ty ∈ gTl → ArrOfT s cA ty ∧ va_RA s cA ty := by
    intro ty
    by_cases e : ty ∈ gTl
    · obtain ⟨cA, h⟩ := st_ty hts ty e
      exact ⟨cA, fun _ => h⟩
    · exact ⟨0, fun h => absurd h e⟩
  obtain ⟨dA, hdA⟩ := Classical.axiomOfChoice h2
  refine ⟨(fun ci => (f ci).1, fun ci => (f ci).2), dA, ⟨fun ci r h => hf ci r h, fun k q hq => ?_⟩, hts, hg, hm⟩
  rw [List.getElem?_map] at hq
  cases e : gTl[k]? with
  | none => rw [e] at hq; cases hq
  | some ty =>
    rw [e] at hq
    cases hq
    exact hdA ty (List.mem_of_getElem? e)
/-! the String constants -/
def sB (t : String) : List Int32 := t.toList.map fun c => Int32.ofNat c.toNat
def stT (q : String × Nat × String) : Term := .string q.1 q.2.1
def stW (q : String × Nat × String) : List Cond := [Cond.exactly (stT q) "java/lang/String", Cond.eq (.field (stT q) "java/lang/String" "coder" "B") (.int 0), Cond.arrayOf (.field (stT q) "java/lang/String" "value" "[B") .byte, Cond.eq (.length (.field (stT q) "java/lang/String" "value" "[B")) (.int (Int32.ofNat (sB q.2.2).length))] ++ (List.range (sB q.2.2).length).map fun j => Cond.eq (.elem (.field (stT q) "java/lang/String" "value" "[B") (.int (Int32.ofNat j))) (.int ((sB q.2.2).getD j 0))
theorem stW_in : ∀ q ∈ gStr, ∀ w ∈ stW q, w ∈ flatC (Jvm.Cond.and given_1 narrow_1) := by decide +kernel
theorem stR_in : ∀ q ∈ gStr, (Cond.stringRef q.1 q.2.1 q.2.2) ∈ lw_tbl := by
  intro q h
  simp only [gStr, List.mem_cons, List.not_mem_nil, or_false] at h
  rcases h with rfl | rfl | rfl | rfl | rfl | rfl | rfl | rfl | rfl | rfl | rfl | rfl | rfl | rfl | rfl | rfl | rfl | rfl | rfl
  · exact q870
  · exact q917
  · exact q927
  · exact q928
  · exact q929
  · exact q930
  · exact q894
  · exact q915
  · exact q916
  · exact q922
  · exact q1606
  · exact q1642
  · exact q1643
  · exact q1644
  · exact q1645
  · exact q1646
  · exact q1647
  · exact q1648
  · exact q1649
theorem stL : ∀ q ∈ gStr, (sB q.2.2).length < 100 := by decide +kernel
def St1 (s : State) (q : String × Nat × String) (a v : Nat) : Prop := vk_R q.1 q.2.1 q.2.2 a s ∧ va_O "java/lang/String" a (gA s) s s.heap ∧ va_OF "java/lang/String" "coder" "B" (.int 0) a (gA s) s s.heap ∧ va_OF "java/lang/String" "value" "[B" (.ref v) a (gA s) s s.heap ∧ va_T .byte v (sB q.2.2).length (fun j => .int ((sB q.2.2).getD j 0)) (gA s) s s.heap
theorem st_str {s : State} {b : Nat} (hts : ∀ w ∈ lw_tbl, w.before #[Value.ref b] s = true) (hg : (Jvm.Cond.and given_1 narrow_1).before #[Value.ref b] s = true) {q : String × Nat × String} (hq : q ∈ gStr) : ∃ a v, St1 s q a v := by
  have hw : ∀ w ∈ stW q, w.before #[Value.ref b] s = true := fun w h => flat_of_before _ hg _ (stW_in q hq w h)
  have hl := stL q hq
  obtain ⟨adK, adV, hS, ht⟩ := vk_Sof (args := #[Value.ref b]) (s := s) (N := 1) (tm := fun _ => stT q) (len := [(sB q.2.2).length]) (byt := [sB q.2.2]) (A := gA s)
    (fun i hi => by
      have : i = 0 := by omega
      subst this
      show (sB q.2.2).length < _
      omega)
    (fun i hi => hw _ (by simp [stW])) (fun i hi => hw _ (by simp [stW])) (fun i hi => hw _ (by simp [stW]))
    (fun i hi => by
      have : i = 0 := by omega
      subst this
      exact hw _ (by simp [stW]))
    (fun i hi j hj => by
      have : i = 0 := by omega
      subst this
      refine hw _ (List.mem_append_right _ (List.mem_map.mpr ⟨j, List.mem_range.mpr hj, rfl⟩)))
    (fun i j hi hj hne => absurd (by omega) hne) g_notA
  obtain ⟨h1, h2, h3, h4⟩ := hS.1 0 (by omega)
  exact ⟨adK 0, adV 0, vk_R.of (A := #[Value.ref b]) (hts _ (stR_in q hq)) (ht 0 (by omega)), h1, h2, h3, h4⟩
/-! the first memory, read off the heap -/
def iOf (o : Option Value) : Int32 := match o with
  | some (.int x) => x
  | _ => 0
def rOf (o : Option Value) : Option Nat := match o with
  | some (.ref x) => some x
  | _ => none

