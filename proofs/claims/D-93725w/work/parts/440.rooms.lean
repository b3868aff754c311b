/-! rooms, loads told, houses joined: the model's -/
set_option maxRecDepth 100000
theorem p5_pos (k : Nat) : 0 < 5 ^ k := Nat.pos_of_ne_zero (fun z => by rw [Nat.pow_eq_zero] at z; omega)
theorem mu0 {x : Int32} (h : x = (-1 : Int32)) : ∀ d, d < 7 → (((fun _ : Nat => false) d = true) = (Int32.ofNat d = x)) := fun d hd => by
  rw [h]
  exact propext ⟨fun z => (by cases z), fun z => absurd z (oI_ne (i := d) (by omega))⟩
/-- the least room of a state in which something is put in -/
def rmL (P : Nat → Nat) (d : Nat) : Nat → Option Nat
  | 0 => none
  | s + 1 => if LT P (fun _ => false) d s = 0 then rmL P d s else match rmL P d s with
    | none => some (sm P 0 s)
    | some m => if m ≤ sm P 0 s then some m else some (sm P 0 s)
/-- the most room of a state in which nothing is put in -/
def rmM (P : Nat → Nat) (d : Nat) : Nat → Nat
  | 0 => 0
  | s + 1 => if LT P (fun _ => false) d s = 0 then (if sm P 0 s ≤ rmM P d s then rmM P d s else sm P 0 s) else rmM P d s
theorem rmL_le {P : Nat → Nat} (hP : Wf P) {d : Nat} : ∀ {n m : Nat}, rmL P d n = some m → m ≤ 108 := by
  intro n
  induction n with
  | zero => intro m h; cases h
  | succ n ih =>
    intro m h
    have hs := sm0_lt hP n
    unfold rmL at h
    by_cases c : LT P (fun _ => false) d n = 0
    · rw [if_pos c] at h; exact ih h
    · rw [if_neg c] at h
      cases e : rmL P d n with
      | none => rw [e] at h; cases h; exact hs
      | some m' =>
        rw [e] at h
        simp only at h
        split at h
        · cases h; exact ih e
        · cases h; exact hs
theorem rmM_le {P : Nat → Nat} (hP : Wf P) {d : Nat} : ∀ n, rmM P d n ≤ 108 := by
  intro n
  induction n with
  | zero => exact Nat.zero_le _
  | succ n ih =>
    have hs := sm0_lt hP n
    unfold rmM
    split
    · split <;> omega
    · exact ih
/-- the first state that is odd by a bar -/
def odN (P : Nat → Nat) (d m : Nat) : Nat → Option Nat
  | 0 => none
  | n + 1 => match odN P d m n with
    | some s => some s
    | none => if LT P (fun _ => false) d n = 0 ∧ m ≤ sm P 0 n then some n else none
theorem odN_some {P : Nat → Nat} {d m s n : Nat} (h : odN P d m n = some s) : ∀ k, odN P d m (n + k) = some s := by
  intro k
  induction k with
  | zero => exact h
  | succ k ih =>
    show (match odN P d m (n + k) with | some s => some s | none => _) = _
    rw [ih]
def oB (x : Option Nat) : Int32 := match x with
  | none => (0 : Int32)
  | some _ => (1 : Int32)
section MROOMS
variable {M : gM} {a o : Nat} {r ρ P : Nat → Nat}
theorem Bst.wI (h : LayM M a r ρ o) {n : Nat} {mu : Nat → Bool} (hn : n ≤ 7) (w : Bst M r P mu n) {b i k : Nat} {x : Int32} (hb : ρ b = o + k) (hk : k ≠ 29) : Bst (sI M b i x) r P mu n := fun d hd s hs => ⟨(w d hd s hs).1, (mI_ne (Or.inl (ne_tg (tg2 h (k := 29) rfl (by omega)) hb (by omega)))).trans (w d hd s hs).2⟩
theorem m_findRooms (h : LayM M a r ρ o) {x d : Nat} {Q : Int32 → gM → Prop} (hx : x < 8) (hP : HsM M r x P) (hw : Wf P) (hmu : mI M a 39 = (-1 : Int32)) (hd : d ≤ P 0) (q : ∀ M', Fr ρ o M M' → Bst M' r P (fun _ => false) (P 0 + 1) → mI M' a 40 = oI (rmL P d (5 ^ P 4)) → mI M' a 41 = Int32.ofNat (rmM P d (5 ^ P 4)) → Q (oB (rmL P d (5 ^ P 4))) M') : F_X3_findRooms M a (Int32.ofNat x) (Int32.ofNat d) Q := by
  have hk := hw.2.2.2.2.1
  have hd0 := hw.1
  have h5 := p5_le hk.2
  refine m_rc h (m_findBest (mu := fun _ => false) h hx hP hw (mu0 hmu) (fun N f wy wb => ?_))
  have hN := f.lay h
  have ta := h.1.2
  refine m_pI hN (m_pI (hN.sI _ _ _) ?_)
  have f2 := (f.wI (x := (-1 : Int32)) (sc0 (i := 40) hN (by omega))).wI (x := (0 : Int32)) (sc0 (i := 41) hN (by omega))
  refine loopV (fun g s N => F_X3_findRooms_b17 Q a (Int32.ofNat x) (Int32.ofNat d) g s N) (fun s => Int32.ofNat s) (fun i N => Fr ρ o M N ∧ Bst N r P (fun _ => false) (P 0 + 1) ∧ mI N a 40 = oI (rmL P d i) ∧ mI N a 41 = Int32.ofNat (rmM P d i)) (5 ^ P 4) (fun i hi g N hN k => ?_) (fun g N hN => ?_) _ ⟨f2, (wb.wI hN (by omega) ta (by omega)).wI (hN.sI _ _ _) (by omega) ta (by omega), (mI_ne (Or.inr (by omega))).trans mI_eq, mI_eq⟩
  · obtain ⟨fN, wb, e40, e41⟩ := hN
    have hN := fN.lay h
    have hPN := fN.hs h hx hP
    have hm := sm0_lt hw i
    have hM := rmM_le hw (d := d) i
    have hLT := LT_le P (fun _ => false) d i
    refine m_rc hN (m_states hN hx hPN hk.2 (leF hi (by omega) (m_rc hN (m_sum (w := 0) hN hx hPN hk.2 (by omega) (by omega) (m_g2 hN rfl (m_aN hN rfl (by omega) (by omega) (m_bI hN rfl (by omega) (by omega) (by omega) ?_)))))))
    rw [(wb d (by omega) i hi).2]
    -- the two ends
    have fin40 : LT P (fun _ => false) d i ≠ 0 → ∀ y, rmL P d (i + 1) = some y → y = sm P 0 i → F_X3_findRooms_b88 Q (F_X3_findRooms_b17 Q a (Int32.ofNat x) (Int32.ofNat d) g) a (Int32.ofNat x) (Int32.ofNat d) (Int32.ofNat i) (Int32.ofNat (sm P 0 i)) N := by
      intro c y ey hy
      refine m_pI hN ?_
      unfold F_X3_findRooms_b94
      rw [i32_lit 1, i32_add]
      refine k _ ⟨fN.wI (sc0 hN (by omega)), wb.wI hN (by omega) ta (by omega), ?_, ?_⟩
      · rw [mI_eq, ey, hy]; rfl
      · rw [mI_ne (Or.inr (by omega)), e41]
        show _ = Int32.ofNat (if _ then _ else _)
        rw [if_neg c]
    refine eqS' (b := 0) (by omega) (by omega) (fun c => m_gI hN ?_) (fun c => m_gI hN ?_)
    · rw [e40]
      cases e : rmL P d i with
      | none => exact bT rfl (fin40 c _ (by unfold rmL; rw [if_neg c, e]) rfl)
      | some m =>
        have hm' := rmL_le hw e
        refine bF (oI_ne (by omega)) (m_gI hN ?_)
        rw [e40, e]
        refine leS (by omega) (by omega) (fun c2 => ?_) (fun c2 => fin40 c _ (by unfold rmL; rw [if_neg c, e]; simp only; rw [if_neg (by omega)]) rfl)
        unfold F_X3_findRooms_b94
        rw [i32_lit 1, i32_add]
        refine k _ ⟨fN, wb, ?_, ?_⟩
        · rw [e40]
          show oI (rmL P d i) = oI (if _ then _ else _)
          rw [if_neg c, e]
          simp only
          rw [if_pos c2]
        · rw [e41]
          show _ = Int32.ofNat (if _ then _ else _)
          rw [if_neg c]
    · have fin41 : ∀ y, rmM P d (i + 1) = y → F_X3_findRooms_b65 Q (F_X3_findRooms_b17 Q a (Int32.ofNat x) (Int32.ofNat d) g) a (Int32.ofNat x) (Int32.ofNat d) (Int32.ofNat i) a (Int32.ofNat y) N := by
        intro y ey
        refine m_pI hN ?_
        unfold F_X3_findRooms_b94
        rw [i32_lit 1, i32_add]
        refine k _ ⟨fN.wI (sc0 hN (by omega)), wb.wI hN (by omega) ta (by omega), ?_, ?_⟩
        · rw [mI_ne (Or.inr (by omega)), e40]
          show _ = oI (if _ then _ else _)
          rw [if_pos c]
        · rw [mI_eq, ey]
      rw [e41]
      refine leS (by omega) (by omega) (fun c2 => m_gI hN ?_) (fun c2 => fin41 _ (by unfold rmM; rw [if_pos c, if_neg (by omega)]))
      rw [e41]
      exact fin41 _ (by show (if _ then _ else _) = _; rw [if_pos c, if_pos c2])
  · obtain ⟨fN, wb, e40, e41⟩ := hN
    have hN := fN.lay h
    refine m_rc hN (m_states hN hx (fN.hs h hx hP) hk.2 (leT (Nat.le_refl _) (by omega) (m_gI hN ?_)))
    have hq := q N fN wb e40 e41
    rw [e40]
    cases e : rmL P d (5 ^ P 4) with
    | none => rw [e] at hq; exact bT rfl hq
    | some m => rw [e] at hq; have := rmL_le hw e; exact bF (oI_ne (by omega)) hq
/-- a day with a load, by what the states are worth then -/
def wlF (P : Nat → Nat) (d s l : Nat) (f : Nat → Int64) : Int64 := Int64.ofNat (P 3) * bh P d s f + Int64.ofNat (4 - P 3) * (if l = 0 then bh P d s f else bx P d + bh P d (s - l) f)
theorem m_withLoad (h : LayM M a r ρ o) {x d s l a4 : Nat} {Q : Int64 → gM → Prop} (hx : x < 8) (hP : HsM M r x P) (hw : Wf P) (hW : Wy M r P) (hd : 1 ≤ d ∧ d ≤ 6) (hs : s < 5 ^ P 4) (hl : l ≤ s) (h4 : kd M a4 = some (true, .inr (.long, 125))) (q : Q (wlF P d s l (mJ M a4)) M) : F_X3_withLoad M a (Int32.ofNat x) (Int32.ofNat d) (Int32.ofNat s) (Int32.ofNat l) a4 Q := by
  have hk := hw.2.2.2.2.1
  have h5 := p5_le hk.2
  have hf3 := hw.2.2.2.1
  have fin : ∀ t : Int64, t = (if l = 0 then bh P d s (mJ M a4) else bx P d + bh P d (s - l) (mJ M a4)) → F_X3_withLoad_b40 Q a (Int32.ofNat x) (bh P d s (mJ M a4)) t M := by
    intro t ht
    refine m_g2 h rfl (m_aN h rfl hx (by omega) (m_bI (i := 3) h rfl hx (by omega) (by omega) (m_g2 h rfl (m_aN h rfl hx (by omega) (m_bI (i := 3) h rfl hx (by omega) (by omega) ?_)))))
    rw [hP 3 (by omega), i32_lit 4, i32_sub (by omega), i64_of (by omega), i64_of (by omega), ht]
    exact q
  refine m_rc h (m_behind h hx hP hw hW hd hs h4 (eqS' (b := 0) (by omega) (by omega) (fun c => ?_) (fun c => fin _ (by rw [if_pos c]))))
  refine m_rc h (m_boxOf h hx hP hw hd (m_rc h ?_))
  rw [i32_sub hl]
  exact m_behind h hx hP hw hW hd (by omega) h4 (fin _ (by rw [if_neg c]))
theorem m_wholeCost (h : LayM M a r ρ o) {x : Nat} {Q : Int64 → gM → Prop} (hx : x < 8) (hP : HsM M r x P) (hw : Wf P) (hmu : mI M a 39 = (-1 : Int32)) (q : ∀ M', Fr ρ o M M' → Q (CT P (fun _ => false) (P 0) 0) M') : F_X3_wholeCost M a (Int32.ofNat x) Q := by
  have hk := hw.2.2.2.2.1
  have hd0 := hw.1
  refine m_rc h (m_findBest (mu := fun _ => false) h hx hP hw (mu0 hmu) (fun N f wy wb => ?_))
  have hN := f.lay h
  refine m_g2 hN rfl (m_g2 hN rfl (m_aN hN rfl hx (by omega) (m_bI (i := 0) hN rfl hx (by omega) (by omega) ?_)))
  rw [f.hs h hx hP 0 (by omega)]
  refine m_aN hN rfl (by omega) (by omega) (m_bJ (i := 0) hN rfl (by omega) (by omega) (by omega) ?_)
  rw [(wb (P 0) (by omega) 0 (p5_pos _)).1]
  exact q N f
theorem m_mayJoin (h : LayM M a r ρ o) {x y : Nat} {P' : Nat → Nat} {Q : Int32 → gM → Prop} (hx : x < 8) (hy : y < 8) (hP : HsM M r x P) (hP' : HsM M r y P') (hw : Wf P) (hw' : Wf P') (h1 : P 0 = P' 0 ∧ P 4 + P' 4 ≤ 3 → Q 1 M) (h0 : ¬ (P 0 = P' 0 ∧ P 4 + P' 4 ≤ 3) → Q 0 M) : F_X3_mayJoin M a (Int32.ofNat x) (Int32.ofNat y) Q := by
  have hk := hw.2.2.2.2.1
  have hk' := hw'.2.2.2.2.1
  have hd := hw.1
  have hd' := hw'.1
  refine m_g2 h rfl (m_aN h rfl hx (by omega) (m_bI (i := 0) h rfl hx (by omega) (by omega) (m_g2 h rfl (m_aN h rfl hy (by omega) (m_bI (i := 0) h rfl hy (by omega) (by omega) ?_)))))
  rw [hP 0 (by omega), hP' 0 (by omega)]
  refine eqS' (by omega) (by omega) (fun c => h0 (fun z => c z.1)) (fun c => m_rc h (m_sorts h hx hP (m_rc h (m_sorts h hy hP' ?_))))
  rw [i32_lit 3, i32_add]
  exact ltS (by omega) (by omega) (fun c2 => h0 (fun z => by omega)) (fun c2 => h1 ⟨c, c2⟩)
/-- only ints of this cell have changed -/
def Ons (b : Nat) (M M' : gM) : Prop := (kd M' = kd M ∧ mR M' = mR M ∧ gl M' = gl M ∧ mJ M' = mJ M) ∧ ∀ c i, c ≠ b → mI M' c i = mI M c i
theorem Ons.rf {b : Nat} {M : gM} : Ons b M M := ⟨⟨rfl, rfl, rfl, rfl⟩, fun _ _ _ => rfl⟩
theorem Ons.wI {b i : Nat} {x : Int32} {M M' : gM} (h : Ons b M M') : Ons b M (sI M' b i x) := ⟨h.1, fun c j hc => (mI_ne (Or.inl hc)).trans (h.2 c j hc)⟩
theorem Ons.lay {M' : gM} {b a o : Nat} {r ρ : Nat → Nat} (f : Ons b M M') (h : LayM M a r ρ o) : LayM M' a r ρ o := by
  unfold LayM at h ⊢
  rw [f.1.1, f.1.2.1]
  exact h
theorem Ons.hs {M' : gM} {b x : Nat} (f : Ons b M M') (hx : r 12 + 1 + x ≠ b) (h : HsM M r x P) : HsM M' r x P := fun i hi => (f.2 _ _ hx).trans (h i hi)
/-- two houses together -/
def jn (P P' : Nat → Nat) : Nat → Nat := fun i => if i = 4 then P 4 + P' 4 else if i < 5 + 5 * P 4 then P i else P' (i - 5 * P 4)
theorem m_joinTo (h : LayM M a r ρ o) {x y z : Nat} {P' : Nat → Nat} {Q : gM → Prop} (hx : x < 8) (hy : y < 8) (hz : z < 8) (hxz : x ≠ z) (hyz : y ≠ z) (hP : HsM M r x P) (hP' : HsM M r y P') (hk : P 4 + P' 4 ≤ 3) (q : ∀ M', Ons (r 12 + 1 + z) M M' → HsM M' r z (jn P P') → Q M') : F_X3_joinTo M a (Int32.ofNat x) (Int32.ofNat y) (Int32.ofNat z) Q := by
  refine loopV (fun g s N => F_X3_joinTo_b3 Q a (Int32.ofNat x) (Int32.ofNat y) (Int32.ofNat z) g s N) (fun s => Int32.ofNat s) (fun i N => Ons (r 12 + 1 + z) M N ∧ ∀ j, j < i → mI N (r 12 + 1 + z) j = mI M (r 12 + 1 + x) j) 20 (fun i hi g N hN k => ?_) (fun g N hN => ?_) M ⟨Ons.rf, fun j hj => absurd hj (Nat.not_lt_zero _)⟩
  · obtain ⟨f, e⟩ := hN
    have hN := f.lay h
    refine leF (a := 20) hi (by omega) (m_g2 hN rfl (m_aN hN rfl hz (by omega) (m_g2 hN rfl (m_aN hN rfl hx (by omega) (m_bI hN rfl hx hi (by omega) (m_vI hN rfl hz hi (by omega) ?_))))))
    rw [i32_lit 1, i32_add]
    refine k _ ⟨f.wI, fun j hj => ?_⟩
    by_cases c : j = i
    · rw [c, mI_eq]
      exact f.2 _ _ (by omega)
    · rw [mI_ne (Or.inr c)]
      exact e j (by omega)
  · obtain ⟨f, e⟩ := hN
    refine leT (a := 20) (Nat.le_refl _) (by omega) ?_
    refine loopV (fun g s N => F_X3_joinTo_b37 Q a (Int32.ofNat x) (Int32.ofNat y) (Int32.ofNat z) g s N) (fun s => Int32.ofNat s) (fun i N => Ons (r 12 + 1 + z) M N ∧ (∀ j, j < 5 + 5 * P 4 → mI N (r 12 + 1 + z) j = mI M (r 12 + 1 + x) j) ∧ ∀ j, j < i → mI N (r 12 + 1 + z) (5 + 5 * P 4 + j) = mI M (r 12 + 1 + y) (5 + j)) (5 * P' 4) (fun i hi g N hN k => ?_) (fun g N hN => ?_) N ⟨f, fun j hj => e j (by omega), fun j hj => absurd hj (Nat.not_lt_zero _)⟩
    · obtain ⟨f, e1, e2⟩ := hN
      have hN := f.lay h
      have hPN := f.hs (P := P) (x := x) (by omega) hP
      have hPN' := f.hs (P := P') (x := y) (by omega) hP'
      refine m_rc hN (m_sorts hN hy hPN' ?_)
      rw [i32_lit 5, i32_lit 1, i32_mul, i32_add 5 i]
      refine leF hi (by omega) (m_g2 hN rfl (m_aN hN rfl hz (by omega) (m_rc hN (m_sorts hN hx hPN ?_))))
      rw [i32_mul, i32_add, i32_add, i32_add]
      refine m_g2 hN rfl (m_aN hN rfl hy (by omega) (m_bI hN rfl hy (by omega) (by omega) (m_vI hN rfl hz (by omega) (by omega) ?_)))
      refine k _ ⟨f.wI, fun j hj => ?_, fun j hj => ?_⟩
      · rw [mI_ne (Or.inr (by omega))]
        exact e1 j hj
      · by_cases c : j = i
        · rw [c, mI_eq]
          exact f.2 _ _ (by omega)
        · rw [mI_ne (Or.inr (by omega))]
          exact e2 j (by omega)
    · obtain ⟨f, e1, e2⟩ := hN
      have hN := f.lay h
      have hPN := f.hs (P := P) (x := x) (by omega) hP
      have hPN' := f.hs (P := P') (x := y) (by omega) hP'
      refine m_rc hN (m_sorts hN hy hPN' ?_)
      rw [i32_lit 5, i32_mul]
      refine leT (Nat.le_refl _) (by omega) (m_g2 hN rfl (m_aN hN rfl hz (by omega) (m_rc hN (m_sorts hN hx hPN (m_rc hN (m_sorts hN hy hPN' ?_))))))
      rw [i32_add]
      refine m_vI (i := 4) hN rfl hz (by omega) (by omega) (q _ f.wI (fun i hi => ?_))
      have hj4 : jn P P' 4 = P 4 + P' 4 := rfl
      rw [hj4] at hi
      by_cases c4 : i = 4
      · rw [c4, mI_eq, hj4]
      · rw [mI_ne (Or.inr c4)]
        unfold jn
        rw [if_neg c4]
        by_cases c5 : i < 5 + 5 * P 4
        · rw [if_pos c5, e1 i c5]
          exact hP i c5
        · rw [if_neg c5]
          have := e2 (i - (5 + 5 * P 4)) (by omega)
          rw [show 5 + 5 * P 4 + (i - (5 + 5 * P 4)) = i by omega] at this
          rw [this, show 5 + (i - (5 + 5 * P 4)) = i - 5 * P 4 by omega]
          exact hP' _ (by omega)
theorem jn_wf {P P' : Nat → Nat} (h : Wf P) (h' : Wf P') (hk : P 4 + P' 4 ≤ 3) : Wf (jn P P') := by
  obtain ⟨a1, a2, a3, a4, a5, a6⟩ := h
  obtain ⟨b1, b2, b3, b4, b5, b6⟩ := h'
  have hlt : ∀ i, i ≠ 4 → i < 5 + 5 * P 4 → jn P P' i = P i := fun i c1 c2 => by unfold jn; rw [if_neg c1, if_pos c2]
  have hge : ∀ i, ¬ i < 5 + 5 * P 4 → jn P P' i = P' (i - 5 * P 4) := fun i c2 => by unfold jn; rw [if_neg (by omega), if_neg c2]
  have h4 : jn P P' 4 = P 4 + P' 4 := rfl
  unfold Wf
  rw [hlt 0 (by omega) (by omega), hlt 1 (by omega) (by omega), hlt 2 (by omega) (by omega), hlt 3 (by omega) (by omega), h4]
  refine ⟨a1, a2, a3, a4, ⟨by omega, by omega⟩, fun i hi => ?_⟩
  by_cases c : i < P 4
  · rw [hlt (5 + 5 * i) (by omega) (by omega), hlt (6 + 5 * i) (by omega) (by omega), hlt (7 + 5 * i) (by omega) (by omega), hlt (8 + 5 * i) (by omega) (by omega), hlt (9 + 5 * i) (by omega) (by omega)]
    exact a6 i c
  · have := b6 (i - P 4) (by omega)
    rw [hge (5 + 5 * i) (by omega), hge (6 + 5 * i) (by omega), hge (7 + 5 * i) (by omega), hge (8 + 5 * i) (by omega), hge (9 + 5 * i) (by omega)]
    rw [show 5 + 5 * i - 5 * P 4 = 5 + 5 * (i - P 4) by omega, show 6 + 5 * i - 5 * P 4 = 6 + 5 * (i - P 4) by omega, show 7 + 5 * i - 5 * P 4 = 7 + 5 * (i - P 4) by omega, show 8 + 5 * i - 5 * P 4 = 8 + 5 * (i - P 4) by omega, show 9 + 5 * i - 5 * P 4 = 9 + 5 * (i - P 4) by omega]
    exact this
end MROOMS
