/-! the class's operations: shelves filled -/
set_option maxRecDepth 100000
/-- cells of a sheet -/
def SS (t : Nat) (τ _i : Nat) : Prop := τ = Tg t 63 ∨ τ = Tg t 0
theorem SS.cl {t b : Nat} (h : b ≠ t) : Cl (SS t) b := fun k i hk z => by
  rcases z with z | z
  · exact h (Tg_inj hk (by omega) z).1
  · exact h (Tg_inj hk (by omega) z).1
theorem SS.n5 {t i : Nat} : ¬ SS t 500 i := fun z => by
  have h1 := Tg_ge t 63
  have h2 := Tg_ge t 0
  rcases z with z | z <;> omega
theorem SS.ge {t τ i : Nat} (z : SS t τ i) : 100000 ≤ τ := by
  have h1 := Tg_ge t 63
  have h2 := Tg_ge t 0
  rcases z with z | z <;> omega
theorem fit0 {so : Nat} (h : so ≤ 4) : fits (tyF so) (gv (tyF so) 0 0 none) = true := by
  rcases (by omega : so = 0 ∨ so = 1 ∨ so = 2 ∨ so = 3 ∨ so = 4) with rfl | rfl | rfl | rfl | rfl <;> decide
theorem fit8 (v : Int8) : fits .byte (.int v.toInt32) = true := by
  have h1 := Int8.le_toInt v
  have h2 := Int8.toInt_lt v
  have e : (decide (-128 ≤ v.toInt32) && decide (v.toInt32 ≤ 127)) = true := by
    rw [Bool.and_eq_true, decide_eq_true_eq, decide_eq_true_eq, Int32.le_iff_toInt_le, Int32.le_iff_toInt_le, Int8.toInt_toInt32]
    have e1 : (-128 : Int32).toInt = -128 := by decide
    have e2 : (127 : Int32).toInt = 127 := by decide
    omega
  exact e
theorem fit16 (v : Int16) : fits .short (.int v.toInt32) = true := by
  have h1 := Int16.le_toInt v
  have h2 := Int16.toInt_lt v
  have e : (decide (-32768 ≤ v.toInt32) && decide (v.toInt32 ≤ 32767)) = true := by
    rw [Bool.and_eq_true, decide_eq_true_eq, decide_eq_true_eq, Int32.le_iff_toInt_le, Int32.le_iff_toInt_le, Int16.toInt_toInt32]
    have e1 : (-32768 : Int32).toInt = -32768 := by decide
    have e2 : (32767 : Int32).toInt = 32767 := by decide
    omega
  exact e
section XOP6
variable {M : gM} {ρ : Nat → Nat} {x : Nat} {A : Ab} {G : XG}
/-- a sheet gets a thing -/
theorem XRl.puts (R : XRl M ρ x A G) {s c : Nat} {v : Sh} {N : gM} {ρN : Nat → Nat} (hs : s < 8) (f : Fx (SS (G.2.2.1 s)) ρ M ρN N) (hv : ShX (sR N (G.2.2.1 s) 0 (some c)) ρN (G.2.2.1 s) v) : kd N (G.2.2.1 s) = some (true, .inl 2) ∧ XRl (sR N (G.2.2.1 s) 0 (some c)) ρN x (sSh A s v) G ∧ Ext ρ M ρN (sR N (G.2.2.1 s) 0 (some c)) := by
  have k0 := (R.sx hs).1
  have c0 := f.2 _ (live_of k0.1)
  have k2 : ρN (G.2.2.1 s) = Tg (G.2.2.1 s) 63 := c0.1.2.trans k0.2
  have f2 : Fx (SS (G.2.2.1 s)) ρ M ρN (sR N (G.2.2.1 s) 0 (some c)) := f.tr (Fx.sR (Or.inl k2))
  exact ⟨c0.1.1.trans k0.1, R.sheet hs f2 (fun b hb => SS.cl hb) (fun i => SS.n5) hv, f2.ext (fun t i z => z.ge)⟩
theorem x_rowO (R : XRl M ρ x A G) {x1 x2 x3 : Int32} {Lc Ls : Nat} {Q : Int32 → gM → Prop} (hL : 3 ≤ Lc ∧ 125 ≤ Ls) (q : Kx (spRow A x1 x2 x3) x ρ M Q) : F_X0_row Lc Ls M x x1 x2 x3 Q := by
  refine x_shelf (fun s e1 => bF n10 ?_) (fun e1 => bT rfl (x_bad R (by unfold spRow; rw [e1]) q))
  have d1 := dec_some e1
  cases e2 : dec 5 x2 with
  | none =>
    obtain ⟨z1, z2⟩ := sw_out e2 (by omega)
    have bd : spRow A x1 x2 x3 = rj A 2 := by unfold spRow; rw [e1, e2]
    refine ⟨fun _ => x_bad R bd q, fun c => ⟨fun _ => x_bad R bd q, fun c2 => ?_⟩⟩
    rw [Int32.lt_iff_toInt_lt] at c c2
    have t0 : (0 : Int32).toInt = 0 := by decide
    have t4 : (4 : Int32).toInt = 4 := by decide
    omega
  | some so =>
    have d2 := dec_some e2
    rw [d2.2.1]
    refine bF (i32_lt0 (by omega)) (ltF (a := 4) (by omega) (by omega) ?_)
    cases e3 : dec 126 x3 with
    | none =>
      have bd : spRow A x1 x2 x3 = rj A 2 := by unfold spRow; rw [e1, e2, e3]
      obtain ⟨z1, z2⟩ := sw_out e3 (by omega)
      refine ⟨fun c => ?_, fun c => x_bad R bd q⟩
      have hn : x3 < 0 := by
        rw [Int32.le_iff_toInt_le] at c
        rw [Int32.lt_iff_toInt_lt]
        have t0 : (0 : Int32).toInt = 0 := by decide
        have t4 : (125 : Int32).toInt = 125 := by decide
        omega
      obtain ⟨sh, b2, b3, b4⟩ := R.2.2.1
      rw [d1.2.1]
      refine gN_i R.1.1 b2 (aN_i b3.1 d1.1 (by omega) (b4 s d1.1) ⟨3, 54, ⟨by omega, by omega⟩, ?_⟩)
      have nx : ∀ (ty : FieldType) (κ : Nat → gM → Prop), nX M 0 0 3 54 ty x3 κ (fun q_3 => "java/lang/NegativeArraySizeException" = "java/lang/NegativeArraySizeException" ∧ rc M 0 x ∧ F_X0_no M x (-2 : Int32) fun v N => Q v N) := fun ty κ => ⟨fun z => absurd hn z, fun _ => ⟨by omega, fun _ => ⟨rfl, x_bad R bd q⟩⟩⟩
      exact sw5 (by omega) (fun _ => nx _ _) (fun _ => nx _ _) (fun _ => nx _ _) (fun _ => nx _ _) (fun _ => nx _ _)
    | some n =>
      have d3 := dec_some e3
      have es : spRow A x1 x2 x3 = (1, sSh A s (some (.inl (so, n, fun _ => 0)))) := by unfold spRow; rw [e1, e2, e3]
      rw [es] at q
      rw [d3.2.1, d1.2.1]
      obtain ⟨sh, b2, b3, b4⟩ := R.2.2.1
      refine leT (a := n) (b := 125) (by omega) (by omega) (gN_i R.1.1 b2 (aN_i b3.1 d1.1 (by omega) (b4 s d1.1) ⟨1, 125, ⟨by omega, by omega⟩, ?_⟩))
      have nx : ∀ (κx : Nat → Prop), nX M 0 0 1 125 (tyF so) (Int32.ofNat n) (fun a M_5 => pR M_5 2 (G.2.2.1 s) 0 (some a) fun M_13 => Q (1 : Int32) M_13) κx := fun κx => by
        refine ⟨fun _ => ⟨⟨i32_lt0 (by omega), rfl, by rw [i32_nat (by omega)]; omega⟩, ⟨by omega, by rw [i32_nat (by omega)]; omega⟩, fun z hz => ?_⟩, fun c => absurd c (i32_lt0 (by omega))⟩
        rw [i32_nat (by omega)]
        have k0 := (R.sx d1.1).1
        have ne : G.2.2.1 s ≠ z := fun e => by rw [e, hz] at k0; cases k0.1
        have f : Fx (SS (G.2.2.1 s)) ρ M (upT ρ z (Tg (G.2.2.1 s) 0)) (sN M z (.inr (tyF so, n))) := Fx.sN hz
        have hv : ShX (sR (sN M z (.inr (tyF so, n))) (G.2.2.1 s) 0 (some z)) (upT ρ z (Tg (G.2.2.1 s) 0)) (G.2.2.1 s) (some (.inl (so, n, fun _ => 0))) := by
          refine ⟨⟨(if_neg ne).trans k0.1, (upT_ne ne).trans k0.2⟩, z, if_pos ⟨rfl, rfl⟩, upT_eq _ _ _, if_pos rfl, ⟨by omega, by omega⟩, fun i hi => ?_⟩
          have v1 : mI (sR (sN M z (.inr (tyF so, n))) (G.2.2.1 s) 0 (some z)) z i = 0 := if_pos rfl
          have v2 : mJ (sR (sN M z (.inr (tyF so, n))) (G.2.2.1 s) 0 (some z)) z i = 0 := if_pos rfl
          rw [v1, v2]
          exact ⟨fun _ => rfl, fun _ => rfl, fit0 (by omega)⟩
        obtain ⟨p1, p2, p3⟩ := R.puts d1.1 f hv
        exact ⟨p1, q _ _ G p2 p3⟩
      refine sw5 (by omega) (fun e => ?_) (fun e => ?_) (fun e => ?_) (fun e => ?_) (fun e => ?_) <;> subst e <;> exact nx _
/-- one element changed -/
theorem RwX.up {c so n i : Nat} {f : Nat → Int64} {v : Int64} {N : gM} (h : RwX M c so n f) (hi : i < n) (hk : kd N c = kd M c) (ho : ∀ j, j ≠ i → mI N c j = mI M c j ∧ mJ N c j = mJ M c j) (hv : (so = 3 → mJ N c i = v) ∧ (so ≠ 3 → (mI N c i).toInt64 = v) ∧ fits (tyF so) (gv (tyF so) (mI N c i) (mJ N c i) none) = true) : RwX N c so n (fun j => if j = i then v else f j) := by
  obtain ⟨h1, h2, h3⟩ := h
  refine ⟨hk.trans h1, h2, fun j hj => ?_⟩
  by_cases e : j = i
  · simp only
    rw [if_pos e, e]
    exact hv
  · simp only
    rw [if_neg e, (ho j e).1, (ho j e).2]
    exact h3 j hj
theorem x_zI {ty : FieldType} {c n : Nat} {y z : Int32} {u v Lc Ls : Nat} {κ : gM → Prop} {κx : Nat → Prop} (h : kd M c = some (true, .inr (ty, n))) (hn : n ≤ 125) (h1 : ∀ i, dec n y = some i → κ (sI M c i (vp_nar ty z))) (h0 : dec n y = none → (u + 3 ≤ Lc ∧ v + 222 ≤ Ls) ∧ ∀ q, κx q) : zI M u v Lc Ls ty c y z κ κx := ⟨n, h, by omega, fun w => by
  obtain ⟨i, e⟩ := vp_dec.mp w
  have d := dec_some e
  rw [d.2.1, i32_nat d.2.2]
  exact h1 i e, fun w => h0 (by
  cases e : dec n y with
  | none => rfl
  | some i => exact absurd (vp_dec.mpr ⟨i, e⟩) w)⟩
theorem x_zJ {c n : Nat} {y : Int32} {z : Int64} {u v Lc Ls : Nat} {κ : gM → Prop} {κx : Nat → Prop} (h : kd M c = some (true, .inr (.long, n))) (hn : n ≤ 125) (h1 : ∀ i, dec n y = some i → κ (sJ M c i z)) (h0 : dec n y = none → (u + 3 ≤ Lc ∧ v + 222 ≤ Ls) ∧ ∀ q, κx q) : zJ M u v Lc Ls c y z κ κx := ⟨n, h, by omega, fun w => by
  obtain ⟨i, e⟩ := vp_dec.mp w
  have d := dec_some e
  rw [d.2.1, i32_nat d.2.2]
  exact h1 i e, fun w => h0 (by
  cases e : dec n y with
  | none => rfl
  | some i => exact absurd (vp_dec.mpr ⟨i, e⟩) w)⟩
theorem x_putsR {c so n : Nat} {f : Nat → Int64} (h : RwX M c so n f) {y : Int32} {v : Int64} {Lc Ls : Nat} {Q : gM → Prop} {X : String → Nat → gM → Prop} (h1 : ∀ i N, dec n y = some i → FmG (fun b _ => b = c) M N → RwX N c so n (fun j => if j = i then fitF so v else f j) → Q N) (h0 : dec n y = none → (3 ≤ Lc ∧ 222 ≤ Ls) ∧ ∀ q, X "java/lang/ArrayIndexOutOfBoundsException" q M) : F_X0_puts Lc Ls M c y v Q X := by
  have h0' : dec n y = none → (0 + 3 ≤ Lc ∧ 0 + 222 ≤ Ls) ∧ ∀ q, X "java/lang/ArrayIndexOutOfBoundsException" q M := fun e => ⟨by have := (h0 e).1; omega, (h0 e).2⟩
  have k := h.1
  have hso := h.2.1.1
  have hn := h.2.1.2
  have stI : ∀ i (w : Int32), dec n y = some i → so ≠ 3 → w.toInt64 = fitF so v → fits (tyF so) (gv (tyF so) w (mJ M c i) none) = true → Q (sI M c i w) := by
    intro i w ei e3 e1 e2
    refine h1 i _ ei (FmG.sI rfl) (h.up (dec_some ei).1 rfl (fun j hj => ⟨mI_ne (Or.inr hj), rfl⟩) ⟨fun z => absurd z e3, fun _ => by rw [mI_eq]; exact e1, by rw [mI_eq]; exact e2⟩)
  refine x_sortOf k hso (sw5 hso (fun e => ?_) (fun e => ?_) (fun e => ?_) (fun e => ?_) (fun e => ?_))
  · subst e
    refine ⟨cY_y (ty := .boolean) k (by simp) (by decide +kernel), fun c0 => x_zI (ty := .boolean) k hn (fun i ei => stI i _ ei (by omega) ?_ (show fits .boolean (.int (vp_nar .boolean 0)) = true by decide)) h0', fun c0 => x_zI (ty := .boolean) k hn (fun i ei => stI i _ ei (by omega) ?_ (show fits .boolean (.int (vp_nar .boolean 1)) = true by decide)) h0'⟩
    · show _ = if v = 0 then 0 else 1
      rw [if_pos c0]
      decide
    · show _ = if v = 0 then 0 else 1
      rw [if_neg c0]
      decide
  · subst e
    refine ⟨cY_y (ty := .byte) k (by simp) (by decide +kernel), x_zI (ty := .byte) k hn (fun i ei => stI i _ ei (by omega) ?_ ?_) h0'⟩
    · show (v.toInt32.toInt8.toInt32.toInt8.toInt32).toInt64 = v.toInt32.toInt8.toInt32.toInt64
      simp
    · exact fit8 _
  · subst e
    refine ⟨cY_y (ty := .short) k (by simp) (by decide +kernel), x_zI (ty := .short) k hn (fun i ei => stI i _ ei (by omega) ?_ ?_) h0'⟩
    · show (v.toInt32.toInt16.toInt32.toInt16.toInt32).toInt64 = v.toInt32.toInt16.toInt32.toInt64
      simp
    · exact fit16 _
  · subst e
    exact ⟨cY_y (ty := .int) k (by simp) (by decide +kernel), x_zI (ty := .int) k hn (fun i ei => stI i _ ei (by omega) rfl rfl) h0'⟩
  · subst e
    exact ⟨cY_y (ty := .long) k (by simp) (by decide +kernel), x_zJ k hn (fun i ei => h1 i _ ei (FmG.sJ rfl) (h.up (dec_some ei).1 rfl (fun j hj => ⟨rfl, mJ_ne (Or.inr hj)⟩) ⟨fun _ => mJ_eq, fun z => absurd rfl z, rfl⟩)) h0'⟩
theorem x_setO (R : XRl M ρ x A G) {x1 x2 : Int32} {v : Int64} {Lc Ls : Nat} {Q : Int32 → gM → Prop} (hL : 4 ≤ Lc ∧ 229 ≤ Ls) (q : Kx (spSet A x1 x2 v) x ρ M Q) : F_X0_set Lc Ls M x x1 x2 v Q := by
  refine x_shelf (fun s e1 => bT' n10 ?_) (fun e1 => bF' rfl (x_bad R (by unfold spSet; rw [e1]) q))
  have d1 := dec_some e1
  refine ⟨1, 7, ⟨by omega, by omega⟩, R.rc (x_rowIn R e1 ⟨by omega, by omega⟩ (fun so n f c ev g1 g2 g3 => ?_) (fun e z M' ρ' a1 a2 a3 a4 a5 => ⟨rfl, x_got R a2 a3 a4 a5 ?_ q⟩))⟩
  · have es : spSet A x1 x2 v = match dec n x2 with | none => rj A 2 | some i => (1, sSh A s (some (.inl (so, n, fun j => if j = i then fitF so v else f j)))) := by unfold spSet; rw [e1]; simp only; rw [ev]; rfl
    refine ⟨3, 222, ⟨by omega, by omega⟩, x_putsR g3 (fun i N ei fm hr => ?_) (fun ei => ⟨by omega, fun _ => ⟨rfl, x_bad R (by rw [es, ei]) q⟩⟩)⟩
    rw [ei] at es
    rw [es] at q
    have k0 := (R.sx d1.1).1
    have f : Fx (SS (G.2.2.1 s)) ρ M ρ N := fm.fx (fun b i z => by rw [z]; exact Or.inr g2)
    refine q N ρ G (R.sheet d1.1 f (fun b hb => SS.cl hb) (fun i => SS.n5) ⟨⟨by rw [fm.1.1]; exact k0.1, k0.2⟩, c, by rw [fm.1.2.1]; exact g1, g2, hr⟩) (f.ext (fun t i z => z.ge))
  · unfold spSet
    rw [e1]
    simp only
    rcases a1 with ⟨a1, v, a1'⟩ | ⟨a1, a1'⟩
    · rw [a1', a1]
    · rw [a1', a1]
end XOP6
