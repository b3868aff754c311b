/-! the class's operations: the shape of the best; a load judged -/
set_option maxRecDepth 100000
theorem rmL_low {P : Nat → Nat} {d : Nat} : ∀ {n m : Nat}, rmL P d n = some m → ∀ s, s < n → LT P nm d s ≠ 0 → m ≤ sm P 0 s := by
  intro n
  induction n with
  | zero => intro m h; cases h
  | succ n ih =>
    intro m h s hs c
    unfold rmL at h
    by_cases c0 : LT P (fun _ => false) d n = 0
    · rw [if_pos c0] at h
      have : s ≠ n := fun e => c (by rw [e]; exact c0)
      exact ih h s (by omega) c
    · rw [if_neg c0] at h
      cases e : rmL P d n with
      | none =>
        rw [e] at h
        cases h
        by_cases es : s = n
        · rw [es]; exact Nat.le_refl _
        · exfalso
          have key : ∀ k, rmL P d k = none → ∀ s, s < k → LT P nm d s = 0 := by
            intro k
            induction k with
            | zero => intro _ s hs; exact absurd hs (Nat.not_lt_zero _)
            | succ k ihk =>
              intro hk s hs
              unfold rmL at hk
              by_cases ck : LT P (fun _ => false) d k = 0
              · rw [if_pos ck] at hk
                by_cases e : s = k
                · rw [e]; exact ck
                · exact ihk hk s (by omega)
              · rw [if_neg ck] at hk
                exfalso
                revert hk
                cases rmL P d k with
                | none => intro hk; cases hk
                | some m' => simp only; split <;> (intro hk; cases hk)
          exact c (key n e s (by omega))
      | some m' =>
        rw [e] at h
        simp only at h
        split at h
        · rename_i c1
          cases h
          by_cases es : s = n
          · rw [es]; exact c1
          · exact ih e s (by omega) c
        · rename_i c1
          cases h
          by_cases es : s = n
          · rw [es]; exact Nat.le_refl _
          · have := ih e s (by omega) c
            omega
theorem rmM_up {P : Nat → Nat} {d : Nat} : ∀ n s, s < n → LT P nm d s = 0 → sm P 0 s ≤ rmM P d n := by
  intro n
  induction n with
  | zero => intro s hs; exact absurd hs (Nat.not_lt_zero _)
  | succ n ih =>
    intro s hs c
    unfold rmM
    by_cases e : s = n
    · have c : LT P (fun _ => false) d n = 0 := by rw [← e]; exact c
      rw [if_pos c, e]
      split <;> omega
    · have := ih s (by omega) c
      split
      · split <;> omega
      · exact this
theorem rmM_at {P : Nat → Nat} {d : Nat} : ∀ n, 1 ≤ n → ∃ s, s < n ∧ LT P nm d s = 0 ∧ sm P 0 s = rmM P d n := by
  intro n
  induction n with
  | zero => intro h; omega
  | succ n ih =>
    intro _
    by_cases h0 : n = 0
    · subst h0
      have e0 : LT P nm d 0 = 0 := Nat.le_zero.mp (LT_le P nm d 0)
      refine ⟨0, by omega, e0, ?_⟩
      have c : LT P (fun _ => false) d 0 = 0 := e0
      unfold rmM
      rw [if_pos c]
      show _ = if sm P 0 0 ≤ 0 then 0 else sm P 0 0
      split <;> omega
    · obtain ⟨s, s1, s2, s3⟩ := ih (by omega)
      unfold rmM
      by_cases c : LT P (fun _ => false) d n = 0
      · rw [if_pos c]
        by_cases c1 : sm P 0 n ≤ rmM P d n
        · rw [if_pos c1]; exact ⟨s, by omega, s2, s3⟩
        · rw [if_neg c1]; exact ⟨n, by omega, c, rfl⟩
      · rw [if_neg c]; exact ⟨s, by omega, s2, s3⟩
theorem odN_iff {P : Nat → Nat} {d m : Nat} : ∀ n, odN P d m n = none ↔ ∀ s, s < n → LT P nm d s = 0 → sm P 0 s < m := by
  intro n
  induction n with
  | zero => exact ⟨fun _ s hs => absurd hs (Nat.not_lt_zero _), fun _ => rfl⟩
  | succ n ih =>
    show (match odN P d m n with | some s => some s | none => if LT P (fun _ => false) d n = 0 ∧ m ≤ sm P 0 n then some n else none) = none ↔ _
    cases e : odN P d m n with
    | some s =>
      constructor
      · intro h; cases h
      · intro h
        have := ih.mpr (fun s hs => h s (by omega))
        rw [e] at this
        cases this
    | none =>
      have hn := ih.mp e
      constructor
      · intro h s hs c
        by_cases es : s = n
        · subst es
          simp only at h
          split at h
          · cases h
          · rename_i z
            have : ¬ m ≤ sm P 0 s := fun z2 => z ⟨c, z2⟩
            omega
        · exact hn s (by omega) c
      · intro h
        simp only
        rw [if_neg (fun z => by have := h n (by omega) z.1; omega)]
theorem odN_rm {P : Nat → Nat} {d m n : Nat} (hn : 1 ≤ n) : odN P d m n = none ↔ rmM P d n < m := by
  rw [odN_iff]
  constructor
  · intro h
    obtain ⟨s, s1, s2, s3⟩ := rmM_at (P := P) (d := d) n hn
    rw [← s3]
    exact h s s1 s2
  · intro h s hs c
    have := rmM_up (P := P) (d := d) n s hs c
    omega
theorem odN_lt {P : Nat → Nat} {d i : Nat} : ∀ n s, odN P d i n = some s → s < n := by
  intro n
  induction n with
  | zero => intro s h; cases h
  | succ n ih =>
    intro s h
    have h : (match odN P d i n with | some s => some s | none => if LT P (fun _ => false) d n = 0 ∧ i ≤ sm P 0 n then some n else none) = some s := h
    cases e : odN P d i n with
    | some s' =>
      rw [e] at h
      cases h
      have := ih s e
      omega
    | none =>
      rw [e] at h
      simp only at h
      split at h
      · cases h; omega
      · cases h
section XOP4
variable {M : gM} {ρ : Nat → Nat} {x : Nat} {A : Ab} {G : XG}
theorem x_firstRoom {a : Nat} {P : Nat → Nat} (hx : HX M ρ a P) (C : CsA M ρ) {Lc Ls d : Nat} {Q : Int32 → gM → Prop} (hL : 6 ≤ Lc ∧ 3000 ≤ Ls) (hd : d ≤ P 0) (q : ∀ M' ρ', Fx (SH a) ρ M ρ' M' → HX M' ρ' a P → (ndC M' a = 0 ∧ ndS M' a = 0) → Q (oI (rmL P d (5 ^ P 4))) M') : F_X0_firstRoom Lc Ls M a (Int32.ofNat d) Q := by
  have hw := hx.2.2
  have hk := hw.2.2.2.2.1
  have h5 := p5_le hk.2
  have hp := p5_pos (P 4)
  have nd := nd_le M a
  refine loopR (fun g (v : Int32 × Int32 × Nat × Nat) N => F_X0_firstRoom_b4 Q Lc Ls a (Int32.ofNat d) g v.1 v.2.1 v.2.2.1 v.2.2.2 N) (fun i v N => (v.1 = oI (rmL P d i) ∧ v.2.1 = Int32.ofNat i) ∧ (v.2.2.1 + ndC N a ≤ 6 ∧ v.2.2.2 + ndS N a ≤ 3000) ∧ (0 < i → ndC N a = 0 ∧ ndS N a = 0) ∧ ∃ ρN, Fx (SH a) ρ M ρN N ∧ HX N ρN a P) (5 ^ P 4) (fun i hi g v N hI k => ?_) (fun g v N hI => ?_) ((-1 : Int32), (0 : Int32), 0, 0) _ ⟨⟨rfl, rfl⟩, ⟨by show 0 + _ ≤ _; omega, by show 0 + _ ≤ _; omega⟩, fun z => absurd z (Nat.lt_irrefl _), ρ, Fx.rf, hx⟩
  · obtain ⟨x2, x3, u0, v0⟩ := v
    obtain ⟨⟨k1, k2⟩, ⟨k3, k4⟩, k5, ρN, f, hN⟩ := hI
    have k1 : x2 = oI (rmL P d i) := k1
    have k2 : x3 = Int32.ofNat i := k2
    have k3 : u0 + ndC N a ≤ 6 := k3
    have k4 : v0 + ndS N a ≤ 3000 := k4
    subst k2
    have hN2 := hN
    obtain ⟨⟨r, hs⟩, -, -⟩ := hN2
    refine x_rc hs (x_states hs hk (leF hi (by omega) ⟨ndC N a, ndS N a, ⟨by omega, by omega⟩, x_rc hs (x_best hN (f.csH C) ⟨Nat.le_refl _, Nat.le_refl _⟩ hd hi (fun M' ρ' f' hx' nd' _ => ?_))⟩))
    have hs' := hx'
    obtain ⟨⟨r', hs'⟩, -, -⟩ := hs'
    have fr : ∃ ρN, Fx (SH a) ρ M ρN M' ∧ HX M' ρN a P := ⟨ρ', f.tr f'.sf, hx'⟩
    have C' : CsA M' ρ' := (f.tr f'.sf).csH C
    have hlt := LT_le P nm d i
    have hsm := sm0_lt hw i
    have er : rmL P d (i + 1) = if LT P nm d i = 0 then rmL P d i else match rmL P d i with | none => some (sm P 0 i) | some m => if m ≤ sm P 0 i then some m else some (sm P 0 i) := rfl
    have go : ∀ y, y = oI (rmL P d (i + 1)) → F_X0_firstRoom_b44 Q Lc Ls (F_X0_firstRoom_b4 Q Lc Ls a (Int32.ofNat d) g) a (Int32.ofNat d) y (Int32.ofNat i) (u0 + ndC N a) (v0 + ndS N a) M' := by
      intro y hy
      unfold F_X0_firstRoom_b44
      rw [i32_lit 1, i32_add]
      exact k (_, _, _, _) M' ⟨⟨hy, rfl⟩, ⟨by show u0 + ndC N a + ndC M' a ≤ 6; omega, by show v0 + ndS N a + ndS M' a ≤ 3000; omega⟩, fun _ => nd', fr⟩
    rw [i32_lit 0]
    refine eqS (by omega) (by omega) (fun c => go _ (by rw [er, if_pos c]; exact k1)) (fun c => ?_)
    rw [if_neg c] at er
    cases em : rmL P d i with
    | none =>
      rw [em] at k1 er
      have k1 : x2 = (-1 : Int32) := k1
      exact bF' k1 (x_rc hs' (x_space hs' C' hk.2 (by omega) (go _ (by rw [er]; rfl))))
    | some m =>
      rw [em] at k1 er
      have hm := rmL_le hw em
      have k1 : x2 = Int32.ofNat m := k1
      refine bT' (by rw [k1]; exact oI_ne (by omega)) (x_rc hs' (x_space hs' C' hk.2 (by omega) (go _ ?_)))
      rw [er, k1]
      simp only
      by_cases c2 : m ≤ sm P 0 i
      · rw [if_pos c2, if_neg (by rw [i32_lt (by omega) (by omega)]; omega)]
        rfl
      · rw [if_neg c2, if_pos (by rw [i32_lt (by omega) (by omega)]; omega)]
        rfl
  · obtain ⟨x2, x3, u0, v0⟩ := v
    obtain ⟨⟨k1, k2⟩, -, k5, ρN, f, hN⟩ := hI
    have k1 : x2 = oI (rmL P d (5 ^ P 4)) := k1
    have k2 : x3 = Int32.ofNat (5 ^ P 4) := k2
    subst k1
    subst k2
    have hN2 := hN
    obtain ⟨⟨r, hs⟩, -, -⟩ := hN2
    exact x_rc hs (x_states hs hk (leT (Nat.le_refl _) (by omega) (q _ ρN f hN (k5 hp))))
theorem x_odd {a : Nat} {P : Nat → Nat} (hx : HX M ρ a P) (C : CsA M ρ) {Lc Ls d m L : Nat} {Q : Int32 → gM → Prop} (hz : ndC M a = 0 ∧ ndS M a = 0) (hd : d ≤ P 0) (hl : rmL P d (5 ^ P 4) = some L) (hm : m ≤ L) (q : ∀ M' ρ', Fx (SH a) ρ M ρ' M' → HX M' ρ' a P → (ndC M' a = 0 ∧ ndS M' a = 0) → Q (oI (odN P d m (5 ^ P 4))) M') : F_X0_odd Lc Ls M a (Int32.ofNat d) (Int32.ofNat m) Q := by
  have hw := hx.2.2
  have hk := hw.2.2.2.2.1
  have h5 := p5_le hk.2
  have hp := p5_pos (P 4)
  have hL := rmL_le hw hl
  refine loopR (fun g (v : Int32 × Nat × Nat) N => F_X0_odd_b2 Q Lc Ls a (Int32.ofNat d) (Int32.ofNat m) g v.1 v.2.1 v.2.2 N) (fun i v N => (v.1 = Int32.ofNat i ∧ v.2.1 = 0 ∧ v.2.2 = 0) ∧ odN P d m i = none ∧ (ndC N a = 0 ∧ ndS N a = 0) ∧ ∃ ρN, Fx (SH a) ρ M ρN N ∧ HX N ρN a P) (5 ^ P 4) (fun i hi g v N hI k => ?_) (fun g v N hI => ?_) ((0 : Int32), 0, 0) _ ⟨⟨rfl, rfl, rfl⟩, rfl, hz, ρ, Fx.rf, hx⟩
  · obtain ⟨x3, u0, v0⟩ := v
    obtain ⟨⟨k1, k2, k3⟩, k4, k5, ρN, f, hN⟩ := hI
    have k1 : x3 = Int32.ofNat i := k1
    have k2 : u0 = 0 := k2
    have k3 : v0 = 0 := k3
    subst k1
    subst k2
    subst k3
    have hN2 := hN
    obtain ⟨⟨r, hs⟩, -, -⟩ := hN2
    refine x_rc hs (x_states hs hk (leF hi (by omega) ⟨0, 0, ⟨Nat.zero_le _, Nat.zero_le _⟩, x_rc hs (x_best hN (f.csH C) (by omega) hd hi (fun M' ρ' f' hx' nd' _ => ?_))⟩))
    have hs' := hx'
    obtain ⟨⟨r', hs'⟩, -, -⟩ := hs'
    have f2 := f.tr f'.sf
    have C' : CsA M' ρ' := f2.csH C
    have hlt := LT_le P nm d i
    have hsm := sm0_lt hw i
    have eo : odN P d m (i + 1) = if LT P nm d i = 0 ∧ m ≤ sm P 0 i then some i else none := by
      show (match odN P d m i with | some s => some s | none => if LT P (fun _ => false) d i = 0 ∧ m ≤ sm P 0 i then some i else none) = _
      rw [k4]
      rfl
    have nxt : odN P d m (i + 1) = none → F_X0_odd_b2 Q Lc Ls a (Int32.ofNat d) (Int32.ofNat m) g (Int32.ofNat i + (1 : Int32)) (0 + 0) (0 + 0) M' := by
      intro e
      rw [i32_lit 1, i32_add]
      exact k (_, _, _) M' ⟨⟨rfl, rfl, rfl⟩, e, nd', ρ', f2, hx'⟩
    have fnd : odN P d m (i + 1) = some i → Q (Int32.ofNat i) M' := by
      intro e
      have := odN_some e (5 ^ P 4 - (i + 1))
      rw [show i + 1 + (5 ^ P 4 - (i + 1)) = 5 ^ P 4 by omega] at this
      have z := q M' ρ' f2 hx' nd'
      rw [this] at z
      exact z
    rw [i32_lit 0]
    refine eqS (by omega) (by omega) (fun c => x_rc hs' (x_space hs' C' hk.2 (by omega) (ltS (by omega) (by omega) (fun c2 => bT rfl (nxt (by rw [eo, if_neg (by omega)]))) (fun c2 => bF (by decide) (fnd (by rw [eo, if_pos ⟨c, c2⟩])))))) (fun c => x_rc hs' (x_space hs' C' hk.2 (by omega) (ltS (by omega) (by omega) (fun c2 => ?_) (fun c2 => bT rfl (nxt (by rw [eo, if_neg (fun z => c z.1)]))))))
    exfalso
    have := rmL_low hl i hi c
    omega
  · obtain ⟨x3, u0, v0⟩ := v
    obtain ⟨⟨k1, k2, k3⟩, k4, k5, ρN, f, hN⟩ := hI
    have k1 : x3 = Int32.ofNat (5 ^ P 4) := k1
    subst k1
    have hN2 := hN
    obtain ⟨⟨r, hs⟩, -, -⟩ := hN2
    refine x_rc hs (x_states hs hk (leT (Nat.le_refl _) (by omega) ?_))
    have z := q _ ρN f hN k5
    rw [k4] at z
    exact z
theorem x_shapeO (R : XRl M ρ x A G) {x1 x2 : Int32} {Lc Ls : Nat} {Q : Int32 → gM → Prop} (hL : 6 ≤ Lc ∧ 3000 ≤ Ls) (q : Kx (spShape A x1 x2) x ρ M Q) : F_X0_shape Lc Ls M x x1 x2 Q := by
  refine R.rc (x_gL (l := 1) R (by omega) (fun h d e1 => bT' n10 ?_) (fun e1 => bF' rfl (x_bad R (by unfold spShape; rw [e1]) q)))
  obtain ⟨l1, l2, l3, l4, l5, l6, hx⟩ := R.fL e1
  have es : spShape A x1 x2 = (shpV (aP A h) d, A) := by unfold spShape; rw [e1]
  have hw := hx.2.2
  have hp := p5_pos (aP A h 4)
  rw [l1, l3]
  refine x_hs R l2 ⟨6, 3000, ⟨by omega, by omega⟩, x_firstRoom hx R.cs ⟨by omega, by omega⟩ l4 (fun M' ρ' f hx' nd' => ?_)⟩
  cases em : rmL (aP A h) d (5 ^ aP A h 4) with
  | none =>
    have ev : shpV (aP A h) d = -1 := by unfold shpV; rw [em]
    rw [ev] at es
    exact ⟨1, bT (by show (-1 : Int32) < 0; decide) (x_fin R l2 f hx' es q)⟩
  | some L =>
    have ev : shpV (aP A h) d = if rmM (aP A h) d (5 ^ aP A h 4) < L then Int32.ofNat (rmM (aP A h) d (5 ^ aP A h 4) + 1) else -1 := by unfold shpV; rw [em]
    have hLe := rmL_le hw em
    refine loopW (fun g (v : Int32 × Nat × Nat) N => F_X0_shape_b37 Q Lc Ls (Int32.ofNat d) (G.1.2.1 h) (oI (some L)) g v.1 v.2.1 v.2.2 N) (fun v N => (∃ i, v = (Int32.ofNat i, 6, 3000) ∧ i ≤ L + 1 ∧ i ≤ rmM (aP A h) d (5 ^ aP A h 4) + 1) ∧ (ndC N (G.1.2.1 h) = 0 ∧ ndS N (G.1.2.1 h) = 0) ∧ ∃ ρN, Fx (SH (G.1.2.1 h)) ρ M ρN N ∧ HX N ρN (G.1.2.1 h) (aP A h)) (fun v N => L + 1 - v.1.toNatClampNeg) (fun g v N hI k => ?_) ((0 : Int32), 6, 3000) _ ⟨⟨0, rfl, by omega, by omega⟩, nd', ρ', f, hx'⟩
    obtain ⟨⟨i, rfl, i1, i2⟩, nd0, ρN, fN, hN⟩ := hI
    have hN' := R.work l2 fN hN
    refine ltS (a := L) (by omega) (by omega) (fun c => ?_) (fun c => ⟨0, 0, ⟨by show 6 + 0 ≤ _; omega, by show 3000 + 0 ≤ _; omega⟩, x_odd hN hN'.cs nd0 l4 em c (fun M2 ρ2 f2 hx2 nd2 => ?_)⟩)
    · refine x_fin R l2 fN hN ?_ q
      rw [es, ev, if_neg (by omega)]
    · have fr := fN.tr f2
      cases eo : odN (aP A h) d i (5 ^ aP A h 4) with
      | none =>
        have hi := (odN_rm hp).mp eo
        refine bF' rfl (x_fin R l2 fr hx2 ?_ q)
        rw [es, ev, if_pos (by omega), show rmM (aP A h) d (5 ^ aP A h 4) + 1 = i by omega]
      | some s =>
        have hi : ¬ rmM (aP A h) d (5 ^ aP A h 4) < i := fun z => by
          have := (odN_rm hp).mpr z
          rw [eo] at this
          cases this
        have := odN_lt _ s eo
        have h5 := p5_le hw.2.2.2.2.1.2
        refine bT' (oI_ne (by omega)) ?_
        show F_X0_shape_b37 Q Lc Ls (Int32.ofNat d) (G.1.2.1 h) (oI (some L)) g (Int32.ofNat i + (1 : Int32)) 6 3000 M2
        rw [i32_lit 1, i32_add]
        refine k (Int32.ofNat (i + 1), 6, 3000) M2 ⟨⟨i + 1, rfl, by omega, by omega⟩, nd2, ρ2, fr, hx2⟩ ?_
        show L + 1 - (Int32.ofNat (i + 1)).toNatClampNeg < L + 1 - (Int32.ofNat i).toNatClampNeg
        rw [i32_nat (by omega), i32_nat (by omega)]
        omega
theorem x_oddO (R : XRl M ρ x A G) {x1 x2 : Int32} {Lc Ls : Nat} {Q : Int32 → gM → Prop} (hL : 6 ≤ Lc ∧ 3000 ≤ Ls) (q : Kx (spOdd A x1 x2) x ρ M Q) : F_X0_odd_2 Lc Ls M x x1 x2 Q := by
  refine R.rc (x_gL (l := 1) R (by omega) (fun h d e1 => bT' n10 ?_) (fun e1 => bF' rfl (x_bad R (by unfold spOdd; rw [e1]) q)))
  obtain ⟨l1, l2, l3, l4, l5, l6, hx⟩ := R.fL e1
  have es : spOdd A x1 x2 = (oddV (aP A h) d, A) := by unfold spOdd; rw [e1]
  have hw := hx.2.2
  rw [l1, l3]
  refine x_hs R l2 ⟨6, 3000, ⟨by omega, by omega⟩, x_firstRoom hx R.cs ⟨by omega, by omega⟩ l4 (fun M' ρ' f hx' nd' => ?_)⟩
  cases em : rmL (aP A h) d (5 ^ aP A h 4) with
  | none =>
    have ev : oddV (aP A h) d = -1 := by unfold oddV; rw [em]
    rw [ev] at es
    exact bF' rfl (x_fin R l2 f hx' es q)
  | some L =>
    have ev : oddV (aP A h) d = oI (odN (aP A h) d L (5 ^ aP A h 4)) := by unfold oddV; rw [em]
    have hLe := rmL_le hw em
    exact bT' (oI_ne (by omega)) ⟨0, 0, ⟨by omega, by omega⟩, x_odd hx' (R.work l2 f hx').cs nd' l4 em (Nat.le_refl _) (fun M2 ρ2 f2 hx2 _ => x_fin R l2 (f.tr f2) hx2 (by rw [es, ev]) q)⟩
end XOP4
