/-! the class's operations: the best of some rules -/
set_option maxRecDepth 100000
theorem sm_max {P : Nat → Nat} (hk : P 4 ≤ 3) {s : Nat} : ∀ n, n ≤ P 4 → smN P 0 s n ≤ smN P 0 (5 ^ P 4 - 1) n := by
  intro n
  induction n with
  | zero => intro _; exact Nat.le_refl _
  | succ n ih =>
    intro hn
    have key : ∀ k, k < 4 → ∀ i, i < k → dg (5 ^ k - 1) i = 4 := by decide +kernel
    have h1 := key (P 4) (by omega) n (by omega)
    have h2 : dg s n ≤ 4 := by unfold dg; omega
    show smN P 0 s n + dg s n * P (5 + 5 * n + 0) ≤ smN P 0 (5 ^ P 4 - 1) n + dg (5 ^ P 4 - 1) n * P (5 + 5 * n + 0)
    rw [h1]
    exact Nat.add_le_add (ih (by omega)) (Nat.mul_le_mul h2 (Nat.le_refl _))
theorem lsN_stop {P : Nat → Nat} (hP : Wf P) {m : Nat} (hm : sm P 0 (5 ^ P 4 - 1) < m) : ∀ k, lsN P 1 0 (m + k) = lsN P 1 0 m := by
  intro k
  induction k with
  | zero => rfl
  | succ k ih =>
    rw [← ih]
    refine lsN_skip hP (fun s hs e => ?_)
    have := sm_max hP.2.2.2.2.1.2 (s := s) (P 4) (Nat.le_refl _)
    have e : smN P 0 s (P 4) = 0 + (m + k) := e
    have hm : smN P 0 (5 ^ P 4 - 1) (P 4) < m := hm
    omega
section XOP3
variable {M : gM} {ρ : Nat → Nat} {x : Nat} {A : Ab} {G : XG}
theorem x_isRule (R : XRl M ρ x A G) {s : Nat} (hs : s < 8) {κ : Int32 → Prop} (h1 : ∀ u n b, aSh A s = some (.inr (u, n)) → mR M (G.2.2.1 s) 0 = some b → RuX M ρ b u n → WfR u → κ 1) (h0 : (∀ u n, aSh A s ≠ some (.inr (u, n))) → κ 0) : iOq M (mR M (G.2.2.1 s) 0) "SendTheBox$Rule" κ := by
  have hsh := R.sx hs
  cases ev : aSh A s with
  | none =>
    rw [ev] at hsh
    have hsh : mR M (G.2.2.1 s) 0 = none := hsh.2
    rw [hsh]
    exact ⟨fun _ => h0 (fun u n e => by rw [ev] at e; cases e), fun b hb => by cases hb⟩
  | some v => cases v with
    | inl v =>
      rw [ev] at hsh
      obtain ⟨so, n, f⟩ := v
      obtain ⟨c, g1, -, g3⟩ := hsh.2
      rw [g1]
      refine ⟨(fun z => by cases z), fun b hb => ?_⟩
      cases hb
      obtain ⟨z1, z2, z3⟩ := g3.nm
      exact ⟨_, z1, z2, Or.inr ⟨z3, h0 (fun u n e => by rw [ev] at e; cases e)⟩⟩
    | inr v =>
      rw [ev] at hsh
      obtain ⟨u, n⟩ := v
      obtain ⟨c, g1, g2, g3⟩ := hsh.2
      have h1 := h1 u n c ev g1 g2 g3
      rw [g1]
      refine ⟨(fun z => by cases z), fun b hb => ?_⟩
      cases hb
      obtain ⟨ci, z1, z2, z3⟩ := g2.nm
      exact ⟨_, z1, z2, Or.inl ⟨z3, h1⟩⟩
theorem x_boyO (R : XRl M ρ x A G) {x1 : Int32} {Lc Ls : Nat} {Q : Int32 → gM → Prop} (hL : 80 ≤ Lc ∧ 34000 ≤ Ls) (q : Kx (spBoy A x1) x ρ M Q) : F_X0_boy Lc Ls M x x1 Q := by
  refine R.rc (x_gH R (fun h e1 => bT' n10 ?_) (fun e1 => bF' rfl (x_bad R (by unfold spBoy; rw [e1]) q)))
  have d1 := dec_some e1
  have es : spBoy A x1 = match boyN A (aP A h) 8 with | none => rj A 5 | some (s, _) => (Int32.ofNat s, A) := by unfold spBoy; rw [e1]; rfl
  rw [d1.2.1]
  refine x_hs R d1.1 ?_
  refine loopR (fun g (v : Int32 × Int64 × Int32 × Nat × Nat) N => F_X0_boy_b33 Q Lc Ls x (G.1.2.1 h) g v.1 v.2.1 v.2.2.1 v.2.2.2.1 v.2.2.2.2 N) (fun i v N => (v.2.2.1 = Int32.ofNat i ∧ v.2.2.2.1 ≤ 10 * i ∧ v.2.2.2.2 ≤ 4250 * i) ∧ (∃ ρN, Fx (SH (G.1.2.1 h)) ρ M ρN N ∧ HX N ρN (G.1.2.1 h) (aP A h)) ∧ (match boyN A (aP A h) i with | none => v.1 = (-1 : Int32) | some (b, m) => b < i ∧ v.1 = Int32.ofNat b ∧ v.2.1 = m)) 8 (fun i hi g v N hI k => ?_) (fun g v N hI => ?_) ((-1 : Int32), (0 : Int64), (0 : Int32), 0, 0) _ ⟨⟨rfl, Nat.zero_le _, Nat.zero_le _⟩, ⟨ρ, Fx.rf, R.hx d1.1⟩, rfl⟩
  · obtain ⟨x3, j4, x6, u0, v0⟩ := v
    obtain ⟨⟨k1, k2, k3⟩, ⟨ρN, f, hx⟩, kb⟩ := hI
    have k1 : x6 = Int32.ofNat i := k1
    have k2 : u0 ≤ 10 * i := k2
    have k3 : v0 ≤ 4250 * i := k3
    subst k1
    have R' := R.work d1.1 f hx
    refine leF (a := 8) hi (by omega) (x_shs R' hi (x_isRule R' hi (fun u n b ev g1 g2 g3 => bT' n10 ?_) (fun hno => bF' rfl ?_)))
    · obtain ⟨ci, z1, z2, z3⟩ := g2.nm
      have rw_ := rw_le N (G.1.2.1 h) u
      have bs : boyN A (aP A h) (i + 1) = match boyN A (aP A h) i with | none => some (i, MT (aP A h) u (aP A h 0) 0) | some (b, m) => if MT (aP A h) u (aP A h 0) 0 < m then some (i, MT (aP A h) u (aP A h 0) 0) else some (b, m) := by
        show (match aSh A i with | some (.inr (u, _)) => _ | _ => _) = _
        rw [ev]
        rfl
      refine x_shs R' hi ⟨fun b' e' => ?_, hx.gi (by omega) ⟨b, g1, 10, 4250, ⟨by omega, by omega⟩, hx.rch (x_mean hx R'.cs g2 g3 rw_ (Nat.le_refl _) (p5_pos _) (fun M' ρ' f' hx' _ _ => ?_))⟩⟩
      · rw [g1] at e'
        cases e'
        exact ⟨_, z1, z2, z3⟩
      · have fr : ∃ ρN, Fx (SH (G.1.2.1 h)) ρ M ρN M' ∧ HX M' ρN (G.1.2.1 h) (aP A h) := ⟨ρ', f.tr f', hx'⟩
        have new : boyN A (aP A h) (i + 1) = some (i, MT (aP A h) u (aP A h 0) 0) → F_X0_boy_b96 Q Lc Ls (F_X0_boy_b33 Q Lc Ls x (G.1.2.1 h) g) x (G.1.2.1 h) (Int32.ofNat i) (MT (aP A h) u (aP A h 0) 0) (u0 + 10) (v0 + 4250) M' := by
          intro eb
          unfold F_X0_boy_b96 F_X0_boy_b103
          rw [i32_lit 1, i32_add]
          refine k (_, _, _, _, _) M' ⟨⟨rfl, by show u0 + 10 ≤ _; omega, by show v0 + 4250 ≤ _; omega⟩, fr, ?_⟩
          rw [eb]
          exact ⟨by omega, rfl, rfl⟩
        cases eb : boyN A (aP A h) i with
        | none =>
          rw [eb] at kb bs
          exact bT kb (new bs)
        | some bm =>
          obtain ⟨b0, m0⟩ := bm
          rw [eb] at kb bs
          obtain ⟨kb0, kb1, kb2⟩ := kb
          have kb1 : x3 = Int32.ofNat b0 := kb1
          have kb2 : j4 = m0 := kb2
          refine bF (by rw [kb1]; exact oI_ne (by omega)) ⟨fun c => ?_, fun c => new (by rw [bs]; simp only; rw [if_pos (by rw [kb2] at c; exact Int64.not_le.mp c)])⟩
          unfold F_X0_boy_b103
          rw [i32_lit 1, i32_add]
          refine k (_, _, _, _, _) M' ⟨⟨rfl, by show u0 + 10 ≤ _; omega, by show v0 + 4250 ≤ _; omega⟩, fr, ?_⟩
          rw [bs]
          simp only
          rw [if_neg (by rw [kb2] at c; exact Int64.not_lt.mpr c)]
          exact ⟨by omega, kb1, kb2⟩
    · unfold F_X0_boy_b103
      rw [i32_lit 1, i32_add]
      refine k (_, _, _, _, _) N ⟨⟨rfl, by show u0 ≤ _; omega, by show v0 ≤ _; omega⟩, ⟨ρN, f, hx⟩, ?_⟩
      have bs : boyN A (aP A h) (i + 1) = boyN A (aP A h) i := by
        show (match aSh A i with | some (.inr (u, _)) => _ | _ => _) = _
        cases ev : aSh A i with
        | none => rfl
        | some v => cases v with
          | inl v => rfl
          | inr v => exact absurd ev (hno v.1 v.2)
      rw [bs]
      cases eb : boyN A (aP A h) i with
      | none => rw [eb] at kb; exact kb
      | some bm => rw [eb] at kb; exact ⟨by have := kb.1; omega, kb.2⟩
  · obtain ⟨x3, j4, x6, u0, v0⟩ := v
    obtain ⟨⟨k1, k2, k3⟩, ⟨ρN, f, hx⟩, kb⟩ := hI
    have k1 : x6 = Int32.ofNat 8 := k1
    subst k1
    refine leT (a := 8) (Nat.le_refl _) (by omega) ?_
    cases eb : boyN A (aP A h) 8 with
    | none =>
      rw [eb] at kb es
      exact bF' kb (x_rj (n := 5) (R.work d1.1 f hx) (by omega) es (q.ext (f.ext (fun t i z => z.ge))))
    | some bm =>
      obtain ⟨b0, m0⟩ := bm
      rw [eb] at kb es
      have kb1 : x3 = Int32.ofNat b0 := kb.2.1
      refine bT' (by rw [kb1]; exact oI_ne (by omega)) ?_
      rw [kb1]
      exact x_fin R d1.1 f hx es q
/-- a new rule of one number -/
theorem x_newr {a u v Lc Ls ci : Nat} {P : Nat → Nat} {y : Int32} {κ : Nat → gM → Prop} (hx : HX M ρ a P) (hb : u + 1 ≤ Lc ∧ v + 1 ≤ Ls) (q : ∀ M' ρ' z, Fx S0 ρ M ρ' M' → HX M' ρ' a P → (kd M' z = some (true, .inl ci) ∧ ρ' z = Tg z 63) → mI M' z 0 = y → (∀ k, mR M' a k = mR M a k) → κ z M') : nO M u v Lc Ls ci 1 fun z M2 => pI M2 ci z 0 y fun M3 => κ z M3 := by
  refine ⟨hb, fun z hz => ?_⟩
  have k0 : kd (sN M z (.inl ci)) z = some (true, .inl ci) := if_pos rfl
  have f : Fx S0 ρ M (upT ρ z (Tg z 63)) (sI (sN M z (.inl ci)) z 0 y) := fx_I (fx_N Fx.rf hz) hz
  exact ⟨k0, q _ _ z f (hx.cl f (fun k i _ => S0.no)) ⟨k0, upT_eq _ _ _⟩ mI_eq (fun k => (f.2 a (live_of hx.kd_)).2 k S0.no |>.2.2)⟩
theorem x_new6 {a u v Lc Ls : Nat} {P : Nat → Nat} {y : Int32} {κ : Nat → gM → Prop} (hx : HX M ρ a P) (hb : u + 1 ≤ Lc ∧ v + 1 ≤ Ls) (q : ∀ M' ρ' z, Fx S0 ρ M ρ' M' → HX M' ρ' a P → (kd M' z = some (true, .inl 6) ∧ ρ' z = Tg z 63) → mI M' z 0 = y → (∀ k, mR M' a k = mR M a k) → κ z M') : nO M u v Lc Ls 6 1 fun z M2 => F_X6_init M2 z y fun M3 => κ z M3 := x_newr hx hb q
theorem x_new7 {a u v Lc Ls : Nat} {P : Nat → Nat} {y : Int32} {κ : Nat → gM → Prop} (hx : HX M ρ a P) (hb : u + 1 ≤ Lc ∧ v + 1 ≤ Ls) (q : ∀ M' ρ' z, Fx S0 ρ M ρ' M' → HX M' ρ' a P → (kd M' z = some (true, .inl 7) ∧ ρ' z = Tg z 63) → mI M' z 0 = y → (∀ k, mR M' a k = mR M a k) → κ z M') : nO M u v Lc Ls 7 1 fun z M2 => F_X7_init M2 z y fun M3 => κ z M3 := x_newr hx hb q
theorem x_plainO (R : XRl M ρ x A G) {x1 : Int32} {Lc Ls : Nat} {Q : Int32 → gM → Prop} (hL : 104 ≤ Lc ∧ 1350 ≤ Ls) (q : Kx (spPlain A x1) x ρ M Q) : F_X0_plain Lc Ls M x x1 Q := by
  refine R.rc (x_gH R (fun h e1 => bT' n10 ?_) (fun e1 => bF' rfl (x_bad R (by unfold spPlain; rw [e1]) q)))
  have d1 := dec_some e1
  have es : spPlain A x1 = (Int32.ofNat (lsN (aP A h) 1 0 99).1, A) := by unfold spPlain; rw [e1]
  obtain ⟨⟨r, hs⟩, -, hw⟩ := R.hx d1.1
  have hk := hw.2.2.2.2.1
  have h5 := p5_le hk.2
  have hp := p5_pos (aP A h 4)
  rw [d1.2.1]
  refine x_hs R d1.1 (x_rc hs (x_states hs hk (x_rc hs ?_)))
  rw [i32_lit 1, i32_sub (by omega)]
  refine x_space hs R.cs hk.2 (by omega) ?_
  have hmx := sm0_lt hw (5 ^ aP A h 4 - 1)
  rw [i32_add]
  have hm : ∃ m, (if Int32.ofNat (sm (aP A h) 0 (5 ^ aP A h 4 - 1) + 1) < (99 : Int32) then Int32.ofNat (sm (aP A h) 0 (5 ^ aP A h 4 - 1) + 1) else (99 : Int32)) = Int32.ofNat m ∧ m ≤ 99 ∧ lsN (aP A h) 1 0 99 = lsN (aP A h) 1 0 m := by
    by_cases c : sm (aP A h) 0 (5 ^ aP A h 4 - 1) + 1 < 99
    · refine ⟨_, if_pos (by rw [i32_lit 99, i32_lt (by omega) (by omega)]; exact c), by omega, ?_⟩
      have := lsN_stop hw (m := sm (aP A h) 0 (5 ^ aP A h 4 - 1) + 1) (by omega) (99 - (sm (aP A h) 0 (5 ^ aP A h 4 - 1) + 1))
      rw [show sm (aP A h) 0 (5 ^ aP A h 4 - 1) + 1 + (99 - (sm (aP A h) 0 (5 ^ aP A h 4 - 1) + 1)) = 99 by omega] at this
      exact this
    · exact ⟨99, if_neg (by rw [i32_lit 99, i32_lt (by omega) (by omega)]; exact c), by omega, rfl⟩
  obtain ⟨m, m1, m2, m3⟩ := hm
  rw [m3] at es
  refine loopR (fun g (v : Int32 × Int64 × Int32 × Nat × Nat) N => F_X0_plain_b47 Q Lc Ls (G.1.2.1 h) (Int32.ofNat (sm (aP A h) 0 (5 ^ aP A h 4 - 1) + 1)) g v.1 v.2.1 v.2.2.1 v.2.2.2.1 v.2.2.2.2 N) (fun i v N => v.2.2.1 = Int32.ofNat i ∧ (∃ ρN, Fx (SH (G.1.2.1 h)) ρ M ρN N ∧ HX N ρN (G.1.2.1 h) (aP A h)) ∧ (v.2.2.2.1 + rC N (G.1.2.1 h) ≤ i + 4 ∧ v.2.2.2.2 + rS N (G.1.2.1 h) ≤ i + 1250) ∧ (i = 0 → v.1 = (-1 : Int32)) ∧ (∀ j, i = j + 1 → v.1 = Int32.ofNat (lsN (aP A h) 1 0 j).1 ∧ v.2.1 = (lsN (aP A h) 1 0 j).2)) (m + 1) (fun i hi g v N hI k => ?_) (fun g v N hI => ?_) ((-1 : Int32), (0 : Int64), (0 : Int32), 0, 0) _ ⟨rfl, ⟨ρ, Fx.rf, R.hx d1.1⟩, (by
    unfold rC rS
    show 0 + _ ≤ 0 + 4 ∧ 0 + _ ≤ 0 + 1250
    split <;> omega), fun _ => rfl, fun j e => by omega⟩
  · obtain ⟨x3, j4, x6, u0, v0⟩ := v
    obtain ⟨k1, ⟨ρN, f, hx⟩, ⟨k2, k3⟩, kz, ks⟩ := hI
    have k1 : x6 = Int32.ofNat i := k1
    have k2 : u0 + rC N (G.1.2.1 h) ≤ i + 4 := k2
    have k3 : v0 + rS N (G.1.2.1 h) ≤ i + 1250 := k3
    subst k1
    refine bF (by rw [m1, i32_lt (by omega) (by omega)]; omega) (x_new6 hx ⟨by omega, by omega⟩ (fun N1 ρ1 z f1 hx1 z1 z2 z3 => hx1.gi (by omega) ?_))
    have hru : RuX N1 ρ1 z (1, i, fun _ => false) 0 := ⟨z1.2, z1.1, z2⟩
    have hwu : WfR (1, i, fun _ => false) := ⟨⟨by show 1 ≤ 1; omega, by show 1 ≤ 5; omega⟩, (fun _ => by show i ≤ 99; omega), (fun z => by cases z), (fun z => by cases z)⟩
    have f1' : Fx (SH (G.1.2.1 h)) ρN N ρ1 N1 := f1.mono (fun t i z => z.elim)
    have er : rC N1 (G.1.2.1 h) = rC N (G.1.2.1 h) ∧ rS N1 (G.1.2.1 h) = rS N (G.1.2.1 h) := by unfold rC rS; rw [z3 13]; exact ⟨rfl, rfl⟩
    have ew : wC (1, i, fun _ => false) N1 (G.1.2.1 h) = 0 ∧ wS (1, i, fun _ => false) N1 (G.1.2.1 h) = 0 := ⟨if_neg (by show (1 : Nat) ≠ 4; omega), if_neg (by show (1 : Nat) ≠ 4; omega)⟩
    refine ⟨rC N (G.1.2.1 h), rS N (G.1.2.1 h), ⟨by omega, by omega⟩, hx1.rch (x_mean hx1 (f1'.csH (f.csH R.cs)) hru hwu (by omega) (Nat.le_refl _) (p5_pos _) (fun M' ρ' f' hx' n13 _ => ?_))⟩
    have fr : ∃ ρN, Fx (SH (G.1.2.1 h)) ρ M ρN M' ∧ HX M' ρN (G.1.2.1 h) (aP A h) := ⟨ρ', (f.tr f1').tr f', hx'⟩
    have r0 : rC M' (G.1.2.1 h) = 0 ∧ rS M' (G.1.2.1 h) = 0 := ⟨if_neg n13, if_neg n13⟩
    have bd : (u0 + 1 + rC N (G.1.2.1 h) + rC M' (G.1.2.1 h) ≤ i + 1 + 4) ∧ (v0 + 1 + rS N (G.1.2.1 h) + rS M' (G.1.2.1 h) ≤ i + 1 + 1250) := ⟨by omega, by omega⟩
    have new : lsN (aP A h) 1 0 i = (i, vN (aP A h) 1 i) → F_X0_plain_b92 Q Lc Ls (F_X0_plain_b47 Q Lc Ls (G.1.2.1 h) (Int32.ofNat (sm (aP A h) 0 (5 ^ aP A h 4 - 1) + 1)) g) (G.1.2.1 h) (Int32.ofNat (sm (aP A h) 0 (5 ^ aP A h 4 - 1) + 1)) (Int32.ofNat i) (vN (aP A h) 1 i) (u0 + 1 + rC N (G.1.2.1 h)) (v0 + 1 + rS N (G.1.2.1 h)) M' := by
      intro el
      unfold F_X0_plain_b92 F_X0_plain_b99
      rw [i32_lit 1, i32_add]
      refine k (_, _, _, _, _) M' ⟨rfl, fr, bd, fun e => by omega, fun j e => ?_⟩
      cases (by omega : j = i)
      rw [el]
      exact ⟨rfl, rfl⟩
    cases i with
    | zero => exact bT (kz rfl) (new rfl)
    | succ j =>
      obtain ⟨a1, a2⟩ := ks j rfl
      have a1 : x3 = Int32.ofNat (lsN (aP A h) 1 0 j).1 := a1
      have a2 : j4 = (lsN (aP A h) 1 0 j).2 := a2
      have hle := lsN_le (aP A h) 1 0 j
      have el : lsN (aP A h) 1 0 (j + 1) = if vN (aP A h) 1 (0 + j + 1) < (lsN (aP A h) 1 0 j).2 then (0 + j + 1, vN (aP A h) 1 (0 + j + 1)) else lsN (aP A h) 1 0 j := rfl
      rw [Nat.zero_add] at el
      refine bF (by rw [a1]; exact oI_ne (by omega)) ⟨fun c => ?_, fun c => new (by rw [el, if_pos (by rw [a2] at c; exact Int64.not_le.mp c)])⟩
      unfold F_X0_plain_b99
      rw [i32_lit 1, i32_add]
      refine k (_, _, _, _, _) M' ⟨rfl, fr, bd, fun e => by omega, fun j' e => ?_⟩
      cases (by omega : j' = j + 1)
      rw [el, if_neg (by rw [a2] at c; exact Int64.not_lt.mpr c)]
      exact ⟨a1, a2⟩
  · obtain ⟨x3, j4, x6, u0, v0⟩ := v
    obtain ⟨k1, ⟨ρN, f, hx⟩, ⟨k2, k3⟩, kz, ks⟩ := hI
    have k1 : x6 = Int32.ofNat (m + 1) := k1
    subst k1
    have a1 : x3 = Int32.ofNat (lsN (aP A h) 1 0 m).1 := (ks m rfl).1
    refine bT (by rw [m1, i32_lt (by omega) (by omega)]; omega) ?_
    rw [a1]
    exact x_fin R d1.1 f hx es q
theorem x_everyO (R : XRl M ρ x A G) {x1 : Int32} {Lc Ls : Nat} {Q : Int32 → gM → Prop} (hL : 10 ≤ Lc ∧ 1256 ≤ Ls) (q : Kx (spEvery A x1) x ρ M Q) : F_X0_every Lc Ls M x x1 Q := by
  refine R.rc (x_gH R (fun h e1 => bT' n10 ?_) (fun e1 => bF' rfl (x_bad R (by unfold spEvery; rw [e1]) q)))
  have d1 := dec_some e1
  have es : spEvery A x1 = (Int32.ofNat (lsN (aP A h) 2 1 5).1, A) := by unfold spEvery; rw [e1]
  have hw := (R.hx d1.1).2.2
  rw [d1.2.1]
  refine x_hs R d1.1 ?_
  refine loopR (fun g (v : Int32 × Int64 × Int32 × Nat × Nat) N => F_X0_every_b33 Q Lc Ls (G.1.2.1 h) g v.1 v.2.1 v.2.2.1 v.2.2.2.1 v.2.2.2.2 N) (fun i v N => v.2.2.1 = Int32.ofNat (1 + i) ∧ (∃ ρN, Fx (SH (G.1.2.1 h)) ρ M ρN N ∧ HX N ρN (G.1.2.1 h) (aP A h)) ∧ (v.2.2.2.1 + rC N (G.1.2.1 h) ≤ i + 4 ∧ v.2.2.2.2 + rS N (G.1.2.1 h) ≤ i + 1250) ∧ (i = 0 → v.1 = (-1 : Int32)) ∧ (∀ j, i = j + 1 → v.1 = Int32.ofNat (lsN (aP A h) 2 1 j).1 ∧ v.2.1 = (lsN (aP A h) 2 1 j).2)) 6 (fun i hi g v N hI k => ?_) (fun g v N hI => ?_) ((-1 : Int32), (0 : Int64), (1 : Int32), 0, 0) _ ⟨rfl, ⟨ρ, Fx.rf, R.hx d1.1⟩, (by
    unfold rC rS
    show 0 + _ ≤ 0 + 4 ∧ 0 + _ ≤ 0 + 1250
    split <;> omega), fun _ => rfl, fun j e => by omega⟩
  · obtain ⟨x3, j4, x6, u0, v0⟩ := v
    obtain ⟨k1, ⟨ρN, f, hx⟩, ⟨k2, k3⟩, kz, ks⟩ := hI
    have k1 : x6 = Int32.ofNat (1 + i) := k1
    have k2 : u0 + rC N (G.1.2.1 h) ≤ i + 4 := k2
    have k3 : v0 + rS N (G.1.2.1 h) ≤ i + 1250 := k3
    subst k1
    refine ltF (a := 6) (by omega) (by omega) (x_new7 hx ⟨by omega, by omega⟩ (fun N1 ρ1 z f1 hx1 z1 z2 z3 => hx1.gi (by omega) ?_))
    have hru : RuX N1 ρ1 z (2, 1 + i, fun _ => false) 0 := ⟨z1.2, z1.1, z2⟩
    have hwu : WfR (2, 1 + i, fun _ => false) := ⟨⟨by show 1 ≤ 2; omega, by show 2 ≤ 5; omega⟩, (fun z => by cases z), (fun _ => ⟨by show 1 ≤ 1 + i; omega, by show 1 + i ≤ 6; omega⟩), (fun z => by cases z)⟩
    have f1' : Fx (SH (G.1.2.1 h)) ρN N ρ1 N1 := f1.mono (fun t i z => z.elim)
    have er : rC N1 (G.1.2.1 h) = rC N (G.1.2.1 h) ∧ rS N1 (G.1.2.1 h) = rS N (G.1.2.1 h) := by unfold rC rS; rw [z3 13]; exact ⟨rfl, rfl⟩
    have ew : wC (2, 1 + i, fun _ => false) N1 (G.1.2.1 h) = 0 ∧ wS (2, 1 + i, fun _ => false) N1 (G.1.2.1 h) = 0 := ⟨if_neg (by show (2 : Nat) ≠ 4; omega), if_neg (by show (2 : Nat) ≠ 4; omega)⟩
    refine ⟨rC N (G.1.2.1 h), rS N (G.1.2.1 h), ⟨by omega, by omega⟩, hx1.rch (x_mean hx1 (f1'.csH (f.csH R.cs)) hru hwu (by omega) (Nat.le_refl _) (p5_pos _) (fun M' ρ' f' hx' n13 _ => ?_))⟩
    have fr : ∃ ρN, Fx (SH (G.1.2.1 h)) ρ M ρN M' ∧ HX M' ρN (G.1.2.1 h) (aP A h) := ⟨ρ', (f.tr f1').tr f', hx'⟩
    have r0 : rC M' (G.1.2.1 h) = 0 ∧ rS M' (G.1.2.1 h) = 0 := ⟨if_neg n13, if_neg n13⟩
    have bd : (u0 + 1 + rC N (G.1.2.1 h) + rC M' (G.1.2.1 h) ≤ i + 1 + 4) ∧ (v0 + 1 + rS N (G.1.2.1 h) + rS M' (G.1.2.1 h) ≤ i + 1 + 1250) := ⟨by omega, by omega⟩
    have new : lsN (aP A h) 2 1 i = (1 + i, vN (aP A h) 2 (1 + i)) → F_X0_every_b73 Q Lc Ls (F_X0_every_b33 Q Lc Ls (G.1.2.1 h) g) (G.1.2.1 h) (Int32.ofNat (1 + i)) (vN (aP A h) 2 (1 + i)) (u0 + 1 + rC N (G.1.2.1 h)) (v0 + 1 + rS N (G.1.2.1 h)) M' := by
      intro el
      unfold F_X0_every_b73 F_X0_every_b80
      rw [i32_lit 1, i32_add]
      refine k (_, _, _, _, _) M' ⟨rfl, fr, bd, fun e => by omega, fun j e => ?_⟩
      cases (by omega : j = i)
      rw [el]
      exact ⟨rfl, rfl⟩
    cases i with
    | zero => exact bT (kz rfl) (new rfl)
    | succ j =>
      obtain ⟨a1, a2⟩ := ks j rfl
      have a1 : x3 = Int32.ofNat (lsN (aP A h) 2 1 j).1 := a1
      have a2 : j4 = (lsN (aP A h) 2 1 j).2 := a2
      have hle := lsN_le (aP A h) 2 1 j
      have el : lsN (aP A h) 2 1 (j + 1) = if vN (aP A h) 2 (1 + (j + 1)) < (lsN (aP A h) 2 1 j).2 then (1 + (j + 1), vN (aP A h) 2 (1 + (j + 1))) else lsN (aP A h) 2 1 j := rfl
      refine bF (by rw [a1]; exact oI_ne (by omega)) ⟨fun c => ?_, fun c => new (by rw [el, if_pos (by rw [a2] at c; exact Int64.not_le.mp c)])⟩
      unfold F_X0_every_b80
      rw [i32_lit 1, i32_add]
      refine k (_, _, _, _, _) M' ⟨rfl, fr, bd, fun e => by omega, fun j' e => ?_⟩
      cases (by omega : j' = j + 1)
      rw [el, if_neg (by rw [a2] at c; exact Int64.not_lt.mpr c)]
      exact ⟨a1, a2⟩
  · obtain ⟨x3, j4, x6, u0, v0⟩ := v
    obtain ⟨k1, ⟨ρN, f, hx⟩, ⟨k2, k3⟩, kz, ks⟩ := hI
    have k1 : x6 = Int32.ofNat 7 := k1
    subst k1
    have a1 : x3 = Int32.ofNat (lsN (aP A h) 2 1 5).1 := (ks 5 rfl).1
    refine ltT (a := 6) (by omega) (by omega) ?_
    rw [a1]
    exact x_fin R d1.1 f hx es q
end XOP3
