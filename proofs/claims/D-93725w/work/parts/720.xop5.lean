/-! the class's operations: a load judged; shelves -/
set_option maxRecDepth 100000
theorem jd_1 : ∀ i, i < 3 → ∀ y, y < 25 → y < 5 ^ i → ∀ v, v < 5 → dg (y + v * 5 ^ i) i = v := by decide +kernel
theorem jd_2 : ∀ i, i < 3 → ∀ y, y < 25 → y < 5 ^ i → ∀ v, v < 5 → y + v * 5 ^ i < 5 ^ (i + 1) := by decide +kernel
theorem jd_3 (i : Nat) (hi : i < 3) : ∀ y, y < 25 → y < 5 ^ i → ∀ v, v < 5 → ∀ j, j < 3 → j < i → dg (y + v * 5 ^ i) j = dg y j := by
  rcases (by omega : i = 0 ∨ i = 1 ∨ i = 2) with rfl | rfl | rfl <;> decide +kernel
theorem jd_dg (i : Nat) (hi : i < 3) (y : Nat) (h1 : y < 25) (h2 : y < 5 ^ i) (v : Nat) (hv : v < 5) : (∀ j, j < i → dg (y + v * 5 ^ i) j = dg y j) ∧ dg (y + v * 5 ^ i) i = v ∧ y + v * 5 ^ i < 5 ^ (i + 1) := ⟨fun j hj => jd_3 i hi y h1 h2 v hv j (by omega) hj, jd_1 i hi y h1 h2 v hv, jd_2 i hi y h1 h2 v hv⟩
theorem smN_dg {P : Nat → Nat} {y y' : Nat} : ∀ n, (∀ j, j < n → dg y' j = dg y j) → smN P 0 y' n = smN P 0 y n := by
  intro n
  induction n with
  | zero => intro _; rfl
  | succ n ih =>
    intro h
    show smN P 0 y' n + dg y' n * _ = smN P 0 y n + dg y n * _
    rw [ih (fun j hj => h j (by omega)), h n (by omega)]
section XOP5
variable {M : gM} {ρ : Nat → Nat} {x : Nat} {A : Ab} {G : XG}
theorem x_rowIn (R : XRl M ρ x A G) {y : Int32} {s Lc Ls : Nat} {Q : Nat → gM → Prop} {X : String → Nat → gM → Prop} (hs : dec 8 y = some s) (hL : 1 ≤ Lc ∧ 7 ≤ Ls) (h1 : ∀ so n f c, aSh A s = some (.inl (so, n, f)) → mR M (G.2.2.1 s) 0 = some c → ρ c = Tg (G.2.2.1 s) 0 → RwX M c so n f → Q c M) (h0 : ∀ e q M' ρ', ((e = 3 ∧ ∃ v, aSh A s = some (.inr v)) ∨ (e = 4 ∧ aSh A s = none)) → (2 ≤ e ∧ e ≤ 6) → Fx S0 ρ M ρ' M' → kd M' q = some (true, .inl 4) → mI M' q 6 = -(Int32.ofNat e) → X "SendTheBox$Refused" q M') : F_X0_rowIn Lc Ls M x y Q X := by
  have d := dec_some hs
  have hsh := R.sx d.1
  rw [d.2.1]
  refine x_shs R d.1 (x_isRule R d.1 (fun u n b ev _ _ _ => bF n10 (x_refd (n := 3) (by omega) (fun M' ρ' z f k v => h0 3 z M' ρ' (Or.inl ⟨rfl, _, ev⟩) (by omega) f k v))) (fun hno => bT rfl ⟨fun en => x_refd (n := 4) (by omega) (fun M' ρ' z f k v => h0 4 z M' ρ' (Or.inr ⟨rfl, ?_⟩) (by omega) f k v), fun b eb => ?_⟩))
  · cases ev : aSh A s with
    | none => rfl
    | some w => cases w with
      | inl w =>
        rw [ev] at hsh
        obtain ⟨so, n, f⟩ := w
        obtain ⟨c, g1, -⟩ := hsh.2
        rw [en] at g1
        cases g1
      | inr w => exact absurd ev (hno w.1 w.2)
  · cases ev : aSh A s with
    | none =>
      rw [ev] at hsh
      have hsh : mR M (G.2.2.1 s) 0 = none := hsh.2
      rw [hsh] at eb
      cases eb
    | some w => cases w with
      | inl w =>
        rw [ev] at hsh
        obtain ⟨so, n, f⟩ := w
        obtain ⟨c, g1, g2, g3⟩ := hsh.2
        rw [eb] at g1
        cases g1
        exact h1 so n f b ev eb g2 g3
      | inr w => exact absurd ev (hno w.1 w.2)
theorem x_judgeO (R : XRl M ρ x A G) {x1 x2 x3 : Int32} {Lc Ls : Nat} {Q : Int32 → gM → Prop} (hL : 10 ≤ Lc ∧ 673 ≤ Ls) (q : Kx (spJudge A x1 x2 x3) x ρ M Q) : F_X0_judge Lc Ls M x x1 x2 x3 Q := by
  refine R.rc (x_gS R (fun h s e1 => bF n10 ?_) (fun e1 => bT rfl (x_bad R (by unfold spJudge; rw [e1]) q)))
  obtain ⟨s1, s2, s3, s4, s5, hx⟩ := R.fS e1
  refine x_shelf (fun t e2 => bT' n10 ?_) (fun e2 => bF' rfl (x_bad R (by unfold spJudge; rw [e1, e2]) q))
  have es : spJudge A x1 x2 x3 = match aSh A t with | some (.inr _) => rj A 3 | none => rj A 4 | some (.inl (_, n, f)) => if n < aP A h 4 then rj A 2 else match jdN (aP A h) s f (aP A h 4) with | none => (1, A) | some r => (if aP A h 2 < r then 2 else 0, A) := by unfold spJudge; rw [e1, e2]; rfl
  obtain ⟨⟨r, hs⟩, -, hw⟩ := hx
  have h4 := hw.2.2.2.2.1
  rw [s1, s3]
  refine x_hs R s2 ⟨1, 7, ⟨by omega, by omega⟩, R.rc (x_rowIn R e2 ⟨by omega, by omega⟩ (fun so n f c ev g1 g2 g3 => ?_) (fun e z M' ρ' a1 a2 a3 a4 a5 => ⟨rfl, x_got R a2 a3 a4 a5 (by
    rw [es]
    rcases a1 with ⟨a1, v, a1'⟩ | ⟨a1, a1'⟩
    · rw [a1', a1]
    · rw [a1', a1]) q⟩))⟩
  rw [ev] at es
  have es : spJudge A x1 x2 x3 = if n < aP A h 4 then rj A 2 else match jdN (aP A h) s f (aP A h 4) with | none => (1, A) | some r => (if aP A h 2 < r then 2 else 0, A) := es
  refine loopR (fun g (v : Int32 × Int32 × Int32 × Nat × Nat) N => F_X0_judge_b50 Q Lc Ls x (Int32.ofNat s) (G.1.2.1 h) c g v.1 v.2.1 v.2.2.1 v.2.2.2.1 v.2.2.2.2 N) (fun i v N => N = M ∧ (v.2.2.1 = Int32.ofNat i ∧ v.2.2.2.1 = 1 + 3 * i ∧ v.2.2.2.2 = 7 + 222 * i) ∧ i ≤ n ∧ (match jdN (aP A h) s f i with | none => v.2.1 = 1 | some r => v.2.1 = 0 ∧ ∃ y, v.1 = Int32.ofNat y ∧ y < 5 ^ i ∧ smN (aP A h) 0 y i = r)) (aP A h 4) (fun i hi g v N hI k => ?_) (fun g v N hI => ?_) ((0 : Int32), (0 : Int32), (0 : Int32), 0 + 1, 0 + 7) _ ⟨rfl, ⟨rfl, rfl, rfl⟩, Nat.zero_le _, rfl, 0, rfl, by decide, rfl⟩
  · obtain ⟨x6, x7, x8, u0, v0⟩ := v
    obtain ⟨rfl, ⟨k1, k2, k3⟩, k4, k5⟩ := hI
    have k1 : x8 = Int32.ofNat i := k1
    have k2 : u0 = 1 + 3 * i := k2
    have k3 : v0 = 7 + 222 * i := k3
    subst k1
    have hdg : dg s i ≤ 4 := by unfold dg; omega
    refine x_gI hs (by omega) (leF hi (by omega) ⟨3, 222, ⟨by omega, by omega⟩, x_elementOf g3 (fun j ej => ?_) (fun en => ⟨by omega, fun _ => ⟨rfl, x_bad R (by
      rw [es, if_pos]
      have := dec_none en (s := i)
      by_cases c : i < n
      · exact absurd rfl (this c (by omega))
      · omega) q⟩⟩)⟩)
    have dj := dec_some ej
    have hji : i = j := by
      have := dj.2.1
      rw [i32_eq (by omega) (by omega)] at this
      exact this
    subst hji
    have hj : jdN (aP A h) s f (i + 1) = match jdN (aP A h) s f i with | none => none | some r => if 0 ≤ (f i).toInt ∧ (f i).toInt ≤ dg s i then some (r + (f i).toInt.toNat * aP A h (5 + 5 * i)) else none := rfl
    have bad : jdN (aP A h) s f (i + 1) = none → ∀ y, F_X0_judge_b110 Q Lc Ls (F_X0_judge_b50 Q Lc Ls x (Int32.ofNat s) (G.1.2.1 h) c g) x (Int32.ofNat s) (G.1.2.1 h) c y (1 : Int32) (Int32.ofNat i) (u0 + 3) (v0 + 222) N := by
      intro e y
      unfold F_X0_judge_b110
      rw [i32_lit 1, i32_add]
      refine k (_, _, _, _, _) N ⟨rfl, ⟨rfl, by show u0 + 3 = _; omega, by show v0 + 222 = _; omega⟩, by omega, ?_⟩
      rw [e]
      rfl
    refine ⟨fun c0 => bad ?_ _, fun c0 => x_standing R.cs (by omega) (by omega) ?_⟩
    · rw [Int64.lt_iff_toInt_lt] at c0
      have e0 : (0 : Int64).toInt = 0 := by decide
      rw [hj]
      cases jdN (aP A h) s f i with
      | none => rfl
      | some r => simp only; rw [if_neg (by omega)]
    · rw [Int64.lt_iff_toInt_lt] at c0
      have e0 : (0 : Int64).toInt = 0 := by decide
      rw [i64_of (by omega)]
      refine ⟨fun c1 => x_place R.cs (by omega) ?_, fun c1 => bad ?_ _⟩
      · rw [Int64.le_iff_toInt_le, i64_toInt (by omega)] at c1
        have hv : f i = Int64.ofNat (f i).toInt.toNat := Int64.toInt_inj.mp (by rw [i64_toInt (by omega)]; omega)
        have hv4 : (f i).toInt.toNat ≤ dg s i := by omega
        cases ej0 : jdN (aP A h) s f i with
        | none =>
          rw [ej0] at k5 hj
          have k5 : x7 = 1 := k5
          rw [k5]
          exact bad hj _
        | some r0 =>
          rw [ej0] at k5 hj
          simp only at hj
          rw [if_pos (by omega)] at hj
          obtain ⟨k6, y, k7, k8, k9⟩ := k5
          have k6 : x7 = 0 := k6
          have k7 : x6 = Int32.ofNat y := k7
          have h5i : (5 : Nat) ^ i ≤ 25 := by rcases (by omega : i = 0 ∨ i = 1 ∨ i = 2) with e | e | e <;> rw [e] <;> decide
          obtain ⟨q1, q2, q3⟩ := jd_dg i (by omega) y (by omega) k8 (f i).toInt.toNat (by omega)
          have e32 : (f i).toInt32 = Int32.ofNat (f i).toInt.toNat := by
            rw [hv]
            rw [i64_toInt (by omega)]
            exact i64_32 (by omega)
          unfold F_X0_judge_b110
          rw [i32_lit 1, i32_add, e32, i32_mul, k7, i32_add, k6]
          refine k (_, _, _, _, _) N ⟨rfl, ⟨rfl, by show u0 + 3 = _; omega, by show v0 + 222 = _; omega⟩, by omega, ?_⟩
          rw [hj]
          refine ⟨rfl, _, rfl, q3, ?_⟩
          show smN (aP A h) 0 (y + (f i).toInt.toNat * 5 ^ i) i + dg (y + (f i).toInt.toNat * 5 ^ i) i * aP A h (5 + 5 * i + 0) = _
          rw [q2, smN_dg i q1, k9]
          rfl
      · rw [Int64.le_iff_toInt_le, i64_toInt (by omega)] at c1
        rw [hj]
        cases jdN (aP A h) s f i with
        | none => rfl
        | some r => simp only; rw [if_neg (by omega)]
  · obtain ⟨x6, x7, x8, u0, v0⟩ := v
    obtain ⟨rfl, ⟨k1, -⟩, k4, k5⟩ := hI
    have k1 : x8 = Int32.ofNat (aP A h 4) := k1
    subst k1
    rw [if_neg (by omega)] at es
    refine x_gI hs (by omega) (leT (Nat.le_refl _) (by omega) ?_)
    cases ej : jdN (aP A h) s f (aP A h 4) with
    | none =>
      rw [ej] at k5 es
      have k5 : x7 = 1 := k5
      exact bF' k5 (x_same R es q)
    | some r0 =>
      rw [ej] at k5 es
      obtain ⟨k6, y, k7, k8, k9⟩ := k5
      have k6 : x7 = 0 := k6
      have k7 : x6 = Int32.ofNat y := k7
      have h5 := p5_le h4.2
      have hsm := sm0_lt hw y
      have h2 := hw.2.2.1
      rw [k7]
      refine bT' (by rw [k6]; exact (by decide : ¬ (0 : Int32) = 1)) (x_rc hs (x_space hs R.cs h4.2 (by omega) (x_gI hs (by omega) ?_)))
      have k9 : sm (aP A h) 0 y = r0 := k9
      refine leS (by omega) (by omega) (fun c => x_same R (by rw [es]; simp only; rw [if_neg (by omega)]) q) (fun c => x_same R (by rw [es]; simp only; rw [if_pos (by omega)]) q)
theorem x_elementO (R : XRl M ρ x A G) {x1 x2 : Int32} {Lc Ls : Nat} {Q : Int64 → gM → Prop} (hL : 4 ≤ Lc ∧ 229 ≤ Ls) (q : Kx (spElement A x1 x2) x ρ M Q) : F_X0_element Lc Ls M x x1 x2 Q := by
  refine x_shelf (fun s e1 => bT' n10 ?_) (fun e1 => bF' rfl (x_same R (by unfold spElement; rw [e1]) q))
  refine ⟨1, 7, ⟨by omega, by omega⟩, R.rc (x_rowIn R e1 ⟨by omega, by omega⟩ (fun so n f c ev g1 g2 g3 => ?_) (fun e z M' ρ' a1 a2 a3 a4 a5 => ⟨rfl, ?_⟩))⟩
  · have es : spElement A x1 x2 = match dec n x2 with | none => (0, A) | some i => (f i, A) := by unfold spElement; rw [e1]; simp only; rw [ev]; rfl
    exact ⟨3, 222, ⟨by omega, by omega⟩, x_elementOf g3 (fun i ei => x_same R (by rw [es, ei]) q) (fun ei => ⟨by omega, fun _ => ⟨rfl, x_same R (by rw [es, ei]) q⟩⟩)⟩
  · refine x_same (R.new a3) (sp := spElement A x1 x2) ?_ (q.ext (a3.ext (fun t i z => z.elim)))
    unfold spElement
    rw [e1]
    simp only
    rcases a1 with ⟨-, v, a1⟩ | ⟨-, a1⟩
    · rw [a1]
    · rw [a1]
theorem x_kind {b n : Nat} {u : Ru} (h : RuX M ρ b u n) (hw : WfR u) {κ : Int32 → gM → Prop} (q : κ (Int32.ofNat u.1) M) : FD_Rule_kind M b κ := by
  obtain ⟨k, c, t⟩ := u
  obtain ⟨-, hr⟩ := h
  have hk := hw.1
  have hk : 1 ≤ k ∧ k ≤ 5 := hk
  rcases (by omega : k = 1 ∨ k = 2 ∨ k = 3 ∨ k = 4 ∨ k = 5) with rfl | rfl | rfl | rfl | rfl
  · exact Or.inl (rc_i hr.1 q)
  · exact Or.inr (Or.inl (rc_i hr.1 q))
  · exact Or.inr (Or.inr (Or.inl (rc_i hr.1 q)))
  · exact Or.inr (Or.inr (Or.inr (Or.inl (rc_i hr q))))
  · exact Or.inr (Or.inr (Or.inr (Or.inr (rc_i hr.1 q))))
theorem x_holdsO (R : XRl M ρ x A G) {x1 : Int32} {Q : Int32 → gM → Prop} (q : Kx (spHolds A x1) x ρ M Q) : F_X0_holds M x x1 Q := by
  refine x_shelf (fun s e1 => bF n10 ?_) (fun e1 => bT rfl (x_same R (by unfold spHolds; rw [e1]) q))
  have d1 := dec_some e1
  have hsh := R.sx d1.1
  have es : spHolds A x1 = match aSh A s with | none => (-1, A) | some (.inl (so, _, _)) => (Int32.ofNat so, A) | some (.inr (u, _)) => (Int32.ofNat (10 + u.1), A) := by unfold spHolds; rw [e1]; rfl
  rw [d1.2.1]
  refine x_shs R d1.1 ⟨fun en => x_same R ?_ q, fun b eb => x_shs R d1.1 (x_isRule R d1.1 (fun u n b' ev g1 g2 g3 => bF n10 ⟨fun c ec => ?_, b', g1, x_kind g2 g3 ?_⟩) (fun hno => bT rfl ⟨b, eb, ?_⟩))⟩
  · rw [es]
    cases ev : aSh A s with
    | none => rfl
    | some w => cases w with
      | inl w =>
        rw [ev] at hsh
        obtain ⟨so, n, f⟩ := w
        obtain ⟨c, g1, -⟩ := hsh.2
        rw [en] at g1
        cases g1
      | inr w =>
        rw [ev] at hsh
        obtain ⟨u, n⟩ := w
        obtain ⟨c, g1, -⟩ := hsh.2
        rw [en] at g1
        cases g1
  · rw [g1] at ec
    cases ec
    obtain ⟨ci, z1, z2, z3⟩ := g2.nm
    exact ⟨_, z1, z2, z3⟩
  · rw [i32_lit 10, i32_add]
    exact x_same R (by rw [es, ev]) q
  · cases ev : aSh A s with
    | none =>
      rw [ev] at hsh
      have hsh : mR M (G.2.2.1 s) 0 = none := hsh.2
      rw [hsh] at eb
      cases eb
    | some w => cases w with
      | inl w =>
        rw [ev] at hsh
        obtain ⟨so, n, f⟩ := w
        obtain ⟨c, g1, g2, g3⟩ := hsh.2
        rw [eb] at g1
        cases g1
        exact x_sortOf g3.1 g3.2.1.1 (x_same R (by rw [es, ev]) q)
      | inr w => exact absurd ev (hno w.1 w.2)
end XOP5
