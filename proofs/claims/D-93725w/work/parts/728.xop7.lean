/-! the class's operations: a row copied; rules made and asked -/
set_option maxRecDepth 100000
theorem tyF_inj {a b : Nat} (ha : a ≤ 4) (hb : b ≤ 4) (h : tyF a = tyF b) : a = b := by
  have key : ∀ a, a < 5 → ∀ b, b < 5 → tyF a = tyF b → a = b := by decide +kernel
  exact key a (by omega) b (by omega) h
theorem tyF_pr {a : Nat} (ha : a ≤ 4) : tyF a ∈ gPr := by
  have key : ∀ a, a < 5 → tyF a ∈ gPr := by decide +kernel
  exact key a (by omega)
theorem inRow_some {n i c : Nat} {a k : Int32} (h : inRow n a k = some (i, c)) : (a = Int32.ofNat i ∧ k = Int32.ofNat c) ∧ i + c ≤ n ∧ i < 2147483648 ∧ c < 2147483648 := by
  unfold inRow at h
  cases e1 : dec (n + 1) k with
  | none => rw [e1] at h; cases h
  | some c' =>
    rw [e1] at h
    simp only at h
    cases e2 : dec (n - c' + 1) a with
    | none => rw [e2] at h; cases h
    | some i' =>
      rw [e2] at h
      cases h
      have d1 := dec_some e1
      have d2 := dec_some e2
      exact ⟨⟨d2.2.1, d1.2.1⟩, by omega, d2.2.2, d1.2.2⟩
theorem inRow_of {n : Nat} {a k : Int32} (ha : ¬ a < 0) (hk : ¬ k < 0) (h : a.toNatClampNeg + k.toNatClampNeg ≤ n) : inRow n a k = some (a.toNatClampNeg, k.toNatClampNeg) := by
  obtain ⟨i, hi, rfl⟩ := i32_of ha
  obtain ⟨c, hc, rfl⟩ := i32_of hk
  rw [i32_nat hi, i32_nat hc] at h ⊢
  unfold inRow
  rw [dec_of (by omega) hc]
  simp only
  rw [dec_of (by omega) hi]
theorem cpR_no {n n' : Nat} {a b k : Int32} (h : ¬ cpR n n' a b k) : inRow n a k = none ∨ inRow n' b k = none := by
  cases e1 : inRow n a k with
  | none => exact Or.inl rfl
  | some p => cases e2 : inRow n' b k with
    | none => exact Or.inr rfl
    | some p' =>
      exfalso
      obtain ⟨i, c⟩ := p
      obtain ⟨j, c'⟩ := p'
      obtain ⟨⟨a1, a2⟩, a3, a4, a5⟩ := inRow_some e1
      obtain ⟨⟨b1, b2⟩, b3, b4, b5⟩ := inRow_some e2
      have ec : c = c' := by
        rw [a2, i32_eq a5 b5] at b2
        exact b2
      refine h ⟨⟨by rw [a1]; exact i32_lt0 a4, by rw [b1]; exact i32_lt0 b4, by rw [a2]; exact i32_lt0 a5⟩, ?_⟩
      rw [a1, b1, a2, i32_nat a4, i32_nat b4, i32_nat a5]
      omega
section XOP7
variable {M : gM} {ρ : Nat → Nat} {x : Nat} {A : Ab} {G : XG}
theorem x_notRule (R : XRl M ρ x A G) {s : Nat} (hs : s < 8) (hno : ∀ u n, aSh A s ≠ some (.inr (u, n))) : (aSh A s = none ∧ mR M (G.2.2.1 s) 0 = none) ∨ ∃ so n f c, aSh A s = some (.inl (so, n, f)) ∧ mR M (G.2.2.1 s) 0 = some c ∧ ρ c = Tg (G.2.2.1 s) 0 ∧ RwX M c so n f := by
  have hsh := R.sx hs
  cases ev : aSh A s with
  | none =>
    rw [ev] at hsh
    exact Or.inl ⟨rfl, hsh.2⟩
  | some w => cases w with
    | inl w =>
      rw [ev] at hsh
      obtain ⟨so, n, f⟩ := w
      obtain ⟨c, g1, g2, g3⟩ := hsh.2
      exact Or.inr ⟨so, n, f, c, rfl, g1, g2, g3⟩
    | inr w => exact absurd ev (hno w.1 w.2)
theorem x_copyO (R : XRl M ρ x A G) {x1 x2 x3 x4 x5 : Int32} {Lc Ls : Nat} {Q : Int32 → gM → Prop} (hL : 3 ≤ Lc ∧ 1010 ≤ Ls) (q : Kx (spCopy A x1 x2 x3 x4 x5) x ρ M Q) : F_X0_copy Lc Ls M x x1 x2 x3 x4 x5 Q := by
  refine x_shelf (fun s e1 => bF n10 ?_) (fun e1 => bT rfl (x_bad R (by unfold spCopy; rw [e1]) q))
  refine x_shelf (fun t e2 => bT' n10 ?_) (fun e2 => bF' rfl (x_bad R (by unfold spCopy; rw [e1, e2]) q))
  have d1 := dec_some e1
  have d2 := dec_some e2
  have es : spCopy A x1 x2 x3 x4 x5 = match aSh A s, aSh A t with
    | some (.inr _), _ => rj A 3
    | _, some (.inr _) => rj A 3
    | none, _ => rj A 4
    | _, none => rj A 4
    | some (.inl (so, n, f)), some (.inl (so', n', f')) => if so ≠ so' then rj A 3 else match inRow n x3 x5, inRow n' x4 x5 with
      | some (i, c), some (j, _) => (Int32.ofNat c, sSh A t (some (.inl (so', n', fun k => if j ≤ k ∧ k < j + c then f (i + (k - j)) else f' k))))
      | _, _ => rj A 2 := by unfold spCopy; rw [e1, e2]; rfl
  rw [d1.2.1, d2.2.1]
  refine x_shs R d1.1 (x_shs R d2.1 (x_isRule R d1.1 (fun u n b ev _ _ _ => bT' n10 (x_rj (n := 3) R (by omega) (by rw [es, ev]) q)) (fun hn1 => bF' rfl (x_isRule R d2.1 (fun u n b ev _ _ _ => bF n10 (x_rj (n := 3) R (by omega) ?_ q)) (fun hn2 => bT rfl ?_)))))
  · rw [es, ev]
    cases e : aSh A s with
    | none => rfl
    | some w => cases w with
      | inl w => rfl
      | inr w => rfl
  · rcases x_notRule R d1.1 hn1 with ⟨v1, r1⟩ | ⟨so, n, f, c, v1, r1, r2, r3⟩
    · refine ⟨fun _ => ⟨⟨by omega, by omega⟩, fun _ => x_rj (n := 4) R (by omega) ?_ q⟩, fun a0 b0 ea eb => by rw [r1] at ea; cases ea⟩
      rw [es, v1]
      cases e : aSh A t with
      | none => rfl
      | some w => cases w with
        | inl w => rfl
        | inr w => exact absurd e (hn2 w.1 w.2)
    · rcases x_notRule R d2.1 hn2 with ⟨v1', r1'⟩ | ⟨so', n', f', c', v1', r1', r2', r3'⟩
      · exact ⟨fun _ => ⟨⟨by omega, by omega⟩, fun _ => x_rj (n := 4) R (by omega) (by rw [es, v1, v1']) q⟩, fun a0 b0 ea eb => by rw [r1'] at eb; cases eb⟩
      · rw [v1, v1'] at es
        have es : spCopy A x1 x2 x3 x4 x5 = if so ≠ so' then rj A 3 else match inRow n x3 x5, inRow n' x4 x5 with
          | some (i, c), some (j, _) => (Int32.ofNat c, sSh A t (some (.inl (so', n', fun k => if j ≤ k ∧ k < j + c then f (i + (k - j)) else f' k))))
          | _, _ => rj A 2 := es
        have hso := r3.2.1
        have hso' := r3'.2.1
        refine ⟨fun z => ?_, fun a0 b0 ea eb => ?_⟩
        · rw [r1, r1'] at z
          rcases z with z | z <;> cases z
        · rw [r1] at ea
          rw [r1'] at eb
          cases ea
          cases eb
          refine ⟨tyF so, n, tyF so', n', r3.1, r3'.1, ⟨tyF_pr hso.1, tyF_pr hso'.1⟩, ⟨by omega, by omega⟩, fun ne => ⟨⟨by omega, by omega⟩, fun _ => x_rj (n := 3) R (by omega) (by rw [es, if_pos (fun e => ne (by rw [e]))]) q⟩, fun eq cp => ?_, fun eq cp => ⟨⟨by omega, by omega⟩, fun _ => x_rj (n := 2) R (by omega) ?_ q⟩⟩
          · have eso := tyF_inj hso.1 hso'.1 eq
            subst eso
            rw [if_neg (fun z => z rfl)] at es
            obtain ⟨⟨p1, p2, p3⟩, p4, p5⟩ := cp
            have i1 := inRow_of p1 p3 p4
            have i2 := inRow_of p2 p3 p5
            rw [i1, i2] at es
            have es : spCopy A x1 x2 x3 x4 x5 = (Int32.ofNat x5.toNatClampNeg, sSh A t (some (.inl (so, n', fun k => if x4.toNatClampNeg ≤ k ∧ k < x4.toNatClampNeg + x5.toNatClampNeg then f (x3.toNatClampNeg + (k - x4.toNatClampNeg)) else f' k)))) := es
            have e5 : x5 = Int32.ofNat x5.toNatClampNeg := by
              obtain ⟨w, hw, rfl⟩ := i32_of p3
              rw [i32_nat hw]
            rw [es, ← e5] at q
            refine ⟨fun i hi => (r3.2.2 _ (by omega)).2.2, ?_⟩
            have fm : FmG (fun b _ => b = c') M (cpM M c x3.toNatClampNeg c' x4.toNatClampNeg x5.toNatClampNeg) := ⟨⟨rfl, rfl, rfl⟩, fun b i z => ⟨if_neg (fun y => z y.1), if_neg (fun y => z y.1)⟩⟩
            have k0 := (R.sx d2.1).1
            have fx : Fx (SS (G.2.2.1 t)) ρ M ρ (cpM M c x3.toNatClampNeg c' x4.toNatClampNeg x5.toNatClampNeg) := fm.fx (fun b i z => by rw [z]; exact Or.inr r2')
            refine q _ ρ G (R.sheet d2.1 fx (fun b hb => SS.cl hb) (fun i => SS.n5) ⟨k0, c', r1', r2', r3'.1, hso', fun k hk => ?_⟩) (fx.ext (fun t i z => z.ge))
            by_cases cc : x4.toNatClampNeg ≤ k ∧ k < x4.toNatClampNeg + x5.toNatClampNeg
            · have m1 : mI (cpM M c x3.toNatClampNeg c' x4.toNatClampNeg x5.toNatClampNeg) c' k = mI M c (x3.toNatClampNeg + (k - x4.toNatClampNeg)) := if_pos ⟨rfl, cc⟩
              have m2 : mJ (cpM M c x3.toNatClampNeg c' x4.toNatClampNeg x5.toNatClampNeg) c' k = mJ M c (x3.toNatClampNeg + (k - x4.toNatClampNeg)) := if_pos ⟨rfl, cc⟩
              simp only
              rw [m1, m2, if_pos cc]
              exact r3.2.2 _ (by omega)
            · have m1 : mI (cpM M c x3.toNatClampNeg c' x4.toNatClampNeg x5.toNatClampNeg) c' k = mI M c' k := if_neg (fun y => cc y.2)
              have m2 : mJ (cpM M c x3.toNatClampNeg c' x4.toNatClampNeg x5.toNatClampNeg) c' k = mJ M c' k := if_neg (fun y => cc y.2)
              simp only
              rw [m1, m2, if_neg cc]
              exact r3'.2.2 _ hk
          · have eso := tyF_inj hso.1 hso'.1 eq
            rw [es, if_neg (fun z => z eso)]
            rcases cpR_no cp with z | z
            · rw [z]
            · rw [z]
              cases inRow n x3 x5 <;> rfl
/-- a switch over the kinds of rules -/
theorem sw14 {k : Nat} {A1 A2 A3 A4 A5 : Prop} (hk : 1 ≤ k ∧ k ≤ 5) (h5 : k = 5 → A5) (h1 : k = 1 → A1) (h2 : k = 2 → A2) (h3 : k = 3 → A3) (h4 : k = 4 → A4) : (((Int32.ofNat k).toInt < 1 ∨ 4 < (Int32.ofNat k).toInt) → A5) ∧ (Int32.ofNat k = (1 : Int32) → A1) ∧ (Int32.ofNat k = (2 : Int32) → A2) ∧ (Int32.ofNat k = (3 : Int32) → A3) ∧ (Int32.ofNat k = (4 : Int32) → A4) := by
  rw [i32_toInt (by omega), i32_lit 1, i32_lit 2, i32_lit 3, i32_lit 4, i32_eq (by omega) (by omega), i32_eq (by omega) (by omega), i32_eq (by omega) (by omega), i32_eq (by omega) (by omega)]
  exact ⟨fun z => h5 (by omega), h1, h2, h3, h4⟩
theorem ten {a : Nat} (ha : a < 2147483648) : Int32.ofNat a / (10 : Int32) = Int32.ofNat (a / 10) ∧ Int32.ofNat a - Int32.ofNat (a / 10) * (10 : Int32) = Int32.ofNat (a % 10) := by
  have e := i32_div (a := a) (b := 10) ha (by omega)
  refine ⟨e, ?_⟩
  rw [i32_lit 10, i32_mul, i32_sub (by omega), show a - a / 10 * 10 = a % 10 by omega]
theorem x_may {k : Nat} {y : Int32} {Q : Int32 → gM → Prop} (hk : 1 ≤ k ∧ k ≤ 5) (h1 : ∀ c, byOf k y = some c → Q 1 M) (h0 : byOf k y = none → Q 0 M) : F_X0_may M (Int32.ofNat k) y Q := by
  refine sw14 hk (fun e => ?_) (fun e => ?_) (fun e => ?_) (fun e => ?_) (fun e => ?_) <;> subst e
  · exact x_shelf (fun s es => ⟨Or.inr rfl, h1 s es⟩) (fun es => ⟨Or.inl rfl, h0 es⟩)
  · exact x_inD (n := 99) (by omega) (fun s es => ⟨Or.inr rfl, h1 s es⟩) (fun es => ⟨Or.inl rfl, h0 es⟩)
  · refine x_in (l := 1) (n := 6) (by omega) (by omega) (fun s es hs => ⟨Or.inr rfl, h1 s ?_⟩) (fun es => ⟨Or.inl rfl, h0 ?_⟩)
    · show (match dec 7 y with | some a => if 1 ≤ a then some a else none | none => none) = some s
      rw [es]
      simp only
      rw [if_pos hs]
    · show (match dec 7 y with | some a => if 1 ≤ a then some a else none | none => none) = none
      cases e : dec 7 y with
      | none => rfl
      | some a => simp only; rw [if_neg (by have := es a e; omega)]
  · refine x_inD (n := 999) (by omega) (fun a es => bF n10 ?_) (fun es => bT rfl (h0 ?_))
    · have d := dec_some es
      have e3 : byOf 3 y = if 1 ≤ a % 10 ∧ a % 10 ≤ 6 then some a else none := by
        show (match dec 1000 y with | some a => if 1 ≤ a % 10 ∧ a % 10 ≤ 6 then some a else none | none => none) = _
        rw [es]
      rw [d.2.1, (ten d.2.2).1, (ten d.2.2).2]
      refine x_in (l := 1) (n := 6) (by omega) (by omega) (fun s e2 hs => bF n10 (h1 a ?_)) (fun e2 => bT rfl (h0 ?_))
      · have d2 := dec_some e2
        have := d2.2.1
        rw [i32_eq (by omega) (by omega)] at this
        rw [e3, if_pos (by omega)]
      · rw [e3, if_neg]
        intro z
        have := e2 (a % 10) (dec_of (by omega) (by omega))
        omega
    · show (match dec 1000 y with | some a => if 1 ≤ a % 10 ∧ a % 10 ≤ 6 then some a else none | none => none) = none
      rw [es]
  · exact h1 0 rfl
theorem x_cloned {c so n : Nat} {f : Nat → Int64} (h : RwX M c so n f) {Lc Ls : Nat} {Q : Nat → gM → Prop} (hL : 1 ≤ Lc ∧ 125 ≤ Ls) (q : ∀ z, kd M z = none → Q z (clM M c z (tyF so) n)) : F_X0_cloned Lc Ls M c Q := by
  obtain ⟨k, ⟨hso, hn⟩, hv⟩ := h
  have ft : fitA M (tyF so) c 0 n := fun i hi => by rw [Nat.zero_add]; exact (hv i hi).2.2
  refine x_sortOf k hso (sw5 hso (fun e => ?_) (fun e => ?_) (fun e => ?_) (fun e => ?_) (fun e => ?_)) <;> subst e
  · exact ⟨cY_y (ty := .boolean) k (by simp) (by decide +kernel), n, k, by decide, ft, ⟨by omega, by omega⟩, q⟩
  · exact ⟨cY_y (ty := .byte) k (by simp) (by decide +kernel), n, k, by decide, ft, ⟨by omega, by omega⟩, q⟩
  · exact ⟨cY_y (ty := .short) k (by simp) (by decide +kernel), n, k, by decide, ft, ⟨by omega, by omega⟩, q⟩
  · exact ⟨cY_y (ty := .int) k (by simp) (by decide +kernel), n, k, by decide, ft, ⟨by omega, by omega⟩, q⟩
  · exact ⟨cY_y (ty := .long) k (by simp) (by decide +kernel), n, k, by decide, ft, ⟨by omega, by omega⟩, q⟩
theorem fx_C {S : Nat → Nat → Prop} {ρN : Nat → Nat} {N : gM} {c z t n : Nat} {ty : FieldType} (f : Fx S ρ M ρN N) (hz : kd N z = none) : Fx S ρ M (upT ρN z t) (clM N c z ty n) := by
  refine ⟨f.1, fun b hb => ?_⟩
  obtain ⟨⟨a1, a2⟩, a3⟩ := f.2 b hb
  have e : b ≠ z := fun e => hb (by rw [← a1, e]; exact hz)
  exact ⟨⟨(if_neg e).trans a1, (upT_ne e).trans a2⟩, fun i y => ⟨(if_neg e).trans (a3 i y).1, (if_neg e).trans (a3 i y).2.1, (a3 i y).2.2⟩⟩
theorem x_ruleOf (R : XRl M ρ x A G) {k c : Nat} {y : Int32} {Lc Ls : Nat} {Q : Nat → gM → Prop} {X : String → Nat → gM → Prop} (hk : 1 ≤ k ∧ k ≤ 5) (eb : byOf k y = some c) (hL : 3 ≤ Lc ∧ 134 ≤ Ls) (h1 : ∀ N ρN z u n, Fx S0 ρ M ρN N → RuX N ρN z u n → WfR u → (k ≠ 5 → u = (k, c, fun _ => false) ∧ n = 0) → (k = 5 → ∃ so f, aSh A c = some (.inl (so, n, f)) ∧ u = (5, 0, fun i => decide (i < n ∧ f i ≠ 0))) → Q z N) (h0 : ∀ e q M' ρ', k = 5 → ((e = 3 ∧ ∃ v, aSh A c = some (.inr v)) ∨ (e = 4 ∧ aSh A c = none)) → (2 ≤ e ∧ e ≤ 6) → Fx S0 ρ M ρ' M' → kd M' q = some (true, .inl 4) → mI M' q 6 = -(Int32.ofNat e) → X "SendTheBox$Refused" q M') : F_X0_ruleOf Lc Ls M x (Int32.ofNat k) y Q X := by
  refine sw14 hk (fun e => ?_) (fun e => ?_) (fun e => ?_) (fun e => ?_) (fun e => ?_) <;> subst e
  · have eb : dec 8 y = some c := eb
    refine ⟨⟨by omega, by omega⟩, fun z hz => ?_⟩
    have k0 : kd (sN M z (.inl 10)) z = some (true, .inl 10) := if_pos rfl
    have f0 : Fx S0 ρ M (upT ρ z (Tg z 63)) (sN M z (.inl 10)) := fx_N Fx.rf hz
    have R2 := R.new f0
    refine ⟨1, 7, ⟨by omega, by omega⟩, R2.rc (x_rowIn R2 eb ⟨by omega, by omega⟩ (fun so n f b ev g1 g2 g3 => ?_) (fun e w M' ρ' a1 a2 a3 a4 a5 => ⟨rfl, h0 e w M' ρ' rfl a1 a2 (f0.tr a3) a4 a5⟩))⟩
    refine ⟨1, 125, ⟨by omega, by omega⟩, x_cloned g3 ⟨by omega, by omega⟩ (fun w hw => ?_)⟩
    have nzw : z ≠ w := fun e => by rw [← e, k0] at hw; cases hw
    have hwM : kd M w = none := fresh_of f0 hw
    have f1 : Fx S0 ρ M (upT (upT ρ z (Tg z 63)) w (Tg z 0)) (clM (sN M z (.inl 10)) b w (tyF so) n) := fx_C f0 hw
    have kz : kd (clM (sN M z (.inl 10)) b w (tyF so) n) z = some (true, .inl 10) := (if_neg nzw).trans k0
    have kw : kd (clM (sN M z (.inl 10)) b w (tyF so) n) w = some (true, .inr (tyF so, n)) := if_pos rfl
    refine ⟨kz, x_sizeOf (M := sR (clM (sN M z (.inl 10)) b w (tyF so) n) z 0 (some w)) kw g3.2.1.1 ⟨kz, ?_⟩⟩
    have f2 : Fx S0 ρ M (upT (upT ρ z (Tg z 63)) w (Tg z 0)) (sI (sR (clM (sN M z (.inl 10)) b w (tyF so) n) z 0 (some w)) z 1 (Int32.ofNat n)) := fx_I (fx_R f1 hz) hz
    refine h1 _ _ z (5, 0, fun i => decide (i < n ∧ f i ≠ 0)) n f2 ⟨(upT_ne nzw).trans (upT_eq _ _ _), kz, mI_eq, w, so, f, if_pos ⟨rfl, rfl⟩, upT_eq _ _ _, ⟨kw, g3.2.1, fun i hi => ?_⟩, fun i => rfl⟩ ⟨⟨by show 1 ≤ 5; omega, by show 5 ≤ 5; omega⟩, (fun z => by cases z), (fun z => by cases z), (fun z => by cases z)⟩ (fun z => absurd rfl z) (fun _ => ⟨so, f, ev, rfl⟩)
    have m1 : mI (sI (sR (clM (sN M z (.inl 10)) b w (tyF so) n) z 0 (some w)) z 1 (Int32.ofNat n)) w i = mI (sN M z (.inl 10)) b i := (mI_ne (Or.inl (fun e => nzw e.symm))).trans (if_pos rfl)
    have m2 : mJ (sI (sR (clM (sN M z (.inl 10)) b w (tyF so) n) z 0 (some w)) z 1 (Int32.ofNat n)) w i = mJ (sN M z (.inl 10)) b i := if_pos rfl
    rw [m1, m2]
    exact g3.2.2 i hi
  · have eb : dec 100 y = some c := eb
    have d := dec_some eb
    refine ⟨⟨by omega, by omega⟩, fun z hz => ?_⟩
    have k0 : kd (sN M z (.inl 6)) z = some (true, .inl 6) := if_pos rfl
    rw [d.2.1]
    exact ⟨k0, h1 _ _ z (1, c, fun _ => false) 0 (fx_I (fx_N (t := Tg z 63) Fx.rf hz) hz) ⟨upT_eq _ _ _, k0, mI_eq⟩ ⟨⟨by show 1 ≤ 1; omega, by show 1 ≤ 5; omega⟩, (fun _ => by show c ≤ 99; omega), (fun z => by cases z), (fun z => by cases z)⟩ (fun _ => ⟨rfl, rfl⟩) (fun z => by cases z)⟩
  · have eb : (match dec 7 y with | some a => if 1 ≤ a then some a else none | none => none) = some c := eb
    cases ed : dec 7 y with
    | none => rw [ed] at eb; cases eb
    | some a =>
      rw [ed] at eb
      simp only at eb
      split at eb
      · rename_i ha
        have eac : a = c := by cases eb; rfl
        subst eac
        have d := dec_some ed
        refine ⟨⟨by omega, by omega⟩, fun z hz => ?_⟩
        have k0 : kd (sN M z (.inl 7)) z = some (true, .inl 7) := if_pos rfl
        rw [d.2.1]
        exact ⟨k0, h1 _ _ z (2, a, fun _ => false) 0 (fx_I (fx_N (t := Tg z 63) Fx.rf hz) hz) ⟨upT_eq _ _ _, k0, mI_eq⟩ ⟨⟨by show 1 ≤ 2; omega, by show 2 ≤ 5; omega⟩, (fun z => by cases z), (fun _ => ⟨by show 1 ≤ a; omega, by show a ≤ 6; omega⟩), (fun z => by cases z)⟩ (fun _ => ⟨rfl, rfl⟩) (fun z => by cases z)⟩
      · cases eb
  · have eb : (match dec 1000 y with | some a => if 1 ≤ a % 10 ∧ a % 10 ≤ 6 then some a else none | none => none) = some c := eb
    cases ed : dec 1000 y with
    | none => rw [ed] at eb; cases eb
    | some a =>
      rw [ed] at eb
      simp only at eb
      split at eb
      · rename_i ha
        have eac : a = c := by cases eb; rfl
        subst eac
        have d := dec_some ed
        refine ⟨⟨by omega, by omega⟩, fun z hz => ?_⟩
        have k0 : kd (sN M z (.inl 8)) z = some (true, .inl 8) := if_pos rfl
        rw [d.2.1, (ten d.2.2).1, (ten d.2.2).2]
        refine ⟨1, 1, ⟨by omega, by omega⟩, k0, ⟨by omega, by omega⟩, fun w hw => ?_⟩
        have nzw : z ≠ w := fun e => by
          have hw : kd (sN M z (.inl 8)) w = none := hw
          rw [← e, k0] at hw
          cases hw
        have hwM : kd M w = none := by
          have hw : kd (sN M z (.inl 8)) w = none := hw
          exact fresh_of (S := S0) (ρ := ρ) (ρN := upT ρ z 0) (fx_N Fx.rf hz) hw
        have kw : kd (sN (sI (sN M z (.inl 8)) z 0 (Int32.ofNat (a / 10))) w (.inl 7)) w = some (true, .inl 7) := if_pos rfl
        have kz : kd (sN (sI (sN M z (.inl 8)) z 0 (Int32.ofNat (a / 10))) w (.inl 7)) z = some (true, .inl 8) := (if_neg nzw).trans k0
        refine ⟨kw, kz, h1 _ (upT (upT ρ z (Tg z 63)) w (Tg z 1)) z (3, a, fun _ => false) 0 (fx_R (fx_I (fx_N (fx_I (fx_N Fx.rf hz) hz) hw) hwM) hz) ⟨(upT_ne nzw).trans (upT_eq _ _ _), kz, ?_, w, if_pos ⟨rfl, rfl⟩, ⟨kw, upT_eq _ _ _⟩, mI_eq⟩ ⟨⟨by show 1 ≤ 3; omega, by show 3 ≤ 5; omega⟩, (fun z => by cases z), (fun z => by cases z), (fun _ => ⟨by show a ≤ 999; omega, ha⟩)⟩ (fun _ => ⟨rfl, rfl⟩) (fun z => by cases z)⟩
        show mI (sI (sN (sI (sN M z (.inl 8)) z 0 (Int32.ofNat (a / 10))) w (.inl 7)) w 0 (Int32.ofNat (a % 10))) z 0 = _
        exact (mI_ne (Or.inl nzw)).trans ((if_neg nzw).trans mI_eq)
      · cases eb
  · have eb : some 0 = some c := eb
    cases eb
    refine ⟨⟨by omega, by omega⟩, fun z hz => ?_⟩
    exact h1 _ _ z (4, 0, fun _ => false) 0 (fx_N (t := Tg z 63) Fx.rf hz) ⟨upT_eq _ _ _, if_pos rfl⟩ ⟨⟨by show 1 ≤ 4; omega, by show 4 ≤ 5; omega⟩, (fun z => by cases z), (fun z => by cases z), (fun z => by cases z)⟩ (fun _ => ⟨rfl, rfl⟩) (fun z => by cases z)
theorem x_ruleO (R : XRl M ρ x A G) {x1 x2 x3 : Int32} {Lc Ls : Nat} {Q : Int32 → gM → Prop} (hL : 3 ≤ Lc ∧ 134 ≤ Ls) (q : Kx (spRule A x1 x2 x3) x ρ M Q) : F_X0_rule Lc Ls M x x1 x2 x3 Q := by
  refine x_shelf (fun s e1 => bF n10 ?_) (fun e1 => bT rfl (x_bad R (by unfold spRule; rw [e1]) q))
  refine x_in (l := 1) (n := 5) (by omega) (by omega) (fun k e2 hk => bF n10 ?_) (fun e2 => bT rfl (x_bad R ?_ q))
  · have d1 := dec_some e1
    have d2 := dec_some e2
    have es : spRule A x1 x2 x3 = match byOf k x3 with | none => rj A 2 | some c => if k = 5 then (match aSh A c with | some (.inr _) => rj A 3 | none => rj A 4 | some (.inl (_, n, f)) => (1, sSh A s (some (.inr ((5, 0, fun i => decide (i < n ∧ f i ≠ 0)), n))))) else (1, sSh A s (some (.inr ((k, c, fun _ => false), 0)))) := by
      unfold spRule
      rw [e1, e2]
      simp only
      rw [if_neg (by omega)]
      rfl
    rw [d2.2.1]
    refine x_may ⟨hk, by omega⟩ (fun c eb => bT' n10 ?_) (fun eb => bF' rfl (x_bad R (by rw [es, eb]) q))
    rw [eb] at es
    simp only at es
    obtain ⟨sh, b2, b3, b4⟩ := R.2.2.1
    rw [d1.2.1]
    refine gN_i R.1.1 b2 (aN_i b3.1 d1.1 (by omega) (b4 s d1.1) ⟨3, 134, ⟨by omega, by omega⟩, R.rc (x_ruleOf R ⟨hk, by omega⟩ eb ⟨by omega, by omega⟩ (fun N ρN z u n f hu hw c1 c2 => ?_) (fun e w M' ρ' k5 a1 a2 a3 a4 a5 => ⟨rfl, x_got R a2 a3 a4 a5 ?_ q⟩))⟩)
    · have es' : spRule A x1 x2 x3 = (1, sSh A s (some (.inr (u, n)))) := by
        rw [es]
        by_cases k5 : k = 5
        · obtain ⟨so, f', v1, v2⟩ := c2 k5
          rw [if_pos k5, v1, v2]
        · obtain ⟨v1, v2⟩ := c1 k5
          rw [if_neg k5, v1, v2]
      rw [es'] at q
      have k0 := (R.sx d1.1).1
      have f' : Fx (SS (G.2.2.1 s)) ρ M ρN N := f.mono (fun t i z => z.elim)
      have c0 := f.2 _ (live_of k0.1)
      have hu' : RuX (sR N (G.2.2.1 s) 0 (some z)) ρN z u n := by
        have kN : kd N (G.2.2.1 s) = some (true, .inl 2) := c0.1.1.trans k0.1
        have rN : ρN (G.2.2.1 s) = Tg (G.2.2.1 s) 63 := c0.1.2.trans k0.2
        have fr : Fx (SS (G.2.2.1 s)) ρN N ρN (sR N (G.2.2.1 s) 0 (some z)) := Fx.sR (Or.inl rN)
        exact hu.cl fr (SS.cl (hu.ne2 kN (by omega)))
      obtain ⟨p1, p2, p3⟩ := R.puts d1.1 f' (c := z) (v := some (.inr (u, n))) ⟨⟨c0.1.1.trans k0.1, c0.1.2.trans k0.2⟩, z, if_pos ⟨rfl, rfl⟩, hu', hw⟩
      exact ⟨p1, q _ _ G p2 p3⟩
    · rw [es, if_pos k5]
      rcases a1 with ⟨a1, v, a1'⟩ | ⟨a1, a1'⟩
      · rw [a1', a1]
      · rw [a1', a1]
  · unfold spRule
    rw [e1]
    cases e : dec 6 x2 with
    | none => rfl
    | some k => simp only; rw [if_pos (by have := e2 k e; omega)]
def nmR (j : Nat) : String := match j with
  | 1 => "SendTheBox$Full"
  | 2 => "SendTheBox$Daily"
  | 3 => "SendTheBox$Both"
  | 4 => "SendTheBox$Best"
  | _ => "SendTheBox$Told"
theorem nmR_y (k : Nat) (hk : k < 6) (h1 : 1 ≤ k) (j : Nat) (hj : j < 6) (h2 : 1 ≤ j) : (k = j ∨ (j = 1 ∧ k = 3)) → (kN (.inl (5 + k)), nmR j) ∈ gYP := by
  rcases (by omega : k = 1 ∨ k = 2 ∨ k = 3 ∨ k = 4 ∨ k = 5) with rfl | rfl | rfl | rfl | rfl <;> rcases (by omega : j = 1 ∨ j = 2 ∨ j = 3 ∨ j = 4 ∨ j = 5) with rfl | rfl | rfl | rfl | rfl <;> decide +kernel
theorem nmR_n (k : Nat) (hk : k < 6) (h1 : 1 ≤ k) (j : Nat) (hj : j < 6) (h2 : 1 ≤ j) : ¬ (k = j ∨ (j = 1 ∧ k = 3)) → (kN (.inl (5 + k)), nmR j) ∈ gNP := by
  rcases (by omega : k = 1 ∨ k = 2 ∨ k = 3 ∨ k = 4 ∨ k = 5) with rfl | rfl | rfl | rfl | rfl <;> rcases (by omega : j = 1 ∨ j = 2 ∨ j = 3 ∨ j = 4 ∨ j = 5) with rfl | rfl | rfl | rfl | rfl <;> decide +kernel
theorem RuX.kd5 {b n : Nat} {u : Ru} (h : RuX M ρ b u n) (hw : WfR u) : kd M b = some (true, .inl (5 + u.1)) := by
  obtain ⟨k, c, t⟩ := u
  obtain ⟨-, hr⟩ := h
  have hk : 1 ≤ k ∧ k ≤ 5 := hw.1
  rcases (by omega : k = 1 ∨ k = 2 ∨ k = 3 ∨ k = 4 ∨ k = 5) with rfl | rfl | rfl | rfl | rfl
  · exact hr.1
  · exact hr.1
  · exact hr.1
  · exact hr
  · exact hr.1
theorem x_castR {b n j : Nat} {u : Ru} {u0 v0 Lc Ls : Nat} {nm : String} {κ : Unit → Prop} {κx : Nat → Prop} (h : RuX M ρ b u n) (hw : WfR u) (hj : 1 ≤ j ∧ j ≤ 5) (en : nm = nmR j) (hL : u0 + 3 ≤ Lc ∧ v0 + 1010 ≤ Ls) (hy : (u.1 = j ∨ (j = 1 ∧ u.1 = 3)) → κ ()) (hn : ¬ (u.1 = j ∨ (j = 1 ∧ u.1 = 3)) → ∀ q, κx q) : cX M u0 v0 Lc Ls (some b) nm κ κx := by
  refine ⟨(fun z => by cases z), fun b' eb => ?_⟩
  cases eb
  have hk := hw.1
  refine ⟨_, h.kd5 hw, (by omega : 5 + u.1 < 17), ?_⟩
  rw [en]
  by_cases c : u.1 = j ∨ (j = 1 ∧ u.1 = 3)
  · exact Or.inl ⟨nmR_y _ (by omega) hk.1 _ (by omega) hj.1 c, hy c⟩
  · exact Or.inr ⟨nmR_n _ (by omega) hk.1 _ (by omega) hj.1 c, hL, hn c⟩
theorem x_saysO (R : XRl M ρ x A G) {x1 x2 : Int32} {Lc Ls : Nat} {Q : Int32 → gM → Prop} (hL : 7 ≤ Lc ∧ 2027 ≤ Ls) (q : Kx (spSays A x1 x2) x ρ M Q) : F_X0_says Lc Ls M x x1 x2 Q := by
  refine x_shelf (fun s e1 => bF n10 ?_) (fun e1 => bT rfl (x_bad R (by unfold spSays; rw [e1]) q))
  refine x_inD (n := 5) (by omega) (fun k e2 => bT' n10 ?_) (fun e2 => bF' rfl (x_bad R (by unfold spSays; rw [e1, e2]) q))
  have d2 := dec_some e2
  have es : spSays A x1 x2 = match aSh A s with | some (.inl _) => rj A 3 | none => rj A 4 | some (.inr (u, n)) => if k = 0 ∨ u.1 = k ∨ (k = 1 ∧ u.1 = 3) then (saysV u n k, A) else rj A 3 := by unfold spSays; rw [e1, e2]; rfl
  refine ⟨4, 1017, ⟨by omega, by omega⟩, R.rc (x_ruleIn R e1 ⟨by omega, by omega⟩ (fun u n b _ ev hu hw => ?_) (fun e z M' ρ' a1 a2 a3 a4 a5 => ⟨rfl, x_got R a2 a3 a4 a5 ?_ q⟩))⟩
  · rw [ev] at es
    simp only at es
    have no : (¬ (u.1 = k ∨ (k = 1 ∧ u.1 = 3)) → k ≠ 0 → ∀ _ : Nat, rc M 0 x ∧ F_X0_no M x (-3 : Int32) fun v N => Q v N) := fun c c0 _ => x_rj (n := 3) R (by omega) (by rw [es, if_neg (by omega)]) q
    have yes : ∀ v, (k = 0 ∨ u.1 = k ∨ (k = 1 ∧ u.1 = 3)) → v = saysV u n k → Q v M := fun v c e => x_same R (by rw [es, if_pos c, e]) q
    obtain ⟨uk, uc, ut⟩ := u
    obtain ⟨hρ, hr⟩ := hu
    have hu : RuX M ρ b (uk, uc, ut) n := ⟨hρ, hr⟩
    rw [d2.2.1]
    refine ⟨fun c => ?_, fun c => ?_, fun c => ?_, fun c => ?_, fun c => ?_, fun c => ?_⟩
    · rw [i32_toInt (by omega)] at c
      cases (by omega : k = 5)
      refine x_castR (j := 5) hu hw (by omega) rfl ⟨by omega, by omega⟩ (fun c => ?_) (fun c => no c (by omega))
      have c' : uk = 5 := by omega
      subst c'
      refine rc_i hr.1 (gI_i hr.1 (yes _ (Or.inr (Or.inl rfl)) ?_))
      exact hr.2.1
    · rw [i32_lit 0, i32_eq (by omega) (by omega)] at c
      subst c
      exact yes _ (Or.inl rfl) rfl
    · rw [i32_lit 1, i32_eq (by omega) (by omega)] at c
      subst c
      refine x_castR (j := 1) hu hw (by omega) rfl ⟨by omega, by omega⟩ (fun c => ?_) (fun c => no c (by omega))
      have c : uk = 1 ∨ uk = 3 := by omega
      rcases c with c | c
      · subst c
        exact Or.inl (gI_i hr.1 (yes _ (Or.inr (Or.inl rfl)) hr.2))
      · subst c
        exact Or.inr (gI_i hr.1 (yes _ (Or.inr (Or.inr ⟨rfl, rfl⟩)) hr.2.1))
    · rw [i32_lit 2, i32_eq (by omega) (by omega)] at c
      subst c
      refine x_castR (j := 2) hu hw (by omega) rfl ⟨by omega, by omega⟩ (fun c => ?_) (fun c => no c (by omega))
      have c' : uk = 2 := by omega
      subst c'
      exact rc_i hr.1 (gI_i hr.1 (yes _ (Or.inr (Or.inl rfl)) hr.2))
    · rw [i32_lit 3, i32_eq (by omega) (by omega)] at c
      subst c
      refine x_castR (j := 3) hu hw (by omega) rfl ⟨by omega, by omega⟩ (fun c => ?_) (fun c => no c (by omega))
      have c' : uk = 3 := by omega
      subst c'
      obtain ⟨h1, h2, cc, h3, h4, h5⟩ := hr
      exact rc_i h1 (gN_i h1 h3 (rc_i h4.1 (gI_i h4.1 (yes _ (Or.inr (Or.inl rfl)) h5))))
    · rw [i32_lit 4, i32_eq (by omega) (by omega)] at c
      subst c
      refine x_castR (j := 4) hu hw (by omega) rfl ⟨by omega, by omega⟩ (fun c => ?_) (fun c => no c (by omega))
      have c' : uk = 4 := by omega
      subst c'
      exact rc_i hr (yes _ (Or.inr (Or.inl rfl)) rfl)
  · rw [es]
    have e0 : gR_ A x1 = match aSh A s with | some (.inl _) => .inl 3 | none => .inl 4 | some (.inr (u, _)) => .inr u := by unfold gR_; rw [e1]; rfl
    rw [e0] at a1
    cases ev : aSh A s with
    | none => rw [ev] at a1; cases a1; rfl
    | some w => cases w with
      | inl w => rw [ev] at a1; cases a1; rfl
      | inr w => rw [ev] at a1; cases a1
end XOP7
