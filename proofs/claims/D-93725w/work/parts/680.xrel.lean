/-! the class holds a state -/
set_option maxRecDepth 100000
/-- an owner whose cells stay -/
def Cl (S : Nat → Nat → Prop) (b : Nat) : Prop := ∀ k i, k < 64 → ¬ S (Tg b k) i
section CLS
variable {S : Nat → Nat → Prop} {M M' : gM} {ρ ρ' P : Nat → Nat} {b : Nat}
theorem HX.cl (f : Fx S ρ M ρ' M') (hc : Cl S b) (h : HX M ρ b P) : HX M' ρ' b P := by
  obtain ⟨⟨r, hs⟩, ca, hw⟩ := h
  exact ⟨⟨r, f.hs0 hc hs⟩, f.ca hs.1 (fun k i _ _ => hc k i (by omega)) (fun i _ _ => hc 63 i (by omega)) ca, hw⟩
theorem RuX.cl (f : Fx S ρ M ρ' M') {u : Ru} {n : Nat} (hc : Cl S b) (h : RuX M ρ b u n) : RuX M' ρ' b u n := h.fx f (fun k i hk => hc k i (by omega))
/-- an object, its words -/
theorem Fx.ob (f : Fx S ρ M ρ' M') {ci : Nat} (hc : Cl S b) (h : kd M b = some (true, .inl ci) ∧ ρ b = Tg b 63) : (kd M' b = some (true, .inl ci) ∧ ρ' b = Tg b 63) ∧ ∀ i, mI M' b i = mI M b i ∧ mJ M' b i = mJ M b i ∧ mR M' b i = mR M b i := by
  have c := f.2 b (live_of h.1)
  exact ⟨⟨c.1.1.trans h.1, c.1.2.trans h.2⟩, fun i => c.2 i (by rw [h.2]; exact hc 63 i (by omega))⟩
theorem Fx.arr (f : Fx S ρ M ρ' M') {x k : Nat} {z : Bool × (Nat ⊕ (FieldType × Nat))} (hc : Cl S b) (hk : k < 64) (h : kd M x = some z ∧ ρ x = Tg b k) : (kd M' x = some z ∧ ρ' x = Tg b k) ∧ ∀ i, mI M' x i = mI M x i ∧ mJ M' x i = mJ M x i ∧ mR M' x i = mR M x i := by
  have c := f.2 x (live_of h.1)
  exact ⟨⟨c.1.1.trans h.1, c.1.2.trans h.2⟩, fun i => c.2 i (by rw [h.2]; exact hc k i hk)⟩
end CLS
def WkX (M : gM) (ρ : Nat → Nat) (w : Nat) (v : Wk) (hb : Nat) : Prop := (kd M w = some (true, .inl 14) ∧ ρ w = Tg w 63) ∧ (mR M w 0 = some hb ∧ HX M ρ hb v.1.1) ∧ (∃ rb n, mR M w 1 = some rb ∧ RuX M ρ rb v.1.2 n ∧ WfR v.1.2) ∧ (mI M w 2 = Int32.ofNat v.2.1.1 ∧ v.2.1.1 ≤ v.1.1 0) ∧ (mI M w 3 = Int32.ofNat v.2.1.2 ∧ v.2.1.2 < 5 ^ v.1.1 4) ∧ mI M w 4 = v.2.2.1 ∧ mI M w 5 = v.2.2.2.1 ∧ mI M w 6 = v.2.2.2.2.1 ∧ mI M w 7 = v.2.2.2.2.2
/-- ghosts of what is kept: houses, the week, its house -/
abbrev KG : Type := (Nat → Nat) × Nat × Nat
def KpX (M : gM) (ρ : Nat → Nat) (k : Nat) (K : Kp) (g : KG) : Prop := (kd M k = some (true, .inl 1) ∧ ρ k = Tg k 63) ∧ (∃ hs, mR M k 0 = some hs ∧ (kd M hs = some (true, .inr (.object "SendTheBox$House", 6)) ∧ ρ hs = Tg k 0) ∧ ∀ h, h < kH K → mR M hs h = some (g.1 h)) ∧ (mI M k 1 = Int32.ofNat (kH K) ∧ kH K ≤ 6) ∧ mI M k 2 = kSd K ∧ (∀ h, h < kH K → HX M ρ (g.1 h) (kP K h)) ∧ match kWk K with
  | none => mR M k 3 = none
  | some v => mR M k 3 = some g.2.1 ∧ WkX M ρ g.2.1 v g.2.2
/-- the numbers that each house's address has -/
def KpA (K : Kp) (g : KG) (pA : Nat → Nat → Nat) : Prop := (∀ h, h < kH K → pA (g.1 h) = kP K h) ∧ ∀ v, kWk K = some v → pA g.2.2 = v.1.1
def ShX (M : gM) (ρ : Nat → Nat) (t : Nat) (v : Sh) : Prop := (kd M t = some (true, .inl 2) ∧ ρ t = Tg t 63) ∧ match v with
  | none => mR M t 0 = none
  | some (.inl (so, n, f)) => ∃ c, mR M t 0 = some c ∧ ρ c = Tg t 0 ∧ RwX M c so n f
  | some (.inr (u, n)) => ∃ c, mR M t 0 = some c ∧ RuX M ρ c u n ∧ WfR u
/-- ghosts: now, image, their houses and weeks, sheets, numbers -/
abbrev XG : Type := (Nat × KG) × (Nat × KG) × (Nat → Nat) × (Nat → Nat → Nat)
def XImg (M : gM) (ρ : Nat → Nat) (x : Nat) (A : Ab) (G : XG) : Prop := match aIm A with
  | none => mR M x 1 = none
  | some K => mR M x 1 = some G.2.1.1 ∧ KpX M ρ G.2.1.1 K G.2.1.2 ∧ KpA K G.2.1.2 G.2.2.2 ∧ G.2.1.1 ≠ G.1.1 ∧ (∀ h g, h < aH A → g < kH K → G.1.2.1 h ≠ G.2.1.2.1 g) ∧ (∀ h v, h < aH A → kWk K = some v → G.1.2.1 h ≠ G.2.1.2.2.2) ∧ ∀ v v', kWk (aNow A) = some v → kWk K = some v' → G.1.2.2.1 ≠ G.2.1.2.2.1
def XRl (M : gM) (ρ : Nat → Nat) (x : Nat) (A : Ab) (G : XG) : Prop :=
  (kd M x = some (true, .inl 0) ∧ ρ x = Tg x 63) ∧ CsA M ρ ∧
  (∃ sh, mR M x 2 = some sh ∧ (kd M sh = some (true, .inr (.object "SendTheBox$Sheet", 8)) ∧ ρ sh = Tg x 2) ∧ ∀ s, s < 8 → mR M sh s = some (G.2.2.1 s)) ∧
  (∀ s, s < 8 → ShX M ρ (G.2.2.1 s) (aSh A s)) ∧ (∀ s t, s < 8 → t < 8 → s ≠ t → G.2.2.1 s ≠ G.2.2.1 t) ∧
  (∃ tp, mR M x 3 = some tp ∧ (kd M tp = some (true, .inr (.int, 160)) ∧ ρ tp = Tg x 3) ∧ ∀ i, i < aTz A → mI M tp i = Int32.ofNat (aTp A i) ∧ aTp A i < 256) ∧ (mI M x 4 = Int32.ofNat (aTz A) ∧ aTz A ≤ 160) ∧
  (∃ rf, mR M x 5 = some rf ∧ (kd M rf = some (true, .inr (.int, 7)) ∧ ρ rf = Tg x 5) ∧ ∀ i, 2 ≤ i → i ≤ 6 → mI M rf i = aRf A i) ∧
  (mR M x 0 = some G.1.1 ∧ KpX M ρ G.1.1 (aNow A) G.1.2 ∧ KpA (aNow A) G.1.2 G.2.2.2) ∧
  (∀ h g, h < aH A → g < aH A → h ≠ g → G.1.2.1 h ≠ G.1.2.1 g) ∧ (∀ h v, h < aH A → kWk (aNow A) = some v → G.1.2.1 h ≠ G.1.2.2.2) ∧ XImg M ρ x A G
section XREL
variable {S : Nat → Nat → Prop} {M M' : gM} {ρ ρ' : Nat → Nat} {x : Nat} {A : Ab} {G : XG}
theorem WkX.fx (f : Fx S ρ M ρ' M') {w hb : Nat} {v : Wk} {pA pB : Nat → Nat → Nat} (cw : Cl S w) (hr : ∀ b u n, RuX M ρ b u n → RuX M' ρ' b u n) (hh : ∀ b, HX M ρ b (pA b) → HX M' ρ' b (pB b)) (e : pA hb = v.1.1) (e' : pB hb = v.1.1) (h : WkX M ρ w v hb) : WkX M' ρ' w v hb := by
  obtain ⟨h0, h1, ⟨rb, n, h2, h3, h4⟩, h5, h6, h7, h8, h9, h10⟩ := h
  obtain ⟨o1, o2⟩ := f.ob cw h0
  have hru : RuX M' ρ' rb v.1.2 n := hr _ _ _ h3
  have hx := h1.2
  rw [← e] at hx
  have hx' := hh hb hx
  rw [e'] at hx'
  exact ⟨o1, ⟨(o2 0).2.2.trans h1.1, hx'⟩, ⟨rb, n, (o2 1).2.2.trans h2, hru, h4⟩, ⟨(o2 2).1.trans h5.1, h5.2⟩, ⟨(o2 3).1.trans h6.1, h6.2⟩, (o2 4).1.trans h7, (o2 5).1.trans h8, (o2 6).1.trans h9, (o2 7).1.trans h10⟩
theorem KpX.fx (f : Fx S ρ M ρ' M') {k : Nat} {K : Kp} {g : KG} {pA pB : Nat → Nat → Nat} (ck : Cl S k) (cw : ∀ v, kWk K = some v → Cl S g.2.1) (hr : ∀ b u n, RuX M ρ b u n → RuX M' ρ' b u n) (hh : ∀ b, HX M ρ b (pA b) → HX M' ρ' b (pB b)) (e : KpA K g pA) (e' : KpA K g pB) (h : KpX M ρ k K g) : KpX M' ρ' k K g := by
  obtain ⟨h0, ⟨hs, h1, h2, h3⟩, h4, h5, h6, h7⟩ := h
  obtain ⟨o1, o2⟩ := f.ob ck h0
  obtain ⟨a1, a2⟩ := f.arr ck (k := 0) (by omega) h2
  refine ⟨o1, ⟨hs, (o2 0).2.2.trans h1, a1, fun j hj => (a2 j).2.2.trans (h3 j hj)⟩, ⟨(o2 1).1.trans h4.1, h4.2⟩, (o2 2).1.trans h5, fun j hj => ?_, ?_⟩
  · have hx := h6 j hj
    rw [← e.1 j hj] at hx
    rw [← e'.1 j hj]
    exact hh _ hx
  · cases ew : kWk K with
    | none => rw [ew] at h7; exact (o2 3).2.2.trans h7
    | some v => rw [ew] at h7; exact ⟨(o2 3).2.2.trans h7.1, h7.2.fx f (cw v ew) hr hh (e.2 v ew) (e'.2 v ew)⟩
theorem ShX.fx (f : Fx S ρ M ρ' M') {t : Nat} {v : Sh} (ct : Cl S t) (hr : ∀ b u n, RuX M ρ b u n → RuX M' ρ' b u n) (h : ShX M ρ t v) : ShX M' ρ' t v := by
  obtain ⟨h0, h1⟩ := h
  obtain ⟨o1, o2⟩ := f.ob ct h0
  refine ⟨o1, ?_⟩
  cases v with
  | none => exact (o2 0).2.2.trans h1
  | some v => cases v with
    | inl v =>
      obtain ⟨so, n, g⟩ := v
      obtain ⟨c, g1, g2, g3⟩ := h1
      obtain ⟨a1, a2⟩ := f.arr ct (k := 0) (by omega) ⟨g3.1, g2⟩
      refine ⟨c, (o2 0).2.2.trans g1, a1.2, a1.1, g3.2.1, fun i hi => ?_⟩
      rw [(a2 i).1, (a2 i).2.1]
      exact g3.2.2 i hi
    | inr v =>
      obtain ⟨u, n⟩ := v
      obtain ⟨c, g1, g2, g3⟩ := h1
      exact ⟨c, (o2 0).2.2.trans g1, hr _ _ _ g2, g3⟩
theorem XRl.fx (f : Fx S ρ M ρ' M') (hcl : ∀ b, kd M b ≠ some (true, .inl 12) → Cl S b) (hh : ∀ b, HX M ρ b (G.2.2.2 b) → HX M' ρ' b (G.2.2.2 b)) (h5 : ∀ i, ¬ S 500 i) (h : XRl M ρ x A G) : XRl M' ρ' x A G := by
  obtain ⟨b0, b1, ⟨sh, b2, b3, b4⟩, b5, b6, ⟨tp, b7, b8, b9⟩, b10, ⟨rf, b11, b12, b13⟩, ⟨b14, b15, b16⟩, b17, b18, b19⟩ := h
  have cx := hcl x (by rw [b0.1]; exact fun z => by cases z)
  have hr : ∀ b u n, RuX M ρ b u n → RuX M' ρ' b u n := fun b u n h => h.cl f (hcl b (by
    obtain ⟨ci, z1, z2⟩ := h.kind_
    rw [z1]
    exact fun z => by cases z; exact z2 rfl))
  have kc : ∀ k K g, KpX M ρ k K g → Cl S k ∧ ∀ v, kWk K = some v → Cl S g.2.1 := fun k K g h => ⟨hcl k (by rw [h.1.1]; exact fun z => by cases z), fun v ev => by
    have := h.2.2.2.2.2
    rw [ev] at this
    exact hcl _ (by rw [this.2.1.1]; exact fun z => by cases z)⟩
  obtain ⟨o1, o2⟩ := f.ob cx b0
  obtain ⟨s1, s2⟩ := f.arr cx (k := 2) (by omega) b3
  obtain ⟨t1, t2⟩ := f.arr cx (k := 3) (by omega) b8
  obtain ⟨r1, r2⟩ := f.arr cx (k := 5) (by omega) b12
  refine ⟨o1, f.cs h5 b1, ⟨sh, (o2 2).2.2.trans b2, s1, fun s hs => (s2 s).2.2.trans (b4 s hs)⟩, fun s hs => (b5 s hs).fx f (hcl _ (by rw [(b5 s hs).1.1]; exact fun z => by cases z)) hr, b6, ⟨tp, (o2 3).2.2.trans b7, t1, fun i hi => ⟨(t2 i).1.trans (b9 i hi).1, (b9 i hi).2⟩⟩, ⟨(o2 4).1.trans b10.1, b10.2⟩, ⟨rf, (o2 5).2.2.trans b11, r1, fun i g1 g2 => (r2 i).1.trans (b13 i g1 g2)⟩, ⟨(o2 0).2.2.trans b14, b15.fx f (kc _ _ _ b15).1 (kc _ _ _ b15).2 hr hh b16 b16, b16⟩, b17, b18, ?_⟩
  unfold XImg at b19 ⊢
  cases ei : aIm A with
  | none => rw [ei] at b19; exact (o2 1).2.2.trans b19
  | some K =>
    rw [ei] at b19
    obtain ⟨c1, c2, c3, c4⟩ := b19
    exact ⟨(o2 1).2.2.trans c1, c2.fx f (kc _ _ _ c2).1 (kc _ _ _ c2).2 hr hh c3 c3, c3, c4⟩
/-- a house of the state has worked -/
theorem XRl.house {a : Nat} (ha : kd M a = some (true, .inl 12)) (f : Fx (SH a) ρ M ρ' M') (hx : HX M' ρ' a (G.2.2.2 a)) (h : XRl M ρ x A G) : XRl M' ρ' x A G := h.fx f (fun b hb k i hk => SH.o (fun e => hb (by rw [e]; exact ha)) hk) (fun b z => by
  by_cases e : b = a
  · rw [e]; exact hx
  · exact HX.other f e z) (fun i => SH.n5 a)
/-- only new cells -/
theorem XRl.new (f : Fx S0 ρ M ρ' M') (h : XRl M ρ x A G) : XRl M' ρ' x A G := h.fx f (fun b _ k i _ => S0.no) (fun b z => z.cl f (fun k i _ => S0.no)) (fun i => S0.no)
/-- the other class's work -/
theorem XRl.mop (f : Fmm ρ M ρ' M') (h : XRl M ρ x A G) : XRl M' ρ' x A G := by
  have f' : Fx (fun t _ => 1000 ≤ t ∧ t < 1200) ρ M ρ' M' := f
  have c : ∀ b, Cl (fun t _ => 1000 ≤ t ∧ t < 1200) b := fun b k i _ z => by have := Tg_ge b k; omega
  exact h.fx f' (fun b _ => c b) (fun b z => z.cl f' (c b)) (fun i z => by omega)
/-- what an operation of the class may change -/
theorem Fx.ext (f : Fx S ρ M ρ' M') (hS : ∀ t i, S t i → 100000 ≤ t) : Ext ρ M ρ' M' := ⟨f.1, fun b hb => ⟨(f.2 b hb).1, fun hr i => (f.2 b hb).2 i (fun z => by have := hS _ _ z; omega)⟩⟩
theorem SH.ge {a t i : Nat} (z : SH a t i) : 100000 ≤ t := by
  rcases z with ⟨e, -⟩ | ⟨k, -, -, e⟩
  · rw [e]; exact Tg_ge _ _
  · rw [e]; exact Tg_ge _ _
/-- an end of an operation of the class -/
def Kx {β : Type} (sp : β × Ab) (x : Nat) (ρ : Nat → Nat) (M : gM) (Q : β → gM → Prop) : Prop := ∀ M' ρ' G', XRl M' ρ' x sp.2 G' → Ext ρ M ρ' M' → Q sp.1 M'
theorem Ext.rf : Ext ρ M ρ M := ⟨rfl, fun _ _ => ⟨⟨rfl, rfl⟩, fun _ _ => ⟨rfl, rfl, rfl⟩⟩⟩
theorem Ext.tr {ρ1 ρ2 : Nat → Nat} {M1 M2 : gM} (h : Ext ρ M ρ1 M1) (g : Ext ρ1 M1 ρ2 M2) : Ext ρ M ρ2 M2 := by
  refine ⟨g.1.trans h.1, fun b hb => ?_⟩
  obtain ⟨⟨a1, a2⟩, a3⟩ := h.2 b hb
  obtain ⟨⟨b1, b2⟩, b3⟩ := g.2 b (by rw [a1]; exact hb)
  refine ⟨⟨b1.trans a1, b2.trans a2⟩, fun hr i => ?_⟩
  have c1 := a3 hr i
  have c2 := b3 (by rw [a2]; exact hr) i
  exact ⟨c2.1.trans c1.1, c2.2.1.trans c1.2.1, c2.2.2.trans c1.2.2⟩
end XREL
