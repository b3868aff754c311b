/-! the class's state changes; guards and refusals -/
set_option maxRecDepth 100000
section XUPD
variable {S : Nat → Nat → Prop} {M M' : gM} {ρ ρ' : Nat → Nat} {x : Nat} {A : Ab} {G : XG}
theorem RuX.ki {b n : Nat} {u : Ru} (h : RuX M ρ b u n) : ∃ ci, kd M b = some (true, .inl ci) ∧ 6 ≤ ci ∧ ci ≤ 10 := by
  obtain ⟨-, hr⟩ := h
  split at hr
  · exact ⟨6, hr.1, by omega⟩
  · exact ⟨7, hr.1, by omega⟩
  · exact ⟨8, hr.1, by omega⟩
  · exact ⟨9, hr, by omega⟩
  · exact ⟨10, hr.1, by omega⟩
theorem ki_ne {a b ci cj : Nat} (h : kd M a = some (true, .inl ci)) (g : kd M b = some (true, .inl cj)) (c : ci ≠ cj) : a ≠ b := fun e => by
  rw [e, g] at h
  cases h
  exact c rfl
theorem RuX.ne2 {a b n cj : Nat} {u : Ru} (h : RuX M ρ b u n) (g : kd M a = some (true, .inl cj)) (c : cj < 6 ∨ 10 < cj) : b ≠ a := by
  obtain ⟨ci, h1, h2⟩ := h.ki
  exact ki_ne h1 g (by omega)
theorem HX.kd_ {b : Nat} {P : Nat → Nat} (h : HX M ρ b P) : kd M b = some (true, .inl 12) := by
  obtain ⟨⟨r, h⟩, -⟩ := h
  exact h.1.1
def imR (A : Ab) (G : XG) : Option Nat := match aIm A with
  | none => none
  | some _ => some G.2.1.1
/-- the class's own cells -/
def OwX (M : gM) (ρ : Nat → Nat) (x : Nat) (A : Ab) (G : XG) : Prop := (kd M x = some (true, .inl 0) ∧ ρ x = Tg x 63) ∧ (∃ sh, mR M x 2 = some sh ∧ (kd M sh = some (true, .inr (.object "SendTheBox$Sheet", 8)) ∧ ρ sh = Tg x 2) ∧ ∀ s, s < 8 → mR M sh s = some (G.2.2.1 s)) ∧ (∃ tp, mR M x 3 = some tp ∧ (kd M tp = some (true, .inr (.int, 160)) ∧ ρ tp = Tg x 3) ∧ ∀ i, i < aTz A → mI M tp i = Int32.ofNat (aTp A i) ∧ aTp A i < 256) ∧ (mI M x 4 = Int32.ofNat (aTz A) ∧ aTz A ≤ 160) ∧ (∃ rf, mR M x 5 = some rf ∧ (kd M rf = some (true, .inr (.int, 7)) ∧ ρ rf = Tg x 5) ∧ ∀ i, 2 ≤ i → i ≤ 6 → mI M rf i = aRf A i) ∧ mR M x 0 = some G.1.1 ∧ mR M x 1 = imR A G
theorem XRl.ow (h : XRl M ρ x A G) : OwX M ρ x A G := by
  obtain ⟨b0, b1, b2, b5, b6, b7, b10, b11, ⟨b14, b15, b16⟩, b17, b18, b19⟩ := h
  refine ⟨b0, b2, b7, b10, b11, b14, ?_⟩
  unfold XImg at b19
  unfold imR
  cases ei : aIm A with
  | none => rw [ei] at b19; exact b19
  | some K => rw [ei] at b19; exact b19.1
/-- no kept thing is x -/
theorem KpX.cls {k : Nat} {K : Kp} {g : KG} {c cj : Nat} (h : KpX M ρ k K g) (hS : ∀ b, b ≠ c → Cl S b) (hc : kd M c = some (true, .inl cj)) (n1 : cj ≠ 1) (n14 : cj ≠ 14) : Cl S k ∧ ∀ v, kWk K = some v → Cl S g.2.1 := ⟨hS _ (ki_ne h.1.1 hc (fun e => n1 e.symm)), fun v ev => by
  have := h.2.2.2.2.2
  rw [ev] at this
  exact hS _ (ki_ne this.2.1.1 hc (fun e => n14 e.symm))⟩
theorem XRl.own {T : ((Nat → Nat) × Nat) × (Nat → Int32)} (f : Fx S ρ M ρ' M') (hS : ∀ b, b ≠ x → Cl S b) (h5 : ∀ i, ¬ S 500 i) (h : XRl M ρ x A G) (o : OwX M' ρ' x ((A.1.1, T), A.2) G) : XRl M' ρ' x ((A.1.1, T), A.2) G := by
  obtain ⟨b0, b1, b2, b5, b6, b7, b10, b11, ⟨b14, b15, b16⟩, b17, b18, b19⟩ := h
  obtain ⟨o0, o1, o2, o3, o4, o5, o6⟩ := o
  have hr : ∀ b u n, RuX M ρ b u n → RuX M' ρ' b u n := fun b u n h => h.cl f (hS b (h.ne2 b0.1 (by omega)))
  have hh : ∀ b, HX M ρ b (G.2.2.2 b) → HX M' ρ' b (G.2.2.2 b) := fun b z => z.cl f (hS b (ki_ne z.kd_ b0.1 (by omega)))
  have kc := fun k K g (h : KpX M ρ k K g) => h.cls hS b0.1 (by omega) (by omega)
  refine ⟨o0, f.cs h5 b1, o1, fun s hs => (b5 s hs).fx f (hS _ (ki_ne (b5 s hs).1.1 b0.1 (by omega))) hr, b6, o2, o3, o4, ⟨o5, b15.fx f (kc _ _ _ b15).1 (kc _ _ _ b15).2 hr hh b16 b16, b16⟩, b17, b18, ?_⟩
  unfold XImg at b19 ⊢
  unfold imR at o6
  cases ei : aIm A with
  | none =>
    rw [ei] at b19
    have ei' : aIm ((A.1.1, T), A.2) = none := ei
    rw [ei'] at o6 ⊢
    exact o6
  | some K =>
    rw [ei] at b19
    have ei' : aIm ((A.1.1, T), A.2) = some K := ei
    rw [ei'] at o6 ⊢
    obtain ⟨c1, c2, c3, c4⟩ := b19
    exact ⟨o6, c2.fx f (kc _ _ _ c2).1 (kc _ _ _ c2).2 hr hh c3 c3, c3, c4⟩
theorem XRl.sheet {s : Nat} {v : Sh} (hs : s < 8) (f : Fx S ρ M ρ' M') (hS : ∀ b, b ≠ G.2.2.1 s → Cl S b) (h5 : ∀ i, ¬ S 500 i) (h : XRl M ρ x A G) (hv : ShX M' ρ' (G.2.2.1 s) v) : XRl M' ρ' x (sSh A s v) G := by
  obtain ⟨b0, b1, ⟨sh, b2, b3, b4⟩, b5, b6, ⟨tp, b7, b8, b9⟩, b10, ⟨rf, b11, b12, b13⟩, ⟨b14, b15, b16⟩, b17, b18, b19⟩ := h
  have hc := (b5 s hs).1.1
  have hr : ∀ b u n, RuX M ρ b u n → RuX M' ρ' b u n := fun b u n h => h.cl f (hS b (h.ne2 hc (by omega)))
  have hh : ∀ b, HX M ρ b (G.2.2.2 b) → HX M' ρ' b (G.2.2.2 b) := fun b z => z.cl f (hS b (ki_ne z.kd_ hc (by omega)))
  have kc := fun k K g (h : KpX M ρ k K g) => h.cls hS hc (by omega) (by omega)
  have cx := hS x (ki_ne b0.1 hc (by omega))
  obtain ⟨o1, o2⟩ := f.ob cx b0
  obtain ⟨s1, s2⟩ := f.arr cx (k := 2) (by omega) b3
  obtain ⟨t1, t2⟩ := f.arr cx (k := 3) (by omega) b8
  obtain ⟨r1, r2⟩ := f.arr cx (k := 5) (by omega) b12
  refine ⟨o1, f.cs h5 b1, ⟨sh, (o2 2).2.2.trans b2, s1, fun s hs => (s2 s).2.2.trans (b4 s hs)⟩, fun t ht => ?_, b6, ⟨tp, (o2 3).2.2.trans b7, t1, fun i hi => ⟨(t2 i).1.trans (b9 i hi).1, (b9 i hi).2⟩⟩, ⟨(o2 4).1.trans b10.1, b10.2⟩, ⟨rf, (o2 5).2.2.trans b11, r1, fun i g1 g2 => (r2 i).1.trans (b13 i g1 g2)⟩, ⟨(o2 0).2.2.trans b14, b15.fx f (kc _ _ _ b15).1 (kc _ _ _ b15).2 hr hh b16 b16, b16⟩, b17, b18, ?_⟩
  · show ShX M' ρ' (G.2.2.1 t) (if t = s then v else aSh A t)
    by_cases c : t = s
    · rw [if_pos c, c]; exact hv
    · rw [if_neg c]; exact (b5 t ht).fx f (hS _ (b6 t s ht hs c)) hr
  · unfold XImg at b19 ⊢
    cases ei : aIm A with
    | none =>
      rw [ei] at b19
      have ei' : aIm (sSh A s v) = none := ei
      rw [ei']
      exact (o2 1).2.2.trans b19
    | some K =>
      rw [ei] at b19
      have ei' : aIm (sSh A s v) = some K := ei
      rw [ei']
      obtain ⟨c1, c2, c3, c4⟩ := b19
      exact ⟨(o2 1).2.2.trans c1, c2.fx f (kc _ _ _ c2).1 (kc _ _ _ c2).2 hr hh c3 c3, c3, c4⟩
/-- what is now has changed -/
theorem XRl.now {K' : Kp} {g' : KG} {pA : Nat → Nat → Nat} (f : Fx S ρ M ρ' M') (hcl : ∀ b, kd M b ≠ some (true, .inl 12) → b ≠ G.1.1 → (∀ v, kWk (aNow A) = some v → b ≠ G.1.2.2.1) → Cl S b) (hh : ∀ b, HX M ρ b (G.2.2.2 b) → HX M' ρ' b (pA b)) (hp : ∀ b, kd M b ≠ none → (∀ h, h < aH A → b ≠ G.1.2.1 h) → pA b = G.2.2.2 b) (h5 : ∀ i, ¬ S 500 i) (h : XRl M ρ x A G) (hk : KpX M' ρ' G.1.1 K' g' ∧ KpA K' g' pA) (hd : (∀ h g, h < kH K' → g < kH K' → h ≠ g → g'.1 h ≠ g'.1 g) ∧ ∀ h v, h < kH K' → kWk K' = some v → g'.1 h ≠ g'.2.2) (hn : ∀ h, h < kH K' → (∃ h', h' < aH A ∧ g'.1 h = G.1.2.1 h') ∨ kd M (g'.1 h) = none) (hw : ∀ v, kWk K' = some v → (∃ v', kWk (aNow A) = some v' ∧ g'.2.1 = G.1.2.2.1) ∨ kd M g'.2.1 = none) : XRl M' ρ' x (sNow A K') ((G.1.1, g'), G.2.1, G.2.2.1, pA) := by
  obtain ⟨b0, b1, ⟨sh, b2, b3, b4⟩, b5, b6, ⟨tp, b7, b8, b9⟩, b10, ⟨rf, b11, b12, b13⟩, ⟨b14, b15, b16⟩, b17, b18, b19⟩ := h
  have wk : ∀ v, kWk (aNow A) = some v → kd M G.1.2.2.1 = some (true, .inl 14) := fun v ev => by
    have := b15.2.2.2.2.2
    rw [ev] at this
    exact this.2.1.1
  have cl : ∀ b ci, kd M b = some (true, .inl ci) → ci ≠ 12 → ci ≠ 1 → ci ≠ 14 → Cl S b := fun b ci hb c1 c2 c3 => hcl b (by rw [hb]; exact fun z => by cases z; exact c1 rfl) (ki_ne hb b15.1.1 c2) (fun v ev => ki_ne hb (wk v ev) c3)
  have hr : ∀ b u n, RuX M ρ b u n → RuX M' ρ' b u n := fun b u n h => by
    obtain ⟨ci, z1, z2⟩ := h.ki
    exact h.cl f (cl b ci z1 (by omega) (by omega) (by omega))
  have cx := cl x 0 b0.1 (by omega) (by omega) (by omega)
  obtain ⟨o1, o2⟩ := f.ob cx b0
  obtain ⟨s1, s2⟩ := f.arr cx (k := 2) (by omega) b3
  obtain ⟨t1, t2⟩ := f.arr cx (k := 3) (by omega) b8
  obtain ⟨r1, r2⟩ := f.arr cx (k := 5) (by omega) b12
  refine ⟨o1, f.cs h5 b1, ⟨sh, (o2 2).2.2.trans b2, s1, fun s hs => (s2 s).2.2.trans (b4 s hs)⟩, fun t ht => (b5 t ht).fx f (cl _ 2 (b5 t ht).1.1 (by omega) (by omega) (by omega)) hr, b6, ⟨tp, (o2 3).2.2.trans b7, t1, fun i hi => ⟨(t2 i).1.trans (b9 i hi).1, (b9 i hi).2⟩⟩, ⟨(o2 4).1.trans b10.1, b10.2⟩, ⟨rf, (o2 5).2.2.trans b11, r1, fun i g1 g2 => (r2 i).1.trans (b13 i g1 g2)⟩, ⟨(o2 0).2.2.trans b14, hk.1, hk.2⟩, hd.1, hd.2, ?_⟩
  unfold XImg at b19 ⊢
  cases ei : aIm A with
  | none =>
    rw [ei] at b19
    have ei' : aIm (sNow A K') = none := ei
    rw [ei']
    exact (o2 1).2.2.trans b19
  | some K =>
    rw [ei] at b19
    have ei' : aIm (sNow A K') = some K := ei
    rw [ei']
    obtain ⟨c1, c2, c3, c4, c5, c6, c7⟩ := b19
    have lh : ∀ g, g < kH K → kd M (G.2.1.2.1 g) = some (true, .inl 12) := fun g hg => (c2.2.2.2.2.1 g hg).kd_
    have lw : ∀ v, kWk K = some v → kd M G.2.1.2.2.1 = some (true, .inl 14) ∧ kd M G.2.1.2.2.2 = some (true, .inl 12) := fun v ev => by
      have := c2.2.2.2.2.2
      rw [ev] at this
      exact ⟨this.2.1.1, this.2.2.1.2.kd_⟩
    have c3' : KpA K G.2.1.2 pA := ⟨fun h hh' => (hp _ (live_of (lh h hh')) (fun h' hh'' e => c5 h' h hh'' hh' e.symm)).trans (c3.1 h hh'), fun v ev => (hp _ (live_of (lw v ev).2) (fun h' hh'' e => c6 h' v hh'' ev e.symm)).trans (c3.2 v ev)⟩
    refine ⟨(o2 1).2.2.trans c1, c2.fx f (hcl _ (by rw [c2.1.1]; exact fun z => by cases z) c4 (fun v ev => ki_ne c2.1.1 (wk v ev) (by omega))) (fun v ev => hcl _ (by rw [(lw v ev).1]; exact fun z => by cases z) (ki_ne (lw v ev).1 b15.1.1 (by omega)) (fun v' ev' e => c7 v' v ev' ev e.symm)) hr hh c3 c3', c3', c4, fun h g h1 h2 => ?_, fun h v h1 h2 => ?_, fun v v' h1 h2 => ?_⟩
    · rcases hn h h1 with ⟨h', e1, e2⟩ | e
      · show g'.1 h ≠ _
        rw [e2]; exact c5 h' g e1 h2
      · intro z
        have z : g'.1 h = G.2.1.2.1 g := z
        rw [z, lh g h2] at e
        cases e
    · rcases hn h h1 with ⟨h', e1, e2⟩ | e
      · show g'.1 h ≠ _
        rw [e2]; exact c6 h' v e1 h2
      · intro z
        have z : g'.1 h = G.2.1.2.2.2 := z
        rw [z, (lw v h2).2] at e
        cases e
    · rcases hw v h1 with ⟨v0, e1, e2⟩ | e
      · show g'.2.1 ≠ _
        rw [e2]; exact c7 v0 v' e1 h2
      · intro z
        have z : g'.2.1 = G.2.1.2.2.1 := z
        rw [z, (lw v' h2).1] at e
        cases e
end XUPD
section XG1
variable {M : gM} {ρ : Nat → Nat} {x : Nat} {A : Ab} {G : XG}
theorem Kx.ext {β : Type} {sp : β × Ab} {Q : β → gM → Prop} {M' : gM} {ρ' : Nat → Nat} (q : Kx sp x ρ M Q) (e : Ext ρ M ρ' M') : Kx sp x ρ' M' Q := fun M2 ρ2 G2 r e2 => q M2 ρ2 G2 r (e.tr e2)
theorem x_same {β : Type} (R : XRl M ρ x A G) {sp : β × Ab} {v : β} {Q : β → gM → Prop} (e : sp = (v, A)) (q : Kx sp x ρ M Q) : Q v M := by
  rw [e] at q
  exact q M ρ G R Ext.rf
/-- a house of now has worked -/
theorem x_fin {β : Type} (R : XRl M ρ x A G) {h : Nat} (hh : h < aH A) {M' : gM} {ρ' : Nat → Nat} (f : Fx (SH (G.1.2.1 h)) ρ M ρ' M') (hx : HX M' ρ' (G.1.2.1 h) (aP A h)) {sp : β × Ab} {v : β} {Q : β → gM → Prop} (e : sp = (v, A)) (q : Kx sp x ρ M Q) : Q v M' := by
  rw [e] at q
  have hk := R.2.2.2.2.2.2.2.2.1
  refine q M' ρ' G (R.house (hk.2.1.2.2.2.2.1 h hh).kd_ f ?_) (f.ext (fun t i z => z.ge))
  rw [hk.2.2.1 h hh]
  exact hx
theorem XRl.rc (R : XRl M ρ x A G) {B : Prop} (q : B) : rc M 0 x ∧ B := rc_i R.1.1 q
theorem XRl.no (R : XRl M ρ x A G) {n : Nat} {Q : Int32 → gM → Prop} (hn : 2 ≤ n ∧ n ≤ 6) (q : ∀ M', XRl M' ρ x (aNo A n) G → Ext ρ M ρ M' → Q (-(Int32.ofNat n)) M') : F_X0_no M x (-(Int32.ofNat n)) Q := by
  obtain ⟨o0, o1, ⟨tp, o2, o2', o2''⟩, o3, ⟨rf, g1, g2, g3⟩, o5⟩ := R.ow
  have nt : tp ≠ rf := fun e => by
    have := o2'.2
    rw [e, g2.2] at this
    have := (Tg_inj (by omega) (by omega) this).2
    omega
  refine gN_i R.1.1 g1 ?_
  rw [show (- -(Int32.ofNat n)) = Int32.ofNat n by simp]
  refine aI_i g2.1 (by omega) (by omega) (uI_i g2.1 (by omega) (by omega) ?_)
  have f : Fx (fun t _ => t = Tg x 5) ρ M ρ (sI M rf n (mI M rf n + 1)) := Fx.sI g2.2
  refine q _ (R.own f (fun b hb k i hk z => hb (Tg_inj hk (by omega) z).1) (fun i z => by have := Tg_ge x 5; omega) ?_) (f.ext (fun t i z => by have := Tg_ge x 5; omega))
  have nx : rf ≠ x := fun e => by
    rw [e, R.1.1] at g2
    cases g2.1
  refine ⟨o0, o1, ⟨tp, o2, o2', fun i hi => ⟨(mI_ne (Or.inl nt)).trans (o2'' i hi).1, (o2'' i hi).2⟩⟩, ⟨(mI_ne (Or.inl (fun e => nx e.symm))).trans o3.1, o3.2⟩, ⟨rf, g1, g2, fun i h1 h2 => ?_⟩, o5⟩
  show _ = if i = n then aRf A i + 1 else aRf A i
  by_cases c : i = n
  · rw [if_pos c, c, mI_eq, g3 n hn.1 hn.2]
  · rw [if_neg c, mI_ne (Or.inr c), g3 i h1 h2]
theorem x_rj (R : XRl M ρ x A G) {n : Nat} {sp : Int32 × Ab} {Q : Int32 → gM → Prop} (hn : 2 ≤ n ∧ n ≤ 6) (e : sp = rj A n) (q : Kx sp x ρ M Q) : rc M 0 x ∧ F_X0_no M x (-(Int32.ofNat n)) (fun v N => Q v N) := by
  rw [e] at q
  exact R.rc (R.no hn (fun M' r e => q M' ρ G r e))
theorem x_rjJ (R : XRl M ρ x A G) {n : Nat} {sp : Int64 × Ab} {Q : Int64 → gM → Prop} (hn : 2 ≤ n ∧ n ≤ 6) (e : sp = rjJ A n) (q : Kx sp x ρ M Q) : rc M 0 x ∧ F_X0_no M x (-(Int32.ofNat n)) (fun v N => Q v.toInt64 N) := by
  rw [e] at q
  exact R.rc (R.no hn (fun M' r e => q M' ρ G r e))
theorem x_bad (R : XRl M ρ x A G) {sp : Int32 × Ab} {Q : Int32 → gM → Prop} (e : sp = rj A 2) (q : Kx sp x ρ M Q) : rc M 0 x ∧ F_X0_no M x (-2 : Int32) (fun v N => Q v N) := x_rj (n := 2) R (by omega) e q
theorem x_badJ (R : XRl M ρ x A G) {sp : Int64 × Ab} {Q : Int64 → gM → Prop} (e : sp = rjJ A 2) (q : Kx sp x ρ M Q) : rc M 0 x ∧ F_X0_no M x (-2 : Int32) (fun v N => Q v.toInt64 N) := x_rjJ (n := 2) R (by omega) e q
theorem x_in {y : Int32} {l n : Nat} {Q : Int32 → gM → Prop} (hn : n + 1 < 2147483648) (hl : l < 2147483648) (h1 : ∀ s, dec (n + 1) y = some s → l ≤ s → Q 1 M) (h0 : (∀ s, dec (n + 1) y = some s → s < l) → Q 0 M) : F_X0_isIn M y (Int32.ofNat l) (Int32.ofNat n) Q := by
  refine ⟨fun c => h0 (fun s e => ?_), fun c => ⟨fun c2 => h0 (fun s e => ?_), fun c2 => ?_⟩⟩
  · have d := dec_some e
    rw [d.2.1, i32_lt d.2.2 hl] at c
    exact c
  · have d := dec_some e
    rw [d.2.1, i32_lt (by omega) d.2.2] at c2
    omega
  · rw [Int32.lt_iff_toInt_lt, i32_toInt hl] at c
    rw [Int32.lt_iff_toInt_lt, i32_toInt (by omega)] at c2
    have e : dec (n + 1) y = some y.toInt.toNat := by
      unfold dec
      rw [if_pos (by omega)]
    exact h1 _ e (by omega)
theorem x_inD {y : Int32} {n : Nat} {Q : Int32 → gM → Prop} (hn : n + 1 < 2147483648) (h1 : ∀ s, dec (n + 1) y = some s → Q 1 M) (h0 : dec (n + 1) y = none → Q 0 M) : F_X0_isIn M y (0 : Int32) (Int32.ofNat n) Q := x_in (l := 0) hn (by omega) (fun s e _ => h1 s e) (fun h => h0 (by
  cases e : dec (n + 1) y with
  | none => rfl
  | some s => exact absurd (h s e) (by omega)))
theorem x_inN {y : Int32} {n : Nat} {Q : Int32 → gM → Prop} (hn : n < 2147483648) (h1 : ∀ s, dec n y = some s → Q 1 M) (h0 : dec n y = none → Q 0 M) : F_X0_isIn M y (0 : Int32) (Int32.ofNat n - (1 : Int32)) Q := by
  cases n with
  | zero =>
    refine ⟨fun c => h0 (dec_no (fun s hs => absurd hs (by omega))), fun c => ⟨fun c2 => h0 (dec_no (fun s hs => absurd hs (by omega))), fun c2 => ?_⟩⟩
    rw [Int32.lt_iff_toInt_lt] at c c2
    have e0 : (0 : Int32).toInt = 0 := by decide
    have e1 : (Int32.ofNat 0 - (1 : Int32)).toInt = -1 := by decide
    rw [e0] at c
    rw [e1] at c2
    omega
  | succ n =>
    rw [i32_lit 1, i32_sub (by omega)]
    exact x_inD hn h1 h0
theorem x_shelf {y : Int32} {Q : Int32 → gM → Prop} (h1 : ∀ s, dec 8 y = some s → Q 1 M) (h0 : dec 8 y = none → Q 0 M) : F_X0_isShelf M y Q := x_inD (n := 7) (by omega) (fun s e => ⟨Or.inr rfl, h1 s e⟩) (fun e => ⟨Or.inl rfl, h0 e⟩)
theorem x_gH (R : XRl M ρ x A G) {y : Int32} {Q : Int32 → gM → Prop} (h1 : ∀ h, dec (aH A) y = some h → Q 1 M) (h0 : dec (aH A) y = none → Q 0 M) : F_X0_isHouse M x y Q := by
  obtain ⟨k0, k1, -⟩ := R.2.2.2.2.2.2.2.2.1
  refine gN_i R.1.1 k0 (gI_i k1.1.1 ?_)
  rw [k1.2.2.1.1]
  exact x_inN (by have := k1.2.2.1.2; omega) (fun s e => ⟨Or.inr rfl, h1 s e⟩) (fun e => ⟨Or.inl rfl, h0 e⟩)
theorem XRl.hx (R : XRl M ρ x A G) {h : Nat} (hh : h < aH A) : HX M ρ (G.1.2.1 h) (aP A h) := R.2.2.2.2.2.2.2.2.1.2.1.2.2.2.2.1 h hh
theorem XRl.h6 (R : XRl M ρ x A G) : aH A ≤ 6 := R.2.2.2.2.2.2.2.2.1.2.1.2.2.1.2
theorem XRl.cs (R : XRl M ρ x A G) : CsA M ρ := R.2.1
theorem x_hs (R : XRl M ρ x A G) {h : Nat} (hh : h < aH A) {κ : Nat → Prop} (q : κ (G.1.2.1 h)) : gN M 0 x 0 fun a => gN M 1 a 0 fun b => aN M (.object "SendTheBox$House") b (Int32.ofNat h) κ := by
  have h6 := R.h6
  obtain ⟨k0, k1, -⟩ := R.2.2.2.2.2.2.2.2.1
  obtain ⟨hs, g1, g2, g3⟩ := k1.2.1
  exact gN_i R.1.1 k0 (gN_i k1.1.1 g1 (aN_i g2.1 (by omega) (by omega) (g3 h hh) q))
theorem x_gS (R : XRl M ρ x A G) {x1 x2 : Int32} {Q : Int32 → gM → Prop} (h1 : ∀ h s, gS A x1 x2 = some (h, s) → Q 1 M) (h0 : gS A x1 x2 = none → Q 0 M) : F_X0_isState M x x1 x2 Q := by
  refine R.rc (x_gH R (fun h e => bF n10 ?_) (fun e => bT rfl (h0 (by unfold gS; rw [e]))))
  have d1 := dec_some e
  obtain ⟨⟨r, hs⟩, -, hw⟩ := R.hx d1.1
  have h5 := p5_le hw.2.2.2.2.1.2
  rw [d1.2.1]
  refine x_hs R d1.1 (x_rc hs (x_states hs hw.2.2.2.2.1 (x_inN (by omega) (fun s e2 => bF n10 (h1 h s ?_)) (fun e2 => bT rfl (h0 ?_)))))
  · unfold gS
    rw [e]
    simp only
    rw [e2]
  · unfold gS
    rw [e]
    simp only
    rw [e2]
theorem x_gL (R : XRl M ρ x A G) {x1 x2 : Int32} {l : Nat} {Q : Int32 → gM → Prop} (hl : l ≤ 1) (h1 : ∀ h d, gL A l x1 x2 = some (h, d) → Q 1 M) (h0 : gL A l x1 x2 = none → Q 0 M) : F_X0_isLeft M x x1 (Int32.ofNat l) x2 Q := by
  refine R.rc (x_gH R (fun h e => bF n10 ?_) (fun e => bT rfl (h0 (by unfold gL; rw [e]))))
  have d1 := dec_some e
  obtain ⟨⟨r, hs⟩, -, hw⟩ := R.hx d1.1
  have h6 := hw.1.2
  rw [d1.2.1]
  refine x_hs R d1.1 (x_gI hs (by omega) (x_in (by omega) (by omega) (fun s e2 hs => bF n10 (h1 h s ?_)) (fun e2 => bT rfl (h0 ?_))))
  · unfold gL
    rw [e]
    simp only
    rw [e2]
    simp only
    rw [if_pos hs]
  · unfold gL
    rw [e]
    simp only
    cases e3 : dec (aP A h 0 + 1) x2 with
    | none => rfl
    | some s => simp only; rw [if_neg (by have := e2 s e3; omega)]
theorem x_gT (R : XRl M ρ x A G) {x1 x2 : Int32} {Q : Int32 → gM → Prop} (h1 : ∀ h i, dec (aH A) x1 = some h → dec (aP A h 4) x2 = some i → Q 1 M) (h0 : dec (aH A) x1 = none → Q 0 M) (h2 : ∀ h, dec (aH A) x1 = some h → dec (aP A h 4) x2 = none → Q 0 M) : F_X0_isSort M x x1 x2 Q := by
  refine R.rc (x_gH R (fun h e => bF n10 ?_) (fun e => bT rfl (h0 e)))
  have d1 := dec_some e
  obtain ⟨⟨r, hs⟩, -, hw⟩ := R.hx d1.1
  have h4 := hw.2.2.2.2.1.2
  rw [d1.2.1]
  exact x_hs R d1.1 (x_gI hs (by omega) (x_inN (by omega) (fun s e2 => bF n10 (h1 h s e e2)) (fun e2 => bT rfl (h2 h e e2))))
/-- facts of a house and a state; of a house and days -/
theorem XRl.fS (R : XRl M ρ x A G) {x1 x2 : Int32} {h s : Nat} (e : gS A x1 x2 = some (h, s)) : x1 = Int32.ofNat h ∧ h < aH A ∧ x2 = Int32.ofNat s ∧ s < 5 ^ aP A h 4 ∧ s < 125 ∧ HX M ρ (G.1.2.1 h) (aP A h) := by
  obtain ⟨e1, e2⟩ := gS_some e
  have d1 := dec_some e1
  have d2 := dec_some e2
  have hx := R.hx d1.1
  have := p5_le hx.2.2.2.2.2.2.1.2
  exact ⟨d1.2.1, d1.1, d2.2.1, d2.1, by omega, hx⟩
theorem XRl.fL (R : XRl M ρ x A G) {l : Nat} {x1 x2 : Int32} {h d : Nat} (e : gL A l x1 x2 = some (h, d)) : x1 = Int32.ofNat h ∧ h < aH A ∧ x2 = Int32.ofNat d ∧ d ≤ aP A h 0 ∧ aP A h 0 ≤ 6 ∧ l ≤ d ∧ HX M ρ (G.1.2.1 h) (aP A h) := by
  obtain ⟨e1, e2, e3⟩ := gL_some e
  have d1 := dec_some e1
  have d2 := dec_some e2
  have hx := R.hx d1.1
  exact ⟨d1.2.1, d1.1, d2.2.1, by omega, hx.2.2.1.2, e3, hx⟩
/-- a refusal's object -/
theorem x_refd {u v Lc Ls n : Nat} {X : String → Nat → gM → Prop} (hb : u + 1 ≤ Lc ∧ v + 7 ≤ Ls) (q : ∀ M' ρ' z, Fx S0 ρ M ρ' M' → kd M' z = some (true, .inl 4) → mI M' z 6 = -(Int32.ofNat n) → X "SendTheBox$Refused" z M') : nO M u v Lc Ls 4 7 fun a M2 => F_X4_init M2 a (-(Int32.ofNat n)) fun M3 => (kd M3 a = some (true, .inl 4)) ∧ X "SendTheBox$Refused" a M3 := by
  refine ⟨hb, fun z hz => ?_⟩
  have k0 : kd (sN M z (.inl 4)) z = some (true, .inl 4) := if_pos rfl
  refine ⟨k0, fun r2 => ⟨k0, fun r4 => ⟨k0, bT rfl ⟨k0, k0, k0, bF' rfl ⟨k0, k0, ?_⟩⟩⟩⟩⟩
  refine ⟨k0, q _ (upT ρ z 0) z (fx_I (fx_R (fx_R (fx_R (fx_R (fx_R (fx_R (fx_R (fx_N Fx.rf hz) hz) hz) hz) hz) hz) hz) hz) hz) k0 mI_eq⟩
theorem x_shs (R : XRl M ρ x A G) {s : Nat} (hs : s < 8) {κ : Option Nat → Prop} (q : κ (mR M (G.2.2.1 s) 0)) : gN M 0 x 2 fun a => aN M (.object "SendTheBox$Sheet") a (Int32.ofNat s) fun b => gR M 2 b 0 κ := by
  obtain ⟨sh, b2, b3, b4⟩ := R.2.2.1
  exact gN_i R.1.1 b2 (aN_i b3.1 hs (by omega) (b4 s hs) (gR_i (R.2.2.2.1 s hs).1.1 q))
theorem XRl.sx (R : XRl M ρ x A G) {s : Nat} (hs : s < 8) : ShX M ρ (G.2.2.1 s) (aSh A s) := R.2.2.2.1 s hs
/-- a rule's name and whether it is of a kind -/
theorem RuX.nm {b n : Nat} {u : Ru} (h : RuX M ρ b u n) : ∃ ci, kd M b = some (true, .inl ci) ∧ kOk (.inl ci) ∧ (kN (.inl ci), "SendTheBox$Rule") ∈ gYP := by
  obtain ⟨-, hr⟩ := h
  split at hr
  · exact ⟨6, hr.1, (by omega : 6 < 17), by decide +kernel⟩
  · exact ⟨7, hr.1, (by omega : 7 < 17), by decide +kernel⟩
  · exact ⟨8, hr.1, (by omega : 8 < 17), by decide +kernel⟩
  · exact ⟨9, hr, (by omega : 9 < 17), by decide +kernel⟩
  · exact ⟨10, hr.1, (by omega : 10 < 17), by decide +kernel⟩
theorem RwX.nm {c so n : Nat} {f : Nat → Int64} (h : RwX M c so n f) : kd M c = some (true, .inr (tyF so, n)) ∧ kOk (.inr (tyF so, n)) ∧ (kN (.inr (tyF so, n)), "SendTheBox$Rule") ∈ gNP := by
  obtain ⟨k, ⟨hso, -⟩, -⟩ := h
  refine ⟨k, ?_⟩
  rcases (by omega : so = 0 ∨ so = 1 ∨ so = 2 ∨ so = 3 ∨ so = 4) with rfl | rfl | rfl | rfl | rfl
  · exact ⟨Or.inr (Or.inr (Or.inl rfl)), (by decide +kernel : ("[" ++ FieldType.toString .byte, "SendTheBox$Rule") ∈ gNP)⟩
  · exact ⟨Or.inr (Or.inr (Or.inr (Or.inl rfl))), (by decide +kernel : ("[" ++ FieldType.toString .short, "SendTheBox$Rule") ∈ gNP)⟩
  · exact ⟨Or.inl rfl, (by decide +kernel : ("[" ++ FieldType.toString .int, "SendTheBox$Rule") ∈ gNP)⟩
  · exact ⟨Or.inr (Or.inl rfl), (by decide +kernel : ("[" ++ FieldType.toString .long, "SendTheBox$Rule") ∈ gNP)⟩
  · exact ⟨Or.inr (Or.inr (Or.inr (Or.inr rfl))), (by decide +kernel : ("[" ++ FieldType.toString .boolean, "SendTheBox$Rule") ∈ gNP)⟩
theorem x_ruleIn (R : XRl M ρ x A G) {y : Int32} {s Lc Ls : Nat} {Q : Nat → gM → Prop} {X : String → Nat → gM → Prop} (hs : dec 8 y = some s) (hL : 4 ≤ Lc ∧ 1017 ≤ Ls) (h1 : ∀ u n b, gR_ A y = .inr u → aSh A s = some (.inr (u, n)) → RuX M ρ b u n → WfR u → Q b M) (h0 : ∀ e q M' ρ', gR_ A y = .inl e → (2 ≤ e ∧ e ≤ 6) → Fx S0 ρ M ρ' M' → kd M' q = some (true, .inl 4) → mI M' q 6 = -(Int32.ofNat e) → X "SendTheBox$Refused" q M') : F_X0_ruleIn Lc Ls M x y Q X := by
  have d := dec_some hs
  have hsh := R.sx d.1
  have e0 : gR_ A y = match aSh A s with | some (.inl _) => .inl 3 | none => .inl 4 | some (.inr (u, _)) => .inr u := by unfold gR_; rw [hs]; rfl
  rw [d.2.1]
  refine x_shs R d.1 ?_
  cases ev : aSh A s with
  | none =>
    rw [ev] at hsh e0
    have hsh : mR M (G.2.2.1 s) 0 = none := hsh.2
    rw [hsh]
    refine ⟨fun _ => ⟨fun _ => x_refd (n := 4) (by omega) (fun M' ρ' z f k v => h0 4 z M' ρ' e0 (by omega) f k v), fun b hb => by cases hb⟩, fun b hb => by cases hb⟩
  | some v => cases v with
    | inl v =>
      rw [ev] at hsh e0
      obtain ⟨so, n, f⟩ := v
      obtain ⟨c, g1, -, g3⟩ := hsh.2
      rw [g1]
      refine ⟨(fun z => by cases z), fun b hb => ?_⟩
      cases hb
      obtain ⟨z1, z2, z3⟩ := g3.nm
      exact ⟨_, z1, z2, Or.inr ⟨z3, by omega, fun _ => x_refd (n := 3) (by omega) (fun M' ρ' z f k v => h0 3 z M' ρ' e0 (by omega) f k v)⟩⟩
    | inr v =>
      rw [ev] at hsh e0
      obtain ⟨u, n⟩ := v
      obtain ⟨c, g1, g2, g3⟩ := hsh.2
      rw [g1]
      refine ⟨(fun z => by cases z), fun b hb => ?_⟩
      cases hb
      obtain ⟨ci, z1, z2, z3⟩ := g2.nm
      exact ⟨_, z1, z2, Or.inl ⟨z3, (fun z => by cases z), fun b hb => by cases hb; exact h1 u n c e0 ev g2 g3⟩⟩
/-- a refusal met -/
theorem x_got (R : XRl M ρ x A G) {e z : Nat} {M' : gM} {ρ' : Nat → Nat} {sp : Int32 × Ab} {Q : Int32 → gM → Prop} (he : 2 ≤ e ∧ e ≤ 6) (f : Fx S0 ρ M ρ' M') (k : kd M' z = some (true, .inl 4)) (v : mI M' z 6 = -(Int32.ofNat e)) (es : sp = rj A e) (q : Kx sp x ρ M Q) : gI M' 4 z 6 fun y => rc M' 0 x ∧ F_X0_no M' x y fun v N => Q v N := by
  refine gI_i k ?_
  rw [v]
  exact x_rj (R.new f) he es (q.ext (f.ext (fun t i z => z.elim)))
theorem x_gotJ (R : XRl M ρ x A G) {e z : Nat} {M' : gM} {ρ' : Nat → Nat} {sp : Int64 × Ab} {Q : Int64 → gM → Prop} (he : 2 ≤ e ∧ e ≤ 6) (f : Fx S0 ρ M ρ' M') (k : kd M' z = some (true, .inl 4)) (v : mI M' z 6 = -(Int32.ofNat e)) (es : sp = rjJ A e) (q : Kx sp x ρ M Q) : gI M' 4 z 6 fun y => rc M' 0 x ∧ F_X0_no M' x y fun v N => Q v.toInt64 N := by
  refine gI_i k ?_
  rw [v]
  exact x_rjJ (R.new f) he es (q.ext (f.ext (fun t i z => z.elim)))
/-- a rule, if what it is for may be so -/
theorem x_ruleFor (R : XRl M ρ x A G) {y : Int32} {ok : Int32} {Lc Ls : Nat} {Q : Nat → gM → Prop} {X : String → Nat → gM → Prop} (hok : ok = 0 ∨ ok = 1) (hL : 4 ≤ Lc ∧ 1017 ≤ Ls) (h1 : ok = 1 → ∀ u n b, gR_ A y = .inr u → RuX M ρ b u n → WfR u → Q b M) (h0 : ∀ e q M' ρ', (ok = 0 ∧ e = 2 ∨ ok = 1 ∧ gR_ A y = .inl e) → (2 ≤ e ∧ e ≤ 6) → Fx S0 ρ M ρ' M' → kd M' q = some (true, .inl 4) → mI M' q 6 = -(Int32.ofNat e) → X "SendTheBox$Refused" q M') : F_X0_ruleFor Lc Ls M x ok y Q X := by
  rcases hok with e | e
  · refine bT e (x_refd (n := 2) (by omega) (fun M' ρ' z f k v => h0 2 z M' ρ' (Or.inl ⟨e, rfl⟩) (by omega) f k v))
  · refine bF (by rw [e]; exact n10) (x_shelf (fun s es => bT' n10 ⟨4, 1017, ⟨by omega, by omega⟩, R.rc (x_ruleIn R es ⟨by omega, by omega⟩ (fun u n b a1 _ a2 a3 => h1 e u n b a1 a2 a3) (fun c z M' ρ' a1 a2 a3 a4 a5 => ⟨rfl, h0 c z M' ρ' (Or.inr ⟨e, a1⟩) a2 a3 a4 a5⟩))⟩) (fun es => bF' rfl (x_refd (n := 2) (by omega) (fun M' ρ' z f k v => h0 2 z M' ρ' (Or.inr ⟨e, by unfold gR_; rw [es]⟩) (by omega) f k v))))
end XG1
