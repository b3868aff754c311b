/-! the model holds a state -/
set_option maxRecDepth 100000
def ShM (M : gM) (r : Nat → Nat) (s : Nat) (v : Sh) : Prop := match v with
  | none => mI M (r 0) s = 0
  | some (.inl (so, n, f)) => mI M (r 0) s = 1 ∧ mI M (r 1) s = Int32.ofNat so ∧ mI M (r 2) s = Int32.ofNat n ∧ (so ≤ 4 ∧ n ≤ 125) ∧ ∀ i, i < n → mJ M (r 3 + 1 + s) i = f i
  | some (.inr (u, n)) => mI M (r 0) s = 2 ∧ RuM M r s u ∧ WfR u ∧ (u.1 = 5 → mI M (r 22) s = Int32.ofNat n) ∧ n ≤ 125
def WkM (M : gM) (a : Nat) (r : Nat → Nat) (v : Option Wk) : Prop := match v with
  | none => mI M a 14 = 0
  | some w => mI M a 14 = 1 ∧ (HsM M r 7 w.1.1 ∧ Wf w.1.1) ∧ (RuM M r 8 w.1.2 ∧ WfR w.1.2) ∧ (mI M a 15 = Int32.ofNat w.2.1.1 ∧ w.2.1.1 ≤ w.1.1 0) ∧ (mI M a 16 = Int32.ofNat w.2.1.2 ∧ w.2.1.2 < 5 ^ w.1.1 4) ∧ mI M a 17 = w.2.2.1 ∧ mI M a 18 = w.2.2.2.1 ∧ mI M a 19 = w.2.2.2.2.1 ∧ mI M a 20 = w.2.2.2.2.2
def KpM (M : gM) (a : Nat) (r : Nat → Nat) (K : Kp) : Prop := mI M a 11 = Int32.ofNat (kH K) ∧ kH K ≤ 6 ∧ (∀ h, h < kH K → HsM M r h (kP K h) ∧ Wf (kP K h)) ∧ mI M a 13 = kSd K ∧ WkM M a r (kWk K)
def ImM (M : gM) (a : Nat) (ρ : Nat → Nat) (v : Option Kp) : Prop := match v with
  | none => mR M a 21 = none
  | some K => ∃ b rb, mR M a 21 = some b ∧ LayM M b rb ρ 1100 ∧ KpM M b rb K
def MRel (M : gM) (a : Nat) (r ρ : Nat → Nat) (A : Ab) : Prop := LayM M a r ρ 1000 ∧ CsA M ρ ∧ (∀ s, s < 8 → ShM M r s (aSh A s)) ∧ TpM M a r (aTp A) (aTz A) ∧ (∀ i, 2 ≤ i → i ≤ 6 → mI M (r 10) i = aRf A i) ∧ mI M a 39 = (-1 : Int32) ∧ KpM M a r (aNow A) ∧ ImM M a ρ (aIm A)
/-- a frame: only these cells have changed -/
def FmG (S : Nat → Nat → Prop) (M M' : gM) : Prop := (kd M' = kd M ∧ mR M' = mR M ∧ gl M' = gl M) ∧ ∀ b i, ¬ S b i → mI M' b i = mI M b i ∧ mJ M' b i = mJ M b i
theorem FmG.sI {S : Nat → Nat → Prop} {M : gM} {b i : Nat} {x : Int32} (h : S b i) : FmG S M (sI M b i x) := ⟨⟨rfl, rfl, rfl⟩, fun c j z => ⟨mI_ne (by
  by_cases e : c = b
  · right
    intro e2
    exact z (by rw [e, e2]; exact h)
  · exact Or.inl e), rfl⟩⟩
theorem FmG.sJ {S : Nat → Nat → Prop} {M : gM} {b i : Nat} {x : Int64} (h : S b i) : FmG S M (sJ M b i x) := ⟨⟨rfl, rfl, rfl⟩, fun c j z => ⟨rfl, mJ_ne (by
  by_cases e : c = b
  · right
    intro e2
    exact z (by rw [e, e2]; exact h)
  · exact Or.inl e)⟩⟩
theorem FmG.rf {S : Nat → Nat → Prop} {M : gM} : FmG S M M := ⟨⟨rfl, rfl, rfl⟩, fun _ _ _ => ⟨rfl, rfl⟩⟩
theorem FmG.tr {S : Nat → Nat → Prop} {M M' M2 : gM} (h : FmG S M M') (g : FmG S M' M2) : FmG S M M2 := ⟨⟨g.1.1.trans h.1.1, g.1.2.1.trans h.1.2.1, g.1.2.2.trans h.1.2.2⟩, fun b i z => ⟨(g.2 b i z).1.trans (h.2 b i z).1, (g.2 b i z).2.trans (h.2 b i z).2⟩⟩
theorem FmG.mono {S S' : Nat → Nat → Prop} {M M' : gM} (h : FmG S M M') (hs : ∀ b i, S b i → S' b i) : FmG S' M M' := ⟨h.1, fun b i z => h.2 b i (fun y => z (hs b i y))⟩
section MR
variable {S : Nat → Nat → Prop} {M M' : gM} {a o : Nat} {r ρ : Nat → Nat} {A : Ab}
theorem FmG.lay (f : FmG S M M') {o' b : Nat} {rb : Nat → Nat} (h : LayM M b rb ρ o') : LayM M' b rb ρ o' := by
  unfold LayM at h ⊢
  rw [f.1.1, f.1.2.1]
  exact h
theorem FmG.cs (f : FmG S M M') (hS : ∀ b i, ρ b = 500 → ¬ S b i) (h : CsA M ρ) : CsA M' ρ := by
  obtain ⟨h1, h2, h3⟩ := h
  unfold CsA StA
  rw [f.1.1, f.1.2.1, f.1.2.2]
  refine ⟨fun j hj => ?_, h2, fun i hi => (f.2 _ _ (hS _ _ h2.2)).1.trans (h3 i hi)⟩
  obtain ⟨v, g1, g2, g3, g4, g5⟩ := h1 j hj
  exact ⟨v, g1, g2, (f.2 _ _ (hS _ _ g1.2)).1.trans g3, g4, fun i hi => ⟨(f.2 _ _ (hS _ _ g4.2)).1.trans (g5 i hi).1, (g5 i hi).2⟩⟩
theorem FmG.hs (f : FmG S M M') {x : Nat} {P : Nat → Nat} (hS : ∀ i, ¬ S (r 12 + 1 + x) i) (h : HsM M r x P) : HsM M' r x P := fun i hi => (f.2 _ _ (hS i)).1.trans (h i hi)
theorem FmG.ru (f : FmG S M M') {s : Nat} {u : Ru} (h5 : ¬ S (r 5) s) (h6 : ¬ S (r 6) s) (h7 : ∀ i, ¬ S (r 7 + 1 + s) i) (h : RuM M r s u) : RuM M' r s u := ⟨(f.2 _ _ h5).1.trans h.1, fun z => (f.2 _ _ h6).1.trans (h.2.1 z), fun z i hi => (f.2 _ _ (h7 i)).1.trans (h.2.2 z i hi)⟩
theorem FmG.sh (f : FmG S M M') {s : Nat} {v : Sh} (h0 : ∀ k, (k = 0 ∨ k = 1 ∨ k = 2 ∨ k = 5 ∨ k = 6 ∨ k = 22) → ¬ S (r k) s) (h3 : ∀ i, ¬ S (r 3 + 1 + s) i) (h7 : ∀ i, ¬ S (r 7 + 1 + s) i) (h : ShM M r s v) : ShM M' r s v := by
  cases v with
  | none => exact (f.2 _ _ (h0 0 (by omega))).1.trans h
  | some v => cases v with
    | inl v =>
      obtain ⟨so, n, g⟩ := v
      obtain ⟨a1, a2, a3, a4, a5⟩ := h
      exact ⟨(f.2 _ _ (h0 0 (by omega))).1.trans a1, (f.2 _ _ (h0 1 (by omega))).1.trans a2, (f.2 _ _ (h0 2 (by omega))).1.trans a3, a4, fun i hi => (f.2 _ _ (h3 i)).2.trans (a5 i hi)⟩
    | inr v =>
      obtain ⟨u, n⟩ := v
      obtain ⟨a1, a2, a3, a4, a5⟩ := h
      exact ⟨(f.2 _ _ (h0 0 (by omega))).1.trans a1, f.ru (h0 5 (by omega)) (h0 6 (by omega)) h7 a2, a3, fun z => (f.2 _ _ (h0 22 (by omega))).1.trans (a4 z), a5⟩
theorem FmG.tp (f : FmG S M M') {T : Nat → Nat} {n : Nat} (h9 : ¬ S a 9) (h8 : ∀ i, ¬ S (r 8) i) (h : TpM M a r T n) : TpM M' a r T n := ⟨(f.2 _ _ h9).1.trans h.1, h.2.1, fun i hi => ⟨(f.2 _ _ (h8 i)).1.trans (h.2.2 i hi).1, (h.2.2 i hi).2⟩⟩
theorem FmG.wk (f : FmG S M M') {v : Option Wk} (ha : ∀ i, 14 ≤ i → i ≤ 20 → ¬ S a i) (h12 : ∀ i, ¬ S (r 12 + 1 + 7) i) (h5 : ¬ S (r 5) 8) (h6 : ¬ S (r 6) 8) (h7 : ∀ i, ¬ S (r 7 + 1 + 8) i) (h : WkM M a r v) : WkM M' a r v := by
  cases v with
  | none => exact (f.2 _ _ (ha 14 (by omega) (by omega))).1.trans h
  | some w =>
    obtain ⟨a1, a2, a3, a4, a5, a6, a7, a8, a9⟩ := h
    exact ⟨(f.2 _ _ (ha 14 (by omega) (by omega))).1.trans a1, ⟨f.hs h12 a2.1, a2.2⟩, ⟨f.ru h5 h6 h7 a3.1, a3.2⟩, ⟨(f.2 _ _ (ha 15 (by omega) (by omega))).1.trans a4.1, a4.2⟩, ⟨(f.2 _ _ (ha 16 (by omega) (by omega))).1.trans a5.1, a5.2⟩, (f.2 _ _ (ha 17 (by omega) (by omega))).1.trans a6, (f.2 _ _ (ha 18 (by omega) (by omega))).1.trans a7, (f.2 _ _ (ha 19 (by omega) (by omega))).1.trans a8, (f.2 _ _ (ha 20 (by omega) (by omega))).1.trans a9⟩
theorem FmG.kp (f : FmG S M M') {K : Kp} (ha : ∀ i, (i = 11 ∨ (13 ≤ i ∧ i ≤ 20)) → ¬ S a i) (h12 : ∀ x i, x < 8 → x ≠ 6 → ¬ S (r 12 + 1 + x) i) (h5 : ¬ S (r 5) 8) (h6 : ¬ S (r 6) 8) (h7 : ∀ i, ¬ S (r 7 + 1 + 8) i) (h : KpM M a r K) : KpM M' a r K := by
  obtain ⟨a1, a2, a3, a4, a5⟩ := h
  exact ⟨(f.2 _ _ (ha 11 (by omega))).1.trans a1, a2, fun x hx => ⟨f.hs (fun i => h12 x i (by omega) (by omega)) (a3 x hx).1, (a3 x hx).2⟩, (f.2 _ _ (ha 13 (by omega))).1.trans a4, f.wk (fun i h1 h2 => ha i (by omega)) (fun i => h12 7 i (by omega) (by omega)) h5 h6 h7 a5⟩
theorem FmG.im (f : FmG S M M') {v : Option Kp} (hS : ∀ b i, 1100 ≤ ρ b → ¬ S b i) (h : ImM M a ρ v) : ImM M' a ρ v := by
  cases v with
  | none =>
    show mR M' a 21 = none
    rw [f.1.2.1]
    exact h
  | some K =>
    obtain ⟨b, rb, g1, g2, g3⟩ := h
    refine ⟨b, rb, by rw [f.1.2.1]; exact g1, f.lay g2, f.kp (fun i _ => hS _ _ (by rw [g2.1.2]; omega)) (fun x i hx _ => hS _ _ (by rw [tg2 g2 (k := 12) rfl hx]; omega)) (hS _ _ (by rw [tg1 g2 (k := 5) rfl]; omega)) (hS _ _ (by rw [tg1 g2 (k := 6) rfl]; omega)) (fun i => hS _ _ (by rw [tg2 g2 (k := 7) rfl (by omega)]; omega)) g3⟩
/-- the model's own cells: tags 1000 .. 1099 -/
theorem MRel.mk (R : MRel M a r ρ A) {A' : Ab} (f : FmG S M M') (hS : ∀ b i, S b i → 1000 ≤ ρ b ∧ ρ b < 1100) (hSh : ∀ s, s < 8 → ShM M' r s (aSh A' s)) (hTp : TpM M' a r (aTp A') (aTz A')) (hRf : ∀ i, 2 ≤ i → i ≤ 6 → mI M' (r 10) i = aRf A' i) (h39 : mI M' a 39 = (-1 : Int32)) (hKp : KpM M' a r (aNow A')) (eIm : aIm A' = aIm A) : MRel M' a r ρ A' := by
  obtain ⟨a1, a2, a3, a4, a5, a6, a7, a8⟩ := R
  refine ⟨f.lay a1, f.cs (fun b i hb z => by have := hS b i z; omega) a2, hSh, hTp, hRf, h39, hKp, ?_⟩
  rw [eIm]
  exact f.im (fun b i hb z => by have := hS b i z; omega) a8
/-- the shelves' cells -/
def SSh (r ρ : Nat → Nat) (b i : Nat) : Prop := (∃ k, (k = 0 ∨ k = 1 ∨ k = 2 ∨ k = 3 ∨ k = 4 ∨ k = 22) ∧ ρ b = 1000 + k) ∨ ((ρ b = 1005 ∨ ρ b = 1006) ∧ i < 8) ∨ (ρ b = 1007 ∧ ∃ s, s < 8 ∧ b = r 7 + 1 + s)
def STp (ρ : Nat → Nat) (b i : Nat) : Prop := ρ b = 1008 ∨ (ρ b = 1099 ∧ i = 9)
def SRf (ρ : Nat → Nat) (b _i : Nat) : Prop := ρ b = 1010
def SKp (ρ : Nat → Nat) (b i : Nat) : Prop := Sc ρ 1000 b i ∨ (ρ b = 1099 ∧ (i = 11 ∨ (13 ≤ i ∧ i ≤ 20))) ∨ ρ b = 1012
/-- the week's rule; the place that is tried -/
def SRu (r ρ : Nat → Nat) (b i : Nat) : Prop := ((ρ b = 1005 ∨ ρ b = 1006) ∧ 8 ≤ i) ∨ (ρ b = 1007 ∧ b = r 7 + 1 + 8)
theorem MRel.setSh (R : MRel M a r ρ A) (f : FmG (SSh r ρ) M M') {A' : Ab} (e1 : A'.1.2 = A.1.2) (e2 : A'.2 = A.2) (hSh : ∀ s, s < 8 → ShM M' r s (aSh A' s)) : MRel M' a r ρ A' := by
  have h := R.1
  have t0 := h.1.2
  have n0 : ∀ i, ¬ SSh r ρ a i := fun i => by
    rintro (⟨k, hk, e⟩ | ⟨e, -⟩ | ⟨e, -⟩) <;> omega
  have n1 : ∀ k n ty i, m1 k = some (ty, n) → k ≠ 0 → k ≠ 1 → k ≠ 2 → k ≠ 4 → k ≠ 22 → k ≠ 5 → k ≠ 6 → ¬ SSh r ρ (r k) i := fun k n ty i hk h0 h1 h2 h4 h22 h5 h6 => by
    have t := tg1 h hk
    have h3 : k ≠ 3 := fun z => by rw [z] at hk; cases hk
    have h7 : k ≠ 7 := fun z => by rw [z] at hk; cases hk
    rintro (⟨k', hk', e⟩ | ⟨e, -⟩ | ⟨e, -⟩) <;> omega
  refine R.mk f (fun b i z => ?_) hSh ?_ (fun i h1 h2 => ?_) ((f.2 _ _ (n0 _)).1.trans R.2.2.2.2.2.1) ?_ (by unfold aIm; rw [e2])
  · rcases z with ⟨k, hk, e⟩ | ⟨e, -⟩ | ⟨e, -⟩ <;> omega
  · have : TpM M' a r (aTp A) (aTz A) := f.tp (n0 9) (fun i => n1 8 _ _ i rfl (by omega) (by omega) (by omega) (by omega) (by omega) (by omega) (by omega)) R.2.2.2.1
    unfold aTp aTz at this ⊢
    rw [e1]
    exact this
  · have := (f.2 (r 10) i (n1 10 _ _ i rfl (by omega) (by omega) (by omega) (by omega) (by omega) (by omega) (by omega))).1.trans (R.2.2.2.2.1 i h1 h2)
    unfold aRf at this ⊢
    rw [e1]
    exact this
  · have : KpM M' a r (aNow A) := f.kp (fun i _ => n0 i) (fun x i hx _ => by
      have t := tg2 h (k := 12) rfl hx
      rintro (⟨k', hk', e⟩ | ⟨e, -⟩ | ⟨e, -⟩) <;> omega) (by
      have t := tg1 h (k := 5) rfl
      rintro (⟨k', hk', e⟩ | ⟨e, z⟩ | ⟨e, -⟩) <;> omega) (by
      have t := tg1 h (k := 6) rfl
      rintro (⟨k', hk', e⟩ | ⟨e, z⟩ | ⟨e, -⟩) <;> omega) (fun i => by
      have t := tg2 h (k := 7) (j := 8) rfl (by omega)
      rintro (⟨k', hk', e⟩ | ⟨e, z⟩ | ⟨e, s, hs, e2⟩) <;> omega) R.2.2.2.2.2.2.1
    unfold aNow at this ⊢
    rw [e2]
    exact this
theorem MRel.setTp (R : MRel M a r ρ A) (f : FmG (STp ρ) M M') {A' : Ab} (e0 : A'.1.1 = A.1.1) (e1 : A'.1.2.2 = A.1.2.2) (e2 : A'.2 = A.2) (hTp : TpM M' a r (aTp A') (aTz A')) : MRel M' a r ρ A' := by
  have h := R.1
  have t0 := h.1.2
  have n0 : ∀ i, i ≠ 9 → ¬ STp ρ a i := fun i hi => by rintro (e | ⟨e, z⟩) <;> omega
  have n1 : ∀ k n ty i, m1 k = some (ty, n) → k ≠ 8 → ¬ STp ρ (r k) i := fun k n ty i hk h8 => by
    have t := tg1 h hk
    have h99 : k ≠ 99 := fun z => by rw [z] at hk; cases hk
    rintro (e | ⟨e, -⟩) <;> omega
  have n2 : ∀ k n K ty j i, m2 k = some (ty, n, K) → j < n → ¬ STp ρ (r k + 1 + j) i := fun k n K ty j i hk hj => by
    have t := tg2 h hk hj
    have h99 : k ≠ 99 := fun z => by rw [z] at hk; cases hk
    have h8 : k ≠ 8 := fun z => by rw [z] at hk; cases hk
    rintro (e | ⟨e, -⟩) <;> omega
  refine R.mk f (fun b i z => ?_) (fun s hs => ?_) hTp (fun i h1 h2 => ?_) ((f.2 _ _ (n0 39 (by omega))).1.trans R.2.2.2.2.2.1) ?_ (by unfold aIm; rw [e2])
  · rcases z with e | ⟨e, -⟩ <;> omega
  · have := f.sh (s := s) (r := r) (v := aSh A s) (fun k hk => by
      rcases hk with rfl | rfl | rfl | rfl | rfl | rfl
      · exact n1 0 _ _ s rfl (by omega)
      · exact n1 1 _ _ s rfl (by omega)
      · exact n1 2 _ _ s rfl (by omega)
      · exact n1 5 _ _ s rfl (by omega)
      · exact n1 6 _ _ s rfl (by omega)
      · exact n1 22 _ _ s rfl (by omega)) (fun i => n2 3 _ _ _ s i rfl hs) (fun i => n2 7 _ _ _ s i rfl (by omega)) (R.2.2.1 s hs)
    unfold aSh at this ⊢
    rw [e0]
    exact this
  · have := (f.2 (r 10) i (n1 10 _ _ i rfl (by omega))).1.trans (R.2.2.2.2.1 i h1 h2)
    unfold aRf at this ⊢
    rw [e1]
    exact this
  · have : KpM M' a r (aNow A) := f.kp (fun i hi => n0 i (by omega)) (fun x i hx _ => n2 12 _ _ _ x i rfl hx) (n1 5 _ _ 8 rfl (by omega)) (n1 6 _ _ 8 rfl (by omega)) (fun i => n2 7 _ _ _ 8 i rfl (by omega)) R.2.2.2.2.2.2.1
    unfold aNow at this ⊢
    rw [e2]
    exact this
theorem MRel.setRf (R : MRel M a r ρ A) (f : FmG (SRf ρ) M M') {A' : Ab} (e0 : A'.1.1 = A.1.1) (e1 : A'.1.2.1 = A.1.2.1) (e2 : A'.2 = A.2) (hRf : ∀ i, 2 ≤ i → i ≤ 6 → mI M' (r 10) i = aRf A' i) : MRel M' a r ρ A' := by
  have h := R.1
  have t0 := h.1.2
  have n0 : ∀ i, ¬ SRf ρ a i := fun i z => by have : ρ a = 1010 := z; omega
  have n1 : ∀ k n ty i, m1 k = some (ty, n) → k ≠ 10 → ¬ SRf ρ (r k) i := fun k n ty i hk h8 z => by
    have t := tg1 h hk
    have : ρ (r k) = 1010 := z
    omega
  have n2 : ∀ k n K ty j i, m2 k = some (ty, n, K) → j < n → ¬ SRf ρ (r k + 1 + j) i := fun k n K ty j i hk hj z => by
    have t := tg2 h hk hj
    have h8 : k ≠ 10 := fun z => by rw [z] at hk; cases hk
    have : ρ (r k + 1 + j) = 1010 := z
    omega
  refine R.mk f (fun b i z => ?_) (fun s hs => ?_) ?_ hRf ((f.2 _ _ (n0 39)).1.trans R.2.2.2.2.2.1) ?_ (by unfold aIm; rw [e2])
  · have : ρ b = 1010 := z; omega
  · have := f.sh (s := s) (r := r) (v := aSh A s) (fun k hk => by
      rcases hk with rfl | rfl | rfl | rfl | rfl | rfl
      · exact n1 0 _ _ s rfl (by omega)
      · exact n1 1 _ _ s rfl (by omega)
      · exact n1 2 _ _ s rfl (by omega)
      · exact n1 5 _ _ s rfl (by omega)
      · exact n1 6 _ _ s rfl (by omega)
      · exact n1 22 _ _ s rfl (by omega)) (fun i => n2 3 _ _ _ s i rfl hs) (fun i => n2 7 _ _ _ s i rfl (by omega)) (R.2.2.1 s hs)
    unfold aSh at this ⊢
    rw [e0]
    exact this
  · have : TpM M' a r (aTp A) (aTz A) := f.tp (n0 9) (fun i => n1 8 _ _ i rfl (by omega)) R.2.2.2.1
    unfold aTp aTz at this ⊢
    rw [e1]
    exact this
  · have : KpM M' a r (aNow A) := f.kp (fun i hi => n0 i) (fun x i hx _ => n2 12 _ _ _ x i rfl hx) (n1 5 _ _ 8 rfl (by omega)) (n1 6 _ _ 8 rfl (by omega)) (fun i => n2 7 _ _ _ 8 i rfl (by omega)) R.2.2.2.2.2.2.1
    unfold aNow at this ⊢
    rw [e2]
    exact this
theorem MRel.setKp (R : MRel M a r ρ A) (f : FmG (fun b i => SKp ρ b i ∨ SRu r ρ b i) M M') {A' : Ab} (e1 : A'.1 = A.1) (e2 : aIm A' = aIm A) (hKp : KpM M' a r (aNow A')) : MRel M' a r ρ A' := by
  have h := R.1
  have t0 := h.1.2
  have n0 : ∀ i, (i = 9 ∨ i = 39) → ¬ (SKp ρ a i ∨ SRu r ρ a i) := fun i hi => by
    rintro ((((⟨k, hk, e⟩ | ⟨e, z⟩) | ⟨e, z⟩ | e)) | (⟨e, z⟩ | ⟨e, z⟩)) <;> omega
  have n1 : ∀ k n ty i, m1 k = some (ty, n) → k < 28 → k ≠ 4 → (k = 5 ∨ k = 6 → i < 8) → ¬ (SKp ρ (r k) i ∨ SRu r ρ (r k) i) := fun k n ty i hk h1 h2 h3 => by
    have t := tg1 h hk
    have h12 : k ≠ 12 := fun z => by rw [z] at hk; cases hk
    have h7 : k ≠ 7 := fun z => by rw [z] at hk; cases hk
    rintro ((((⟨k, hk, e⟩ | ⟨e, z⟩) | ⟨e, z⟩ | e)) | (⟨e, z⟩ | ⟨e, z⟩))
    · omega
    · omega
    · omega
    · omega
    · have := h3 (by omega); omega
    · omega
  refine R.mk f (fun b i z => ?_) (fun s hs => ?_) ?_ (fun i h1 h2 => ?_) ((f.2 _ _ (n0 39 (by omega))).1.trans R.2.2.2.2.2.1) hKp e2
  · rcases z with ((⟨k, hk, e⟩ | ⟨e, z⟩) | ⟨e, z⟩ | e) | (⟨e, z⟩ | ⟨e, z⟩) <;> omega
  · have := f.sh (s := s) (r := r) (v := aSh A s) (fun k hk => by
      rcases hk with rfl | rfl | rfl | rfl | rfl | rfl
      · exact n1 0 _ _ s rfl (by omega) (by omega) (fun _ => hs)
      · exact n1 1 _ _ s rfl (by omega) (by omega) (fun _ => hs)
      · exact n1 2 _ _ s rfl (by omega) (by omega) (fun _ => hs)
      · exact n1 5 _ _ s rfl (by omega) (by omega) (fun _ => hs)
      · exact n1 6 _ _ s rfl (by omega) (by omega) (fun _ => hs)
      · exact n1 22 _ _ s rfl (by omega) (by omega) (fun _ => hs)) (fun i => by
        have t := tg2 h (k := 3) rfl hs
        rintro ((((⟨k, hk, e⟩ | ⟨e, z⟩) | ⟨e, z⟩ | e)) | (⟨e, z⟩ | ⟨e, z⟩)) <;> omega) (fun i => by
        have t := tg2 h (k := 7) (j := s) rfl (by omega)
        rintro ((((⟨k, hk, e⟩ | ⟨e, z⟩) | ⟨e, z⟩ | e)) | (⟨e, z⟩ | ⟨e, z⟩)) <;> omega) (R.2.2.1 s hs)
    unfold aSh at this ⊢
    rw [e1]
    exact this
  · have : TpM M' a r (aTp A) (aTz A) := f.tp (n0 9 (by omega)) (fun i => n1 8 _ _ i rfl (by omega) (by omega) (by omega)) R.2.2.2.1
    unfold aTp aTz at this ⊢
    rw [e1]
    exact this
  · have := (f.2 (r 10) i (n1 10 _ _ i rfl (by omega) (by omega) (by omega))).1.trans (R.2.2.2.2.1 i h1 h2)
    unfold aRf at this ⊢
    rw [e1]
    exact this
/-- nothing that is kept has changed -/
theorem MRel.frw (R : MRel M a r ρ A) (f : FrW r ρ 1000 M M') : MRel M' a r ρ A := by
  have h := R.1
  have t0 := h.1.2
  have tn : ∀ j, j < 8 → ρ (r 12 + 1 + j) = 1012 := fun j hj => tg2 h (k := 12) rfl hj
  refine R.setKp (M' := M') ⟨f.1, fun b i z => f.2 b i (fun y => z (Or.inl (Or.inl y))) (fun y => z (Or.inr (Or.inl ⟨?_, by omega⟩))) (fun y => z (Or.inl (Or.inr (Or.inr ?_))))⟩ rfl rfl ?_
  · rcases y.1 with e | e
    · rw [e, tg1 h (k := 5) rfl]; exact Or.inl rfl
    · rw [e, tg1 h (k := 6) rfl]; exact Or.inr rfl
  · rw [y]; exact tn 6 (by omega)
  · have g : FmG (fun b i => Sc ρ 1000 b i ∨ ((b = r 5 ∨ b = r 6) ∧ i = 9) ∨ b = r 12 + 1 + 6) M M' := ⟨f.1, fun b i z => f.2 b i (fun y => z (Or.inl y)) (fun y => z (Or.inr (Or.inl y))) (fun y => z (Or.inr (Or.inr y)))⟩
    have t5 := tg1 h (k := 5) rfl
    have t6 := tg1 h (k := 6) rfl
    have noA : ∀ i, (i = 11 ∨ (13 ≤ i ∧ i ≤ 20)) → ¬ (Sc ρ 1000 a i ∨ ((a = r 5 ∨ a = r 6) ∧ i = 9) ∨ a = r 12 + 1 + 6) := fun i hi => by
      rintro ((⟨k, hk, e⟩ | ⟨e, z⟩) | ⟨e, z⟩ | e)
      · omega
      · omega
      · omega
      · have := tn 6 (by omega); rw [← e] at this; omega
    have noR : ∀ x i t, ρ x = 1000 + t → t < 28 → t ≠ 4 → x ≠ r 12 + 1 + 6 → ((x = r 5 ∨ x = r 6) → i ≠ 9) → ¬ (Sc ρ 1000 x i ∨ ((x = r 5 ∨ x = r 6) ∧ i = 9) ∨ x = r 12 + 1 + 6) := fun x i t ht h1 h2 h3 h4 => by
      rintro ((⟨k, hk, e⟩ | ⟨e, z⟩) | ⟨e, z⟩ | e)
      · omega
      · omega
      · exact h4 e z
      · exact h3 e
    refine g.kp noA (fun x i hx h6 => noR _ i 12 (tn x hx) (by omega) (by omega) (by omega) (fun z => ?_)) (noR _ 8 5 t5 (by omega) (by omega) (ne_tg t5 (tn 6 (by omega)) (by omega)) (fun _ => by omega)) (noR _ 8 6 t6 (by omega) (by omega) (ne_tg t6 (tn 6 (by omega)) (by omega)) (fun _ => by omega)) (fun i => noR _ i 7 (tg2 h (k := 7) rfl (by omega)) (by omega) (by omega) (ne_tg (tg2 h (k := 7) rfl (by omega)) (tn 6 (by omega)) (by omega)) (fun z => ?_)) R.2.2.2.2.2.2.1
    · exfalso
      rcases z with z | z
      · exact ne_tg (tn x hx) t5 (by omega) z
      · exact ne_tg (tn x hx) t6 (by omega) z
    · exfalso
      rcases z with z | z
      · exact ne_tg (tg2 h (k := 7) (j := 8) rfl (by omega)) t5 (by omega) z
      · exact ne_tg (tg2 h (k := 7) (j := 8) rfl (by omega)) t6 (by omega) z
/-- what an operation of the model may change -/
def Fmm (ρ : Nat → Nat) (M : gM) (ρ' : Nat → Nat) (M' : gM) : Prop := gl M' = gl M ∧ ∀ b, kd M b ≠ none → (kd M' b = kd M b ∧ ρ' b = ρ b) ∧ ∀ i, ¬ (1000 ≤ ρ b ∧ ρ b < 1200) → mI M' b i = mI M b i ∧ mJ M' b i = mJ M b i ∧ mR M' b i = mR M b i
theorem Fmm.rf {ρ : Nat → Nat} {M : gM} : Fmm ρ M ρ M := ⟨rfl, fun _ _ => ⟨⟨rfl, rfl⟩, fun _ _ => ⟨rfl, rfl, rfl⟩⟩⟩
theorem Fmm.tr {ρ ρ1 ρ2 : Nat → Nat} {M M1 M2 : gM} (h : Fmm ρ M ρ1 M1) (g : Fmm ρ1 M1 ρ2 M2) : Fmm ρ M ρ2 M2 := by
  refine ⟨g.1.trans h.1, fun b hb => ?_⟩
  obtain ⟨⟨a1, a2⟩, a3⟩ := h.2 b hb
  obtain ⟨⟨b1, b2⟩, b3⟩ := g.2 b (by rw [a1]; exact hb)
  refine ⟨⟨b1.trans a1, b2.trans a2⟩, fun i z => ?_⟩
  have c1 := a3 i z
  have c2 := b3 i (by rw [a2]; exact z)
  exact ⟨c2.1.trans c1.1, c2.2.1.trans c1.2.1, c2.2.2.trans c1.2.2⟩
theorem FmG.fmm (f : FmG S M M') (hS : ∀ b i, S b i → 1000 ≤ ρ b ∧ ρ b < 1200) : Fmm ρ M ρ M' := ⟨f.1.2.2, fun b _ => ⟨⟨by rw [f.1.1], rfl⟩, fun i z => ⟨(f.2 b i (fun y => z (hS b i y))).1, (f.2 b i (fun y => z (hS b i y))).2, by rw [f.1.2.1]⟩⟩⟩
theorem FrW.fmm (h : LayM M a r ρ 1000) (f : FrW r ρ 1000 M M') : Fmm ρ M ρ M' := FmG.fmm (S := fun b i => Sc ρ 1000 b i ∨ ((b = r 5 ∨ b = r 6) ∧ i = 9) ∨ b = r 12 + 1 + 6) ⟨f.1, fun b i z => f.2 b i (fun y => z (Or.inl y)) (fun y => z (Or.inr (Or.inl y))) (fun y => z (Or.inr (Or.inr y)))⟩ (fun b i z => by
  have t5 := tg1 h (k := 5) rfl
  have t6 := tg1 h (k := 6) rfl
  have t12 := tg2 h (k := 12) (j := 6) rfl (by omega)
  rcases z with ((⟨k, hk, e⟩ | ⟨e, z⟩) | ⟨e | e, z⟩ | e)
  · omega
  · omega
  · rw [e]; omega
  · rw [e]; omega
  · rw [e]; omega)
end MR
