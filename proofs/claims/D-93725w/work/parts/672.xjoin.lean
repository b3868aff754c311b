/-! the class's houses: copied, joined -/
set_option maxRecDepth 100000
def cpP (P : Nat → Nat) (j : Nat) : Nat → Nat := fun i => if i = 4 then j else P i
def jnj (P P' : Nat → Nat) (j : Nat) : Nat → Nat := fun i => if i = 4 then P 4 + j else if i < 5 + 5 * P 4 then P i else P' (i - 5 * P 4)
theorem cpP_all (P : Nat → Nat) : cpP P (P 4) = P := by
  funext i
  unfold cpP
  by_cases e : i = 4
  · rw [if_pos e, e]
  · rw [if_neg e]
section XJOIN
variable {M N : gM} {a b : Nat} {r ρ ρN P : Nat → Nat}
theorem Fx.hs0 {S : Nat → Nat → Prop} (f : Fx S ρ M ρN N) (hS : ∀ k i, k < 64 → ¬ S (Tg a k) i) (h : HsX M ρ a r P) : HsX N ρN a r P := f.hs (fun i _ => hS 63 i (by omega)) (fun w i hw => hS (5 + w) i (by omega)) h
theorem S0.no {t i : Nat} : ¬ S0 t i := fun z => z
/-- a copy that is new -/
def CpX (M : gM) (ρ : Nat → Nat) (N : gM) (ρN : Nat → Nat) (b : Nat) (rb P : Nat → Nat) : Prop := Fx S0 ρ M ρN N ∧ HsX N ρN b rb P ∧ NoC N b ∧ kd M b = none ∧ ∀ w, w < 5 → kd M (rb w) = none
theorem CpX.hx (h : CpX M ρ N ρN b r P) (hw : Wf P) : HX N ρN b P := ⟨⟨r, h.2.1⟩, h.2.2.1.ca, hw⟩
theorem CpX.step {N' : gM} {rb P' : Nat → Nat} (h : CpX M ρ N ρN b rb P) (f : FmG (SHn b rb) N N') (hs : HsX N' ρN b rb P') (hk : ∀ k, 10 ≤ k → mI N' b k = mI N b k) : CpX M ρ N' ρN b rb P' := by
  obtain ⟨h1, h2, h3, h4, h5⟩ := h
  refine ⟨h1.fresh f (fun c i z => ?_), hs, ⟨fun k g1 g2 => by rw [f.1.2.1]; exact h3.1 k g1 g2, (hk 12 (by omega)).trans h3.2⟩, h4, h5⟩
  rcases z with ⟨e, -⟩ | ⟨w, hw, e⟩
  · rw [e]; exact h4
  · rw [e]; exact h5 w hw
theorem CpX.setI {rb : Nat → Nat} {k v : Nat} (h : CpX M ρ N ρN b rb P) (hk : k < 4) : CpX M ρ (sI N b k (Int32.ofNat v)) ρN b rb (upP P k v) := by
  obtain ⟨m1, m2⟩ := r_ne h.2.1
  refine h.step (FmG.sI (Or.inl ⟨rfl, by omega⟩)) ⟨h.2.1.1, fun i hi => ?_, fun w hw => ⟨(h.2.1.2.2 w hw).1, (h.2.1.2.2 w hw).2.1, fun i hi => ?_⟩⟩ (fun j hj => mI_ne (Or.inr (by omega)))
  · by_cases e : i = k
    · rw [e, mI_eq, up_eq]
    · rw [mI_ne (Or.inr e), up_ne e]; exact h.2.1.2.1 i hi
  · rw [up_ne (by omega : (4 : Nat) ≠ k)] at hi
    rw [mI_ne (Or.inl (m1 w hw)), up_ne (by omega)]
    exact (h.2.1.2.2 w hw).2.2 i hi
theorem CpX.congr {rb P' : Nat → Nat} (h : CpX M ρ N ρN b rb P) (e : ∀ i, i < 5 + 5 * P 4 → P' i = P i) : CpX M ρ N ρN b rb P' := by
  obtain ⟨h1, ⟨g1, g2, g3⟩, h3⟩ := h
  have e4 : P' 4 = P 4 := e 4 (by omega)
  exact ⟨h1, ⟨g1, fun i hi => by rw [e i (by omega)]; exact g2 i hi, fun w hw => ⟨(g3 w hw).1, (g3 w hw).2.1, fun i hi => by rw [e4] at hi; rw [e _ (by omega)]; exact (g3 w hw).2.2 i hi⟩⟩, h3⟩
theorem x_copied (hs : HsX M ρ a r P) (hw : Wf P) {Lc Ls : Nat} {Q : Nat → gM → Prop} (hL : 6 ≤ Lc ∧ 32 ≤ Ls) (q : ∀ N ρN b rb, CpX M ρ N ρN b rb P → Q b N) : F_X12_copied Lc Ls M a Q := by
  have hk := hw.2.2.2.2.1
  refine ⟨by omega, fun b hq => ⟨5, 15, by omega, ?_⟩⟩
  have f2 : Fx S0 ρ M (upT ρ b (Tg b 63)) (sN M b (.inl 12)) := Fx.sN hq
  refine x_hinit f2 hq ⟨if_pos rfl, upT_eq _ _ _⟩ ⟨fun i => if_pos rfl, fun i => if_pos rfl⟩ (by omega) (fun N ρN rb f h0 nc fr _ => ?_)
  have C0 : CpX M ρ N ρN b rb P0 := ⟨f, h0, nc, hq, fr⟩
  have ha : ∀ {N' : gM} {P' : Nat → Nat}, CpX M ρ N' ρN b rb P' → HsX N' ρN a r P := fun z => z.1.hs0 (fun k i _ => S0.no) hs
  have C1 := C0.setI (k := 0) (v := P 0) (by omega)
  have C2 := C1.setI (k := 1) (v := P 1) (by omega)
  have C3 := C2.setI (k := 2) (v := P 2) (by omega)
  have C4 := C3.setI (k := 3) (v := P 3) (by omega)
  have C5 : CpX M ρ (sI (sI (sI (sI N b 0 (Int32.ofNat (P 0))) b 1 (Int32.ofNat (P 1))) b 2 (Int32.ofNat (P 2))) b 3 (Int32.ofNat (P 3))) ρN b rb (cpP P 0) := C4.congr (fun i hi => by
    have e4 : upP (upP (upP (upP P0 0 (P 0)) 1 (P 1)) 2 (P 2)) 3 (P 3) 4 = 0 := rfl
    rw [e4] at hi
    rcases (by omega : i = 0 ∨ i = 1 ∨ i = 2 ∨ i = 3 ∨ i = 4) with rfl | rfl | rfl | rfl | rfl <;> rfl)
  refine x_gI (ha C0) (by omega) ⟨C0.2.1.1.1, x_gI (ha C1) (by omega) ⟨C1.2.1.1.1, x_gI (ha C2) (by omega) ⟨C2.2.1.1.1, x_gI (ha C3) (by omega) ⟨C3.2.1.1.1, ?_⟩⟩⟩⟩
  have hab : b ≠ a := fun e => by rw [e, hs.1.1] at hq; cases hq
  generalize 0 + 1 + 5 = xx
  generalize 0 + 17 + 15 = yy
  refine loopV (fun g v N => F_X12_copied_b42 Q Lc Ls a b g v xx yy N) (fun i => Int32.ofNat i) (fun i N' => CpX M ρ N' ρN b rb (cpP P i)) (P 4) (fun i hi g N' hI k => ?_) (fun g N' hI => ?_) _ C5
  · refine x_gI (ha hI) (by omega) (leF hi (by omega) (rc_i hI.2.1.1.1 (x_takes (Pn := cpP P (i + 1)) hI.2.1 (ha hI) hab (by show i < 3; omega) hk.2 hi rfl (fun j hj => ?_) (fun j w hj hw => ?_) (fun w hw => ?_) (fun N2 f2 h2 kk => ?_))))
    · unfold cpP; rw [if_neg (by omega), if_neg (by omega)]
    · unfold cpP; rw [if_neg (by omega), if_neg (by omega)]
    · show (if 5 + 5 * i + w = 4 then _ else P (5 + 5 * i + w)) = _
      rw [if_neg (by omega)]
    · rw [i32_lit 1, i32_add]
      exact k N2 (hI.step f2 h2 kk)
  · refine x_gI (ha hI) (by omega) (leT (Nat.le_refl _) (by omega) ?_)
    rw [cpP_all] at hI
    exact q N' ρN b rb hI
theorem x_joined {c : Nat} {rc' P' : Nat → Nat} (hs : HsX M ρ a r P) (hw : Wf P) (hs' : HsX M ρ c rc' P') (hw' : Wf P') (hk : P 4 + P' 4 ≤ 3) {Lc Ls : Nat} {Q : Nat → gM → Prop} (hL : 6 ≤ Lc ∧ 32 ≤ Ls) (q : ∀ N ρN b rb, CpX M ρ N ρN b rb (jn P P') → Q b N) : F_X12_joined Lc Ls M a c Q := by
  have hk1 := hw.2.2.2.2.1
  have hk2 := hw'.2.2.2.2.1
  refine ⟨6, 32, by omega, x_rc hs (x_copied hs hw (by omega) (fun N ρN b rb C0 => ?_))⟩
  have ha : ∀ {N' : gM} {P'' : Nat → Nat}, CpX M ρ N' ρN b rb P'' → HsX N' ρN c rc' P' := fun z => z.1.hs0 (fun k i _ => S0.no) hs'
  have hab : b ≠ c := fun e => by have := C0.2.2.2.1; rw [e, hs'.1.1] at this; cases this
  have C1 : CpX M ρ N ρN b rb (jnj P P' 0) := C0.congr (fun i hi => by
    unfold jnj
    by_cases e : i = 4
    · rw [if_pos e, e]; rfl
    · rw [if_neg e, if_pos hi])
  generalize 0 + 6 = xx
  generalize 0 + 32 = yy
  refine loopV (fun g v N => F_X12_joined_b7 Q Lc Ls c b g v xx yy N) (fun i => Int32.ofNat i) (fun i N' => CpX M ρ N' ρN b rb (jnj P P' i)) (P' 4) (fun i hi g N' hI k => ?_) (fun g N' hI => ?_) _ C1
  · have e4 : jnj P P' i 4 = P 4 + i := rfl
    refine x_gI (ha hI) (by omega) (leF hi (by omega) (rc_i hI.2.1.1.1 (x_takes (Pn := jnj P P' (i + 1)) hI.2.1 (ha hI) hab (by rw [e4]; omega) hk2.2 hi rfl (fun j hj => ?_) (fun j w hj hw => ?_) (fun w hw => ?_) (fun N2 f2 h2 kk => ?_))))
    · unfold jnj; rw [if_neg (show ¬ j = 4 by omega), if_neg (show ¬ j = 4 by omega)]
    · unfold jnj; rw [if_neg (show ¬ 5 + 5 * j + w = 4 by omega), if_neg (show ¬ 5 + 5 * j + w = 4 by omega)]
    · rw [e4]
      unfold jnj
      rw [if_neg (by omega), if_neg (by omega), show 5 + 5 * (P 4 + i) + w - 5 * P 4 = 5 + 5 * i + w by omega]
    · rw [i32_lit 1, i32_add]
      exact k N2 (hI.step f2 h2 kk)
  · refine x_gI (ha hI) (by omega) (leT (Nat.le_refl _) (by omega) ?_)
    have e : jnj P P' (P' 4) = jn P P' := rfl
    rw [e] at hI
    exact q N' ρN b rb hI
end XJOIN
