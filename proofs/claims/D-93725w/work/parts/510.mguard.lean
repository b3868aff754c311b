/-! the model's operations: guards, refusals -/
set_option maxRecDepth 100000
/-- what an operation's end must meet -/
def Km {β : Type} (sp : β × Ab) (a : Nat) (ρ : Nat → Nat) (M : gM) (Q : β → gM → Prop) : Prop := ∀ M' r' ρ', MRel M' a r' ρ' sp.2 → Fmm ρ M ρ' M' → Q sp.1 M'
section MG
variable {M : gM} {a : Nat} {r ρ : Nat → Nat} {A : Ab}
theorem MRel.hs (R : MRel M a r ρ A) {h : Nat} (hh : h < aH A) : HsM M r h (aP A h) ∧ Wf (aP A h) ∧ h < 6 := ⟨(R.2.2.2.2.2.2.1.2.2.1 h hh).1, (R.2.2.2.2.2.2.1.2.2.1 h hh).2, Nat.lt_of_lt_of_le hh R.2.2.2.2.2.2.1.2.1⟩
theorem MRel.no (R : MRel M a r ρ A) {n : Nat} (hn : 2 ≤ n ∧ n ≤ 6) : MRel (sI M (r 10) n (mI M (r 10) n + 1)) a r ρ (aNo A n) := by
  have h := R.1
  refine R.setRf (FmG.sI (tg1 h (k := 10) rfl)) rfl rfl rfl (fun i h1 h2 => ?_)
  show _ = if i = n then aRf A i + 1 else aRf A i
  by_cases c : i = n
  · rw [if_pos c, c, mI_eq, R.2.2.2.2.1 n hn.1 hn.2]
  · rw [if_neg c, mI_ne (Or.inr c), R.2.2.2.2.1 i h1 h2]
theorem MRel.noF (R : MRel M a r ρ A) {n : Nat} {x : Int32} : Fmm ρ M ρ (sI M (r 10) n x) := FmG.fmm (S := SRf ρ) (FmG.sI (tg1 R.1 (k := 10) rfl)) (fun b i z => by have : ρ b = 1010 := z; omega)
theorem m_rj (R : MRel M a r ρ A) {n : Nat} {sp : Int32 × Ab} {Q : Int32 → gM → Prop} (hn : 2 ≤ n ∧ n ≤ 6) (e : sp = rj A n) (q : Km sp a ρ M Q) : F_X3_refuse M a (-(Int32.ofNat n)) Q := by
  rw [e] at q
  exact m_refuse (n := n) R.1 (by simp) (by omega) (q _ r ρ (R.no hn) R.noF)
theorem m_rjJ (R : MRel M a r ρ A) {n : Nat} {sp : Int64 × Ab} {Q : Int64 → gM → Prop} (hn : 2 ≤ n ∧ n ≤ 6) (e : sp = rjJ A n) (q : Km sp a ρ M Q) : F_X3_refuse M a (-(Int32.ofNat n)) (fun x N => Q x.toInt64 N) := by
  rw [e] at q
  exact m_refuse (n := n) R.1 (by simp) (by omega) (q _ r ρ (R.no hn) R.noF)
theorem m_bad (R : MRel M a r ρ A) {sp : Int32 × Ab} {Q : Int32 → gM → Prop} (e : sp = rj A 2) (q : Km sp a ρ M Q) : rc M 3 a ∧ F_X3_refuse M a (-2 : Int32) (fun x N => Q x N) := m_rc R.1 (m_rj (n := 2) R (by omega) e q)
theorem m_badJ (R : MRel M a r ρ A) {sp : Int64 × Ab} {Q : Int64 → gM → Prop} (e : sp = rjJ A 2) (q : Km sp a ρ M Q) : rc M 3 a ∧ F_X3_refuse M a (-2 : Int32) (fun x N => Q x.toInt64 N) := m_rc R.1 (m_rjJ (n := 2) R (by omega) e q)
/-- the end of what only reads -/
theorem m_end {β : Type} (R : MRel M a r ρ A) {sp : β × Ab} {v : β} {Q : β → gM → Prop} {M' : gM} (f : FrW r ρ 1000 M M') (e : sp = (v, A)) (q : Km sp a ρ M Q) : Q v M' := by
  rw [e] at q
  exact q M' r ρ (R.frw f) (f.fmm R.1)
theorem FrW.rf : FrW r ρ 1000 M M := Fr.rf.w
theorem m_inD {x : Int32} {n : Nat} {Q : Int32 → gM → Prop} (hn : n + 1 < 2147483648) (h1 : ∀ s, dec (n + 1) x = some s → Q 1 M) (h0 : dec (n + 1) x = none → Q 0 M) : F_X3_in M x.toInt64 (0 : Int64) (Int64.ofNat n) Q := m_in (l := 0) (by omega) (by omega) (fun s _ hs e => h1 s (by rw [e]; exact dec_of (by omega) (by omega))) (fun h => h0 (dec_no (fun s hs => h s (Nat.zero_le _) (by omega))))
theorem m_in1 {x : Int32} {n : Nat} {Q : Int32 → gM → Prop} (hn : n + 1 < 2147483648) (h1 : ∀ s, dec (n + 1) x = some s → 1 ≤ s → Q 1 M) (h0 : (∀ s, dec (n + 1) x = some s → s = 0) → Q 0 M) : F_X3_in M x.toInt64 (1 : Int64) (Int64.ofNat n) Q := m_in (l := 1) (by omega) (by omega) (fun s hl hs e => h1 s (by rw [e]; exact dec_of (by omega) (by omega)) hl) (fun h => h0 (fun s hs => by
  have := dec_some hs
  by_cases c : s = 0
  · exact c
  · exact absurd this.2.1 (h s (by omega) (by omega))))
theorem m_inL {x : Int32} {n : Nat} {Q : Int32 → gM → Prop} (hn : n < 2147483648) (h1 : ∀ s, dec n x = some s → Q 1 M) (h0 : dec n x = none → Q 0 M) : F_X3_in M x.toInt64 (0 : Int64) ((Int32.ofNat n - (1 : Int32)).toInt64) Q := m_inN hn (fun s hs e => h1 s (by rw [e]; exact dec_of hs (by omega))) (fun h => h0 (dec_no h))
theorem m_inT {x : Int32} {n : Nat} {Q : Int32 → gM → Prop} (hn : n + 1 < 2147483648) (h1 : ∀ s, dec (n + 1) x = some s → Q 1 M) (h0 : dec (n + 1) x = none → Q 0 M) : F_X3_in M x.toInt64 (0 : Int64) (Int32.ofNat n).toInt64 Q := by
  rw [i64_of (by omega)]
  exact m_inD hn h1 h0
theorem m_gH (R : MRel M a r ρ A) {x : Int32} {Q : Int32 → gM → Prop} (h1 : ∀ h, dec (aH A) x = some h → Q 1 M) (h0 : dec (aH A) x = none → Q 0 M) : F_X3_isHouse M a x Q := m_isHouse R.1 R.2.2.2.2.2.2.1.1 R.2.2.2.2.2.2.1.2.1 (fun s hs e => h1 s (by rw [e]; exact dec_of hs (Nat.lt_of_lt_of_le hs (Nat.le_trans R.2.2.2.2.2.2.1.2.1 (by omega))))) (fun h => h0 (dec_no h))
theorem gS_some {x1 x2 : Int32} {h s : Nat} (e : gS A x1 x2 = some (h, s)) : dec (aH A) x1 = some h ∧ dec (5 ^ aP A h 4) x2 = some s := by
  unfold gS at e
  cases e1 : dec (aH A) x1 with
  | none => rw [e1] at e; cases e
  | some h' =>
    rw [e1] at e
    simp only at e
    cases e2 : dec (5 ^ aP A h' 4) x2 with
    | none => rw [e2] at e; cases e
    | some s' => rw [e2] at e; cases e; exact ⟨rfl, e2⟩
theorem gL_some {l : Nat} {x1 x2 : Int32} {h d : Nat} (e : gL A l x1 x2 = some (h, d)) : dec (aH A) x1 = some h ∧ dec (aP A h 0 + 1) x2 = some d ∧ l ≤ d := by
  unfold gL at e
  cases e1 : dec (aH A) x1 with
  | none => rw [e1] at e; cases e
  | some h' =>
    rw [e1] at e
    simp only at e
    cases e2 : dec (aP A h' 0 + 1) x2 with
    | none => rw [e2] at e; cases e
    | some s' =>
      rw [e2] at e
      simp only at e
      split at e
      · cases e; exact ⟨rfl, e2, by assumption⟩
      · cases e
theorem gL_1 {l : Nat} {x1 x2 : Int32} {h d : Nat} (e : gL A 0 x1 x2 = some (h, d)) : gL A l x1 x2 = if l ≤ d then some (h, d) else none := by
  obtain ⟨e1, e2, -⟩ := gL_some e
  unfold gL
  rw [e1]
  simp only
  rw [e2]
theorem gL_0 {l : Nat} {x1 x2 : Int32} (e : gL A 0 x1 x2 = none) : gL A l x1 x2 = none := by
  unfold gL at e ⊢
  cases e1 : dec (aH A) x1 with
  | none => rfl
  | some h' =>
    rw [e1] at e
    simp only at e ⊢
    cases e2 : dec (aP A h' 0 + 1) x2 with
    | none => rfl
    | some s' => rw [e2] at e; simp only at e; rw [if_pos (Nat.zero_le _)] at e; cases e
theorem gLS_L {l : Nat} {x1 x2 x3 : Int32} (e : gL A l x1 x2 = none) : gLS A l x1 x2 x3 = none := by
  unfold gLS
  rw [e]
theorem gLS_S {l : Nat} {x1 x2 x3 : Int32} (e : gS A x1 x3 = none) : gLS A l x1 x2 x3 = none := by
  unfold gLS
  rw [e]
  cases gL A l x1 x2 <;> rfl
theorem gLS_ok {l : Nat} {x1 x2 x3 : Int32} {h d h' s : Nat} (e : gL A l x1 x2 = some (h, d)) (g : gS A x1 x3 = some (h', s)) : gLS A l x1 x2 x3 = some (h, d, s) ∧ h' = h := by
  unfold gLS
  rw [e, g]
  have h1 := (gL_some e).1
  have h2 := (gS_some g).1
  rw [h1] at h2
  cases h2
  exact ⟨rfl, rfl⟩
/-- all facts of a house and a state -/
theorem MRel.fS (R : MRel M a r ρ A) {x1 x2 : Int32} {h s : Nat} (e : gS A x1 x2 = some (h, s)) : x1 = Int32.ofNat h ∧ h < 6 ∧ x2 = Int32.ofNat s ∧ s < 5 ^ aP A h 4 ∧ s < 125 ∧ HsM M r h (aP A h) ∧ Wf (aP A h) := by
  obtain ⟨e1, e2⟩ := gS_some e
  have d1 := dec_some e1
  have d2 := dec_some e2
  obtain ⟨g1, g2, g3⟩ := R.hs d1.1
  have := p5_le g2.2.2.2.2.1.2
  exact ⟨d1.2.1, g3, d2.2.1, d2.1, by omega, g1, g2⟩
theorem MRel.fL (R : MRel M a r ρ A) {l : Nat} {x1 x2 : Int32} {h d : Nat} (e : gL A l x1 x2 = some (h, d)) : x1 = Int32.ofNat h ∧ h < 6 ∧ x2 = Int32.ofNat d ∧ d ≤ aP A h 0 ∧ aP A h 0 ≤ 6 ∧ l ≤ d ∧ HsM M r h (aP A h) ∧ Wf (aP A h) := by
  obtain ⟨e1, e2, e3⟩ := gL_some e
  have d1 := dec_some e1
  have d2 := dec_some e2
  obtain ⟨g1, g2, g3⟩ := R.hs d1.1
  exact ⟨d1.2.1, g3, d2.2.1, by omega, g2.1.2, e3, g1, g2⟩
theorem m_gS (R : MRel M a r ρ A) {x1 x2 : Int32} {Q : Int32 → gM → Prop} (h1 : ∀ h s, gS A x1 x2 = some (h, s) → Q 1 M) (h0 : gS A x1 x2 = none → Q 0 M) : F_X3_isState M a x1 x2 Q := by
  refine m_rc R.1 (m_gH R (fun h e => bF n10 ?_) (fun e => bT rfl (h0 (by unfold gS; rw [e]))))
  have d1 := dec_some e
  obtain ⟨g1, g2, g3⟩ := R.hs d1.1
  have h5 := p5_le g2.2.2.2.2.1.2
  rw [d1.2.1]
  refine m_rc R.1 (m_states R.1 (by omega) g1 g2.2.2.2.2.1.2 (m_inL (by omega) (fun s e2 => bF n10 (h1 h s ?_)) (fun e2 => bT rfl (h0 ?_))))
  · unfold gS
    rw [e]
    simp only
    rw [e2]
  · unfold gS
    rw [e]
    simp only
    rw [e2]
theorem m_gL (R : MRel M a r ρ A) {x1 x2 : Int32} {Q : Int32 → gM → Prop} (h1 : ∀ h d, gL A 0 x1 x2 = some (h, d) → Q 1 M) (h0 : gL A 0 x1 x2 = none → Q 0 M) : F_X3_isLeft M a x1 x2 Q := by
  refine m_rc R.1 (m_gH R (fun h e => bF n10 ?_) (fun e => bT rfl (h0 (by unfold gL; rw [e]))))
  have d1 := dec_some e
  obtain ⟨g1, g2, g3⟩ := R.hs d1.1
  have h6 := g2.1.2
  rw [d1.2.1]
  refine m_g2 R.1 rfl (m_aN R.1 rfl (by omega) (by omega) (m_bI (i := 0) R.1 rfl (by omega) (by omega) (by omega) ?_))
  rw [g1 0 (by omega)]
  refine m_inT (by omega) (fun s e2 => bF n10 (h1 h s ?_)) (fun e2 => bT rfl (h0 ?_))
  · unfold gL
    rw [e]
    simp only
    rw [e2]
    simp only
    rw [if_pos (Nat.zero_le _)]
  · unfold gL
    rw [e]
    simp only
    rw [e2]
theorem m_noRule (R : MRel M a r ρ A) {x : Int32} {s : Nat} {Q : Int32 → gM → Prop} (hs : dec 8 x = some s) (h1 : ∀ u n, gR_ A x = .inr u → aSh A s = some (.inr (u, n)) → Q 0 M) (h0 : ∀ e M', gR_ A x = .inl e → (e = 3 ∨ e = 4) → MRel M' a r ρ (aNo A e) → Fmm ρ M ρ M' → Q (-(Int32.ofNat e)) M') : F_X3_noRule M a x Q := by
  have d := dec_some hs
  have hsh := R.2.2.1 s d.1
  rw [d.2.1]
  refine m_g1 R.1 rfl (m_aI R.1 rfl d.1 (by omega) ?_)
  have e0 : gR_ A x = match aSh A s with | some (.inl _) => .inl 3 | none => .inl 4 | some (.inr (u, _)) => .inr u := by unfold gR_; rw [hs]; rfl
  cases ev : aSh A s with
  | none =>
    rw [ev] at hsh e0
    have hsh : mI M (r 0) s = 0 := hsh
    rw [hsh]
    refine bT' (by decide) (m_g1 R.1 rfl (m_aI R.1 rfl d.1 (by omega) ?_))
    rw [hsh]
    exact bF' rfl (m_rc R.1 (m_refuse (n := 4) R.1 (by decide) (by omega) (h0 4 _ e0 (Or.inr rfl) (R.no (by omega)) R.noF)))
  | some v => cases v with
    | inl v =>
      rw [ev] at hsh e0
      obtain ⟨so, n, f⟩ := v
      have hsh : mI M (r 0) s = 1 := hsh.1
      rw [hsh]
      exact bF' rfl (m_rc R.1 (m_refuse (n := 3) R.1 (by decide) (by omega) (h0 3 _ e0 (Or.inl rfl) (R.no (by omega)) R.noF)))
    | inr v =>
      rw [ev] at hsh e0
      obtain ⟨u, n⟩ := v
      have hsh : mI M (r 0) s = 2 := hsh.1
      rw [hsh]
      refine bT' (by decide) (m_g1 R.1 rfl (m_aI R.1 rfl d.1 (by omega) ?_))
      rw [hsh]
      exact bT' (by decide) (h1 u n e0 ev)
end MG
