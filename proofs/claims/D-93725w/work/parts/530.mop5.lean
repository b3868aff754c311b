/-! the model's operations: costs -/
set_option maxRecDepth 100000
section MOP5
variable {M : gM} {a : Nat} {r ρ : Nat → Nat} {A : Ab}
theorem MRel.mu (R : MRel M a r ρ A) : mI M a 39 = (-1 : Int32) := R.2.2.2.2.2.1
/-- the guards of days and a state: the costs are found -/
theorem m_cost (R : MRel M a r ρ A) {x1 x2 x3 : Int32} {Q : Int64 → gM → Prop} (q : Km (spCost A x1 x2 x3) a ρ M Q) : F_X3_cost M a x1 x2 x3 Q := by
  have h := R.1
  refine m_rc h (m_gL R (fun x d e => bF n10 ?_) (fun e => bT rfl (m_badJ R (by unfold spCost; rw [gLS_L e]) q)))
  refine m_rc h (m_gS R (fun x' s e' => bT' n10 ?_) (fun e' => bF' rfl (m_badJ R (by unfold spCost; rw [gLS_S e']) q)))
  obtain ⟨es, rfl⟩ := gLS_ok e e'
  obtain ⟨f1, f2, f3, f4, f5, f6, f7, f8⟩ := R.fL e
  obtain ⟨-, -, g3, g4, g5, -, -⟩ := R.fS e'
  rw [f1, f3, g3]
  refine m_rc h (m_findBest (mu := fun _ => false) h (by omega) f7 f8 (mu0 R.mu) (fun N f wy wb => ?_))
  have hN := f.lay h
  refine m_g2 hN rfl (m_aN hN rfl (by omega) (by omega) (m_bJ hN rfl (by omega) (by omega) (by omega) ?_))
  rw [(wb d (by omega) s g4).1]
  exact m_end R f.w (by unfold spCost; rw [es]; rfl) q
theorem m_best (R : MRel M a r ρ A) {x1 x2 x3 : Int32} {Q : Int32 → gM → Prop} (q : Km (spBest A x1 x2 x3) a ρ M Q) : F_X3_best M a x1 x2 x3 Q := by
  have h := R.1
  refine m_rc h (m_gL R (fun x d e => bF n10 ?_) (fun e => bT rfl (m_bad R (by unfold spBest; rw [gLS_L (gL_0 e)]) q)))
  obtain ⟨f1, f2, f3, f4, f5, f6, f7, f8⟩ := R.fL e
  rw [f3]
  refine eqS (b := 0) (by omega) (by omega) (fun c => m_bad R (by unfold spBest; rw [gLS_L (by rw [gL_1 e, if_neg (by omega)])]) q) (fun c => ?_)
  refine m_rc h (m_gS R (fun x' s e' => bT' n10 ?_) (fun e' => bF' rfl (m_bad R (by unfold spBest; rw [gLS_S e']) q)))
  have e2 : gL A 1 x1 x2 = some (x, d) := by rw [gL_1 e, if_pos (by omega)]
  obtain ⟨es, rfl⟩ := gLS_ok e2 e'
  obtain ⟨-, -, g3, g4, g5, -, -⟩ := R.fS e'
  rw [f1, g3]
  refine m_rc h (m_findBest (mu := fun _ => false) h (by omega) f7 f8 (mu0 R.mu) (fun N f wy wb => ?_))
  have hN := f.lay h
  refine m_g2 hN rfl (m_aN hN rfl (by omega) (by omega) (m_bI hN rfl (by omega) (by omega) (by omega) ?_))
  rw [(wb d (by omega) s g4).2]
  exact m_end R f.w (by unfold spBest; rw [es]; rfl) q
/-- a rule that is in a shelf -/
theorem MRel.fR (R : MRel M a r ρ A) {s n : Nat} {u : Ru} (hs : s < 8) (e : aSh A s = some (.inr (u, n))) : RuM M r s u ∧ WfR u := by
  have := R.2.2.1 s hs
  rw [e] at this
  exact ⟨this.2.1, this.2.2.1⟩
theorem m_load (R : MRel M a r ρ A) {x1 x2 x3 x4 : Int32} {Q : Int32 → gM → Prop} (q : Km (spLoad A x1 x2 x3 x4) a ρ M Q) : F_X3_load M a x1 x2 x3 x4 Q := by
  have h := R.1
  refine m_rc h (m_gL R (fun x d e => bF n10 ?_) (fun e => bT rfl (m_bad R (by unfold spLoad; rw [gLS_L (gL_0 e)]) q)))
  obtain ⟨f1, f2, f3, f4, f5, f6, f7, f8⟩ := R.fL e
  rw [f3]
  refine eqS (b := 0) (by omega) (by omega) (fun c => m_bad R (by unfold spLoad; rw [gLS_L (by rw [gL_1 e, if_neg (by omega)])]) q) (fun c => ?_)
  refine m_rc h (m_gS R (fun x' s e' => bF n10 ?_) (fun e' => bT rfl (m_bad R (by unfold spLoad; rw [gLS_S e']) q)))
  have e2 : gL A 1 x1 x2 = some (x, d) := by rw [gL_1 e, if_pos (by omega)]
  obtain ⟨es, rfl⟩ := gLS_ok e2 e'
  obtain ⟨-, -, g3, g4, g5, -, -⟩ := R.fS e'
  have sp : spLoad A x1 x2 x3 x4 = match gR_ A x4 with | .inl e => rj A e | .inr u => (Int32.ofNat (ldF (aP A x') u d s), A) := by unfold spLoad; rw [es]; rfl
  refine m_inD (n := 7) (by omega) (fun t e4 => bT' n10 ?_) (fun e4 => bF' rfl (m_bad R (by rw [sp]; unfold gR_; rw [e4]) q))
  have d4 := dec_some e4
  refine m_rc h (m_noRule R e4 (fun u n eu ev => bT rfl ?_) (fun er N eu hr R' F' => bF (by rcases hr with rfl | rfl <;> decide) ?_))
  · obtain ⟨hu, hwu⟩ := R.fR d4.1 ev
    rw [f1, g3, d4.2.1]
    refine m_rc h (m_findBest (mu := fun _ => false) h (by omega) f7 f8 (mu0 R.mu) (fun N f wy wb => ?_))
    have hN := f.lay h
    refine m_rc hN (m_loadBy hN (by omega) (f.hs h (by omega) f7) f8 (by omega) (f.ru h (by omega) hu) hwu wb (by omega) g4 (fun l hl => ?_))
    rw [ldB_F hl]
    exact m_end R f.w (by rw [sp, eu]) q
  · rw [sp, eu] at q
    exact q N r ρ R' F'
theorem m_findByRule (R : MRel M a r ρ A) {x t n : Nat} {u : Ru} {Q : gM → Prop} (hx : x < aH A) (ht : t < 8) (ev : aSh A t = some (.inr (u, n))) (q : ∀ M', Fr ρ 1000 M M' → Bst M' r (aP A x) (fun _ => false) (aP A x 0 + 1) → MtT M' r (aP A x) u (aP A x 0 + 1) → Q M') : F_X3_findByRule M a (Int32.ofNat x) (Int32.ofNat t) Q := by
  have h := R.1
  obtain ⟨f7, f8, f2⟩ := R.hs hx
  obtain ⟨hu, hwu⟩ := R.fR ht ev
  refine m_rc h (m_findBest (mu := fun _ => false) h (by omega) f7 f8 (mu0 R.mu) (fun N f wy wb => ?_))
  have hN := f.lay h
  exact m_rc hN (m_goesByRule hN (by omega) (f.hs h (by omega) f7) f8 (by omega) (f.ru h (by omega) hu) hwu wy (fun _ => wb) (fun N2 f2 wy2 wb2 mt => q N2 (f.tr f2) (wb2 _ wb) mt))
theorem m_byShelf (R : MRel M a r ρ A) {x1 x2 x3 x4 : Int32} {b : Bool} {sp : Int64 × Ab} {Q : Int64 → gM → Prop} (esp : sp = if b then spLose A x1 x2 x3 x4 else spMean A x1 x2 x3 x4) (q : Km sp a ρ M Q) : F_X3_byShelf M a x1 x2 x3 x4 (if b then 1 else 0) Q := by
  have h := R.1
  have bad : gLS A 0 x1 x2 x3 = none → sp = rjJ A 2 := fun e => by
    rw [esp]; unfold spLose spMean; rw [e]; cases b <;> rfl
  refine m_rc h (m_gL R (fun x d e => bF n10 ?_) (fun e => bT rfl (m_badJ R (bad (gLS_L e)) q)))
  refine m_rc h (m_gS R (fun x' s e' => bF n10 ?_) (fun e' => bT rfl (m_badJ R (bad (gLS_S e')) q)))
  obtain ⟨es, rfl⟩ := gLS_ok e e'
  obtain ⟨f1, f2, f3, f4, f5, f6, f7, f8⟩ := R.fL e
  obtain ⟨-, -, g3, g4, g5, -, -⟩ := R.fS e'
  have sp1 : sp = match gR_ A x4 with | .inl e => rjJ A e | .inr u => (MT (aP A x') u d s - (if b then CT (aP A x') nm d s else 0), A) := by
    rw [esp]
    unfold spLose spMean
    rw [es]
    cases gR_ A x4 with
    | inl e => cases b <;> rfl
    | inr u =>
      cases b
      · show (MT (aP A x') u d s, A) = (MT (aP A x') u d s - 0, A)
        have : MT (aP A x') u d s - 0 = MT (aP A x') u d s := by grind -lia
        rw [this]
      · rfl
  refine m_inD (n := 7) (by omega) (fun t e4 => bT' n10 ?_) (fun e4 => bF' rfl (m_badJ R (by rw [sp1]; unfold gR_; rw [e4]) q))
  have d4 := dec_some e4
  refine m_rc h (m_noRule R e4 (fun u n eu ev => bT rfl ?_) (fun er N eu hr R' F' => bF (by rcases hr with rfl | rfl <;> decide) ?_))
  · rw [eu] at sp1
    rw [f1, f3, g3, d4.2.1]
    refine m_rc h (m_findByRule R (dec_some (gL_some e).1).1 d4.1 ev (fun N f wb mt => ?_))
    have hN := f.lay h
    refine m_g2 hN rfl (m_aN hN rfl (by omega) (by omega) (m_bJ hN rfl (by omega) (by omega) (by omega) ?_))
    rw [mt d (by omega) s g4]
    cases b
    · exact bT rfl (m_end R f.w sp1 q)
    · refine bF (by decide) (m_g2 hN rfl (m_aN hN rfl (by omega) (by omega) (m_bJ hN rfl (by omega) (by omega) (by omega) ?_)))
      rw [(wb d (by omega) s g4).1]
      exact m_end R f.w sp1 q
  · rw [sp1, eu] at q
    exact q N r ρ R' F'
theorem m_mean (R : MRel M a r ρ A) {x1 x2 x3 x4 : Int32} {Q : Int64 → gM → Prop} (q : Km (spMean A x1 x2 x3 x4) a ρ M Q) : F_X3_mean M a x1 x2 x3 x4 Q := m_rc R.1 (m_byShelf (b := false) R rfl q)
theorem m_lose (R : MRel M a r ρ A) {x1 x2 x3 x4 : Int32} {Q : Int64 → gM → Prop} (q : Km (spLose A x1 x2 x3 x4) a ρ M Q) : F_X3_lose M a x1 x2 x3 x4 Q := m_rc R.1 (m_byShelf (b := true) R rfl q)
/-- the loop's state of boy -/
def boyV (v : Option (Nat × Int64)) : Int32 × Int64 := match v with
  | none => (-1, 0)
  | some (s, m) => (Int32.ofNat s, m)
theorem boyN_lt (A : Ab) (P : Nat → Nat) : ∀ n s m, boyN A P n = some (s, m) → s < n := by
  intro n
  induction n with
  | zero => intro s m h; cases h
  | succ n ih =>
    intro s m h
    unfold boyN at h
    split at h
    · split at h
      · cases h; omega
      · rename_i e
        split at h
        · cases h; omega
        · cases h
          have := ih _ _ e
          omega
    · have := ih _ _ h; omega
theorem m_boy (R : MRel M a r ρ A) {x1 : Int32} {Q : Int32 → gM → Prop} (q : Km (spBoy A x1) a ρ M Q) : F_X3_boy M a x1 Q := by
  have h := R.1
  refine m_rc h (m_gH R (fun x e1 => bT' n10 ?_) (fun e1 => bF' rfl (m_bad R (by unfold spBoy; rw [e1]) q)))
  have d1 := dec_some e1
  obtain ⟨f7, f8, f2⟩ := R.hs d1.1
  have f5 := f8.1.2
  rw [d1.2.1]
  refine loopV (fun g v N => F_X3_boy_b22 Q a (Int32.ofNat x) g v.1.1 v.1.2 v.2 N) (fun i => (boyV (boyN A (aP A x) i), Int32.ofNat i)) (fun i N => FrW r ρ 1000 M N ∧ MRel N a r ρ A) 8 (fun i hi g N hI k => ?_) (fun g N hI => ?_) M ⟨FrW.rf, R⟩
  · obtain ⟨fN, RN⟩ := hI
    have hN := RN.1
    have hsh := RN.2.2.1 i hi
    -- no rule there
    have no : boyN A (aP A x) (i + 1) = boyN A (aP A x) i → ∀ N', FrW r ρ 1000 M N' → MRel N' a r ρ A → F_X3_boy_b82 Q (F_X3_boy_b22 Q a (Int32.ofNat x) g) a (Int32.ofNat x) (boyV (boyN A (aP A x) i)).1 (boyV (boyN A (aP A x) i)).2 (Int32.ofNat i) N' := fun e N' f' R' => by
      unfold F_X3_boy_b82
      rw [i32_lit 1, i32_add, ← e]
      exact k N' ⟨f', R'⟩
    show F_X3_boy_b22 Q a (Int32.ofNat x) (g + 1) (boyV (boyN A (aP A x) i)).1 (boyV (boyN A (aP A x) i)).2 (Int32.ofNat i) N
    refine leF (a := 8) hi (by omega) (m_g1 hN rfl (m_aI hN rfl hi (by omega) ?_))
    cases ev : aSh A i with
    | none =>
      rw [ev] at hsh
      have hsh : mI N (r 0) i = 0 := hsh
      rw [hsh]
      exact bT' (by decide) (no (by show (match aSh A i with | some (.inr (u, _)) => _ | _ => boyN A (aP A x) i) = _; rw [ev]) N fN RN)
    | some w => cases w with
      | inl w =>
        rw [ev] at hsh
        have hsh : mI N (r 0) i = 1 := hsh.1
        rw [hsh]
        exact bT' (by decide) (no (by show (match aSh A i with | some (.inr (u, _)) => _ | _ => boyN A (aP A x) i) = _; rw [ev]) N fN RN)
      | inr w =>
        obtain ⟨u, n⟩ := w
        rw [ev] at hsh
        have hsh : mI N (r 0) i = 2 := hsh.1
        rw [hsh]
        refine bF' rfl (m_rc hN (m_findByRule RN d1.1 hi ev (fun N2 f2 wb mt => ?_)))
        have hN2 := f2.lay hN
        have fN2 := fN.tr f2.w
        have RN2 := RN.frw f2.w
        refine m_g2 hN2 rfl (m_g2 hN2 rfl (m_aN hN2 rfl (by omega) (by omega) (m_bI (i := 0) hN2 rfl (by omega) (by omega) (by omega) ?_)))
        rw [(RN2.hs d1.1).1 0 (by omega)]
        refine m_aN hN2 rfl (by omega) (by omega) (m_bJ (i := 0) hN2 rfl (by omega) (by omega) (by omega) ?_)
        rw [mt (aP A x 0) (by omega) 0 (p5_pos _)]
        have yes : boyN A (aP A x) (i + 1) = some (i, MT (aP A x) u (aP A x 0) 0) → F_X3_boy_b76 Q (F_X3_boy_b22 Q a (Int32.ofNat x) g) a (Int32.ofNat x) (Int32.ofNat i) (MT (aP A x) u (aP A x 0) 0) N2 := fun e => by
          unfold F_X3_boy_b76 F_X3_boy_b82
          have k9 := k N2 ⟨fN2, RN2⟩
          rw [e] at k9
          rw [i32_lit 1, i32_add]
          exact k9
        have eb : boyN A (aP A x) (i + 1) = match boyN A (aP A x) i with | none => some (i, MT (aP A x) u (aP A x 0) 0) | some (b, m) => if MT (aP A x) u (aP A x 0) 0 < m then some (i, MT (aP A x) u (aP A x 0) 0) else some (b, m) := by
          show (match aSh A i with | some (.inr (u, _)) => (match boyN A (aP A x) i with | none => some (i, MT (aP A x) u (aP A x 0) 0) | some (b, m) => if MT (aP A x) u (aP A x 0) 0 < m then some (i, MT (aP A x) u (aP A x 0) 0) else some (b, m)) | _ => boyN A (aP A x) i) = _
          rw [ev]
        cases eo : boyN A (aP A x) i with
        | none => exact bT rfl (yes (by rw [eb, eo]))
        | some z =>
          obtain ⟨b, m⟩ := z
          have hb := boyN_lt _ _ _ _ _ eo
          refine bF (oI_ne (by omega)) ⟨fun c => ?_, fun c => yes (by rw [eb, eo]; exact if_pos (Int64.not_le.mp c))⟩
          have := no (by rw [eb, eo]; exact if_neg (Int64.not_lt.mpr c)) N2 fN2 RN2
          rw [eo] at this
          exact this
  · obtain ⟨fN, RN⟩ := hI
    show F_X3_boy_b22 Q a (Int32.ofNat x) (g + 1) (boyV (boyN A (aP A x) 8)).1 (boyV (boyN A (aP A x) 8)).2 (Int32.ofNat 8) N
    refine leT (a := 8) (Nat.le_refl _) (by omega) ?_
    cases eo : boyN A (aP A x) 8 with
    | none =>
      have es : spBoy A x1 = rj A 5 := by unfold spBoy; rw [e1]; simp only; rw [eo]
      rw [es] at q
      exact bF' rfl (m_rc RN.1 (m_rj (n := 5) RN (by omega) rfl (fun M' r' ρ' R' F' => q M' r' ρ' R' ((fN.fmm h).tr F'))))
    | some z =>
      obtain ⟨b, m⟩ := z
      have hb := boyN_lt _ _ _ _ _ eo
      exact bT' (oI_ne (by omega)) (m_end R fN (by unfold spBoy; rw [e1]; simp only; rw [eo]; rfl) q)
theorem m_waits (R : MRel M a r ρ A) {x1 x2 x3 : Int32} {Q : Int64 → gM → Prop} (q : Km (spWaits A x1 x2 x3) a ρ M Q) : F_X3_waits M a x1 x2 x3 Q := by
  have h := R.1
  refine m_rc h (m_gL R (fun x d e => bF n10 ?_) (fun e => bT rfl (m_badJ R (by unfold spWaits; rw [gLS_L (gL_0 e)]) q)))
  obtain ⟨f1, f2, f3, f4, f5, f6, f7, f8⟩ := R.fL e
  rw [f3]
  refine eqS (b := 0) (by omega) (by omega) (fun c => m_badJ R (by unfold spWaits; rw [gLS_L (by rw [gL_1 e, if_neg (by omega)])]) q) (fun c => ?_)
  refine m_rc h (m_gS R (fun x' s e' => bT' n10 ?_) (fun e' => bF' rfl (m_badJ R (by unfold spWaits; rw [gLS_S e']) q)))
  have e2 : gL A 1 x1 x2 = some (x, d) := by rw [gL_1 e, if_pos (by omega)]
  obtain ⟨es, rfl⟩ := gLS_ok e2 e'
  obtain ⟨-, -, g3, g4, g5, -, -⟩ := R.fS e'
  rw [f1, g3]
  refine m_rc h (m_findBest (mu := fun _ => false) h (by omega) f7 f8 (mu0 R.mu) (fun N f wy wb => ?_))
  have hN := f.lay h
  rw [i32_lit 1, i32_sub (by omega)]
  refine m_g2 hN rfl (m_aN hN rfl (by omega) (by omega) (m_rc hN (m_behind hN (by omega) (f.hs h (by omega) f7) f8 wy ⟨by omega, by omega⟩ g4 ((hN.2.2 28 _ _ _ rfl).2 (d - 1) (by omega)).2.1 (m_g2 hN rfl (m_aN hN rfl (by omega) (by omega) (m_bJ hN rfl (by omega) (by omega) (by omega) ?_))))))
  rw [(wb d (by omega) s g4).1, bh_congr f8.2.2.2.2.1.2 g4 (fun t ht => (wb (d - 1) (by omega) t ht).1)]
  exact m_end R f.w (by unfold spWaits; rw [es]; rfl) q
theorem m_once (R : MRel M a r ρ A) {x1 x2 x3 : Int32} {Q : Int64 → gM → Prop} (q : Km (spOnce A x1 x2 x3) a ρ M Q) : F_X3_once M a x1 x2 x3 Q := by
  have h := R.1
  refine m_rc h (m_gL R (fun x d e => bF n10 ?_) (fun e => bT rfl (m_badJ R (by unfold spOnce; rw [gLS_L (gL_0 e)]) q)))
  obtain ⟨f1, f2, f3, f4, f5, f6, f7, f8⟩ := R.fL e
  rw [f3]
  refine eqS (b := 0) (by omega) (by omega) (fun c => m_badJ R (by unfold spOnce; rw [gLS_L (by rw [gL_1 e, if_neg (by omega)])]) q) (fun c => ?_)
  refine m_rc h (m_gS R (fun x' s e' => bT' n10 ?_) (fun e' => bF' rfl (m_badJ R (by unfold spOnce; rw [gLS_S e']) q)))
  have e2 : gL A 1 x1 x2 = some (x, d) := by rw [gL_1 e, if_pos (by omega)]
  obtain ⟨es, rfl⟩ := gLS_ok e2 e'
  obtain ⟨-, -, g3, g4, g5, -, -⟩ := R.fS e'
  rw [f1, g3]
  refine m_rc h (m_findBest (mu := fun _ => false) h (by omega) f7 f8 (mu0 R.mu) (fun N f wy wb => ?_))
  have hN := f.lay h
  have hPN := f.hs h (by omega) f7
  have hfl := fl_le f8 g5
  rw [i32_lit 1, i32_sub (by omega)]
  refine m_rc hN (m_fillOf hN (by omega) hPN f8 (by omega) (m_g2 hN rfl (m_aN hN rfl (by omega) (by omega) (m_rc hN (m_withLoad hN (by omega) hPN f8 wy ⟨by omega, by omega⟩ g4 hfl ((hN.2.2 28 _ _ _ rfl).2 (d - 1) (by omega)).2.1 (m_g2 hN rfl (m_aN hN rfl (by omega) (by omega) (m_bJ hN rfl (by omega) (by omega) (by omega) ?_))))))))
  have ew : wlF (aP A x') d s (fl (aP A x') s) (mJ N (r 28 + 1 + (d - 1))) = wlF (aP A x') d s (fl (aP A x') s) (CT (aP A x') nm (d - 1)) := by
    unfold wlF
    rw [bh_congr f8.2.2.2.2.1.2 g4 (fun t ht => (wb (d - 1) (by omega) t ht).1), bh_congr (s := s - fl (aP A x') s) f8.2.2.2.2.1.2 (by omega) (fun t ht => (wb (d - 1) (by omega) t ht).1)]
    rfl
  rw [(wb d (by omega) s g4).1, ew]
  exact m_end R f.w (by unfold spOnce; rw [es]; rfl) q
theorem m_dear (R : MRel M a r ρ A) {x1 x2 x3 x4 : Int32} {Q : Int64 → gM → Prop} (q : Km (spDear A x1 x2 x3 x4) a ρ M Q) : F_X3_dear M a x1 x2 x3 x4 Q := by
  have h := R.1
  refine m_rc h (m_gL R (fun x d e => bF n10 ?_) (fun e => bT rfl (m_badJ R (by unfold spDear; rw [gLS_L e]) q)))
  refine m_rc h (m_gS R (fun x' s e' => bF n10 ?_) (fun e' => bT rfl (m_badJ R (by unfold spDear; rw [gLS_S e']) q)))
  obtain ⟨es, rfl⟩ := gLS_ok e e'
  obtain ⟨f1, f2, f3, f4, f5, f6, f7, f8⟩ := R.fL e
  obtain ⟨-, -, g3, g4, g5, -, -⟩ := R.fS e'
  have hk := f8.2.2.2.2.1
  rw [f1, f3, g3]
  refine m_rc h (m_sorts h (by omega) f7 (m_inL (by omega) (fun i e3 => bF n10 ?_) (fun e3 => bT rfl (m_badJ R (by unfold spDear; rw [es]; simp only; rw [e3]) q))))
  have d3 := dec_some e3
  have hdg := dg_le s i
  rw [d3.2.1]
  refine m_ofState (by omega) (by omega) (eqS' (b := 4) (by omega) (by omega) (fun c => ?_) (fun c => m_badJ R (by unfold spDear; rw [es]; simp only; rw [e3]; simp only; rw [if_pos c]) q))
  have h5 := p5_le hk.2
  have ha := add5 _ (by omega) i (by omega) s (by omega) ⟨d3.1, g4, c⟩
  refine m_rc h (m_findBest (mu := fun _ => false) h (by omega) f7 f8 (mu0 R.mu) (fun N f wy wb => ?_))
  have hN := f.lay h
  refine m_g2 hN rfl (m_aN hN rfl (by omega) (by omega) (m_power (b := 5) (by omega) ?_))
  rw [i32_add]
  refine m_bJ hN rfl (by omega) (by omega) (by omega) (m_g2 hN rfl (m_aN hN rfl (by omega) (by omega) (m_bJ hN rfl (by omega) (by omega) (by omega) ?_)))
  rw [(wb d (by omega) s g4).1, (wb d (by omega) (s + 5 ^ i) ha).1]
  exact m_end R f.w (by unfold spDear; rw [es]; simp only; rw [e3]; simp only; rw [if_neg c]; rfl) q
end MOP5
