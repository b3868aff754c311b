/-! the best number of a rule -/
set_option maxRecDepth 100000
/-- more than scratch: place 9 of the rules, slot 6 of the houses -/
def FrW (r ρ : Nat → Nat) (o : Nat) (M M' : gM) : Prop := (kd M' = kd M ∧ mR M' = mR M ∧ gl M' = gl M) ∧ ∀ b i, ¬ Sc ρ o b i → ¬ ((b = r 5 ∨ b = r 6) ∧ i = 9) → b ≠ r 12 + 1 + 6 → mI M' b i = mI M b i ∧ mJ M' b i = mJ M b i
theorem Fr.w {r ρ : Nat → Nat} {o : Nat} {M M' : gM} (f : Fr ρ o M M') : FrW r ρ o M M' := ⟨f.1, fun b i z _ _ => f.2 b i z⟩
theorem FrW.tr {r ρ : Nat → Nat} {o : Nat} {M M' M2 : gM} (h : FrW r ρ o M M') (g : FrW r ρ o M' M2) : FrW r ρ o M M2 := ⟨⟨g.1.1.trans h.1.1, g.1.2.1.trans h.1.2.1, g.1.2.2.trans h.1.2.2⟩, fun b i z1 z2 z3 => ⟨(g.2 b i z1 z2 z3).1.trans (h.2 b i z1 z2 z3).1, (g.2 b i z1 z2 z3).2.trans (h.2 b i z1 z2 z3).2⟩⟩
theorem FrW.w9 {r ρ : Nat → Nat} {o b : Nat} {M M' : gM} {x : Int32} (h : FrW r ρ o M M') (hb : b = r 5 ∨ b = r 6) : FrW r ρ o M (sI M' b 9 x) := h.tr ⟨⟨rfl, rfl, rfl⟩, fun c j _ z _ => ⟨mI_ne (by
  by_cases e : c = b
  · right
    intro e2
    exact z ⟨by rw [e]; exact hb, e2⟩
  · exact Or.inl e), rfl⟩⟩
theorem FrW.w6 {r ρ : Nat → Nat} {o i : Nat} {M M' : gM} {x : Int32} (h : FrW r ρ o M M') : FrW r ρ o M (sI M' (r 12 + 1 + 6) i x) := h.tr ⟨⟨rfl, rfl, rfl⟩, fun c j _ _ z => ⟨mI_ne (Or.inl z), rfl⟩⟩
section FRW
variable {M M' : gM} {a o o' : Nat} {r ρ : Nat → Nat}
theorem FrW.lay (f : FrW r ρ o M M') (h : LayM M a r ρ o') : LayM M' a r ρ o' := by
  unfold LayM at h ⊢
  rw [f.1.1, f.1.2.1]
  exact h
theorem FrW.hs (f : FrW r ρ o M M') (h : LayM M a r ρ o) {x : Nat} {P : Nat → Nat} (hx : x < 8) (h6 : x ≠ 6) (hP : HsM M r x P) : HsM M' r x P := fun i hi => (f.2 _ _ (by
  rintro (⟨k, hk, e⟩ | ⟨e, -⟩)
  · rw [tg2 h (k := 12) rfl hx] at e
    omega
  · rw [tg2 h (k := 12) rfl hx] at e
    omega) (fun z => z.1.elim (ne_tg (tg2 h (k := 12) rfl hx) (tg1 h (k := 5) rfl) (by omega)) (ne_tg (tg2 h (k := 12) rfl hx) (tg1 h (k := 6) rfl) (by omega))) (by omega)).1.trans (hP i hi)
end FRW
/-- the cost of the whole by a rule with one number -/
noncomputable def vN (P : Nat → Nat) (k c : Nat) : Int64 := MT P (k, c, fun _ => false) (P 0) 0
noncomputable def lsN (P : Nat → Nat) (k f : Nat) : Nat → Nat × Int64
  | 0 => (f, vN P k f)
  | n + 1 => if vN P k (f + n + 1) < (lsN P k f n).2 then (f + n + 1, vN P k (f + n + 1)) else lsN P k f n
theorem lsN_min (P : Nat → Nat) (k f : Nat) : ∀ n j, j ≤ n → (lsN P k f n).2 ≤ vN P k (f + j) := by
  intro n
  induction n with
  | zero => intro j hj; rw [show j = 0 by omega]; exact Int64.le_refl _
  | succ n ih =>
    intro j hj
    unfold lsN
    by_cases c : vN P k (f + n + 1) < (lsN P k f n).2
    · rw [if_pos c]
      by_cases e : j = n + 1
      · rw [e]; exact Int64.le_refl _
      · exact Int64.le_trans (Int64.le_of_lt c) (ih j (by omega))
    · rw [if_neg c]
      by_cases e : j = n + 1
      · rw [e]; exact Int64.not_lt.mp c
      · exact ih j (by omega)
theorem lsN_le (P : Nat → Nat) (k f : Nat) : ∀ n, (lsN P k f n).1 ≤ f + n := by
  intro n
  induction n with
  | zero => exact Nat.le_refl _
  | succ n ih =>
    unfold lsN
    by_cases c : vN P k (f + n + 1) < (lsN P k f n).2
    · rw [if_pos c]; exact Nat.le_refl _
    · rw [if_neg c]; omega
theorem ldF_congr {P : Nat → Nat} {u u' : Ru} {d s : Nat} (h : u.1 ≠ 4) (h' : u'.1 ≠ 4) (g : flls P u d s ↔ flls P u' d s) : ldF P u d s = ldF P u' d s := by
  by_cases c : flls P u d s
  · rw [ldF_y h c, ldF_y h' (g.mp c)]
  · rw [ldF_n h c, ldF_n h' (fun z => c (g.mpr z))]
theorem MT_congr {P : Nat → Nat} (hP : Wf P) {u u' : Ru} (h : ∀ d s, s < 5 ^ P 4 → ldF P u d s = ldF P u' d s) : ∀ d s, s < 5 ^ P 4 → MT P u d s = MT P u' d s := by
  have hk := hP.2.2.2.2.1
  have h5 := p5_le hk.2
  intro d
  induction d with
  | zero => intro s _; rfl
  | succ d ih =>
    intro s hs
    have hle := ldF_le hP (u := u) (d := d + 1) (s := s) (by omega)
    show _ * bh P (d + 1) s (MT P u d) + _ * (if ldF P u (d + 1) s = 0 then bh P (d + 1) s (MT P u d) else _ + bh P (d + 1) (s - ldF P u (d + 1) s) (MT P u d)) = _ * bh P (d + 1) s (MT P u' d) + _ * (if ldF P u' (d + 1) s = 0 then bh P (d + 1) s (MT P u' d) else _ + bh P (d + 1) (s - ldF P u' (d + 1) s) (MT P u' d))
    rw [← h (d + 1) s hs, bh_congr hk.2 hs ih, bh_congr hk.2 (s := s - ldF P u (d + 1) s) (by omega) ih]
/-- a number that no state's room is by one less changes nothing -/
theorem vN_same {P : Nat → Nat} (hP : Wf P) {c : Nat} (h : ∀ s, s < 5 ^ P 4 → sm P 0 s ≠ c) : vN P 1 (c + 1) = vN P 1 c := by
  refine MT_congr hP (fun d s hs => ldF_congr (by show (1 : Nat) ≠ 4; omega) (by show (1 : Nat) ≠ 4; omega) ?_) _ _ (Nat.pos_of_ne_zero (fun z => by rw [Nat.pow_eq_zero] at z; omega))
  have := h s hs
  show c + 1 ≤ sm P 0 s ↔ c ≤ sm P 0 s
  omega
theorem lsN_skip {P : Nat → Nat} (hP : Wf P) {f n : Nat} (h : ∀ s, s < 5 ^ P 4 → sm P 0 s ≠ f + n) : lsN P 1 f (n + 1) = lsN P 1 f n := by
  have h1 := lsN_min P 1 f n n (Nat.le_refl _)
  have h2 : vN P 1 (f + n + 1) = vN P 1 (f + n) := vN_same hP h
  exact if_neg (by rw [h2]; exact Int64.not_lt.mpr h1)
section MLEAST
variable {M : gM} {a o : Nat} {r ρ P : Nat → Nat}
theorem m_hasRoom (h : LayM M a r ρ o) {x c : Nat} {Q : Int32 → gM → Prop} (hx : x < 8) (hP : HsM M r x P) (hw : Wf P) (hW : Wy M r P) (hc : c < 2147483648) (h1 : Q 1 M) (h0 : (∀ s, s < 5 ^ P 4 → sm P 0 s ≠ c) → Q 0 M) : F_X3_hasRoom M a (Int32.ofNat x) (Int32.ofNat c) Q := by
  have hk := hw.2.2.2.2.1
  have h5 := p5_le hk.2
  refine loopV (fun g s N => F_X3_hasRoom_b2 Q a (Int32.ofNat x) (Int32.ofNat c) g s N) (fun s => Int32.ofNat s) (fun i N => N = M ∧ ∀ s, s < i → sm P 0 s ≠ c) (5 ^ P 4) (fun i hi g N hN k => ?_) (fun g N hN => ?_) M ⟨rfl, fun s hs => absurd hs (Nat.not_lt_zero _)⟩
  · obtain ⟨hM, hN⟩ := hN
    subst hM
    have hm := sm0_lt hw i
    refine m_rc h (m_states h hx hP hk.2 (leF hi (by omega) (m_g1 h rfl (m_aI h rfl (by omega) (by omega) ?_))))
    rw [(hW.1 i hi).2.1]
    refine eqS' (by omega) hc (fun z => ?_) (fun z => h1)
    rw [i32_lit 1, i32_add]
    refine k N ⟨rfl, fun s hs => ?_⟩
    by_cases e : s = i
    · rw [e]; exact z
    · exact hN s (by omega)
  · obtain ⟨hM, hN⟩ := hN
    subst hM
    exact m_rc h (m_states h hx hP hk.2 (leT (Nat.le_refl _) (by omega) (h0 hN)))
/-- the loop's state behind so many numbers -/
noncomputable def lsV (P : Nat → Nat) (k f : Nat) : Nat → Int32 × Int64 × Int32
  | 0 => (-1, 0, Int32.ofNat f)
  | n + 1 => (Int32.ofNat (lsN P k f n).1, (lsN P k f n).2, Int32.ofNat (f + n + 1))
theorem m_leastOf (h : LayM M a r ρ o) {x k f n : Nat} {Q : Int32 → gM → Prop} (hx : x < 8) (hx6 : x ≠ 6) (hP : HsM M r x P) (hw : Wf P) (hk : (k = 1 ∧ f = 0 ∧ n = 99) ∨ (k = 2 ∧ f = 1 ∧ n = 5)) (q : ∀ M', FrW r ρ o M M' → Q (Int32.ofNat (lsN P k f n).1) M') : F_X3_leastOf M a (Int32.ofNat x) (Int32.ofNat k) (Int32.ofNat f) (Int32.ofNat (f + n)) Q := by
  have hk3 := hw.2.2.2.2.1
  have hd0 := hw.1
  have h5 := p5_le hk3.2
  refine m_rc h (m_findWays h hx hP hw (fun N f0 wy => ?_))
  refine loopV (fun g s N => F_X3_leastOf_b14 Q a (Int32.ofNat x) (Int32.ofNat k) (Int32.ofNat f) (Int32.ofNat (f + n)) g s.1 s.2.1 s.2.2 N) (lsV P k f) (fun i N => FrW r ρ o M N ∧ Wy N r P) (n + 1) (fun i hi g N hN kk => ?_) (fun g N hN => ?_) N ⟨f0.w, wy⟩
  · obtain ⟨fw, wy⟩ := hN
    have hN := fw.lay h
    have hPN := fw.hs h hx hx6 hP
    have tg5 : ρ (r 5) = o + 5 := tg1 hN (k := 5) rfl
    have tg6 : ρ (r 6) = o + 6 := tg1 hN (k := 6) rfl
    -- one number that is tried
    have try1 : F_X3_leastOf_b44 Q (F_X3_leastOf_b14 Q a (Int32.ofNat x) (Int32.ofNat k) (Int32.ofNat f) (Int32.ofNat (f + n)) g) a (Int32.ofNat x) (Int32.ofNat k) (Int32.ofNat f) (Int32.ofNat (f + n)) (lsV P k f i).1 (lsV P k f i).2.1 (Int32.ofNat (f + i)) N := by
      have fw1 := fw.w9 (x := Int32.ofNat k) (Or.inl rfl)
      have fw2 := fw1.w9 (x := Int32.ofNat (f + i)) (Or.inr rfl)
      have hN1 := fw1.lay h
      have hN2 := fw2.lay h
      have n56 : r 5 ≠ r 6 := ne_tg tg5 tg6 (by omega)
      have hu : RuM (sI (sI N (r 5) 9 (Int32.ofNat k)) (r 6) 9 (Int32.ofNat (f + i))) r 9 (k, f + i, fun _ => false) := ⟨(mI_ne (Or.inl n56)).trans mI_eq, fun _ => mI_eq, fun z => by
        have : k = 5 := z
        omega⟩
      have hwu : WfR (k, f + i, fun _ => false) := ⟨⟨by show 1 ≤ k; omega, by show k ≤ 5; omega⟩, fun z => by have : k = 1 := z; show f + i ≤ 99; omega, fun z => by have : k = 2 := z; show 1 ≤ f + i ∧ f + i ≤ 6; omega, fun z => by have : k = 3 := z; omega⟩
      refine m_g1 hN rfl (m_uI (i := 9) hN rfl (by omega) (by omega) (m_g1 hN1 rfl (m_uI (i := 9) hN1 rfl (by omega) (by omega) (m_rc hN2 (m_goesByRule (n := 9) (u := (k, f + i, fun _ => false)) hN2 hx (fw2.hs h hx hx6 hP) hw (by omega) hu hwu ((wy.wI hN hk3.2 tg5 (by omega)).wI hN1 hk3.2 tg6 (by omega)) (fun z => by have : k = 4 := z; omega) (fun N3 f3 wy3 _ mt => ?_))))))
      have fw3 := fw2.tr f3.w
      have hN3 := fw3.lay h
      refine m_g2 hN3 rfl (m_g2 hN3 rfl (m_aN hN3 rfl hx (by omega) (m_bI (i := 0) hN3 rfl hx (by omega) (by omega) ?_)))
      rw [fw3.hs h hx hx6 hP 0 (by omega)]
      refine m_aN hN3 rfl (by omega) (by omega) (m_bJ (i := 0) hN3 rfl (by omega) (by omega) (by omega) ?_)
      rw [mt (P 0) (by omega) 0 (Nat.pos_of_ne_zero (fun z => by rw [Nat.pow_eq_zero] at z; omega))]
      have go := kk N3 ⟨fw3, wy3⟩
      cases i with
      | zero =>
        refine bT rfl ?_
        unfold F_X3_leastOf_b99 F_X3_leastOf_b107
        rw [i32_lit 1, i32_add]
        exact go
      | succ i =>
        have hle := lsN_le P k f i
        refine bF (oI_ne (by omega)) ⟨fun c => ?_, fun c => ?_⟩
        · have e : lsN P k f (i + 1) = lsN P k f i := if_neg (Int64.not_lt.mpr c)
          unfold F_X3_leastOf_b107
          rw [i32_lit 1, i32_add]
          have e2 : lsV P k f (i + 1 + 1) = (Int32.ofNat (lsN P k f i).1, (lsN P k f i).2, Int32.ofNat (f + (i + 1) + 1)) := by
            show (Int32.ofNat (lsN P k f (i + 1)).1, _, _) = _
            rw [e]
          rw [e2] at go
          exact go
        · have e : lsN P k f (i + 1) = (f + i + 1, vN P k (f + i + 1)) := if_pos (Int64.not_le.mp c)
          unfold F_X3_leastOf_b99 F_X3_leastOf_b107
          rw [i32_lit 1, i32_add]
          have e2 : lsV P k f (i + 1 + 1) = (Int32.ofNat (f + (i + 1)), vN P k (f + i + 1), Int32.ofNat (f + (i + 1) + 1)) := by
            show (Int32.ofNat (lsN P k f (i + 1)).1, _, _) = _
            rw [e]
            rfl
          rw [e2] at go
          exact go
    have e0 : (lsV P k f i).2.2 = Int32.ofNat (f + i) := by cases i <;> rfl
    show F_X3_leastOf_b14 Q a (Int32.ofNat x) (Int32.ofNat k) (Int32.ofNat f) (Int32.ofNat (f + n)) (g + 1) (lsV P k f i).1 (lsV P k f i).2.1 (lsV P k f i).2.2 N
    rw [e0]
    refine ltF (by omega) (by omega) ⟨fun _ => try1, fun c2 => ?_⟩
    rw [i32_lit 2, i32_eq (by omega) (by omega)] at c2
    refine eqS (by omega) (by omega) (fun _ => try1) (fun c => m_rc hN ?_)
    rw [i32_lit 1, i32_sub (by omega)]
    refine m_hasRoom hN hx hPN hw wy (by omega) (bF n10 try1) (fun hno => bT rfl ?_)
    obtain ⟨i, rfl⟩ : ∃ z, i = z + 1 := ⟨i - 1, by omega⟩
    have hk1 : k = 1 := by omega
    subst hk1
    have e : lsN P 1 f (i + 1) = lsN P 1 f i := lsN_skip hw (fun s hs => by have := hno s hs; omega)
    have go := kk N ⟨fw, wy⟩
    unfold F_X3_leastOf_b107
    rw [i32_lit 1, i32_add]
    have e2 : lsV P 1 f (i + 1 + 1) = (Int32.ofNat (lsN P 1 f i).1, (lsN P 1 f i).2, Int32.ofNat (f + (i + 1) + 1)) := by
      show (Int32.ofNat (lsN P 1 f (i + 1)).1, _, _) = _
      rw [e]
    rw [e2] at go
    exact go
  · show F_X3_leastOf_b14 Q a (Int32.ofNat x) (Int32.ofNat k) (Int32.ofNat f) (Int32.ofNat (f + n)) (g + 1) (Int32.ofNat (lsN P k f n).1) (lsN P k f n).2 (Int32.ofNat (f + n + 1)) N
    exact ltT (by omega) (by omega) (q N hN.1)
end MLEAST
