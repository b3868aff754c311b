/-! a day of a house -/
set_option maxRecDepth 100000
def dw1 (sd : Int32) : Int32 := (sd * (1103515245 : Int32)) + (12345 : Int32)
def dwv (sd : Int32) : Int32 := (sd.toUInt32 >>> ((16 : Int32).toUInt32 &&& Int32.toUInt32 31)).toInt32 - (sd.toUInt32 >>> ((16 : Int32).toUInt32 &&& Int32.toUInt32 31)).toInt32 / (4 : Int32) * (4 : Int32)
/-- seed, coins, what stands, refused; behind the coming of the first sorts -/
def dyN (P : Nat → Nat) (sd c : Int32) (w : Nat) : Nat → Int32 × Int32 × Nat × Int32
  | 0 => (sd, c, w, 0)
  | k + 1 => if Int32.ofNat (P (6 + 5 * k)) ≤ dwv (dw1 (dyN P sd c w k).1) then (dw1 (dyN P sd c w k).1, (dyN P sd c w k).2.1, (dyN P sd c w k).2.2.1, (dyN P sd c w k).2.2.2)
    else if dg (dyN P sd c w k).2.2.1 k = 4 then (dw1 (dyN P sd c w k).1, (dyN P sd c w k).2.1 + Int32.ofNat (P (8 + 5 * k)), (dyN P sd c w k).2.2.1, (dyN P sd c w k).2.2.2 + 1)
    else (dw1 (dyN P sd c w k).1, (dyN P sd c w k).2.1, (dyN P sd c w k).2.2.1 + 5 ^ k, (dyN P sd c w k).2.2.2)
theorem add5 : ∀ K, K < 4 → ∀ k, k < 3 → ∀ w, w < 125 → (k < K ∧ w < 5 ^ K ∧ dg w k ≠ 4) → w + 5 ^ k < 5 ^ K := by decide +kernel
theorem dyN_lt {P : Nat → Nat} {sd c : Int32} {w : Nat} (hk : P 4 ≤ 3) (hw : w < 5 ^ P 4) : ∀ k, k ≤ P 4 → (dyN P sd c w k).2.2.1 < 5 ^ P 4 := by
  have h5 := p5_le hk
  intro k
  induction k with
  | zero => intro _; exact hw
  | succ k ih =>
    intro hk1
    have := ih (by omega)
    unfold dyN
    split
    · exact this
    · split
      · exact this
      · rename_i c2
        exact add5 _ (by omega) k (by omega) _ (by omega) ⟨by omega, this, c2⟩
noncomputable def dyL (P : Nat → Nat) (u : Ru) (d s : Nat) (sd : Int32) : Nat := if Int32.ofNat (P 3) ≤ dwv (dw1 sd) then ldF P u d s else 0
def dyC (P : Nat → Nat) (s l : Nat) : Int32 := (if l = 0 then (0 : Int32) else Int32.ofNat (P 1)) + Int32.ofNat (sm P 2 (s - l))
noncomputable def dyR (P : Nat → Nat) (u : Ru) (d s : Nat) (sd : Int32) : Int32 × Int32 × Nat × Int32 := dyN P (dw1 sd) (dyC P s (dyL P u d s sd)) (s - dyL P u d s sd) (P 4)
/-- its coins -/
noncomputable def dayC (P : Nat → Nat) (u : Ru) (d s : Nat) (sd : Int32) : Int32 := if d = 1 then (dyR P u d s sd).2.1 + Int32.ofNat (sm P 4 (dyR P u d s sd).2.2.1) else (dyR P u d s sd).2.1
noncomputable def dayB (P : Nat → Nat) (u : Ru) (d s : Nat) (sd : Int32) : Int32 := if dyL P u d s sd = 0 then 0 else 1
def pcs (l : Nat) : Nat := dg l 0 + dg l 1 + dg l 2
theorem dyL_le {P : Nat → Nat} (hP : Wf P) {u : Ru} {d s : Nat} {sd : Int32} (hs : s < 125) : dyL P u d s sd ≤ s := by
  unfold dyL
  split
  · exact ldF_le hP hs
  · exact Nat.zero_le _
theorem dyR_lt {P : Nat → Nat} (hP : Wf P) {u : Ru} {d s : Nat} {sd : Int32} (hs : s < 5 ^ P 4) : (dyR P u d s sd).2.2.1 < 5 ^ P 4 := dyN_lt hP.2.2.2.2.1.2 (by omega) _ (Nat.le_refl _)
def dsN (l : Nat) : Nat → Nat
  | 0 => 0
  | k + 1 => dsN l k + dg l k
theorem ds_pcs : ∀ K, K < 4 → ∀ l, l < 125 → l < 5 ^ K → dsN l K = pcs l := by decide +kernel
theorem ds_le (l : Nat) : ∀ k, dsN l k ≤ 4 * k := by
  intro k
  induction k with
  | zero => exact Nat.le_refl _
  | succ k ih => have := dg_le l k; show dsN l k + dg l k ≤ _; omega
section MDAY
variable {M : gM} {a o : Nat} {r ρ P : Nat → Nat}
theorem m_draw (h : LayM M a r ρ o) {Q : Int32 → gM → Prop} (q : Q (dwv (dw1 (mI M a 13))) (sI M a 13 (dw1 (mI M a 13)))) : F_X3_draw M a Q := by
  refine m_gI h (m_pI h (m_gI (h.sI _ _ _) ?_))
  rw [mI_eq]
  exact q
theorem Fr.s13 {N : gM} {v w : Int32} (h : LayM M a r ρ o) (f : Fr ρ o (sI M a 13 v) N) : Fr ρ o (sI M a 13 w) (sI N a 13 w) := by
  refine ⟨f.1, fun b i z => ⟨?_, (f.2 b i z).2⟩⟩
  by_cases c : b = a ∧ i = 13
  · rw [c.1, c.2, mI_eq, mI_eq]
  · have c' : b ≠ a ∨ i ≠ 13 := by
      by_cases e : b = a
      · exact Or.inr (fun z => c ⟨e, z⟩)
      · exact Or.inl e
    rw [mI_ne c', mI_ne c', (f.2 b i z).1, mI_ne c']
theorem HsM.s13 (h : LayM M a r ρ o) {x k : Nat} {v : Int32} (hx : x < 8) (hP : HsM M r x P) : HsM (sI M a k v) r x P := fun i hi => (mI_ne (Or.inl (ne_tg (tg2 h (k := 12) rfl hx) h.1.2 (by omega)))).trans (hP i hi)
theorem RuM.s13 (h : LayM M a r ρ o) {n k : Nat} {u : Ru} {v : Int32} (hn : n < 10) (hu : RuM M r n u) : RuM (sI M a k v) r n u := ⟨(mI_ne (Or.inl (ne_tg (tg1 h (k := 5) rfl) h.1.2 (by omega)))).trans hu.1, fun z => (mI_ne (Or.inl (ne_tg (tg1 h (k := 6) rfl) h.1.2 (by omega)))).trans (hu.2.1 z), fun z i hi => (mI_ne (Or.inl (ne_tg (tg2 h (k := 7) rfl hn) h.1.2 (by omega)))).trans (hu.2.2 z i hi)⟩
theorem Fr.e13 {N : gM} {v : Int32} (h : LayM M a r ρ o) (f : Fr ρ o (sI M a 13 v) N) : mI N a 13 = v := ((f.2 a 13 (by
  rintro (⟨k, hk, e⟩ | ⟨e, z⟩)
  · rw [h.1.2] at e; omega
  · omega)).1).trans mI_eq
theorem m_day (h : LayM M a r ρ o) {x n d s : Nat} {u : Ru} {sd : Int32} {Q : Int32 → gM → Prop} (hx : x < 8) (hP : HsM M r x P) (hw : Wf P) (hn : n < 10) (hu : RuM M r n u) (hwu : WfR u) (hb : Bst M r P (fun _ => false) (P 0 + 1)) (hd : 1 ≤ d ∧ d ≤ P 0) (hs : s < 5 ^ P 4) (hsd : mI M a 13 = sd)
    (q : ∀ M', Fr ρ o (sI M a 13 (dyR P u d s sd).1) M' → Bst M' r P (fun _ => false) (P 0 + 1) → mI M' a 42 = dayB P u d s sd → mI M' a 43 = Int32.ofNat (pcs (dyL P u d s sd)) → mI M' a 44 = (dyR P u d s sd).2.2.2 → mI M' a 45 = Int32.ofNat (dyR P u d s sd).2.2.1 → Q (dayC P u d s sd) M') : F_X3_day M a (Int32.ofNat x) (Int32.ofNat d) (Int32.ofNat s) (Int32.ofNat n) Q := by
  have hk := hw.2.2.2.2.1
  have h5 := p5_le hk.2
  have hd0 := hw.1
  have ta := h.1.2
  have h99 : ρ a = o + 99 := ta
  have lay13 : ∀ {v : Int32} {N : gM}, Fr ρ o (sI M a 13 v) N → LayM N a r ρ o ∧ HsM N r x P ∧ RuM N r n u := fun f => ⟨f.lay (h.sI _ _ _), f.hs (h.sI _ _ _) hx (hP.s13 h hx), f.ru (h.sI _ _ _) hn (hu.s13 h hn)⟩
  -- behind the load
  have go : ∀ l, l = dyL P u d s sd → ∀ N, Fr ρ o (sI M a 13 (dw1 sd)) N → Bst N r P (fun _ => false) (P 0 + 1) → F_X3_day_b28 Q a (Int32.ofNat x) (Int32.ofNat d) (Int32.ofNat s) (Int32.ofNat l) N := by
    intro l hl N f wb
    have hle := dyL_le hw (u := u) (d := d) (s := s) (sd := sd) (by omega)
    obtain ⟨hN, hPN, huN⟩ := lay13 f
    have b60 : ∀ c B, c = (if l = 0 then (0 : Int32) else Int32.ofNat (P 1)) → B = dayB P u d s sd → F_X3_day_b60 Q a (Int32.ofNat x) (Int32.ofNat d) (Int32.ofNat s) (Int32.ofNat l) c a B N := by
      intro c B hc hB
      refine m_pI hN (m_pI (hN.sI _ _ _) (m_pI ((hN.sI _ _ _).sI _ _ _) ?_))
      have f3 := ((f.wI (x := B) (sc0 (i := 42) hN (by omega))).wI (x := (0 : Int32)) (sc0 (i := 43) hN (by omega))).wI (x := (0 : Int32)) (sc0 (i := 44) hN (by omega))
      have w3 := ((wb.wI (i := 42) (x := B) hN (by omega) ta (by omega)).wI (i := 43) (x := (0 : Int32)) (hN.sI _ _ _) (by omega) ta (by omega)).wI (i := 44) (x := (0 : Int32)) ((hN.sI _ _ _).sI _ _ _) (by omega) ta (by omega)
      refine loopV (fun g s' N => F_X3_day_b76 Q a (Int32.ofNat x) (Int32.ofNat d) (Int32.ofNat s) (Int32.ofNat l) c g s' N) (fun i => Int32.ofNat i) (fun i N => Fr ρ o (sI M a 13 (dw1 sd)) N ∧ Bst N r P (fun _ => false) (P 0 + 1) ∧ mI N a 42 = B ∧ mI N a 43 = Int32.ofNat (dsN l i) ∧ mI N a 44 = 0) (P 4) (fun i hi g N hI k => ?_) (fun g N hI => ?_) _ ⟨f3, w3, (mI_ne (Or.inr (by omega))).trans ((mI_ne (Or.inr (by omega))).trans mI_eq), (mI_ne (Or.inr (by omega))).trans mI_eq, mI_eq⟩
      · obtain ⟨f, wb, e42, e43, e44⟩ := hI
        obtain ⟨hN, hPN, huN⟩ := lay13 f
        refine m_rc hN (m_sorts hN hx hPN (leF hi (by omega) (m_gI hN (m_ofState (by omega) (by omega) (m_pI hN ?_)))))
        rw [e43, i32_add, i32_lit 1, i32_add]
        exact k _ ⟨f.wI (sc0 hN (by omega)), wb.wI hN (by omega) ta (by omega), (mI_ne (Or.inr (by omega))).trans e42, mI_eq, (mI_ne (Or.inr (by omega))).trans e44⟩
      · obtain ⟨f, wb, e42, e43, e44⟩ := hI
        obtain ⟨hN, hPN, huN⟩ := lay13 f
        refine m_rc hN (m_sorts hN hx hPN (leT (Nat.le_refl _) (by omega) (m_rc hN ?_)))
        rw [i32_sub (by omega)]
        refine m_sum (w := 2) hN hx hPN hk.2 (by omega) (by omega) ?_
        have ec : c + Int32.ofNat (sm P 2 (s - l)) = dyC P s l := by rw [hc]; rfl
        rw [ec]
        have e43' : mI N a 43 = Int32.ofNat (pcs l) := by rw [e43, ds_pcs (P 4) (by omega) l (by omega) (by omega)]
        -- the coming
        refine loopV (fun g s' N => F_X3_day_b130 Q a (Int32.ofNat x) (Int32.ofNat d) g s'.1 s'.2.1 s'.2.2 N) (fun i => ((dyN P (dw1 sd) (dyC P s l) (s - l) i).2.1, Int32.ofNat (dyN P (dw1 sd) (dyC P s l) (s - l) i).2.2.1, Int32.ofNat i)) (fun i N => Fr ρ o (sI M a 13 (dyN P (dw1 sd) (dyC P s l) (s - l) i).1) N ∧ Bst N r P (fun _ => false) (P 0 + 1) ∧ mI N a 42 = B ∧ mI N a 43 = Int32.ofNat (pcs l) ∧ mI N a 44 = (dyN P (dw1 sd) (dyC P s l) (s - l) i).2.2.2) (P 4) (fun i hi g N hI k => ?_) (fun g N hI => ?_) N ⟨f, wb, e42, e43', e44⟩
        · obtain ⟨f, wb, e42, e43, e44⟩ := hI
          obtain ⟨hN, hPN, huN⟩ := lay13 f
          have hP6 := (hw.2.2.2.2.2 i (by omega)).2.1
          have hP8 := (hw.2.2.2.2.2 i (by omega)).2.2.2.1
          have hlt := dyN_lt (P := P) (sd := dw1 sd) (c := dyC P s l) (w := s - l) hk.2 (by omega) i (by omega)
          have es : dyN P (dw1 sd) (dyC P s l) (s - l) (i + 1) = if Int32.ofNat (P (6 + 5 * i)) ≤ dwv (dw1 (dyN P (dw1 sd) (dyC P s l) (s - l) i).1) then (dw1 (dyN P (dw1 sd) (dyC P s l) (s - l) i).1, (dyN P (dw1 sd) (dyC P s l) (s - l) i).2.1, (dyN P (dw1 sd) (dyC P s l) (s - l) i).2.2.1, (dyN P (dw1 sd) (dyC P s l) (s - l) i).2.2.2)
              else if dg (dyN P (dw1 sd) (dyC P s l) (s - l) i).2.2.1 i = 4 then (dw1 (dyN P (dw1 sd) (dyC P s l) (s - l) i).1, (dyN P (dw1 sd) (dyC P s l) (s - l) i).2.1 + Int32.ofNat (P (8 + 5 * i)), (dyN P (dw1 sd) (dyC P s l) (s - l) i).2.2.1, (dyN P (dw1 sd) (dyC P s l) (s - l) i).2.2.2 + 1)
              else (dw1 (dyN P (dw1 sd) (dyC P s l) (s - l) i).1, (dyN P (dw1 sd) (dyC P s l) (s - l) i).2.1, (dyN P (dw1 sd) (dyC P s l) (s - l) i).2.2.1 + 5 ^ i, (dyN P (dw1 sd) (dyC P s l) (s - l) i).2.2.2) := rfl
          generalize dyN P (dw1 sd) (dyC P s l) (s - l) i = D at f e44 hlt es ⊢
          generalize dyN P (dw1 sd) (dyC P s l) (s - l) (i + 1) = E at es k
          show F_X3_day_b130 Q a (Int32.ofNat x) (Int32.ofNat d) (g + 1) D.2.1 (Int32.ofNat D.2.2.1) (Int32.ofNat i) N
          refine m_rc hN (m_sorts hN hx hPN (leF hi (by omega) (m_rc hN (m_draw hN ?_))))
          rw [f.e13 h]
          have f' := f.s13 (w := dw1 D.1) h
          obtain ⟨hN', hPN', huN'⟩ := lay13 f'
          have wb' := wb.wI (i := 13) (x := dw1 D.1) hN (by omega) ta (by omega)
          refine m_rc hN' (m_numberOf (w := 1) hN' hx hPN' (by omega) (by omega) ?_)
          rw [show 5 + 5 * i + 1 = 6 + 5 * i by omega]
          refine ⟨fun c1 => ?_, fun c1 => m_ofState (by omega) (by omega) (eqS' (b := 4) (by have := dg_le D.2.2.1 i; omega) (by omega) (fun c2 => m_power (b := 5) (by omega) ?_) (fun c2 => m_rc hN' (m_numberOf (w := 3) hN' hx hPN' (by omega) (by omega) (m_gI hN' (m_pI hN' ?_)))))⟩
          · rw [if_pos c1] at es
            rw [es] at k
            unfold F_X3_day_b203
            rw [i32_lit 1, i32_add]
            exact k _ ⟨f', wb', (mI_ne (Or.inr (by omega))).trans e42, (mI_ne (Or.inr (by omega))).trans e43, (mI_ne (Or.inr (by omega))).trans e44⟩
          · rw [if_neg c1, if_neg c2] at es
            rw [es] at k
            unfold F_X3_day_b203
            rw [i32_lit 1, i32_add, i32_add]
            exact k _ ⟨f', wb', (mI_ne (Or.inr (by omega))).trans e42, (mI_ne (Or.inr (by omega))).trans e43, (mI_ne (Or.inr (by omega))).trans e44⟩
          · rw [if_neg c1, if_pos c2] at es
            rw [es] at k
            unfold F_X3_day_b203
            rw [show 5 + 5 * i + 3 = 8 + 5 * i by omega, mI_ne (Or.inr (by omega)), e44, i32_lit 1, i32_add]
            exact k _ ⟨f'.wI (sc0 hN' (by omega)), wb'.wI hN' (by omega) ta (by omega), (mI_ne (Or.inr (by omega))).trans ((mI_ne (Or.inr (by omega))).trans e42), (mI_ne (Or.inr (by omega))).trans ((mI_ne (Or.inr (by omega))).trans e43), mI_eq⟩
        · obtain ⟨f, wb, e42, e43, e44⟩ := hI
          obtain ⟨hN, hPN, huN⟩ := lay13 f
          have hlt := dyR_lt hw (u := u) (d := d) (s := s) (sd := sd) hs
          have eR : dyN P (dw1 sd) (dyC P s l) (s - l) (P 4) = dyR P u d s sd := by rw [hl]; rfl
          rw [eR] at f e44
          show F_X3_day_b130 Q a (Int32.ofNat x) (Int32.ofNat d) (g + 1) (dyN P (dw1 sd) (dyC P s l) (s - l) (P 4)).2.1 (Int32.ofNat (dyN P (dw1 sd) (dyC P s l) (s - l) (P 4)).2.2.1) (Int32.ofNat (P 4)) N
          rw [eR]
          refine m_rc hN (m_sorts hN hx hPN (leT (Nat.le_refl _) (by omega) (m_pI hN ?_)))
          have q' := q (sI N a 45 (Int32.ofNat (dyR P u d s sd).2.2.1)) (f.wI (sc0 hN (by omega))) (wb.wI hN (by omega) ta (by omega)) ((mI_ne (Or.inr (by omega))).trans (e42.trans hB)) ((mI_ne (Or.inr (by omega))).trans (e43.trans (by rw [hl]))) ((mI_ne (Or.inr (by omega))).trans e44) mI_eq
          unfold dayC at q'
          refine eqS' (b := 1) (by omega) (by omega) (fun c1 => ?_) (fun c1 => m_rc (hN.sI _ _ _) (m_sum (w := 4) (P := P) (hN.sI _ _ _) hx (hPN.s13 hN hx) hk.2 (by omega) (by omega) ?_))
          · rw [if_neg c1] at q'
            exact q'
          · rw [if_pos c1] at q'
            exact q'
    have hl9 : l < 125 := by omega
    have b47 : ∀ c, c = (if l = 0 then (0 : Int32) else Int32.ofNat (P 1)) → F_X3_day_b47 Q a (Int32.ofNat x) (Int32.ofNat d) (Int32.ofNat s) (Int32.ofNat l) c N := fun c hc => eqS (b := 0) (by omega) (by omega) (fun c1 => b60 c 0 hc (by unfold dayB; rw [← hl, if_pos c1])) (fun c1 => b60 c 1 hc (by unfold dayB; rw [← hl, if_neg c1]))
    refine eqS (b := 0) (by omega) (by omega) (fun c1 => b47 0 (by rw [if_pos c1])) (fun c1 => m_g2 hN rfl (m_aN hN rfl hx (by omega) (m_bI (i := 1) hN rfl hx (by omega) (by omega) ?_)))
    rw [hPN 1 (by omega)]
    exact b47 _ (by rw [if_neg c1])
  refine m_rc h (m_draw h ?_)
  rw [hsd]
  have f0 : Fr ρ o (sI M a 13 (dw1 sd)) (sI M a 13 (dw1 sd)) := Fr.rf
  have wb0 := hb.wI (i := 13) (x := dw1 sd) h (by omega) ta (by omega)
  obtain ⟨hN, hPN, huN⟩ := lay13 f0
  refine m_g2 hN rfl (m_aN hN rfl hx (by omega) (m_bI (i := 3) hN rfl hx (by omega) (by omega) ?_))
  rw [hPN 3 (by omega)]
  refine ⟨fun c => m_rc hN (m_loadBy hN hx hPN hw hn huN hwu wb0 (by omega) hs (fun l hl => go l ?_ _ f0 wb0)), fun c => go 0 ?_ _ f0 wb0⟩
  · rw [ldB_F hl]
    unfold dyL
    rw [if_pos c]
  · unfold dyL
    rw [if_neg c]
end MDAY
