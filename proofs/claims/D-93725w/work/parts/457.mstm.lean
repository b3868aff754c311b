/-! the model's reader: words, statements -/
set_option maxRecDepth 100000
theorem TkM.fr {M : gM} {a o : Nat} {r ρ T : Nat → Nat} {t : Tok} (h : LayM M a r ρ o) {b i : Nat} {x : Int32} (hb : ρ b = o + 12) (w : TkM M a T t) : TkM (sI M b i x) a T t := by
  have n0 : a ≠ b := ne_tg h.1.2 hb (by omega)
  exact ⟨(mI_ne (Or.inl n0)).trans w.1, (mI_ne (Or.inl n0)).trans w.2.1, (mI_ne (Or.inl n0)).trans w.2.2.1, w.2.2.2⟩
theorem cw_len : ∀ j, j < 19 → (cw j).length < 10 := by decide
section MSTM
variable {M M' : gM} {a o b n : Nat} {r ρ T : Nat → Nat}
theorem Fr.rowb (f : Fr ρ o M M') (hb : ρ b = o + 12) (i : Nat) : mI M' b i = mI M b i := (f.2 b i (by
  rintro (⟨k, hk, e⟩ | ⟨e, z⟩)
  · omega
  · omega)).1
theorem m_isWord (h : LayM M a r ρ o) (ht : TpM M a r T n) {t : Tok} {q : Nat} {w : List Nat} {Q : Int32 → gM → Prop} (hk : TkM M a T t) (hO : TkO n t) (hs : StA M ρ q w) (hw : w.length < 10) (h1 : isW T t w → Q 1 M) (h0 : ¬ isW T t w → Q 0 M) : F_X3_isWord M a q Q := by
  obtain ⟨k23, k24, k25, -⟩ := hk
  obtain ⟨o1, o2, o3, o4, o5⟩ := hO
  have hn := ht.2.1
  have hsq : kd M q = some (false, .inl 15) := by obtain ⟨v, g, -⟩ := hs; exact g.1
  refine m_gI h ?_
  rw [k24]
  refine eqS' (b := 1) (by omega) (by omega) (fun c => h0 (fun z => c z.1)) (fun c => m_gI h (m_gI h (rc_j hsq (j_length hs ?_))))
  rw [k23, k25, i32_sub o1]
  refine eqS (by omega) (by omega) (fun c2 => ?_) (fun c2 => h0 (fun z => c2 (by have := z.2.1; omega)))
  refine loopV (fun g s N => F_X3_isWord_b28 Q a q g s N) (fun i => Int32.ofNat i) (fun i N => N = M ∧ ∀ j, j < i → T (t.2.1 + j) = w.getD j 0) w.length (fun i hi g N hN k => ?_) (fun g N hN => ?_) M ⟨rfl, fun j hj => absurd hj (Nat.not_lt_zero _)⟩
  · obtain ⟨hM, hN⟩ := hN
    subst hM
    refine rc_j hsq (j_length hs (leF hi (by omega) (m_g1 h rfl (m_gI h ?_))))
    rw [k25, i32_add]
    refine m_aI h rfl (by omega) (by omega) ?_
    have hT := ht.2.2 (t.2.1 + i) (by omega)
    rw [hT.1]
    refine rc_j hsq (j_charAt hs (by omega) hi ?_)
    have hc : w.getD i 0 < 128 := by obtain ⟨v, -, -, -, -, g5⟩ := hs; exact (g5 i hi).2
    refine eqS (by omega) (by omega) (fun c3 => ?_) (fun c3 => h0 (fun z => c3 (z.2.2 i hi)))
    rw [i32_lit 1, i32_add]
    refine k N ⟨rfl, fun j hj => ?_⟩
    by_cases e : j = i
    · rw [e]; exact c3
    · exact hN j (by omega)
  · obtain ⟨hM, hN⟩ := hN
    subst hM
    exact rc_j hsq (j_length hs (leT (Nat.le_refl _) (by omega) (h1 ⟨c, by omega, hN⟩)))
theorem m_wrong (h : LayM M a r ρ o) {t : Tok} {Q : Int32 → gM → Prop} (hk : TkM M a T t) (q : ∀ M', Fr ρ o M M' → mI M' a 27 = Int32.ofNat t.2.1 → Q 0 M') : F_X3_wrong M a Q := by
  refine m_gI h (m_pI h (q _ (Fr.rf.wI (sc0 h (by omega))) ?_))
  rw [mI_eq]
  exact hk.2.2.1
theorem m_inJ {v l m : Nat} {Q : Int32 → gM → Prop} (hv : v < 2147483648) (hl : l < 2147483648) (hm : m < 2147483648) (h1 : l ≤ v → v ≤ m → Q 1 M) (h0 : ¬ (l ≤ v ∧ v ≤ m) → Q 0 M) : F_X3_in M (Int64.ofNat v) (Int32.ofNat l).toInt64 (Int32.ofNat m).toInt64 Q := by
  unfold F_X3_in
  rw [i64_of hl, i64_of hm, i64_lt (by omega) (by omega), i64_lt (by omega) (by omega)]
  exact ⟨fun c => h0 (by omega), fun c => ⟨fun c2 => h0 (by omega), fun c2 => h1 (by omega) (by omega)⟩⟩
theorem dv_le (hT : ∀ i, i < n → T i < 256) {f e : Nat} (hf : f < n) (he : e ≤ n) : dv T f e ≤ 100000 := by
  unfold dv
  have h0 := hT f hf
  split
  · omega
  · split
    · have := hT (f + 1) (by omega)
      omega
    · omega
theorem i64_32 {v : Nat} (h : v < 2147483648) : (Int64.ofNat v).toInt32 = Int32.ofNat v := by
  rw [← i64_of h]
  simp
theorem m_told (h : LayM M a r ρ o) (ho : 1000 ≤ o) (hC : CsA M ρ) (ht : TpM M a r T n) (hb : ρ b = o + 12) (hbk : kd M b = some (true, .inr (.int, 20))) {t : Tok} {j idx lo hi : Nat} {Q : Int32 → gM → Prop} (hk : TkM M a T t) (hO : TkO n t) (hj : j < 19) (hidx : idx < 20) (hlo : lo ≤ 99) (hhi : hi ≤ 99)
    (k0 : ∀ f, tl T n (cw j) lo hi t = .inl f → ∀ M', FrB ρ o b M M' → mI M' a 27 = Int32.ofNat f → Q 0 M')
    (k1 : ∀ v t', tl T n (cw j) lo hi t = .inr (v, t') → ∀ M', FrB ρ o b M M' → TkM M' a T t' → mI M' b idx = Int32.ofNat v → (∀ i, i ≠ idx → mI M' b i = mI M b i) → Q 1 M') : F_X3_told M a (gl M (j + 1)) b (Int32.ofNat idx) (Int32.ofNat lo) (Int32.ofNat hi) Q := by
  have hn := ht.2.1
  refine m_rc h (m_isWord h ht hk hO (hC.1 j hj) (cw_len j hj) (fun c => bT' n10 ?_) (fun c => bF' rfl ?_))
  · have e1 : ∀ X, (if (tk T n t.2.2).1 = 2 ∧ lo ≤ dv T (tk T n t.2.2).2.1 (tk T n t.2.2).2.2 ∧ dv T (tk T n t.2.2).2.1 (tk T n t.2.2).2.2 ≤ hi then (.inr (dv T (tk T n t.2.2).2.1 (tk T n t.2.2).2.2, tk T n (tk T n t.2.2).2.2) : Nat ⊕ (Nat × Tok)) else .inl (tk T n t.2.2).2.1) = X → tl T n (cw j) lo hi t = X := fun X hX => by unfold tl; rw [if_pos (isWb_t.mpr c)]; exact hX
    have o1 := tk_ok T hO.2.1
    refine m_rc h (m_look h ht hk.1 hO.2.1 (fun N f tN => ?_))
    have hN := f.lay h
    have htN : TpM N a r T n := (f.b (b := b)).tp h hb ht
    obtain ⟨⟨p1, p2, p3, p4, p5⟩, p6⟩ := o1
    have wr : ¬ ((tk T n t.2.2).1 = 2 ∧ lo ≤ dv T (tk T n t.2.2).2.1 (tk T n t.2.2).2.2 ∧ dv T (tk T n t.2.2).2.1 (tk T n t.2.2).2.2 ≤ hi) → F_X3_told_b41 Q a N := fun c2 => m_rc hN (m_wrong hN tN (fun N2 f2 e27 => ⟨Or.inl rfl, k0 _ (e1 _ (if_neg c2)) N2 (f.tr f2).b e27⟩))
    refine m_gI hN ?_
    rw [tN.2.1]
    refine eqS' (b := 2) (by omega) (by omega) (fun c2 => wr (fun z => c2 z.1)) (fun c2 => m_gJ hN ?_)
    rw [tN.2.2.2 c2]
    have hdv := dv_le (T := T) (n := n) (fun i hi => (ht.2.2 i hi).2) (f := (tk T n t.2.2).2.1) (e := (tk T n t.2.2).2.2) (by have := p4 (by omega); omega) p2
    refine m_inJ (by omega) (by omega) (by omega) (fun c3 c4 => bT' n10 (m_gJ hN ?_)) (fun c3 => bF' rfl (wr (fun z => c3 z.2)))
    rw [tN.2.2.2 c2, i64_32 (by omega)]
    have hbN : kd N b = some (true, .inr (.int, 20)) := by rw [f.1.1]; exact hbk
    refine uI_i hbN hidx (by omega) (m_rc (hN.sI _ _ _) ?_)
    have f2 := (f.b (b := b)).w (i := idx) (x := Int32.ofNat (dv T (tk T n t.2.2).2.1 (tk T n t.2.2).2.2))
    refine m_look (f2.lay h) (f2.tp h hb ht) ((mI_ne (Or.inl (ne_tg h.1.2 hb (by omega)))).trans tN.1) p2 (fun N3 f3 tN3 => ?_)
    refine k1 _ _ (e1 _ (if_pos ⟨c2, c3, c4⟩)) N3 (f2.tr f3.b) tN3 ?_ (fun i hi => ?_)
    · rw [f3.rowb hb, mI_eq]
    · rw [f3.rowb hb, mI_ne (Or.inr hi), f.rowb hb]
  · refine m_rc h (m_wrong h hk (fun N f e27 => ⟨Or.inl rfl, k0 t.2.1 ?_ N f.b e27⟩))
    unfold tl
    rw [if_neg (by rw [isWb_f.mpr c]; exact Bool.noConfusion)]
/-- the row of a house that is being read -/
def RwP (M : gM) (b : Nat) (P : Nat → Nat) : Prop := ∀ i, i < 5 + 5 * P 4 → mI M b i = Int32.ofNat (P i)
theorem RwP.up {P : Nat → Nat} {i v : Nat} (w : RwP M b P) (hi : i < 4) (h1 : mI M' b i = Int32.ofNat v) (h2 : ∀ j, j ≠ i → mI M' b j = mI M b j) : RwP M' b (upP P i v) := by
  intro j hj
  rw [up_ne (P := P) (by omega : 4 ≠ i)] at hj
  by_cases c : j = i
  · rw [c, up_eq]; exact h1
  · rw [up_ne c, h2 j c]; exact w j hj
theorem m_statement (h : LayM M a r ρ o) (ho : 1000 ≤ o) (hC : CsA M ρ) (ht : TpM M a r T n) (hb : ρ b = o + 12) (hbk : kd M b = some (true, .inr (.int, 20))) {t : Tok} {P : Nat → Nat} {Q : Int32 → gM → Prop} (hk : TkM M a T t) (hO : TkO n t) (hP : RwP M b P) (h4 : P 4 ≤ 3)
    (k0 : ∀ f, stm T n t P = .inl f → ∀ M', FrB ρ o b M M' → mI M' a 27 = Int32.ofNat f → Q 0 M')
    (k1 : ∀ t' P', stm T n t P = .inr (t', P') → ∀ M', FrB ρ o b M M' → TkM M' a T t' → RwP M' b P' → Q 1 M') : F_X3_statement M a b Q := by
  have hn := ht.2.1
  have nb : ρ b ≠ 500 := by omega
  -- all that stays
  have st : ∀ N, FrB ρ o b M N → LayM N a r ρ o ∧ CsA N ρ ∧ TpM N a r T n ∧ kd N b = some (true, .inr (.int, 20)) := fun N f => ⟨f.lay h, f.cs ho nb hC, f.tp h hb ht, by rw [f.1.1]; exact hbk⟩
  refine m_rc h (m_isWord h ht hk hO (hC.1 10 (by omega)) (cw_len 10 (by omega)) (fun c1 => bF n10 ?_) (fun c1 => bT rfl ?_))
  · -- days
    have e1 : stm T n t P = match tl T n wDays 1 6 t with | .inl f => .inl f | .inr (v, t1) => .inr (t1, upP P 0 v) := by unfold stm; rw [if_pos (show isWb T t wDays = true from isWb_t.mpr c1)]; rfl
    refine m_rc h (m_told (j := 10) (idx := 0) (lo := 1) (hi := 6) h ho hC ht hb hbk hk hO (by omega) (by omega) (by omega) (by omega) (fun f ef N fN e27 => ⟨Or.inl rfl, k0 f ?_ N fN e27⟩) (fun v t' ev N fN tN w1 w2 => ⟨Or.inr rfl, k1 t' _ ?_ N fN tN (hP.up (by omega) w1 w2)⟩))
    · have ef : tl T n wDays 1 6 t = .inl f := ef
      rw [e1, ef]
    · have ev : tl T n wDays 1 6 t = .inr (v, t') := ev
      rw [e1, ev]
  have d1 : isWb T t wDays = false := isWb_f.mpr c1
  refine m_rc h (m_isWord h ht hk hO (hC.1 11 (by omega)) (cw_len 11 (by omega)) (fun c2 => bF n10 ?_) (fun c2 => bT rfl ?_))
  · -- box
    have e1 : stm T n t P = match tl T n wBox 0 99 t with | .inl f => .inl f | .inr (v, t1) => match tl T n wRoom 1 40 t1 with | .inl f => .inl f | .inr (v2, t2) => .inr (t2, upP (upP P 1 v) 2 v2) := by
      unfold stm
      rw [if_neg (by rw [d1]; exact Bool.noConfusion), if_pos (show isWb T t wBox = true from isWb_t.mpr c2)]; rfl
    refine m_rc h (m_told (j := 11) (idx := 1) (lo := 0) (hi := 99) h ho hC ht hb hbk hk hO (by omega) (by omega) (by omega) (by omega) (fun f ef N fN e27 => bT rfl (k0 f ?_ N fN e27)) (fun v t' ev N fN tN w1 w2 => bF n10 ?_))
    · have ef : tl T n wBox 0 99 t = .inl f := ef
      rw [e1, ef]
    · have ev : tl T n wBox 0 99 t = .inr (v, t') := ev
      obtain ⟨hN, hC', ht', hbk'⟩ := st N fN
      refine m_rc hN (m_told (j := 12) (idx := 2) (lo := 1) (hi := 40) hN ho hC' ht' hb hbk' tN ((tl_ok hO).2 v t' ev).1 (by omega) (by omega) (by omega) (by omega) (fun f ef N2 f2 e27 => bT rfl (k0 f ?_ N2 (fN.tr f2) e27)) (fun v2 t2 ev2 N2 f2 tN2 w3 w4 => bF n10 (k1 t2 _ ?_ N2 (fN.tr f2) tN2 ((hP.up (by omega) w1 w2).up (by omega) w3 w4))))
      · have ef : tl T n wRoom 1 40 t' = .inl f := ef
        rw [e1, ev]
        simp only [ef]
      · have ev2 : tl T n wRoom 1 40 t' = .inr (v2, t2) := ev2
        rw [e1, ev]
        simp only [ev2]
  have d2 : isWb T t wBox = false := isWb_f.mpr c2
  refine m_rc h (m_isWord h ht hk hO (hC.1 13 (by omega)) (cw_len 13 (by omega)) (fun c3 => bF n10 ?_) (fun c3 => bT rfl ?_))
  · have e1 : stm T n t P = match tl T n wFull 0 3 t with | .inl f => .inl f | .inr (v, t1) => .inr (t1, upP P 3 v) := by
      unfold stm
      rw [if_neg (by rw [d1]; exact Bool.noConfusion), if_neg (by rw [d2]; exact Bool.noConfusion), if_pos (show isWb T t wFull = true from isWb_t.mpr c3)]; rfl
    refine m_rc h (m_told (j := 13) (idx := 3) (lo := 0) (hi := 3) h ho hC ht hb hbk hk hO (by omega) (by omega) (by omega) (by omega) (fun f ef N fN e27 => ⟨Or.inl rfl, k0 f ?_ N fN e27⟩) (fun v t' ev N fN tN w1 w2 => ⟨Or.inr rfl, k1 t' _ ?_ N fN tN (hP.up (by omega) w1 w2)⟩))
    · have ef : tl T n wFull 0 3 t = .inl f := ef
      rw [e1, ef]
    · have ev : tl T n wFull 0 3 t = .inr (v, t') := ev
      rw [e1, ev]
  have d3 : isWb T t wFull = false := isWb_f.mpr c3
  have e4 : ∀ X, (if isWb T t wSort = true ∧ P 4 ≠ 3 then sortS T n (tk T n t.2.2) P else .inl t.2.1) = X → stm T n t P = X := fun X hX => by
    unfold stm
    rw [if_neg (by rw [d1]; exact Bool.noConfusion), if_neg (by rw [d2]; exact Bool.noConfusion), if_neg (by rw [d3]; exact Bool.noConfusion)]
    exact hX
  have wr : ¬ (isWb T t wSort = true ∧ P 4 ≠ 3) → F_X3_statement_b100 Q a M := fun c => m_rc h (m_wrong h hk (fun N f e27 => ⟨Or.inl rfl, k0 t.2.1 (e4 _ (if_neg c)) N f.b e27⟩))
  refine m_rc h (m_isWord h ht hk hO (hC.1 14 (by omega)) (cw_len 14 (by omega)) (fun c4 => bF n10 (aI_i (i := 4) hbk (by omega) (by omega) ?_)) (fun c4 => bT rfl (wr (fun z => c4 (isWb_t.mp z.1)))))
  rw [hP 4 (by omega)]
  refine eqS' (b := 3) (by omega) (by omega) (fun c5 => ?_) (fun c5 => wr (fun z => z.2 c5))
  -- a sort
  have e5 : stm T n t P = sortS T n (tk T n t.2.2) P := e4 _ (if_pos ⟨isWb_t.mpr c4, c5⟩)
  rw [e5] at k0 k1
  refine m_rc h (m_look h ht hk.1 hO.2.1 (fun N f tN => ?_))
  have hN := f.lay h
  have hbN : kd N b = some (true, .inr (.int, 20)) := by rw [f.1.1]; exact hbk
  refine aI_i (i := 4) hbN (by omega) (by omega) ?_
  rw [f.rowb hb, hP 4 (by omega), i32_lit 5, i32_lit 3, i32_lit 4, i32_lit 1, i32_lit 2, i32_mul, i32_add, i32_add, i32_add, i32_add, i32_add]
  refine uI_i hbN (by omega) (by omega) (uI_i (M := sI N b _ _) hbN (by omega) (by omega) (m_rc ((hN.sI _ _ _).sI _ _ _) ?_))
  have f1 := ((f.b (b := b)).w (i := 5 + 5 * P 4 + 3) (x := (0 : Int32))).w (i := 5 + 5 * P 4 + 4) (x := (0 : Int32))
  have t1 : TkM (sI (sI N b (5 + 5 * P 4 + 3) (0 : Int32)) b (5 + 5 * P 4 + 4) (0 : Int32)) a T (tk T n t.2.2) := (tN.fr hN hb).fr (hN.sI _ _ _) hb
  have z3 : mI (sI (sI N b (5 + 5 * P 4 + 3) (0 : Int32)) b (5 + 5 * P 4 + 4) (0 : Int32)) b (5 + 5 * P 4 + 3) = 0 := (mI_ne (Or.inr (by omega))).trans mI_eq
  have z4 : mI (sI (sI N b (5 + 5 * P 4 + 3) (0 : Int32)) b (5 + 5 * P 4 + 4) (0 : Int32)) b (5 + 5 * P 4 + 4) = 0 := mI_eq
  have zl : ∀ i, i < 5 + 5 * P 4 → mI (sI (sI N b (5 + 5 * P 4 + 3) (0 : Int32)) b (5 + 5 * P 4 + 4) (0 : Int32)) b i = Int32.ofNat (P i) := fun i hi => (mI_ne (Or.inr (by omega))).trans ((mI_ne (Or.inr (by omega))).trans ((f.rowb hb i).trans (hP i hi)))
  have oT := (tk_ok T hO.2.1).1
  generalize hN1 : sI (sI N b (5 + 5 * P 4 + 3) (0 : Int32)) b (5 + 5 * P 4 + 4) (0 : Int32) = N1 at f1 t1 z3 z4 zl ⊢
  obtain ⟨hL1, hC1, hT1, hb1⟩ := st N1 f1
  unfold sortS at k0 k1
  refine m_told (j := 12) (lo := 1) (hi := 9) hL1 ho hC1 hT1 hb hb1 t1 oT (by omega) (by omega) (by omega) (by omega) (fun ff ef N2 f2 e27 => bT rfl (k0 ff (by have ef : tl T n wRoom 1 9 (tk T n t.2.2) = .inl ff := ef; rw [ef]) N2 (f1.tr f2) e27)) (fun v0 t0 ev0 N2 f2 tN2 w1 w2 => bF n10 ?_)
  have ev0 : tl T n wRoom 1 9 (tk T n t.2.2) = .inr (v0, t0) := ev0
  have o0 := ((tl_ok oT).2 v0 t0 ev0)
  rw [ev0] at k0 k1
  simp only at k0 k1
  have f12 := f1.tr f2
  obtain ⟨hL2, hC2, hT2, hb2⟩ := st N2 f12
  refine m_rc hL2 (m_told (j := 15) (lo := 0) (hi := 4) hL2 ho hC2 hT2 hb hb2 tN2 o0.1 (by omega) (by omega) (by omega) (by omega) (fun ff ef N3 f3 e27 => bT rfl (k0 ff (by have ef : tl T n wComes 0 4 t0 = .inl ff := ef; rw [ef]) N3 (f12.tr f3) e27)) (fun v1 t1 ev1 N3 f3 tN3 w3 w4 => bF n10 ?_))
  have ev1 : tl T n wComes 0 4 t0 = .inr (v1, t1) := ev1
  have o1 := ((tl_ok o0.1).2 v1 t1 ev1)
  rw [ev1] at k0 k1
  simp only at k0 k1
  have f13 := f12.tr f3
  obtain ⟨hL3, hC3, hT3, hb3⟩ := st N3 f13
  refine m_rc hL3 (m_told (j := 16) (lo := 0) (hi := 9) hL3 ho hC3 hT3 hb hb3 tN3 o1.1 (by omega) (by omega) (by omega) (by omega) (fun ff ef N4 f4 e27 => bF' rfl (k0 ff (by have ef : tl T n wHold 0 9 t1 = .inl ff := ef; rw [ef]) N4 (f13.tr f4) e27)) (fun v2 t2 ev2 N4 f4 tN4 w5 w6 => bT' n10 ?_))
  have ev2 : tl T n wHold 0 9 t1 = .inr (v2, t2) := ev2
  have o2 := ((tl_ok o1.1).2 v2 t2 ev2)
  rw [ev2] at k0 k1
  simp only at k0 k1
  have f14 := f13.tr f4
  obtain ⟨hL4, hC4, hT4, hb4⟩ := st N4 f14
  -- the end
  have b203 : ∀ v3 t3 (N5 : gM), tlO T n wRefuse 0 99 t2 = .inr (v3, t3) → FrB ρ o b M N5 → TkM N5 a T t3 → mI N5 b (5 + 5 * P 4 + 3) = Int32.ofNat v3 → (∀ i, i ≠ 5 + 5 * P 4 + 3 → mI N5 b i = mI N4 b i) → F_X3_statement_b203 Q a b (Int32.ofNat (5 + 5 * P 4)) N5 := by
    intro v3 t3 N5 ev3 f15 tN5 w7 w8
    have o3 := ((tlO_ok o2.1).2 v3 t3 ev3)
    rw [ev3] at k0 k1
    simp only at k0 k1
    obtain ⟨hL5, hC5, hT5, hb5⟩ := st N5 f15
    have b230 : ∀ v4 t4 (N6 : gM), tlO T n wLeft 0 99 t3 = .inr (v4, t4) → FrB ρ o b M N6 → TkM N6 a T t4 → mI N6 b (5 + 5 * P 4 + 4) = Int32.ofNat v4 → (∀ i, i ≠ 5 + 5 * P 4 + 4 → mI N6 b i = mI N5 b i) → F_X3_statement_b230 Q b N6 := by
      intro v4 t4 N6 ev4 f16 tN6 w9 w10
      rw [ev4] at k0 k1
      simp only at k0 k1
      obtain ⟨hL6, hC6, hT6, hb6⟩ := st N6 f16
      have lo : ∀ i, i < 5 + 5 * P 4 → mI N6 b i = Int32.ofNat (P i) := fun i hi => by rw [w10 i (by omega), w8 i (by omega), w6 i (by omega), w4 i (by omega), w2 i (by omega)]; exact zl i hi
      refine aI_i (i := 4) hb6 (by omega) (by omega) (uI_i (i := 4) hb6 (by omega) (by omega) (k1 _ _ rfl _ f16.w (tN6.fr hL6 hb) (fun i hi => ?_)))
      rw [up_eq] at hi
      by_cases c : i = 4
      · rw [c, mI_eq, up_eq, lo 4 (by omega), i32_lit 1, i32_add]
      · rw [mI_ne (Or.inr c), up_ne c]
        rcases (by omega : i < 5 + 5 * P 4 ∨ i = 5 + 5 * P 4 ∨ i = 6 + 5 * P 4 ∨ i = 7 + 5 * P 4 ∨ i = 8 + 5 * P 4 ∨ i = 9 + 5 * P 4) with c | rfl | rfl | rfl | rfl | rfl
        · rw [up_ne (by omega), up_ne (by omega), up_ne (by omega), up_ne (by omega), up_ne (by omega)]
          exact lo i c
        · rw [up_ne (by omega), up_ne (by omega), up_ne (by omega), up_ne (by omega), up_eq, w10 _ (by omega), w8 _ (by omega), w6 _ (by omega), w4 _ (by omega)]
          exact w1
        · rw [up_ne (by omega), up_ne (by omega), up_ne (by omega), up_eq, w10 _ (by omega), w8 _ (by omega), w6 _ (by omega), show 6 + 5 * P 4 = 5 + 5 * P 4 + 1 by omega]
          exact w3
        · rw [up_ne (by omega), up_ne (by omega), up_eq, w10 _ (by omega), w8 _ (by omega), show 7 + 5 * P 4 = 5 + 5 * P 4 + 2 by omega]
          exact w5
        · rw [up_ne (by omega), up_eq, w10 _ (by omega), show 8 + 5 * P 4 = 5 + 5 * P 4 + 3 by omega]
          exact w7
        · rw [up_eq, show 9 + 5 * P 4 = 5 + 5 * P 4 + 4 by omega]
          exact w9
    refine m_rc hL5 (m_isWord hL5 hT5 tN5 o3.1 (hC5.1 18 (by omega)) (cw_len 18 (by omega)) (fun c => bF n10 ?_) (fun c => bT rfl (b230 0 t3 N5 ?_ f15 tN5 ?_ (fun _ _ => rfl))))
    · rw [i32_lit 4, i32_add]
      have eO : tlO T n wLeft 0 99 t3 = tl T n wLeft 0 99 t3 := by unfold tlO; rw [if_pos (show isWb T t3 wLeft = true from isWb_t.mpr c)]
      rw [eO] at k0
      refine m_rc hL5 (m_told (j := 18) (lo := 0) (hi := 99) hL5 ho hC5 hT5 hb hb5 tN5 o3.1 (by omega) (by omega) (by omega) (by omega) (fun ff ef N6 f6 e27 => bF' rfl (k0 ff (by have ef : tl T n wLeft 0 99 t3 = .inl ff := ef; rw [ef]) N6 (f15.tr f6) e27)) (fun v4 t4 ev4 N6 f6 tN6 w9 w10 => bT' n10 (b230 v4 t4 N6 (by rw [eO]; exact ev4) (f15.tr f6) tN6 w9 w10)))
    · unfold tlO
      rw [if_neg (by rw [show isWb T t3 wLeft = false from isWb_f.mpr c]; exact Bool.noConfusion)]
    · rw [w8 _ (by omega), w6 _ (by omega), w4 _ (by omega), w2 _ (by omega)]
      exact z4
  refine m_rc hL4 (m_isWord hL4 hT4 tN4 o2.1 (hC4.1 17 (by omega)) (cw_len 17 (by omega)) (fun c => bF n10 ?_) (fun c => bT rfl (b203 0 t2 N4 ?_ f14 tN4 ?_ (fun _ _ => rfl))))
  · have eO : tlO T n wRefuse 0 99 t2 = tl T n wRefuse 0 99 t2 := by unfold tlO; rw [if_pos (show isWb T t2 wRefuse = true from isWb_t.mpr c)]
    rw [eO] at k0
    refine m_rc hL4 (m_told (j := 17) (lo := 0) (hi := 99) hL4 ho hC4 hT4 hb hb4 tN4 o2.1 (by omega) (by omega) (by omega) (by omega) (fun ff ef N6 f6 e27 => bF' rfl (k0 ff (by have ef : tl T n wRefuse 0 99 t2 = .inl ff := ef; rw [ef]) N6 (f14.tr f6) e27)) (fun v4 t4 ev4 N6 f6 tN6 w9 w10 => bT' n10 (b203 v4 t4 N6 (by rw [eO]; exact ev4) (f14.tr f6) tN6 w9 w10)))
  · unfold tlO
    rw [if_neg (by rw [show isWb T t2 wRefuse = false from isWb_f.mpr c]; exact Bool.noConfusion)]
  · rw [w6 _ (by omega), w4 _ (by omega), w2 _ (by omega)]
    exact z3
end MSTM
