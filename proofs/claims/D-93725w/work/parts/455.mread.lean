/-! the model's reader -/
set_option maxRecDepth 100000
theorem i64_sub {a b : Nat} (h : b ≤ a) : Int64.ofNat a - Int64.ofNat b = Int64.ofNat (a - b) := by
  have : Int64.ofNat a = Int64.ofNat (a - b) + Int64.ofNat b := by rw [i64_add]; congr 1; omega
  rw [this, Int64.add_sub_cancel]
/-- a String constant -/
def StA (M : gM) (ρ : Nat → Nat) (q : Nat) (w : List Nat) : Prop := ∃ v, (kd M q = some (false, .inl 15) ∧ ρ q = 500) ∧ mR M q 0 = some v ∧ mI M q 1 = 0 ∧ (kd M v = some (false, .inr (.byte, w.length)) ∧ ρ v = 500) ∧ ∀ i, i < w.length → mI M v i = Int32.ofNat (w.getD i 0) ∧ w.getD i 0 < 128
def cw (j : Nat) : List Nat := match j with
  | 0 => wSemi
  | 1 => wRoom
  | 2 => wComes
  | 3 => wHold
  | 4 => wRefuse
  | 5 => wLeft
  | 6 => wDays
  | 7 => wFull
  | 8 => wBox
  | 9 => wSort
  | 10 => wDays
  | 11 => wBox
  | 12 => wRoom
  | 13 => wFull
  | 14 => wSort
  | 15 => wComes
  | 16 => wHold
  | 17 => wRefuse
  | _ => wLeft
/-- all constants of a class -/
def CsA (M : gM) (ρ : Nat → Nat) : Prop := (∀ j, j < 19 → StA M ρ (gl M (j + 1)) (cw j)) ∧ (kd M (gl M 0) = some (false, .inr (.int, 3)) ∧ ρ (gl M 0) = 500) ∧ ∀ i, i < 3 → mI M (gl M 0) i = Int32.ofNat (5 ^ i)
theorem chr_m : ∀ c, c < 128 → (((Int32.ofNat c &&& (255 : Int32)).toUInt32 % 65536).toInt32) = Int32.ofNat c := by decide +kernel
theorem nar_c : ∀ c, c < 128 → narrow .char (.int (Int32.ofNat c)) = .int (Int32.ofNat c) := by
  intro c hc
  have h : ∀ c, c < 128 → ((Int32.ofNat c).toUInt32 % 65536).toInt32 = Int32.ofNat c := by decide +kernel
  first
    | exact congrArg Value.int (h c hc)
    | (simp only [narrow]; exact congrArg Value.int (h c hc))
    | (unfold narrow; simp [h c hc])
theorem gN_j {M : gM} {ci a k b : Nat} {w : Bool} {κ : Nat → Prop} (h : kd M a = some (w, .inl ci)) (hk : k < 2) (hr : mR M a k = some b) (q : κ b) : gN M ci a k κ := ⟨⟨w, h, Or.inr hk⟩, b, hr, q⟩
theorem gI_j {M : gM} {ci a k : Nat} {w : Bool} {κ : Int32 → Prop} (h : kd M a = some (w, .inl ci)) (hk : k < 2) (q : κ (mI M a k)) : gI M ci a k κ := ⟨⟨w, h, Or.inr hk⟩, q⟩
theorem rc_j {M : gM} {ci a : Nat} {w : Bool} {A : Prop} (h : kd M a = some (w, .inl ci)) (q : A) : rc M ci a ∧ A := ⟨⟨w, h⟩, q⟩
theorem sh0 (x : Int32) : x >>> ((0 : Int32) &&& 31) = x := by
  have : ((0 : Int32) &&& 31) = 0 := by decide
  rw [this]
  simp
section JSTR
variable {M : gM} {ρ : Nat → Nat} {q : Nat} {w : List Nat}
theorem j_length (h : StA M ρ q w) {Q : Int32 → gM → Prop} (k : Q (Int32.ofNat w.length) M) : F_J4_length M q Q := by
  obtain ⟨v, h1, h2, h3, h4, h5⟩ := h
  refine gN_j h1.1 (by omega) h2 ⟨false, .byte, w.length, h4.1, by simp [gTl], rc_j h1.1 (bF (by decide) (gI_j h1.1 (by omega) ?_))⟩
  rw [h3]
  refine ⟨by first | rfl | decide, ?_⟩
  show Q (Int32.ofNat w.length >>> ((0 : Int32) &&& 31)) M
  rw [sh0]
  exact k
theorem j_charAt (h : StA M ρ q w) {i : Nat} {Q : Int32 → gM → Prop} (hl : w.length < 1000) (hi : i < w.length) (k : Q (Int32.ofNat (w.getD i 0)) M) : F_J4_charAt M q (Int32.ofNat i) Q := by
  obtain ⟨v, h1, h2, h3, h4, h5⟩ := h
  obtain ⟨g1, g2⟩ := h5 i hi
  refine rc_j h1.1 (bF (by decide) (gI_j h1.1 (by omega) ?_))
  rw [h3]
  refine bF' rfl (bF (by decide) (gN_j h1.1 (by omega) h2 ⟨false, .byte, w.length, h4.1, by simp [gTl], fun r => ?_⟩))
  refine bF (by rw [i32_lit 0, i32_lt (by omega) (by omega)]; omega) (ltT hi (by omega) (aI_i h4.1 hi (by omega) ?_))
  rw [g1, chr_m _ g2]
  exact ⟨nar_c _ g2, nar_c _ g2, k⟩
end JSTR
/-- scratch and one row have changed -/
def FrB (ρ : Nat → Nat) (o b : Nat) (M M' : gM) : Prop := (kd M' = kd M ∧ mR M' = mR M ∧ gl M' = gl M) ∧ ∀ c i, ¬ Sc ρ o c i → c ≠ b → mI M' c i = mI M c i ∧ mJ M' c i = mJ M c i
theorem Fr.b {ρ : Nat → Nat} {o b : Nat} {M M' : gM} (f : Fr ρ o M M') : FrB ρ o b M M' := ⟨f.1, fun c i z _ => f.2 c i z⟩
theorem FrB.tr {ρ : Nat → Nat} {o b : Nat} {M M' M2 : gM} (h : FrB ρ o b M M') (g : FrB ρ o b M' M2) : FrB ρ o b M M2 := ⟨⟨g.1.1.trans h.1.1, g.1.2.1.trans h.1.2.1, g.1.2.2.trans h.1.2.2⟩, fun c i z1 z2 => ⟨(g.2 c i z1 z2).1.trans (h.2 c i z1 z2).1, (g.2 c i z1 z2).2.trans (h.2 c i z1 z2).2⟩⟩
theorem FrB.w {ρ : Nat → Nat} {o b i : Nat} {M M' : gM} {x : Int32} (h : FrB ρ o b M M') : FrB ρ o b M (sI M' b i x) := h.tr ⟨⟨rfl, rfl, rfl⟩, fun c j _ z => ⟨mI_ne (Or.inl z), rfl⟩⟩
def TpM (M : gM) (a : Nat) (r T : Nat → Nat) (n : Nat) : Prop := mI M a 9 = Int32.ofNat n ∧ n ≤ 160 ∧ ∀ i, i < n → mI M (r 8) i = Int32.ofNat (T i) ∧ T i < 256
def TkM (M : gM) (a : Nat) (T : Nat → Nat) (t : Tok) : Prop := mI M a 23 = Int32.ofNat t.2.2 ∧ mI M a 24 = Int32.ofNat t.1 ∧ mI M a 25 = Int32.ofNat t.2.1 ∧ (t.1 = 2 → mJ M a 26 = Int64.ofNat (dv T t.2.1 t.2.2))
section MREAD
variable {M M' : gM} {a o b n : Nat} {r ρ T : Nat → Nat}
theorem FrB.lay {o' : Nat} (f : FrB ρ o b M M') (h : LayM M a r ρ o') : LayM M' a r ρ o' := by
  unfold LayM at h ⊢
  rw [f.1.1, f.1.2.1]
  exact h
theorem sc_no {c i t : Nat} (hc : ρ c = t) (h : t < o ∨ o + 99 < t) : ¬ Sc ρ o c i := by
  rintro (⟨k, hk, e⟩ | ⟨e, -⟩)
  · omega
  · omega
theorem FrB.cs (f : FrB ρ o b M M') (ho : 1000 ≤ o) (hb : ρ b ≠ 500) (h : CsA M ρ) : CsA M' ρ := by
  have key : ∀ c i, ρ c = 500 → mI M' c i = mI M c i := fun c i hc => (f.2 c i (sc_no hc (Or.inl (by omega))) (fun e => hb (by rw [← e]; exact hc))).1
  obtain ⟨h1, h2, h3⟩ := h
  unfold CsA StA
  rw [f.1.1, f.1.2.1, f.1.2.2]
  refine ⟨fun j hj => ?_, h2, fun i hi => (key _ _ h2.2).trans (h3 i hi)⟩
  obtain ⟨v, g1, g2, g3, g4, g5⟩ := h1 j hj
  exact ⟨v, g1, g2, (key _ _ g1.2).trans g3, g4, fun i hi => ⟨(key _ _ g4.2).trans (g5 i hi).1, (g5 i hi).2⟩⟩
theorem FrB.tp (f : FrB ρ o b M M') (h : LayM M a r ρ o) (hb : ρ b = o + 12) (ht : TpM M a r T n) : TpM M' a r T n := by
  refine ⟨(f.2 a 9 (by
    rintro (⟨k, hk, e⟩ | ⟨e, z⟩)
    · rw [h.1.2] at e; omega
    · omega) (ne_tg h.1.2 hb (by omega))).1.trans ht.1, ht.2.1, fun i hi => ⟨(f.2 _ _ (by
    rintro (⟨k, hk, e⟩ | ⟨e, z⟩)
    · rw [tg1 h (k := 8) rfl] at e; omega
    · rw [tg1 h (k := 8) rfl] at e; omega) (ne_tg (tg1 h (k := 8) rfl) hb (by omega))).1.trans (ht.2.2 i hi).1, (ht.2.2 i hi).2⟩⟩
theorem m_isLetter {c : Nat} {Q : Int32 → gM → Prop} (hc : c < 256) (h1 : isLt c = true → Q 1 M) (h0 : isLt c = false → Q 0 M) : F_X3_isLetter M (Int32.ofNat c) Q := ltS (b := 97) (by omega) (by omega) (fun z => h0 (isLt_f.mpr (by omega))) (fun z => ltS (a := 122) (by omega) (by omega) (fun y => h0 (isLt_f.mpr (by omega))) (fun y => h1 (isLt_t.mpr (by omega))))
theorem m_isDigit {c : Nat} {Q : Int32 → gM → Prop} (hc : c < 256) (h1 : isDi c = true → Q 1 M) (h0 : isDi c = false → Q 0 M) : F_X3_isDigit M (Int32.ofNat c) Q := ltS (b := 48) (by omega) (by omega) (fun z => h0 (isDi_f.mpr (by omega))) (fun z => ltS (a := 57) (by omega) (by omega) (fun y => h0 (isDi_f.mpr (by omega))) (fun y => h1 (isDi_t.mpr (by omega))))
/-- what of a figures' run is told so far -/
def fg (T : Nat → Nat) (q j : Nat) : Nat := if j ≤ q then 0 else dv T q j
theorem fg_step {q j : Nat} (hj : q ≤ j) (hd : 48 ≤ T j) (h2 : j < q + 2) : fg T q j * 10 + T j - 48 = fg T q (j + 1) := by
  unfold fg dv
  rcases (by omega : j = q ∨ j = q + 1) with rfl | rfl
  · rw [if_pos (by omega), if_neg (by omega), if_pos (by omega)]
    omega
  · rw [if_neg (by omega), if_pos (by omega), if_neg (by omega), if_neg (by omega), if_pos (by omega)]
    omega
theorem fg_big {q j : Nat} (hj : q + 2 ≤ j) : fg T q (j + 1) = 100000 := by
  unfold fg dv
  rw [if_neg (by omega), if_neg (by omega), if_neg (by omega)]
theorem fg_le {q j : Nat} (h : ∀ i, T i < 256) : fg T q j ≤ 100000 := by
  unfold fg dv
  have := h q
  have := h (q + 1)
  split
  · omega
  · split
    · omega
    · split <;> omega
theorem m_look (h : LayM M a r ρ o) (ht : TpM M a r T n) {p : Nat} {Q : gM → Prop} (hp : mI M a 23 = Int32.ofNat p) (hpn : p ≤ n) (q : ∀ M', Fr ρ o M M' → TkM M' a T (tk T n p) → Q M') : F_X3_look M a Q := by
  have hn := ht.2.1
  have ta := h.1.2
  have tb : ρ (r 12) = o + 12 := (h.2.2 12 _ _ _ rfl).1.2.2
  have tpN : ∀ N, Fr ρ o M N → TpM N a r T n := fun N f => (f.b (b := r 12)).tp h tb ht
  refine loopW (fun g (_ : Unit) N => F_X3_look_b0 Q a g N) (fun _ N => Fr ρ o M N ∧ ∃ j, j ≤ n ∧ mI N a 23 = Int32.ofNat j ∧ rn isSp T n j = rn isSp T n p) (fun _ N => n - (mI N a 23).toNatClampNeg) (fun g _ N hN k => ?_) () M ⟨Fr.rf, p, hpn, hp, rfl⟩
  obtain ⟨f, j, hj, ej, er⟩ := hN
  have hN := f.lay h
  have tN := tpN N f
  -- behind the spaces
  have main : rn isSp T n j = j → F_X3_look_b38 Q a N := by
    intro e9
    have etk : tk T n p = tkQ T n j := by unfold tk; rw [← er, e9]
    rw [etk] at q
    refine m_gI hN ?_
    rw [ej]
    refine m_pI hN (m_pJ (hN.sI _ _ _) ?_)
    have f3 := (f.wI (x := Int32.ofNat j) (sc0 (i := 25) hN (by omega))).wJ (x := (0 : Int64)) (sc0 (i := 26) hN (by omega))
    have h3 := f3.lay h
    have t3 := tpN _ f3
    generalize hN3 : sJ (sI N a 25 (Int32.ofNat j)) a 26 (0 : Int64) = N3 at f3 h3 t3 ⊢
    have e23 : mI N3 a 23 = Int32.ofNat j := by rw [← hN3, mI_sJ, mI_ne (Or.inr (by omega)), ej]
    have e25 : mI N3 a 25 = Int32.ofNat j := by rw [← hN3, mI_sJ, mI_eq]
    have e26 : mJ N3 a 26 = (0 : Int64) := by rw [← hN3, mJ_eq]
    refine m_gI h3 (m_gI h3 ?_)
    rw [e23, t3.1]
    refine eqS' (by omega) (by omega) (fun c => m_g1 h3 rfl (m_gI h3 ?_)) (fun c => m_pI h3 (q _ (f3.wI (sc0 h3 (by omega))) ?_))
    · have hT := (t3.2.2 j (by omega)).2
      rw [e23]
      refine m_aI h3 rfl (by omega) (by omega) ?_
      rw [(t3.2.2 j (by omega)).1]
      refine m_isLetter hT (fun c1 => bF n10 (m_pI h3 ?_)) (fun c1 => bT rfl ?_)
      · refine loopW (fun g (_ : Unit) N => F_X3_look_b90 Q a g N) (fun _ N => Fr ρ o M N ∧ mI N a 24 = 1 ∧ mI N a 25 = Int32.ofNat j ∧ ∃ i, j ≤ i ∧ i ≤ n ∧ mI N a 23 = Int32.ofNat i ∧ rn isLt T n i = rn isLt T n j) (fun _ N => n - (mI N a 23).toNatClampNeg) (fun g _ N hN k => ?_) () _ ⟨f3.wI (sc0 h3 (by omega)), mI_eq, (mI_ne (Or.inr (by omega))).trans e25, j, Nat.le_refl _, hj, (mI_ne (Or.inr (by omega))).trans e23, rfl⟩
        obtain ⟨f, e24, e25, i, hji, hi, ei, er⟩ := hN
        have hN := f.lay h
        have tN := tpN N f
        have fin : rn isLt T n i = i → Q N := fun e9 => q N f (by
          have : tkQ T n j = (1, j, i) := by unfold tkQ; rw [if_neg (by omega), if_pos c1, ← er, e9]
          rw [this]
          exact ⟨ei, e24, e25, fun z => by cases z⟩)
        refine m_gI hN (m_gI hN ?_)
        rw [ei, tN.1]
        refine leS (by omega) (by omega) (fun c => fin (rn_stop (Or.inl c))) (fun c => ?_)
        have hTi := (tN.2.2 i c).2
        refine m_g1 hN rfl (m_gI hN ?_)
        rw [ei]
        refine m_aI hN rfl (by omega) (by omega) ?_
        rw [(tN.2.2 i c).1]
        refine m_isLetter hTi (fun c2 => bF n10 (m_gI hN (m_pI hN ?_))) (fun c2 => bT rfl (fin (rn_stop (Or.inr c2))))
        rw [ei, i32_lit 1, i32_add]
        refine k () _ ⟨f.wI (sc0 hN (by omega)), (mI_ne (Or.inr (by omega))).trans e24, (mI_ne (Or.inr (by omega))).trans e25, i + 1, by omega, by omega, mI_eq, (rn_step c c2).trans er⟩ ?_
        rw [mI_eq, ei, i32_nat (by omega), i32_nat (by omega)]
        omega
      · refine m_g1 h3 rfl (m_gI h3 ?_)
        rw [e23]
        refine m_aI h3 rfl (by omega) (by omega) ?_
        rw [(t3.2.2 j (by omega)).1]
        refine m_isDigit hT (fun c2 => bF n10 (m_pI h3 ?_)) (fun c2 => bT rfl (m_g1 h3 rfl (m_gI h3 ?_)))
        · refine loopW (fun g (_ : Unit) N => F_X3_look_b149 Q a g N) (fun _ N => Fr ρ o M N ∧ mI N a 24 = 2 ∧ mI N a 25 = Int32.ofNat j ∧ ∃ i, j ≤ i ∧ i ≤ n ∧ mI N a 23 = Int32.ofNat i ∧ rn isDi T n i = rn isDi T n j ∧ mJ N a 26 = Int64.ofNat (fg T j i)) (fun _ N => n - (mI N a 23).toNatClampNeg) (fun g _ N hN k => ?_) () _ ⟨f3.wI (sc0 h3 (by omega)), mI_eq, (mI_ne (Or.inr (by omega))).trans e25, j, Nat.le_refl _, hj, (mI_ne (Or.inr (by omega))).trans e23, rfl, by rw [mJ_sI, e26]; unfold fg; rw [if_pos (Nat.le_refl _)]; rfl⟩
          obtain ⟨f, e24, e25, i, hji, hi, ei, er, eg⟩ := hN
          have hN := f.lay h
          have tN := tpN N f
          have fin : rn isDi T n i = i → Q N := fun e9 => q N f (by
            have h9 := rn_pos (n := n) (by omega) c2
            have : tkQ T n j = (2, j, i) := by unfold tkQ; rw [if_neg (by omega), if_neg (by rw [c1]; exact Bool.noConfusion), if_pos c2, ← er, e9]
            rw [this]
            refine ⟨ei, e24, e25, fun _ => ?_⟩
            rw [eg]
            unfold fg
            rw [if_neg (by omega)])
          refine m_gI hN (m_gI hN ?_)
          rw [ei, tN.1]
          refine leS (by omega) (by omega) (fun c => fin (rn_stop (Or.inl c))) (fun c => ?_)
          have hTi := (tN.2.2 i c).2
          refine m_g1 hN rfl (m_gI hN ?_)
          rw [ei]
          refine m_aI hN rfl (by omega) (by omega) ?_
          rw [(tN.2.2 i c).1]
          refine m_isDigit hTi (fun c3 => bF n10 (m_gI hN (m_gI hN ?_))) (fun c3 => bT rfl (fin (rn_stop (Or.inr c3))))
          have hd := isDi_t.mp c3
          have go : ∀ z : Int64, z = Int64.ofNat (fg T j (i + 1)) → F_X3_look_b218 Q (F_X3_look_b149 Q a g) a a z N := by
            intro z hz
            refine m_pJ hN (m_gI (hN.sJ _ _ _) (m_pI (hN.sJ _ _ _) ?_))
            rw [mI_sJ, ei, i32_lit 1, i32_add]
            refine k () _ ⟨(f.wJ (sc0 hN (by omega))).wI (sc0 hN (by omega)), (mI_ne (Or.inr (by omega))).trans e24, (mI_ne (Or.inr (by omega))).trans e25, i + 1, by omega, by omega, mI_eq, (rn_step c c3).trans er, ?_⟩ ?_
            · rw [mJ_sI, mJ_eq, hz]
            · rw [mI_eq, ei, i32_nat (by omega), i32_nat (by omega)]
              omega
          rw [ei, e25, i32_sub hji]
          refine leS (a := 2) (by omega) (by omega) (fun c4 => go _ ?_) (fun c4 => m_gJ hN (m_g1 hN rfl (m_gI hN ?_)))
          · rw [fg_big (by omega)]
            rfl
          · rw [ei]
            refine m_aI hN rfl (by omega) (by omega) ?_
            rw [(tN.2.2 i c).1, eg, i64_of (by omega)]
            refine go _ ?_
            rw [i64_lit 10, i64_lit 48, i64_mul, i64_add, i64_sub (by omega), fg_step hji hd.1 (by omega)]
        · rw [e23]
          refine m_aI h3 rfl (by omega) (by omega) ?_
          rw [(t3.2.2 j (by omega)).1]
          have fin : ∀ z : Nat, tkQ T n j = (z, j, j + 1) → F_X3_look_b254 Q a a (Int32.ofNat z) N3 := by
            intro z hz
            refine m_pI h3 (m_gI (h3.sI _ _ _) (m_pI (h3.sI _ _ _) ?_))
            rw [mI_ne (Or.inr (by omega)), e23, i32_lit 1, i32_add]
            refine q _ ((f3.wI (sc0 h3 (by omega))).wI (sc0 h3 (by omega))) ?_
            rw [hz]
            refine ⟨mI_eq, (mI_ne (Or.inr (by omega))).trans mI_eq, (mI_ne (Or.inr (by omega))).trans ((mI_ne (Or.inr (by omega))).trans e25), fun z2 => ?_⟩
            exfalso
            have z2 : z = 2 := z2
            have := congrArg Prod.fst hz
            unfold tkQ at this
            rw [if_neg (by omega), if_neg (by rw [c1]; exact Bool.noConfusion), if_neg (by rw [c2]; exact Bool.noConfusion)] at this
            split at this
            · have : 3 = z := this; omega
            · have : 4 = z := this; omega
          have e0 : tkQ T n j = if T j = 59 then (3, j, j + 1) else (4, j, j + 1) := by unfold tkQ; rw [if_neg (by omega), if_neg (by rw [c1]; exact Bool.noConfusion), if_neg (by rw [c2]; exact Bool.noConfusion)]
          exact eqS' (b := 59) (by omega) (by omega) (fun c3 => fin 4 (by rw [e0, if_neg c3])) (fun c3 => fin 3 (by rw [e0, if_pos c3]))
    · have : tkQ T n j = (0, j, j) := by unfold tkQ; rw [if_pos (by omega)]
      rw [this]
      exact ⟨(mI_ne (Or.inr (by omega))).trans e23, mI_eq, (mI_ne (Or.inr (by omega))).trans e25, fun z => by cases z⟩
  refine m_gI hN (m_gI hN ?_)
  rw [ej, tN.1]
  refine leS (by omega) (by omega) (fun c => main (rn_stop (Or.inl c))) (fun c => m_g1 hN rfl (m_gI hN ?_))
  rw [ej]
  refine m_aI hN rfl (by omega) (by omega) ?_
  rw [(tN.2.2 j c).1]
  have hTj := (tN.2.2 j c).2
  refine eqS' (b := 32) (by omega) (by omega) (fun c2 => main (rn_stop (Or.inr (isSp_f.mpr c2)))) (fun c2 => m_gI hN (m_pI hN ?_))
  rw [ej, i32_lit 1, i32_add]
  refine k () _ ⟨f.wI (sc0 hN (by omega)), j + 1, by omega, mI_eq, (rn_step c (isSp_t.mpr c2)).trans er⟩ ?_
  rw [mI_eq, ej, i32_nat (by omega), i32_nat (by omega)]
  omega
end MREAD
