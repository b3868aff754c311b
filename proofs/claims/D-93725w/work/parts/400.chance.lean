/-! chances -/
set_option maxRecDepth 100000
/-- a weight w at s, spread by the first n ways of coming, added to D -/
def spN (P : Nat → Nat) (s w : Nat) (D : Nat → Nat) : Nat → Nat → Nat
  | 0 => D
  | c + 1 => fun t => spN P s w D c t + (if t = thN P c s (P 4) then w * wtN P c (P 4) else 0)
/-- only this row of longs has changed -/
def Onl (b : Nat) (M M' : gM) : Prop := (kd M' = kd M ∧ mR M' = mR M ∧ gl M' = gl M ∧ mI M' = mI M) ∧ ∀ c i, c ≠ b → mJ M' c i = mJ M c i
theorem Onl.rf {b : Nat} {M : gM} : Onl b M M := ⟨⟨rfl, rfl, rfl, rfl⟩, fun _ _ _ => rfl⟩
theorem Onl.wJ {b i : Nat} {x : Int64} {M M' : gM} (h : Onl b M M') : Onl b M (sJ M' b i x) := ⟨h.1, fun c j hc => (mJ_ne (Or.inl hc)).trans (h.2 c j hc)⟩
theorem Onl.tr {b : Nat} {M M' M2 : gM} (h : Onl b M M') (g : Onl b M' M2) : Onl b M M2 := ⟨⟨g.1.1.trans h.1.1, g.1.2.1.trans h.1.2.1, g.1.2.2.1.trans h.1.2.2.1, g.1.2.2.2.trans h.1.2.2.2⟩, fun c i hc => (g.2 c i hc).trans (h.2 c i hc)⟩
section MCH
variable {M : gM} {a o : Nat} {r ρ P : Nat → Nat}
theorem Onl.lay {M' : gM} {b : Nat} (f : Onl b M M') (h : LayM M a r ρ o) : LayM M' a r ρ o := by
  unfold LayM at h ⊢
  rw [f.1.1, f.1.2.1]
  exact h
theorem Onl.hs {M' : gM} {b x : Nat} (f : Onl b M M') (h : HsM M r x P) : HsM M' r x P := by
  unfold HsM at h ⊢
  rw [f.1.2.2.2]
  exact h
theorem Onl.fr {M' : gM} {b : Nat} (f : Onl b M M') (hb : ∀ i, Sc ρ o b i) : Fr ρ o M M' := ⟨⟨f.1.1, f.1.2.1, f.1.2.2.1⟩, fun c i z => ⟨by rw [f.1.2.2.2], f.2 c i (fun e => z (by rw [e]; exact hb i))⟩⟩
theorem m_goesOn (h : LayM M a r ρ o) {x s w b : Nat} {D : Nat → Nat} {Q : gM → Prop} (hx : x < 8) (hP : HsM M r x P) (hw : Wf P) (hs : s < 5 ^ P 4) (hww : w < 9223372036854775808) (hb : kd M b = some (true, .inr (.long, 125))) (hD : ∀ t, t < 125 → mJ M b t = Int64.ofNat (D t)) (q : ∀ M', Onl b M M' → (∀ t, t < 125 → mJ M' b t = Int64.ofNat (spN P s w D (2 ^ P 4) t)) → Q M') : F_X3_goesOn M a (Int32.ofNat x) (Int32.ofNat s) (Int64.ofNat w) b Q := by
  have hk := hw.2.2.2.2.1
  have h5 := p5_le hk.2
  have h2 := p2_le hk.2
  have l34 : ∀ (K10 : Int32 → gM → Prop) (c : Nat) (N : gM), c < 8 → Onl b M N → (∀ t, t < 125 → mJ N b t = Int64.ofNat (spN P s w D c t)) → (∀ N', Onl b M N' → (∀ t, t < 125 → mJ N' b t = Int64.ofNat (spN P s w D (c + 1) t)) → K10 (Int32.ofNat (c + 1)) N') →
      ∀ (e i g : Nat), i + e = P 4 → e < g → F_X3_goesOn_b34 Q K10 a (Int32.ofNat x) (Int32.ofNat s) (Int64.ofNat w) b (Int32.ofNat (P 4)) (Int32.ofNat c) g (Int64.ofNat (w * wtN P c i)) (Int32.ofNat (thN P c s i)) (Int32.ofNat i) N := by
    intro K10 c N hc f hN hK e
    have hL := f.lay h
    have hPN := f.hs hP
    have hbN : kd N b = some (true, .inr (.long, 125)) := by rw [f.1.1]; exact hb
    induction e with
    | zero =>
      intro i g hi hg
      obtain ⟨g, rfl⟩ : ∃ z, g = z + 1 := ⟨g - 1, by omega⟩
      have hi : i = P 4 := by omega
      subst hi
      have ht := th_lt (P := P) hk.2 hc hs
      refine bT (by rw [i32_le (by omega) (by omega)]; omega) (aJ_i hbN (by omega) (by omega) (uJ_i hbN (by omega) (by omega) ?_))
      rw [i32_lit 1, i32_add, hN _ (by omega), i64_add]
      refine hK _ f.wJ (fun t ht2 => ?_)
      show _ = Int64.ofNat (spN P s w D c t + (if t = thN P c s (P 4) then w * wtN P c (P 4) else 0))
      by_cases e : t = thN P c s (P 4)
      · rw [if_pos e, e, mJ_eq]
      · rw [if_neg e, mJ_ne (Or.inr e), hN t ht2]
        rfl
    | succ e ih =>
      intro i g hi hg
      obtain ⟨g, rfl⟩ : ∃ z, g = z + 1 := ⟨g - 1, by omega⟩
      have hP6 := (hw.2.2.2.2.2 i (by omega)).2.1
      have hdg : dg s i ≤ 4 := by unfold dg; omega
      have hI := ih (i + 1) g (by omega) (by omega)
      have go : ∀ (v z : Nat), v = (if bt c i then P (6 + 5 * i) else 4 - P (6 + 5 * i)) → z = (if bt c i = true ∧ dg s i ≠ 4 then 5 ^ i else 0) → (F_X3_goesOn_b34 Q K10 a (Int32.ofNat x) (Int32.ofNat s) (Int64.ofNat w) b (Int32.ofNat (P 4)) (Int32.ofNat c) g) (Int64.ofNat (w * wtN P c i) * Int64.ofNat v) (Int32.ofNat (thN P c s i) + Int32.ofNat z) (Int32.ofNat i + (1 : Int32)) N := by
        intro v z hv hz
        rw [i32_lit 1, i32_add, i32_add, i64_mul, Nat.mul_assoc, hv, hz]
        exact hI
      refine bF (by rw [i32_le (by omega) (by omega)]; omega) ?_
      rw [bt_m c hc i (by omega)]
      refine ⟨fun cb => m_rc hL (m_numberOf (w := 1) hL hx hPN (by omega) (by omega) (bT rfl ?_)), fun cb => m_rc hL (m_numberOf (w := 1) hL hx hPN (by omega) (by omega) (bF (by decide) (bF (by decide) (m_ofState (by omega) (by omega) ?_))))⟩
      · rw [show 5 + 5 * i + 1 = 6 + 5 * i by omega, i32_lit 4, i32_sub hP6, i64_of (by omega)]
        refine bT rfl ?_
        exact go _ 0 (by rw [cb]; rfl) (by rw [if_neg (fun z => by rw [cb] at z; cases z.1)])
      · have cb' : bt c i = true := by simpa using cb
        rw [show 5 + 5 * i + 1 = 6 + 5 * i by omega, i32_lit 4, i32_le (by omega) (by omega), i64_of (by omega)]
        refine ⟨fun z => ?_, fun z => m_power (b := 5) (by omega) ?_⟩
        · exact go _ 0 (by rw [if_pos cb']) (by rw [if_neg (fun y => by omega)])
        · exact go _ _ (by rw [if_pos cb']) (by rw [if_pos ⟨cb', by omega⟩])
  have l10 : ∀ (e c g : Nat) (N : gM), c + e = 2 ^ P 4 → e < g → Onl b M N → (∀ t, t < 125 → mJ N b t = Int64.ofNat (spN P s w D c t)) → F_X3_goesOn_b10 Q a (Int32.ofNat x) (Int32.ofNat s) (Int64.ofNat w) b (Int32.ofNat (P 4)) g (Int32.ofNat c) N := by
    intro e
    induction e with
    | zero =>
      intro c g N hc hg f hN
      obtain ⟨g, rfl⟩ : ∃ z, g = z + 1 := ⟨g - 1, by omega⟩
      refine bT (by rw [sh_m _ (by omega), i32_le (by omega) (by omega)]; omega) (q N f ?_)
      rw [show 2 ^ P 4 = c by omega]
      exact hN
    | succ e ih =>
      intro c g N hc hg f hN
      obtain ⟨g, rfl⟩ : ∃ z, g = z + 1 := ⟨g - 1, by omega⟩
      refine bF (by rw [sh_m _ (by omega), i32_le (by omega) (by omega)]; omega) ?_
      rw [i64_lit 0, i64_le hww (by omega)]
      refine ⟨fun z => q N f (fun t ht => ?_), fun z => ⟨P 4 + 1, ?_⟩⟩
      · have e0 : ∀ n t, spN P s w D n t = D t := by
          intro n
          induction n with
          | zero => intro t; rfl
          | succ n ihn =>
            intro t
            show spN P s w D n t + (if t = _ then w * _ else 0) = D t
            rw [ihn t, show w = 0 by omega, Nat.zero_mul]
            split <;> rfl
        rw [hN t ht, e0, e0]
      · have := l34 (F_X3_goesOn_b10 Q a (Int32.ofNat x) (Int32.ofNat s) (Int64.ofNat w) b (Int32.ofNat (P 4)) g) c N (by omega) f hN (fun N' f' hN' => ih (c + 1) g N' (by omega) (by omega) f' hN') (P 4) 0 (P 4 + 1) (by omega) (by omega)
        have e1 : w * wtN P c 0 = w := Nat.mul_one w
        rw [e1] at this
        exact this
  exact m_rc h (m_sorts h hx hP ⟨2 ^ P 4 + 1, l10 (2 ^ P 4) 0 (2 ^ P 4 + 1) M (by omega) (by omega) Onl.rf hD⟩)
end MCH
