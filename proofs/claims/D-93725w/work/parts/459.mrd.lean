/-! the model's reader: a whole text -/
set_option maxRecDepth 100000
theorem sortS_ok {T : Nat → Nat} {n : Nat} {t : Tok} {P : Nat → Nat} (hO : TkO n t) (hP : WfP P) (hk : P 4 ≠ 3) : (∀ f, sortS T n t P = .inl f → f ≤ n) ∧ ∀ t' P', sortS T n t P = .inr (t', P') → TkO n t' ∧ t.2.1 ≤ t'.2.1 ∧ WfP P' := by
  unfold sortS
  have k0 := tl_ok (T := T) (lo := 1) (hi := 9) (w := wRoom) hO
  cases e0 : tl T n wRoom 1 9 t with
  | inl f => exact ⟨fun f' h => by cases h; exact k0.1 f e0, fun _ _ h => by cases h⟩
  | inr y =>
    obtain ⟨v0, t0⟩ := y
    have o0 := k0.2 v0 t0 e0
    have k1 := tl_ok (T := T) (lo := 0) (hi := 4) (w := wComes) o0.1
    simp only
    cases e1 : tl T n wComes 0 4 t0 with
    | inl f => exact ⟨fun f' h => by cases h; exact k1.1 f e1, fun _ _ h => by cases h⟩
    | inr y =>
      obtain ⟨v1, t1⟩ := y
      have o1 := k1.2 v1 t1 e1
      have k2 := tl_ok (T := T) (lo := 0) (hi := 9) (w := wHold) o1.1
      simp only
      cases e2 : tl T n wHold 0 9 t1 with
      | inl f => exact ⟨fun f' h => by cases h; exact k2.1 f e2, fun _ _ h => by cases h⟩
      | inr y =>
        obtain ⟨v2, t2⟩ := y
        have o2 := k2.2 v2 t2 e2
        have k3 := tlO_ok (T := T) (hi := 99) (w := wRefuse) o2.1
        simp only
        cases e3 : tlO T n wRefuse 0 99 t2 with
        | inl f => exact ⟨fun f' h => by cases h; exact k3.1 f e3, fun _ _ h => by cases h⟩
        | inr y =>
          obtain ⟨v3, t3⟩ := y
          have o3 := k3.2 v3 t3 e3
          have k4 := tlO_ok (T := T) (hi := 99) (w := wLeft) o3.1
          simp only
          cases e4 : tlO T n wLeft 0 99 t3 with
          | inl f => exact ⟨fun f' h => by cases h; exact k4.1 f e4, fun _ _ h => by cases h⟩
          | inr y =>
            obtain ⟨v4, t4⟩ := y
            have o4 := k4.2 v4 t4 e4
            refine ⟨fun f' h => (by cases h), fun t' P' h => ?_⟩
            cases h
            exact ⟨o4.1, by omega, hP.sort hk o0.2.2 o1.2.2.2 o2.2.2.2 o3.2.2 o4.2.2⟩
theorem stm_ok {T : Nat → Nat} {n : Nat} {t : Tok} {P : Nat → Nat} (hO : TkO n t) (hP : WfP P) : (∀ f, stm T n t P = .inl f → f ≤ n) ∧ ∀ t' P', stm T n t P = .inr (t', P') → TkO n t' ∧ t.2.1 ≤ t'.2.1 ∧ WfP P' := by
  unfold stm
  split
  · have k0 := tl_ok (T := T) (lo := 1) (hi := 6) (w := wDays) hO
    cases e0 : tl T n wDays 1 6 t with
    | inl f => exact ⟨fun f' h => by cases h; exact k0.1 f e0, fun _ _ h => by cases h⟩
    | inr y =>
      obtain ⟨v0, t0⟩ := y
      have o0 := k0.2 v0 t0 e0
      refine ⟨fun f' h => (by cases h), fun t' P' h => ?_⟩
      cases h
      exact ⟨o0.1, by omega, hP.up (by omega) (fun _ => o0.2.2) (fun z => by omega) (fun z => by omega) (fun z => by omega)⟩
  · split
    · have k0 := tl_ok (T := T) (lo := 0) (hi := 99) (w := wBox) hO
      cases e0 : tl T n wBox 0 99 t with
      | inl f => exact ⟨fun f' h => by cases h; exact k0.1 f e0, fun _ _ h => by cases h⟩
      | inr y =>
        obtain ⟨v0, t0⟩ := y
        have o0 := k0.2 v0 t0 e0
        have k1 := tl_ok (T := T) (lo := 1) (hi := 40) (w := wRoom) o0.1
        simp only
        cases e1 : tl T n wRoom 1 40 t0 with
        | inl f => exact ⟨fun f' h => by cases h; exact k1.1 f e1, fun _ _ h => by cases h⟩
        | inr y =>
          obtain ⟨v1, t1⟩ := y
          have o1 := k1.2 v1 t1 e1
          refine ⟨fun f' h => (by cases h), fun t' P' h => ?_⟩
          cases h
          exact ⟨o1.1, by omega, (hP.up (by omega) (fun z => by omega) (fun _ => o0.2.2.2) (fun z => by omega) (fun z => by omega)).up (by omega) (fun z => by omega) (fun z => by omega) (fun _ => o1.2.2) (fun z => by omega)⟩
    · split
      · have k0 := tl_ok (T := T) (lo := 0) (hi := 3) (w := wFull) hO
        cases e0 : tl T n wFull 0 3 t with
        | inl f => exact ⟨fun f' h => by cases h; exact k0.1 f e0, fun _ _ h => by cases h⟩
        | inr y =>
          obtain ⟨v0, t0⟩ := y
          have o0 := k0.2 v0 t0 e0
          refine ⟨fun f' h => (by cases h), fun t' P' h => ?_⟩
          cases h
          exact ⟨o0.1, by omega, hP.up (by omega) (fun z => by omega) (fun z => by omega) (fun z => by omega) (fun _ => o0.2.2.2)⟩
      · split
        · rename_i c
          have o1 := tk_ok T hO.2.1
          have k := sortS_ok (T := T) (n := n) (t := tk T n t.2.2) (P := P) o1.1 hP c.2
          exact ⟨k.1, fun t' P' h => ⟨(k.2 t' P' h).1, by have := (k.2 t' P' h).2.1; have := hO.1; omega, (k.2 t' P' h).2.2⟩⟩
        · refine ⟨fun f h => ?_, fun _ _ h => by cases h⟩
          cases h
          have := hO.1
          have := hO.2.1
          omega
theorem rdN_ok {T : Nat → Nat} {n : Nat} : ∀ k t P, TkO n t → WfP P → (∀ f, rdN T n k t P = .inl f → f ≤ n) ∧ ∀ P', rdN T n k t P = .inr P' → Wf P' := by
  intro k
  induction k with
  | zero =>
    intro t P hO _
    refine ⟨fun f h => ?_, fun _ h => by cases h⟩
    cases h
    have := hO.1
    have := hO.2.1
    omega
  | succ k ih =>
    intro t P hO hP
    unfold rdN
    have hf : t.2.1 ≤ n := by have := hO.1; have := hO.2.1; omega
    split
    · split
      · rename_i c4
        refine ⟨fun f h => (by cases h), fun P' h => ?_⟩
        cases h
        obtain ⟨a0, a1, a2, a3, a4, a5⟩ := hP
        exact ⟨a0, a1, a2, a3, ⟨c4, a4⟩, a5⟩
      · exact ⟨fun f h => by cases h; exact hf, fun _ h => by cases h⟩
    · split
      · have k1 := stm_ok (T := T) (P := P) (tk_ok T hO.2.1).1 hP
        cases e : stm T n (tk T n t.2.2) P with
        | inl f => exact ⟨fun f' h => by cases h; exact k1.1 f e, fun _ h => by cases h⟩
        | inr y =>
          obtain ⟨t', P'⟩ := y
          have := k1.2 t' P' e
          exact ih t' P' this.1 this.2.2
      · exact ⟨fun f h => by cases h; exact hf, fun _ h => by cases h⟩
theorem rdF_ok {T : Nat → Nat} {n : Nat} : (∀ f, rdF T n = .inl f → f ≤ n) ∧ ∀ P', rdF T n = .inr P' → Wf P' := by
  unfold rdF
  have k1 := stm_ok (T := T) (P := P0) (tk_ok T (Nat.zero_le n)).1 P0_wf
  cases e : stm T n (tk T n 0) P0 with
  | inl f => exact ⟨fun f' h => by cases h; exact k1.1 f e, fun _ h => by cases h⟩
  | inr y =>
    obtain ⟨t', P'⟩ := y
    have := k1.2 t' P' e
    exact rdN_ok _ t' P' this.1 this.2.2
section MRD
variable {M M' : gM} {a o b n : Nat} {r ρ T : Nat → Nat}
theorem m_read (h : LayM M a r ρ o) (ho : 1000 ≤ o) (hC : CsA M ρ) (ht : TpM M a r T n) (hb : ρ b = o + 12) (hbk : kd M b = some (true, .inr (.int, 20))) {Q : Int32 → gM → Prop}
    (k0 : ∀ f, rdF T n = .inl f → ∀ M', FrB ρ o b M M' → mI M' a 27 = Int32.ofNat f → Q 0 M')
    (k1 : ∀ P', rdF T n = .inr P' → ∀ M', FrB ρ o b M M' → RwP M' b P' → Q 1 M') : F_X3_read M a b Q := by
  have nb : ρ b ≠ 500 := by omega
  have hn := ht.2.1
  have st : ∀ N, FrB ρ o b M N → LayM N a r ρ o ∧ CsA N ρ ∧ TpM N a r T n ∧ kd N b = some (true, .inr (.int, 20)) := fun N f => ⟨f.lay h, f.cs ho nb hC, f.tp h hb ht, by rw [f.1.1]; exact hbk⟩
  have nab : a ≠ b := ne_tg h.1.2 hb (by omega)
  refine uI_i (i := 0) hbk (by omega) (by omega) (uI_i (M := sI _ _ _ _) (i := 1) hbk (by omega) (by omega) (uI_i (M := sI _ _ _ _) (i := 2) hbk (by omega) (by omega) (uI_i (M := sI _ _ _ _) (i := 3) hbk (by omega) (by omega) (uI_i (M := sI _ _ _ _) (i := 4) hbk (by omega) (by omega) (m_pI (h := (((((h.sI _ _ _).sI _ _ _).sI _ _ _).sI _ _ _).sI _ _ _)) ?_)))))
  have f5 : FrB ρ o b M (sI (sI (sI (sI (sI M b 0 3) b 1 10) b 2 10) b 3 0) b 4 0) := (((((Fr.rf (ρ := ρ) (o := o) (M := M)).b (b := b)).w.w).w).w).w
  have f6 := f5.tr ((Fr.rf.wI (i := 23) (x := (0 : Int32)) (sc0 (f5.lay h) (by omega))).b (b := b))
  have e23 : mI (sI (sI (sI (sI (sI (sI M b 0 3) b 1 10) b 2 10) b 3 0) b 4 0) a 23 (0 : Int32)) a 23 = Int32.ofNat 0 := mI_eq
  have rw6 : RwP (sI (sI (sI (sI (sI (sI M b 0 3) b 1 10) b 2 10) b 3 0) b 4 0) a 23 (0 : Int32)) b P0 := by
    intro i hi
    have hi : i < 5 := hi
    rw [mI_ne (Or.inl nab.symm)]
    rcases (by omega : i = 0 ∨ i = 1 ∨ i = 2 ∨ i = 3 ∨ i = 4) with rfl | rfl | rfl | rfl | rfl
    · rw [mI_ne (Or.inr (by omega)), mI_ne (Or.inr (by omega)), mI_ne (Or.inr (by omega)), mI_ne (Or.inr (by omega)), mI_eq]; rfl
    · rw [mI_ne (Or.inr (by omega)), mI_ne (Or.inr (by omega)), mI_ne (Or.inr (by omega)), mI_eq]; rfl
    · rw [mI_ne (Or.inr (by omega)), mI_ne (Or.inr (by omega)), mI_eq]; rfl
    · rw [mI_ne (Or.inr (by omega)), mI_eq]; rfl
    · rw [mI_eq]; rfl
  generalize sI (sI (sI (sI (sI (sI M b 0 3) b 1 10) b 2 10) b 3 0) b 4 0) a 23 (0 : Int32) = N at f6 e23 rw6 ⊢
  obtain ⟨hN, hC6, hT6, hb6⟩ := st N f6
  refine m_rc hN (m_look hN hT6 e23 (Nat.zero_le _) (fun N1 f1 t1 => ?_))
  have f61 := f6.tr (f1.b (b := b))
  obtain ⟨hN1, hC1, hT1, hb1⟩ := st N1 f61
  have o1 := (tk_ok T (Nat.zero_le n)).1
  refine m_rc hN1 (m_statement hN1 ho hC1 hT1 hb hb1 t1 o1 (fun i hi => (f1.rowb hb i).trans (rw6 i hi)) (by decide) (fun f ef N2 f2 e27 => bF' rfl (k0 f (by unfold rdF; rw [ef]) N2 (f61.tr f2) e27)) (fun t' P' es N2 f2 t2 w2 => bT' n10 ?_))
  have so := (stm_ok (T := T) (P := P0) o1 P0_wf).2 t' P' es
  have er : rdN T n (n + 1) t' P' = rdF T n := by unfold rdF; rw [es]
  refine loopW (fun g (_ : Unit) N => F_X3_read_b41 Q a b g N) (fun _ N => ∃ t P k, FrB ρ o b M N ∧ TkM N a T t ∧ TkO n t ∧ RwP N b P ∧ WfP P ∧ n < t.2.1 + k ∧ rdN T n k t P = rdF T n) (fun _ N => n + 1 - (mI N a 25).toNatClampNeg) (fun g _ N hN k => ?_) () N2 ⟨t', P', n + 1, f61.tr f2, t2, so.1, w2, so.2.2, by omega, er⟩
  obtain ⟨t, P, kk, f, tN, tO, hP, hW, hk, er⟩ := hN
  obtain ⟨hN, hC', hT', hb'⟩ := st N f
  have h4 := hW.2.2.2.2.1
  have hto : t.2.1 ≤ n := by have := tO.1; have := tO.2.1; omega
  obtain ⟨kk, rfl⟩ : ∃ z, kk = z + 1 := ⟨kk - 1, by omega⟩
  unfold rdN at er
  have h5 := tO.2.2.2.2
  refine m_gI hN ?_
  rw [tN.2.1]
  refine eqS (b := 0) (by omega) (by omega) (fun c => aI_i (i := 4) hb' (by omega) (by omega) ?_) (fun c => m_gI hN ?_)
  · rw [if_pos c] at er
    rw [hP 4 (by omega)]
    refine ltS (a := 0) (by omega) (by omega) (fun c2 => k1 P (by rw [← er, if_pos c2]) N f hP) (fun c2 => m_rc hN (m_wrong hN tN (fun N3 f3 e27 => bT rfl (k0 t.2.1 (by rw [← er, if_neg (by omega)]) N3 (f.tr f3.b) e27))))
  · rw [if_neg c] at er
    rw [tN.2.1]
    refine eqS (b := 3) (by omega) (by omega) (fun c2 => ?_) (fun c2 => m_rc hN (m_wrong hN tN (fun N3 f3 e27 => ⟨Or.inl rfl, k0 t.2.1 (by rw [← er, if_neg c2]) N3 (f.tr f3.b) e27⟩)))
    rw [if_pos c2] at er
    refine m_rc hN (m_look hN hT' tN.1 tO.2.1 (fun N3 f3 t3 => ?_))
    have f13 := f.tr (f3.b (b := b))
    obtain ⟨hN3, hC3, hT3, hb3⟩ := st N3 f13
    have o3 := tk_ok T tO.2.1
    refine m_rc hN3 (m_statement hN3 ho hC3 hT3 hb hb3 t3 o3.1 (fun i hi => (f3.rowb hb i).trans (hP i hi)) h4 (fun ff ef N4 f4 e27 => bF' rfl (k0 ff (by rw [← er, ef]) N4 (f13.tr f4) e27)) (fun t4 P4 es N4 f4 t4N w4 => bT' n10 ?_))
    have so := (stm_ok (T := T) (P := P) o3.1 hW).2 t4 P4 es
    rw [es] at er
    have lt := tO.2.2.2.1 (by omega)
    refine k () N4 ⟨t4, P4, kk, f13.tr f4, t4N, so.1, w4, so.2.2, by omega, er⟩ ?_
    have := so.1.1
    have := so.1.2.1
    rw [t4N.2.2.1, tN.2.2.1, i32_nat (by omega), i32_nat (by omega)]
    omega
end MRD
