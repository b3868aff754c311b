/-! the model is made; its image -/
set_option maxRecDepth 100000
theorem kd_sN (M : gM) (q : Nat) (t : Nat ⊕ (FieldType × Nat)) (b : Nat) : kd (sN M q t) b = if b = q then some (true, t) else kd M b := rfl
theorem mI_sN (M : gM) (q : Nat) (t : Nat ⊕ (FieldType × Nat)) (b i : Nat) : mI (sN M q t) b i = if b = q then 0 else mI M b i := rfl
theorem mJ_sN (M : gM) (q : Nat) (t : Nat ⊕ (FieldType × Nat)) (b i : Nat) : mJ (sN M q t) b i = if b = q then 0 else mJ M b i := rfl
theorem mR_sN (M : gM) (q : Nat) (t : Nat ⊕ (FieldType × Nat)) (b i : Nat) : mR (sN M q t) b i = if b = q then none else mR M b i := rfl
theorem gl_sN (M : gM) (q : Nat) (t : Nat ⊕ (FieldType × Nat)) : gl (sN M q t) = gl M := rfl
theorem kd_mn (M : gM) (q : Nat) (ty : FieldType) (N K b : Nat) : kd (mnM M q ty N K) b = if b = q then some (true, .inr (.array ty, N)) else if q < b ∧ b ≤ q + N then some (true, .inr (ty, K)) else kd M b := rfl
theorem mI_mn (M : gM) (q : Nat) (ty : FieldType) (N K b i : Nat) : mI (mnM M q ty N K) b i = if q ≤ b ∧ b ≤ q + N then 0 else mI M b i := rfl
theorem mJ_mn (M : gM) (q : Nat) (ty : FieldType) (N K b i : Nat) : mJ (mnM M q ty N K) b i = if q ≤ b ∧ b ≤ q + N then 0 else mJ M b i := rfl
theorem mR_mn (M : gM) (q : Nat) (ty : FieldType) (N K b i : Nat) : mR (mnM M q ty N K) b i = if b = q then some (q + 1 + i) else if q ≤ b ∧ b ≤ q + N then none else mR M b i := rfl
theorem gl_mn (M : gM) (q : Nat) (ty : FieldType) (N K : Nat) : gl (mnM M q ty N K) = gl M := rfl
theorem mR_eq {M : gM} {a k : Nat} {x : Option Nat} : mR (sR M a k x) a k = x := if_pos ⟨rfl, rfl⟩
theorem mR_ne {M : gM} {a k b j : Nat} {x : Option Nat} (h : b ≠ a ∨ j ≠ k) : mR (sR M a k x) b j = mR M b j := if_neg (fun z => h.elim (fun g => g z.1) (fun g => g z.2))
def LayU (M : gM) (a : Nat) (r ρ : Nat → Nat) (o n : Nat) : Prop :=
  (kd M a = some (true, .inl 3) ∧ ρ a = o + 99) ∧ (∀ k ty N, k < n → m1 k = some (ty, N) → mR M a k = some (r k) ∧ kd M (r k) = some (true, .inr (ty, N)) ∧ ρ (r k) = o + k) ∧
  ∀ k ty N K, k < n → m2 k = some (ty, N, K) → (mR M a k = some (r k) ∧ kd M (r k) = some (true, .inr (.array ty, N)) ∧ ρ (r k) = o + k) ∧ ∀ j, j < N → mR M (r k) j = some (r k + 1 + j) ∧ kd M (r k + 1 + j) = some (true, .inr (ty, K)) ∧ ρ (r k + 1 + j) = o + k
/-- a model that is being made -/
def Ini (M0 : gM) (ρ0 : Nat → Nat) (M : gM) (ρ : Nat → Nat) (a : Nat) (r : Nat → Nat) (o n : Nat) (z : Nat → Int32) : Prop := LayU M a r ρ o n ∧ (∀ k ty N, k < n → m1 k = some (ty, N) → ∀ i, mI M (r k) i = 0) ∧ (∀ i, mI M a i = z i) ∧ (∀ i, (n ≤ i ∨ ((m1 i).isNone = true ∧ (m2 i).isNone = true)) → mR M a i = none) ∧ gl M = gl M0 ∧ ∀ b, kd M0 b ≠ none → b ≠ a ∧ (kd M b = kd M0 b ∧ ρ b = ρ0 b) ∧ ∀ i, mI M b i = mI M0 b i ∧ mJ M b i = mJ M0 b i ∧ mR M b i = mR M0 b i
section INI
variable {M0 M : gM} {ρ0 ρ r : Nat → Nat} {a o n : Nat} {z : Nat → Int32}
theorem Ini.A (I : Ini M0 ρ0 M ρ a r o n z) {k N q : Nat} {ty : FieldType} (hq : kd M q = none) (hk : m1 k = some (ty, N)) (hk2 : m2 k = none) (hn : n ≤ k) (gap : ∀ j, j < k → n ≤ j → (m1 j).isNone = true ∧ (m2 j).isNone = true) : Ini M0 ρ0 (sR (sN M q (.inr (ty, N))) a k (some q)) (fun b => if b = q then o + k else ρ b) a (fun j => if j = k then q else r j) o (k + 1) z := by
  obtain ⟨⟨h0, h1, h2⟩, hz, ha, hr, hg, hf⟩ := I
  have qa : a ≠ q := fun e => by rw [← e, h0.1] at hq; cases hq
  have live : ∀ b, kd M b ≠ none → b ≠ q := fun b hb e => hb (by rw [e]; exact hq)
  have kdo : ∀ b, b ≠ q → kd (sR (sN M q (.inr (ty, N))) a k (some q)) b = kd M b := fun b hb => if_neg hb
  have mro : ∀ b i, b ≠ q → (b ≠ a ∨ i ≠ k) → mR (sR (sN M q (.inr (ty, N))) a k (some q)) b i = mR M b i := fun b i hb hc => (mR_ne hc).trans (if_neg hb)
  have mio : ∀ b i, b ≠ q → mI (sR (sN M q (.inr (ty, N))) a k (some q)) b i = mI M b i := fun b i hb => if_neg hb
  have mjo : ∀ b i, b ≠ q → mJ (sR (sN M q (.inr (ty, N))) a k (some q)) b i = mJ M b i := fun b i hb => if_neg hb
  refine ⟨⟨⟨(kdo a qa).trans h0.1, (if_neg qa).trans h0.2⟩, fun j tj Nj hj hm => ?_, fun j tj Nj Kj hj hm => ?_⟩, fun j tj Nj hj hm i => ?_, fun i => (mio a i qa).trans (ha i), fun i hi => (mro a i qa (Or.inr (fun e => by
    rcases hi with hi | hi
    · omega
    · rw [e, hk] at hi; cases hi.1))).trans (hr i (hi.imp_left (fun z => by omega))), hg, fun b hb => ?_⟩
  · by_cases c : j = k
    · subst c
      rw [hk] at hm
      cases hm
      rw [show (fun i => if i = j then q else r i) j = q from if_pos rfl]
      exact ⟨mR_eq, if_pos rfl, if_pos rfl⟩
    · have hjn : j < n := by
        by_cases c2 : j < n
        · exact c2
        · have := (gap j (by omega) (by omega)).1; rw [hm] at this; cases this
      obtain ⟨g1, g2, g3⟩ := h1 j tj Nj hjn hm
      have hl := live (r j) (by rw [g2]; exact fun z => by cases z)
      rw [show (fun j => if j = k then q else r j) j = r j from if_neg c]
      exact ⟨(mro a j qa (Or.inr c)).trans g1, (kdo _ hl).trans g2, (if_neg hl).trans g3⟩
  · have c : j ≠ k := fun e => by rw [e, hk2] at hm; cases hm
    have hjn : j < n := by
      by_cases c2 : j < n
      · exact c2
      · have := (gap j (by omega) (by omega)).2; rw [hm] at this; cases this
    obtain ⟨⟨g1, g2, g3⟩, g4⟩ := h2 j tj Nj Kj hjn hm
    have hl := live (r j) (by rw [g2]; exact fun z => by cases z)
    have hla : r j ≠ a := fun e => by rw [e, h0.1] at g2; cases g2
    rw [show (fun j => if j = k then q else r j) j = r j from if_neg c]
    refine ⟨⟨(mro a j qa (Or.inr c)).trans g1, (kdo _ hl).trans g2, (if_neg hl).trans g3⟩, fun i hi => ?_⟩
    obtain ⟨e1, e2, e3⟩ := g4 i hi
    have hl2 := live (r j + 1 + i) (by rw [e2]; exact fun z => by cases z)
    exact ⟨(mro _ i hl (Or.inl hla)).trans e1, (kdo _ hl2).trans e2, (if_neg hl2).trans e3⟩
  · by_cases c : j = k
    · rw [show (fun j => if j = k then q else r j) j = q from if_pos c]; exact if_pos rfl
    · have hjn : j < n := by
        by_cases c2 : j < n
        · exact c2
        · have := (gap j (by omega) (by omega)).1; rw [hm] at this; cases this
      have hl := live (r j) (by rw [(h1 j tj Nj hjn hm).2.1]; exact fun z => by cases z)
      rw [show (fun j => if j = k then q else r j) j = r j from if_neg c]
      exact (mio _ i hl).trans (hz j tj Nj hjn hm i)
  · obtain ⟨ba, ⟨b1, b2⟩, b3⟩ := hf b hb
    have hl := live b (by rw [b1]; exact hb)
    exact ⟨ba, ⟨(kdo b hl).trans b1, (if_neg hl).trans b2⟩, fun i => ⟨(mio b i hl).trans (b3 i).1, (mjo b i hl).trans (b3 i).2.1, (mro b i hl (Or.inl ba)).trans (b3 i).2.2⟩⟩
theorem Ini.B (I : Ini M0 ρ0 M ρ a r o n z) {k N K q : Nat} {ty : FieldType} (hq : ∀ b, q ≤ b → kd M b = none) (hk : m2 k = some (ty, N, K)) (hk2 : m1 k = none) (hn : n ≤ k) (gap : ∀ j, j < k → n ≤ j → (m1 j).isNone = true ∧ (m2 j).isNone = true) : Ini M0 ρ0 (sR (mnM M q ty N K) a k (some q)) (fun b => if q ≤ b then o + k else ρ b) a (fun j => if j = k then q else r j) o (k + 1) z := by
  obtain ⟨⟨h0, h1, h2⟩, hz, ha, hr, hg, hf⟩ := I
  have live : ∀ b, kd M b ≠ none → ¬ q ≤ b := fun b hb e => hb (hq b e)
  have qa : ¬ q ≤ a := live a (by rw [h0.1]; exact fun z => by cases z)
  have kdo : ∀ b, ¬ q ≤ b → kd (sR (mnM M q ty N K) a k (some q)) b = kd M b := fun b hb => by
    show (if b = q then _ else if q < b ∧ b ≤ q + N then _ else kd M b) = _
    rw [if_neg (by omega), if_neg (by omega)]
  have mro : ∀ b i, ¬ q ≤ b → (b ≠ a ∨ i ≠ k) → mR (sR (mnM M q ty N K) a k (some q)) b i = mR M b i := fun b i hb hc => (mR_ne hc).trans (by
    show (if b = q then _ else if q ≤ b ∧ b ≤ q + N then _ else mR M b i) = _
    rw [if_neg (by omega), if_neg (by omega)])
  have mio : ∀ b i, ¬ q ≤ b → mI (sR (mnM M q ty N K) a k (some q)) b i = mI M b i := fun b i hb => if_neg (by omega)
  have mjo : ∀ b i, ¬ q ≤ b → mJ (sR (mnM M q ty N K) a k (some q)) b i = mJ M b i := fun b i hb => if_neg (by omega)
  refine ⟨⟨⟨(kdo a qa).trans h0.1, (if_neg qa).trans h0.2⟩, fun j tj Nj hj hm => ?_, fun j tj Nj Kj hj hm => ?_⟩, fun j tj Nj hj hm i => ?_, fun i => (mio a i qa).trans (ha i), fun i hi => (mro a i qa (Or.inr (fun e => by
    rcases hi with hi | hi
    · omega
    · rw [e, hk] at hi; cases hi.2))).trans (hr i (hi.imp_left (fun z => by omega))), hg, fun b hb => ?_⟩
  · have c : j ≠ k := fun e => by rw [e, hk2] at hm; cases hm
    have hjn : j < n := by
      by_cases c2 : j < n
      · exact c2
      · have := (gap j (by omega) (by omega)).1; rw [hm] at this; cases this
    obtain ⟨g1, g2, g3⟩ := h1 j tj Nj hjn hm
    have hl := live (r j) (by rw [g2]; exact fun z => by cases z)
    rw [show (fun j => if j = k then q else r j) j = r j from if_neg c]
    exact ⟨(mro a j qa (Or.inr c)).trans g1, (kdo _ hl).trans g2, (if_neg hl).trans g3⟩
  · by_cases c : j = k
    · subst c
      rw [hk] at hm
      cases hm
      rw [show (fun i => if i = j then q else r i) j = q from if_pos rfl]
      refine ⟨⟨mR_eq, if_pos rfl, if_pos (Nat.le_refl _)⟩, fun i hi => ⟨?_, ?_, if_pos (by omega)⟩⟩
      · rw [mR_ne (Or.inl (by omega))]
        exact if_pos rfl
      · show (if q + 1 + i = q then _ else if q < q + 1 + i ∧ q + 1 + i ≤ q + N then _ else kd M _) = _
        rw [if_neg (by omega), if_pos (by omega)]
    · have hjn : j < n := by
        by_cases c2 : j < n
        · exact c2
        · have := (gap j (by omega) (by omega)).2; rw [hm] at this; cases this
      obtain ⟨⟨g1, g2, g3⟩, g4⟩ := h2 j tj Nj Kj hjn hm
      have hl := live (r j) (by rw [g2]; exact fun z => by cases z)
      have hla : r j ≠ a := fun e => by rw [e, h0.1] at g2; cases g2
      rw [show (fun j => if j = k then q else r j) j = r j from if_neg c]
      refine ⟨⟨(mro a j qa (Or.inr c)).trans g1, (kdo _ hl).trans g2, (if_neg hl).trans g3⟩, fun i hi => ?_⟩
      obtain ⟨e1, e2, e3⟩ := g4 i hi
      have hl2 := live (r j + 1 + i) (by rw [e2]; exact fun z => by cases z)
      exact ⟨(mro _ i hl (Or.inl hla)).trans e1, (kdo _ hl2).trans e2, (if_neg hl2).trans e3⟩
  · have c : j ≠ k := fun e => by rw [e, hk2] at hm; cases hm
    have hjn : j < n := by
      by_cases c2 : j < n
      · exact c2
      · have := (gap j (by omega) (by omega)).1; rw [hm] at this; cases this
    have hl := live (r j) (by rw [(h1 j tj Nj hjn hm).2.1]; exact fun z => by cases z)
    rw [show (fun j => if j = k then q else r j) j = r j from if_neg c]
    exact (mio _ i hl).trans (hz j tj Nj hjn hm i)
  · obtain ⟨ba, ⟨b1, b2⟩, b3⟩ := hf b hb
    have hl := live b (by rw [b1]; exact hb)
    exact ⟨ba, ⟨(kdo b hl).trans b1, (if_neg hl).trans b2⟩, fun i => ⟨(mio b i hl).trans (b3 i).1, (mjo b i hl).trans (b3 i).2.1, (mro b i hl (Or.inl ba)).trans (b3 i).2.2⟩⟩
theorem Ini.I (I : Ini M0 ρ0 M ρ a r o n z) {k : Nat} {x : Int32} : Ini M0 ρ0 (sI M a k x) ρ a r o n (fun i => if i = k then x else z i) := by
  obtain ⟨⟨h0, h1, h2⟩, hz, ha, hr, hg, hf⟩ := I
  refine ⟨⟨h0, h1, h2⟩, fun j tj Nj hj hm i => ?_, fun i => ?_, hr, hg, fun b hb => ?_⟩
  · have hla : r j ≠ a := fun e => by have := (h1 j tj Nj hj hm).2.1; rw [e, h0.1] at this; cases this
    exact (mI_ne (Or.inl hla)).trans (hz j tj Nj hj hm i)
  · by_cases c : i = k
    · rw [c, mI_eq]; exact (if_pos rfl).symm
    · rw [mI_ne (Or.inr c), ha i]; exact (if_neg c).symm
  · obtain ⟨ba, b1, b3⟩ := hf b hb
    exact ⟨ba, b1, fun i => ⟨(mI_ne (Or.inl ba)).trans (b3 i).1, (b3 i).2⟩⟩
theorem ini_A (I : Ini M0 ρ0 M ρ a r o n z) {k N u v Lc Ls : Nat} {ty : FieldType} {i : Int32} {κ : gM → Prop} (hk : m1 k = some (ty, N)) (hk2 : m2 k = none) (hn : n ≤ k) (gap : ∀ j, j < k → n ≤ j → (m1 j).isNone = true ∧ (m2 j).isNone = true) (hi : i = Int32.ofNat N) (hN : N ≤ 1000000) (hb : u + 1 ≤ Lc ∧ v + N ≤ Ls) (q : ∀ M' ρ' r', Ini M0 ρ0 M' ρ' a r' o (k + 1) z → κ M') : nA M u v Lc Ls ty i N fun b M2 => pR M2 3 a k (some b) κ := by
  refine ⟨⟨by rw [hi]; exact i32_lt0 (by omega), by rw [hi, i32_nat (by omega)], hN⟩, hb, fun b hq => ⟨?_, q _ _ _ (I.A hq hk hk2 hn gap)⟩⟩
  exact (if_neg (fun e => by rw [← e, I.1.1.1] at hq; cases hq)).trans I.1.1.1
theorem ini_B (I : Ini M0 ρ0 M ρ a r o n z) {k N K u v Lc Ls : Nat} {ty : FieldType} {κ : gM → Prop} (hk : m2 k = some (ty, N, K)) (hk2 : m1 k = none) (hn : n ≤ k) (gap : ∀ j, j < k → n ≤ j → (m1 j).isNone = true ∧ (m2 j).isNone = true) (hb : u + (1 + N) ≤ Lc ∧ v + (N + N * K) ≤ Ls) (q : ∀ M' ρ' r', Ini M0 ρ0 M' ρ' a r' o (k + 1) z → κ M') : nMN M u v Lc Ls ty N K fun b M2 => pR M2 3 a k (some b) κ := by
  refine ⟨hb, fun b hq => ⟨?_, q _ _ _ (I.B hq hk hk2 hn gap)⟩⟩
  have hl : ¬ b ≤ a := fun e => by have := hq a e; rw [I.1.1.1] at this; cases this
  show (if a = b then _ else if b < a ∧ a ≤ b + N then _ else kd M a) = _
  rw [if_neg (by omega), if_neg (by omega)]
  exact I.1.1.1
theorem m_init {Lc Ls : Nat} {Q : gM → Prop} (I : Ini M0 ρ0 M ρ a r o 0 (fun _ => 0)) (hL : 100 ≤ Lc ∧ 10000 ≤ Ls) (q : ∀ M' ρ' r' z', Ini M0 ρ0 M' ρ' a r' o 39 z' → z' 39 = -1 → z' 13 = 1 → (∀ i, i ≠ 39 → i ≠ 13 → z' i = 0) → Q M') : F_X3_init Lc Ls M a Q := by
  refine ini_A (k := 0) I rfl rfl (by omega) (by decide) rfl (by omega) (by omega) (fun M ρ r I => ?_)
  refine ini_A (k := 1) I rfl rfl (by omega) (by decide) rfl (by omega) (by omega) (fun M ρ r I => ?_)
  refine ini_A (k := 2) I rfl rfl (by omega) (by decide) rfl (by omega) (by omega) (fun M ρ r I => ?_)
  refine ini_B (k := 3) I rfl rfl (by omega) (by decide) (by omega) (fun M ρ r I => ?_)
  refine ini_A (k := 4) I rfl rfl (by omega) (by decide) rfl (by omega) (by omega) (fun M ρ r I => ?_)
  refine ini_A (k := 5) I rfl rfl (by omega) (by decide) rfl (by omega) (by omega) (fun M ρ r I => ?_)
  refine ini_A (k := 6) I rfl rfl (by omega) (by decide) rfl (by omega) (by omega) (fun M ρ r I => ?_)
  refine ini_B (k := 7) I rfl rfl (by omega) (by decide) (by omega) (fun M ρ r I => ?_)
  refine ini_A (k := 8) I rfl rfl (by omega) (by decide) rfl (by omega) (by omega) (fun M ρ r I => ?_)
  refine ini_A (k := 10) I rfl rfl (by omega) (by decide) rfl (by omega) (by omega) (fun M ρ r I => ?_)
  refine ini_B (k := 12) I rfl rfl (by omega) (by decide) (by omega) (fun M ρ r I => ?_)
  refine ⟨I.1.1.1, ?_⟩
  have I := I.I (k := 13) (x := (1 : Int32))
  refine ini_A (k := 22) I rfl rfl (by omega) (by decide) rfl (by omega) (by omega) (fun M ρ r I => ?_)
  refine ini_B (k := 28) I rfl rfl (by omega) (by decide) (by omega) (fun M ρ r I => ?_)
  refine ini_B (k := 29) I rfl rfl (by omega) (by decide) (by omega) (fun M ρ r I => ?_)
  refine ini_B (k := 30) I rfl rfl (by omega) (by decide) (by omega) (fun M ρ r I => ?_)
  refine ini_A (k := 31) I rfl rfl (by omega) (by decide) rfl (by omega) (by omega) (fun M ρ r I => ?_)
  refine ini_B (k := 32) I rfl rfl (by omega) (by decide) (by omega) (fun M ρ r I => ?_)
  refine ini_B (k := 33) I rfl rfl (by omega) (by decide) (by omega) (fun M ρ r I => ?_)
  refine ini_A (k := 34) I rfl rfl (by omega) (by decide) rfl (by omega) (by omega) (fun M ρ r I => ?_)
  refine ini_A (k := 35) I rfl rfl (by omega) (by decide) rfl (by omega) (by omega) (fun M ρ r I => ?_)
  refine ini_A (k := 36) I rfl rfl (by omega) (by decide) rfl (by omega) (by omega) (fun M ρ r I => ?_)
  refine ini_A (k := 37) I rfl rfl (by omega) (by decide) rfl (by omega) (by omega) (fun M ρ r I => ?_)
  refine ini_B (k := 38) I rfl rfl (by omega) (by decide) (by omega) (fun M ρ r I => ?_)
  refine ⟨I.1.1.1, ?_⟩
  refine q _ _ _ _ (I.I (k := 39) (x := (-1 : Int32))) (if_pos rfl) ?_ (fun i h1 h2 => ?_)
  · show (if (13 : Nat) = 39 then _ else if (13 : Nat) = 13 then _ else _) = _
    rw [if_neg (by omega), if_pos rfl]
  · show (if i = 39 then _ else if i = 13 then _ else _) = _
    rw [if_neg h1, if_neg h2]
theorem Ini.lay (I : Ini M0 ρ0 M ρ a r o 39 z) : LayM M a r ρ o := by
  obtain ⟨h0, h1, h2⟩ := I.1
  have kl : ∀ k n ty, m1 k = some (ty, n) → k < 39 := fun k n ty hk => by
    unfold m1 at hk
    split at hk <;> first | omega | cases hk
  have kl2 : ∀ k n K ty, m2 k = some (ty, n, K) → k < 39 := fun k n K ty hk => by
    unfold m2 at hk
    split at hk <;> first | omega | cases hk
  exact ⟨h0, fun k ty n hk => h1 k ty n (kl k n ty hk) hk, fun k ty n K hk => h2 k ty n K (kl2 k n K ty hk) hk⟩
theorem Ini.ext (I : Ini M0 ρ0 M ρ a r o n z) : Ext ρ0 M0 ρ M := ⟨I.2.2.2.2.1, fun b hb => ⟨(I.2.2.2.2.2 b hb).2.1, fun _ i => (I.2.2.2.2.2 b hb).2.2 i⟩⟩
/-- nothing kept -/
def K0 : Kp := ((0, fun _ _ => 0), 1, none)
theorem Ini.kp (I : Ini M0 ρ0 M ρ a r o 39 z) (h13 : z 13 = 1) (h0 : ∀ i, i ≠ 39 → i ≠ 13 → z i = 0) : KpM M a r K0 := ⟨(I.2.2.1 11).trans (h0 11 (by omega) (by omega)), Nat.zero_le _, fun h hh => absurd hh (Nat.not_lt_zero _), (I.2.2.1 13).trans h13, (I.2.2.1 14).trans (h0 14 (by omega) (by omega))⟩
/-- a new object -/
theorem ini_0 {q : Nat} (hq : kd M0 q = none) : Ini M0 ρ0 (sN M0 q (.inl 3)) (fun b => if b = q then o + 99 else ρ0 b) q r o 0 (fun _ => 0) := by
  refine ⟨⟨⟨if_pos rfl, if_pos rfl⟩, fun k ty N hk => absurd hk (Nat.not_lt_zero _), fun k ty N K hk => absurd hk (Nat.not_lt_zero _)⟩, fun k ty N hk => absurd hk (Nat.not_lt_zero _), fun i => if_pos rfl, fun i _ => if_pos rfl, rfl, fun b hb => ?_⟩
  have hbq : b ≠ q := fun e => hb (by rw [e]; exact hq)
  exact ⟨hbq, ⟨if_neg hbq, if_neg hbq⟩, fun i => ⟨if_neg hbq, if_neg hbq, if_neg hbq⟩⟩
/-- the first state -/
def A0 : Ab := ((fun _ => none, (fun _ => 0, 0), fun _ => 0), K0, none)
theorem Ini.rel (I : Ini M0 ρ0 M ρ a r 1000 39 z) (hC : CsA M0 ρ0) (h39 : z 39 = -1) (h13 : z 13 = 1) (h0 : ∀ i, i ≠ 39 → i ≠ 13 → z i = 0) : MRel M a r ρ A0 := by
  have h := I.lay
  refine ⟨h, I.ext.cs hC, fun s hs => ?_, ⟨(I.2.2.1 9).trans (h0 9 (by omega) (by omega)), by show 0 ≤ 160; omega, fun i hi => absurd hi (Nat.not_lt_zero _)⟩, fun i _ _ => ?_, (I.2.2.1 39).trans h39, I.kp h13 h0, ?_⟩
  · exact I.2.1 0 _ _ (by omega) rfl s
  · exact I.2.1 10 _ _ (by omega) rfl i
  · show mR M a 21 = none
    exact I.2.2.2.1 21 (Or.inr ⟨rfl, rfl⟩)
theorem m_image {A : Ab} {Lc Ls : Nat} (R : MRel M a r ρ A) {Q : Int32 → gM → Prop} (hL : 101 ≤ Lc ∧ 10046 ≤ Ls) (q : Km (spImage A) a ρ M Q) : F_X3_image Lc Ls M a Q := by
  have h := R.1
  have t0 := h.1.2
  have hi := R.2.2.2.2.2.2.2
  have es : spImage A = (1, sIm A (aNow A)) := rfl
  rw [es] at q
  refine gR_i h.1.1 ?_
  cases ei : aIm A with
  | none =>
    rw [ei] at hi
    have hi : mR M a 21 = none := hi
    rw [hi]
    refine ⟨fun _ => ?_, fun b z => by cases z⟩
    refine ⟨by omega, fun b hq => ⟨100, 10000, by omega, m_init (o := 1100) (r := fun _ => 0) (ini_0 (ρ0 := ρ) (o := 1100) hq) (by omega) (fun N ρ' rb z I z39 z13 z0 => ?_)⟩⟩
    have RN := R.ext I.ext
    have hN := RN.1
    have hb := I.lay
    have kb := I.kp z13 z0
    refine ⟨hN.1.1, ?_⟩
    -- the image's place
    have hN2 : LayM (sR N a 21 (some b)) a r ρ' 1000 := by
      obtain ⟨c0, c1, c2⟩ := hN
      refine ⟨c0, fun k ty n hk => ?_, fun k ty n K hk => ⟨?_, fun j hj => ?_⟩⟩
      · have : k ≠ 21 := fun e => by rw [e] at hk; cases hk
        exact ⟨(mR_ne (Or.inr this)).trans (c1 k ty n hk).1, (c1 k ty n hk).2⟩
      · have : k ≠ 21 := fun e => by rw [e] at hk; cases hk
        exact ⟨(mR_ne (Or.inr this)).trans (c2 k ty n K hk).1.1, (c2 k ty n K hk).1.2⟩
      · have : r k ≠ a := fun e => by have := (c2 k ty n K hk).1.2.1; rw [e, c0.1] at this; cases this
        exact ⟨(mR_ne (Or.inl this)).trans ((c2 k ty n K hk).2 j hj).1, ((c2 k ty n K hk).2 j hj).2⟩
    have nba : b ≠ a := ne_tg hb.1.2 hN.1.2 (by omega)
    have hb2 : LayM (sR N a 21 (some b)) b rb ρ' 1100 := by
      obtain ⟨c0, c1, c2⟩ := hb
      refine ⟨c0, fun k ty n hk => ⟨(mR_ne (Or.inl nba)).trans (c1 k ty n hk).1, (c1 k ty n hk).2⟩, fun k ty n K hk => ⟨⟨(mR_ne (Or.inl nba)).trans (c2 k ty n K hk).1.1, (c2 k ty n K hk).1.2⟩, fun j hj => ?_⟩⟩
      have : rb k ≠ a := fun e => by have := (c2 k ty n K hk).1.2.1; rw [e, hN.1.1] at this; cases this
      exact ⟨(mR_ne (Or.inl this)).trans ((c2 k ty n K hk).2 j hj).1, ((c2 k ty n K hk).2 j hj).2⟩
    have R2 : MRel (sR N a 21 (some b)) a r ρ' (sIm A K0) := by
      obtain ⟨a1, a2, a3, a4, a5, a6, a7, a8⟩ := RN
      refine ⟨hN2, ?_, a3, a4, a5, a6, a7, ⟨b, rb, mR_eq, hb2, kb⟩⟩
      obtain ⟨c1, c2, c3⟩ := a2
      refine ⟨fun j hj => ?_, c2, c3⟩
      obtain ⟨v, g1, g2, g3, g4, g5⟩ := c1 j hj
      exact ⟨v, g1, (mR_ne (Or.inl (ne_tg g1.2 hN.1.2 (by omega)))).trans g2, g3, g4, g5⟩
    refine gR_i hN2.1.1 ?_
    rw [mR_eq]
    refine ⟨b, rfl, m_rc hb2 (m_takeFrom hb2 hN2 (by omega) (fun N3 f w => ?_))⟩
    have e3 : FmG (STk b rb) (sR N a 21 (some b)) N3 := f
    refine q N3 r ρ' ?_ ?_
    · obtain ⟨a1, a2, a3, a4, a5, a6, a7, a8⟩ := R2
      have nS : ∀ c i, ρ' c < 1100 → ¬ STk b rb c i := fun c i hc z => by have := z.tag hb2; omega
      have l1 : ∀ k n ty i, m1 k = some (ty, n) → k < 50 → ¬ STk b rb (r k) i := fun k n ty i hk hk' => nS _ i (by rw [tg1 a1 hk]; omega)
      have l2 : ∀ k n K ty j i, m2 k = some (ty, n, K) → j < n → k < 50 → ¬ STk b rb (r k + 1 + j) i := fun k n K ty j i hk hj hk' => nS _ i (by rw [tg2 a1 hk hj]; omega)
      have l0 : ∀ i, ¬ STk b rb a i := fun i => nS _ i (by rw [a1.1.2]; omega)
      refine ⟨f.lay a1, f.cs (fun c i hc => nS c i (by omega)) a2, fun s hs => ?_, f.tp (l0 9) (fun i => l1 8 _ _ i rfl (by omega)) a4, fun i h1 h2 => (f.2 _ _ (l1 10 _ _ i rfl (by omega))).1.trans (a5 i h1 h2), (f.2 _ _ (l0 39)).1.trans a6, f.kp (fun i _ => l0 i) (fun x i hx _ => l2 12 _ _ _ x i rfl hx (by omega)) (l1 5 _ _ 8 rfl (by omega)) (l1 6 _ _ 8 rfl (by omega)) (fun i => l2 7 _ _ _ 8 i rfl (by omega) (by omega)) a7, ?_⟩
      · refine f.sh (fun k hk => ?_) (fun i => l2 3 _ _ _ s i rfl hs (by omega)) (fun i => l2 7 _ _ _ s i rfl (by omega) (by omega)) (a3 s hs)
        rcases hk with rfl | rfl | rfl | rfl | rfl | rfl
        · exact l1 0 _ _ s rfl (by omega)
        · exact l1 1 _ _ s rfl (by omega)
        · exact l1 2 _ _ s rfl (by omega)
        · exact l1 5 _ _ s rfl (by omega)
        · exact l1 6 _ _ s rfl (by omega)
        · exact l1 22 _ _ s rfl (by omega)
      · exact ⟨b, rb, by rw [f.1.2.1]; exact mR_eq, f.lay hb2, w _ a7⟩
    · have F1 : Fmm ρ M ρ' (sR N a 21 (some b)) := ⟨I.2.2.2.2.1, fun c hc => by
        obtain ⟨c1, c2, c3⟩ := I.2.2.2.2.2 c hc
        refine ⟨c2, fun i hno => ⟨(c3 i).1, (c3 i).2.1, ?_⟩⟩
        rw [mR_ne (Or.inl (fun e => hno (by rw [e, t0]; omega)))]
        exact (c3 i).2.2⟩
      exact F1.tr (f.fmm (fun c i z => by have := z.tag hb2; omega))
  | some K =>
    rw [ei] at hi
    obtain ⟨b, rb, g1, g2, g3⟩ := hi
    rw [g1]
    refine ⟨fun z => (by cases z), fun b' z => ?_⟩
    cases z
    refine gR_i h.1.1 ?_
    rw [g1]
    refine ⟨b, rfl, m_rc g2 (m_takeFrom g2 h (by omega) (fun N f w => ?_))⟩
    obtain ⟨a1, a2, a3, a4, a5, a6, a7, a8⟩ := R
    have nS : ∀ c i, ρ c < 1100 → ¬ STk b rb c i := fun c i hc z => by have := z.tag g2; omega
    have l1 : ∀ k n ty i, m1 k = some (ty, n) → k < 50 → ¬ STk b rb (r k) i := fun k n ty i hk hk' => nS _ i (by rw [tg1 a1 hk]; omega)
    have l2 : ∀ k n K ty j i, m2 k = some (ty, n, K) → j < n → k < 50 → ¬ STk b rb (r k + 1 + j) i := fun k n K ty j i hk hj hk' => nS _ i (by rw [tg2 a1 hk hj]; omega)
    have l0 : ∀ i, ¬ STk b rb a i := fun i => nS _ i (by rw [a1.1.2]; omega)
    refine q N r ρ ⟨f.lay a1, f.cs (fun c i hc => nS c i (by omega)) a2, fun s hs => ?_, f.tp (l0 9) (fun i => l1 8 _ _ i rfl (by omega)) a4, fun i h1 h2 => (f.2 _ _ (l1 10 _ _ i rfl (by omega))).1.trans (a5 i h1 h2), (f.2 _ _ (l0 39)).1.trans a6, f.kp (fun i _ => l0 i) (fun x i hx _ => l2 12 _ _ _ x i rfl hx (by omega)) (l1 5 _ _ 8 rfl (by omega)) (l1 6 _ _ 8 rfl (by omega)) (fun i => l2 7 _ _ _ 8 i rfl (by omega) (by omega)) a7, ?_⟩ (f.fmm (fun c i z => by have := z.tag g2; omega))
    · refine f.sh (fun k hk => ?_) (fun i => l2 3 _ _ _ s i rfl hs (by omega)) (fun i => l2 7 _ _ _ s i rfl (by omega) (by omega)) (a3 s hs)
      rcases hk with rfl | rfl | rfl | rfl | rfl | rfl
      · exact l1 0 _ _ s rfl (by omega)
      · exact l1 1 _ _ s rfl (by omega)
      · exact l1 2 _ _ s rfl (by omega)
      · exact l1 5 _ _ s rfl (by omega)
      · exact l1 6 _ _ s rfl (by omega)
      · exact l1 22 _ _ s rfl (by omega)
    · exact ⟨b, rb, by rw [f.1.2.1]; exact g1, f.lay g2, w _ a7⟩
end INI
