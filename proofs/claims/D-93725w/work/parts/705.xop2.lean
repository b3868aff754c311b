/-! the class's operations: chances -/
set_option maxRecDepth 100000
theorem spN_out {P : Nat → Nat} (hk : P 4 ≤ 3) {s w : Nat} {D : Nat → Nat} {t : Nat} (hs : s < 5 ^ P 4) (ht : 5 ^ P 4 ≤ t) : ∀ c, c ≤ 2 ^ P 4 → spN P s w D c t = D t := by
  intro c
  induction c with
  | zero => intro _; rfl
  | succ c ih =>
    intro hc
    have h2 := p2_le hk
    have := th_lt (P := P) (c := c) hk (by omega) hs
    show spN P s w D c t + (if t = thN P c s (P 4) then _ else 0) = _
    rw [if_neg (by omega), ih (by omega)]
    rfl
theorem stN_out {P : Nat → Nat} (hP : Wf P) {u : Ru} {d : Nat} {D : Nat → Nat} {t : Nat} (ht : 5 ^ P 4 ≤ t) : ∀ n, n ≤ 5 ^ P 4 → stN P u d D n t = 0 := by
  have hk := hP.2.2.2.2.1.2
  intro n
  induction n with
  | zero => intro _; rfl
  | succ n ih =>
    intro hn
    show spN P (n - ldF P u d n) _ (spN P n _ (stN P u d D n) (2 ^ P 4)) (2 ^ P 4) t = 0
    rw [spN_out hk (by omega) ht _ (Nat.le_refl _), spN_out hk (by omega) ht _ (Nat.le_refl _), ih (by omega)]
theorem chN_out {P : Nat → Nat} (hP : Wf P) {u : Ru} {t : Nat} (ht : 5 ^ P 4 ≤ t) (j : Nat) : chN P u j t = 0 := by
  cases j with
  | zero =>
    have := p5_pos (P 4)
    show (if t = 0 then 1 else 0) = 0
    rw [if_neg (by omega)]
  | succ j => exact stN_out hP ht _ (Nat.le_refl _)
theorem rcN_out {P : Nat → Nat} (hP : Wf P) {u : Ru} {d : Nat} : ∀ m, rcN P u d (5 ^ P 4 + m) = rcN P u d (5 ^ P 4) := by
  intro m
  induction m with
  | zero => rfl
  | succ m ih =>
    show rcN P u d (5 ^ P 4 + m) + (if 0 < chN P u (P 0 - d) (5 ^ P 4 + m) then 1 else 0) = _
    rw [chN_out hP (by omega), if_neg (by omega), ih]
    rfl
section XOP2
variable {M : gM} {ρ : Nat → Nat} {x : Nat} {A : Ab} {G : XG}
theorem eR_kd {N : gM} {ρN c : Nat → Nat} {a : Nat} (h : RmA N ρN a c) (j : Nat) : kd N (eR c j) = some (true, .inr (.long, 125)) := by
  obtain ⟨k, hk, e⟩ := eR_or c j
  have := (h k (by omega)).2.1
  rw [if_neg (by omega)] at this
  rw [e]
  exact this
theorem x_chanceO (R : XRl M ρ x A G) {x1 x2 x3 x4 : Int32} {Lc Ls : Nat} {Q : Int64 → gM → Prop} (hL : 14 ≤ Lc ∧ 5267 ≤ Ls) (q : Kx (spChance A x1 x2 x3 x4) x ρ M Q) : F_X0_chance Lc Ls M x x1 x2 x3 x4 Q := by
  have b24 : gLS A 0 x1 x2 x3 = none → F_X0_chance_b24 Q Lc Ls x x1 x2 x3 x4 x 0 0 M := fun e => ⟨4, 1017, ⟨by omega, by omega⟩, R.rc (x_ruleFor R (Or.inl rfl) ⟨by omega, by omega⟩ (fun z => absurd z (by decide)) (fun c z M' ρ' a1 a2 a3 a4 a5 => ⟨rfl, x_gotJ R a2 a3 a4 a5 (by
    rcases a1 with ⟨-, a1⟩ | ⟨a1, -⟩
    · unfold spChance
      rw [e, a1]
    · exact absurd a1 (by decide)) q⟩))⟩
  refine R.rc (x_gL (l := 0) R (by omega) (fun h d e1 => bF n10 (R.rc (x_gS R (fun h' s e2 => bF n10 ?_) (fun e2 => bT rfl (b24 (gLS_S e2)))))) (fun e1 => bT rfl (b24 (gLS_L e1))))
  obtain ⟨g1, rfl⟩ := gLS_ok e1 e2
  obtain ⟨l1, l2, l3, l4, l5, l6, hx⟩ := R.fL e1
  obtain ⟨-, -, s3, s4, s5, -⟩ := R.fS e2
  have es : spChance A x1 x2 x3 x4 = match gR_ A x4 with | .inl e => rjJ A e | .inr u => (Int64.ofNat (chN (aP A h') u (aP A h' 0 - d) s), A) := by unfold spChance; rw [g1]; rfl
  refine ⟨4, 1017, ⟨by omega, by omega⟩, R.rc (x_ruleFor R (Or.inr rfl) ⟨by omega, by omega⟩ (fun _ u n b a1 a2 a3 => ?_) (fun c z M' ρ' a1 a2 a3 a4 a5 => ⟨rfl, x_gotJ R a2 a3 a4 a5 (by
    rcases a1 with ⟨a1, -⟩ | ⟨-, a1⟩
    · exact absurd a1 (by decide)
    · rw [es, a1]) q⟩))⟩
  have rw_ := rw_le M (G.1.2.1 h') u
  rw [l1, l3, s3]
  refine x_hs R l2 ⟨10, 4250, ⟨by omega, by omega⟩, hx.rch (x_chances hx R.cs a2 a3 rw_ l4 (fun M' ρ' c x' y' J _ hv => aJ_i (eR_kd J.2.2.2.2.1 _) s5 (by omega) ?_))⟩
  rw [hv s s5]
  exact x_fin R l2 J.1 J.2.1 (by rw [es, a1]) q
theorem x_reachO (R : XRl M ρ x A G) {x1 x2 x3 : Int32} {Lc Ls : Nat} {Q : Int32 → gM → Prop} (hL : 14 ≤ Lc ∧ 5267 ≤ Ls) (q : Kx (spReach A x1 x2 x3) x ρ M Q) : F_X0_reach Lc Ls M x x1 x2 x3 Q := by
  refine R.rc (x_gL (l := 0) R (by omega) (fun h d e1 => ?_) (fun e1 => ⟨4, 1017, ⟨by omega, by omega⟩, R.rc (x_ruleFor R (Or.inl rfl) ⟨by omega, by omega⟩ (fun z => absurd z (by decide)) (fun c z M' ρ' a1 a2 a3 a4 a5 => ⟨rfl, x_got R a2 a3 a4 a5 (by
    rcases a1 with ⟨-, a1⟩ | ⟨a1, -⟩
    · unfold spReach
      rw [e1, a1]
    · exact absurd a1 (by decide)) q⟩))⟩))
  obtain ⟨l1, l2, l3, l4, l5, l6, hx⟩ := R.fL e1
  have hw := hx.2.2
  have h5 := p5_le hw.2.2.2.2.1.2
  have es : spReach A x1 x2 x3 = match gR_ A x3 with | .inl e => rj A e | .inr u => (Int32.ofNat (rcN (aP A h) u d (5 ^ aP A h 4)), A) := by unfold spReach; rw [e1]; rfl
  refine ⟨4, 1017, ⟨by omega, by omega⟩, R.rc (x_ruleFor R (Or.inr rfl) ⟨by omega, by omega⟩ (fun _ u n b a1 a2 a3 => ?_) (fun c z M' ρ' a1 a2 a3 a4 a5 => ⟨rfl, x_got R a2 a3 a4 a5 (by
    rcases a1 with ⟨a1, -⟩ | ⟨-, a1⟩
    · exact absurd a1 (by decide)
    · rw [es, a1]) q⟩))⟩
  have rw_ := rw_le M (G.1.2.1 h) u
  rw [l1, l3]
  refine x_hs R l2 ⟨10, 4250, ⟨by omega, by omega⟩, hx.rch (x_chances hx R.cs a2 a3 rw_ l4 (fun M' ρ' c x' y' J _ hv => ?_))⟩
  refine loopC (fun g v N => F_X0_reach_b37 Q Lc Ls x (eR c (aP A h 0 - d)) g v.1 v.2 _ _ N) (fun s => (Int32.ofNat (rcN (aP A h) u d s), Int32.ofNat s)) M' 125 (fun s hs g k => ?_) (fun g => ?_)
  · have hch : chN (aP A h) u (aP A h 0 - d) s ≤ 4 ^ 24 := by
      by_cases c : s < 5 ^ aP A h 4
      · exact chN_lt hw (by omega) c
      · rw [chN_out hw (by omega)]; exact Nat.zero_le _
    have p24 : (4 : Nat) ^ 24 = 281474976710656 := by decide
    refine leF (a := 125) hs (by omega) (aJ_i (eR_kd J.2.2.2.2.1 _) hs (by omega) ?_)
    rw [hv s hs, i64_lit 0, i64_le (by omega) (by omega)]
    have go : ∀ y, y = (if 0 < chN (aP A h) u (aP A h 0 - d) s then 1 else 0) → F_X0_reach_b61 Q Lc Ls (F_X0_reach_b37 Q Lc Ls x (eR c (aP A h 0 - d)) g) x (eR c (aP A h 0 - d)) (Int32.ofNat s) (Int32.ofNat (rcN (aP A h) u d s)) (Int32.ofNat y) (0 + 4 + 10) (0 + 1017 + 4250) M' := by
      intro y hy
      unfold F_X0_reach_b61
      rw [i32_lit 1, i32_add, i32_add, hy]
      exact k
    exact ⟨fun c => go 0 (by rw [if_neg (by omega)]), fun c => go 1 (by rw [if_pos (by omega)])⟩
  · refine leT (a := 125) (Nat.le_refl _) (by omega) (x_fin R l2 J.1 J.2.1 ?_ q)
    rw [es, a1]
    have := rcN_out hw (u := u) (d := d) (125 - 5 ^ aP A h 4)
    rw [show 5 ^ aP A h 4 + (125 - 5 ^ aP A h 4) = 125 by omega] at this
    rw [this]
theorem x_heldO (R : XRl M ρ x A G) {x1 x2 x3 : Int32} {Lc Ls : Nat} {Q : Int64 → gM → Prop} (hL : 100 ≤ Lc ∧ 44517 ≤ Ls) (q : Kx (spHeld A x1 x2 x3) x ρ M Q) : F_X0_held Lc Ls M x x1 x2 x3 Q := by
  have bd : ∀ (κ : Nat → Nat → Nat → gM → Prop), spHeld A x1 x2 x3 = rjJ A 2 → ∃ c_5 s_6, (0 + c_5 ≤ Lc ∧ 0 + s_6 ≤ Ls) ∧ rc M 0 x ∧ F_X0_ruleFor c_5 s_6 M x (0 : Int32) x3 (fun a_4 M_3 => κ c_5 s_6 a_4 M_3) (fun E_ q_7 M_8 => (E_ = "SendTheBox$Refused" ∧ gI M_8 4 q_7 6 fun x_9 => rc M_8 0 x ∧ F_X0_no M_8 x x_9 fun x_11 M_10 => Q x_11.toInt64 M_10)) := fun κ e => ⟨4, 1017, ⟨by omega, by omega⟩, R.rc (x_ruleFor R (Or.inl rfl) ⟨by omega, by omega⟩ (fun z => absurd z (by decide)) (fun c z M' ρ' a1 a2 a3 a4 a5 => ⟨rfl, x_gotJ R a2 a3 a4 a5 (by
    rcases a1 with ⟨-, a1⟩ | ⟨a1, -⟩
    · rw [e, a1]
    · exact absurd a1 (by decide)) q⟩))⟩
  refine R.rc (x_gT R (fun h i e1 e2 => ?_) (fun e1 => bd _ (by unfold spHeld; rw [e1])) (fun h e1 e2 => bd _ (by unfold spHeld; rw [e1]; simp only; rw [e2])))
  have d1 := dec_some e1
  have d2 := dec_some e2
  have hx := R.hx d1.1
  have h4 := hx.2.2.2.2.2.2.1.2
  have es : spHeld A x1 x2 x3 = match gR_ A x3 with | .inl e => rjJ A e | .inr u => (mvT (aP A h) u (some i) (aP A h 0), A) := by unfold spHeld; rw [e1]; simp only; rw [e2]; rfl
  refine ⟨4, 1017, ⟨by omega, by omega⟩, R.rc (x_ruleFor R (Or.inr rfl) ⟨by omega, by omega⟩ (fun _ u n b a1 a2 a3 => ?_) (fun c z M' ρ' a1 a2 a3 a4 a5 => ⟨rfl, x_gotJ R a2 a3 a4 a5 (by
    rcases a1 with ⟨a1, -⟩ | ⟨-, a1⟩
    · exact absurd a1 (by decide)
    · rw [es, a1]) q⟩))⟩
  rw [d1.2.1, d2.2.1]
  exact x_hs R d1.1 ⟨96, 43500, ⟨by omega, by omega⟩, hx.rch (x_sums (so := some i) hx R.cs a2 a3 (fun j e => by cases e; omega) (by omega) (fun M' ρ' f hx' => x_fin R d1.1 f hx' (by rw [es, a1]) q))⟩
theorem x_boxesO (R : XRl M ρ x A G) {x1 x2 : Int32} {Lc Ls : Nat} {Q : Int64 → gM → Prop} (hL : 100 ≤ Lc ∧ 44517 ≤ Ls) (q : Kx (spBoxes A x1 x2) x ρ M Q) : F_X0_boxes Lc Ls M x x1 x2 Q := by
  refine R.rc (x_gH R (fun h e1 => ?_) (fun e1 => ⟨4, 1017, ⟨by omega, by omega⟩, R.rc (x_ruleFor R (Or.inl rfl) ⟨by omega, by omega⟩ (fun z => absurd z (by decide)) (fun c z M' ρ' a1 a2 a3 a4 a5 => ⟨rfl, x_gotJ R a2 a3 a4 a5 (by
    rcases a1 with ⟨-, a1⟩ | ⟨a1, -⟩
    · unfold spBoxes
      rw [e1, a1]
    · exact absurd a1 (by decide)) q⟩))⟩))
  have d1 := dec_some e1
  have hx := R.hx d1.1
  have es : spBoxes A x1 x2 = match gR_ A x2 with | .inl e => rjJ A e | .inr u => (mvT (aP A h) u none (aP A h 0), A) := by unfold spBoxes; rw [e1]; rfl
  refine ⟨4, 1017, ⟨by omega, by omega⟩, R.rc (x_ruleFor R (Or.inr rfl) ⟨by omega, by omega⟩ (fun _ u n b a1 a2 a3 => ?_) (fun c z M' ρ' a1 a2 a3 a4 a5 => ⟨rfl, x_gotJ R a2 a3 a4 a5 (by
    rcases a1 with ⟨a1, -⟩ | ⟨-, a1⟩
    · exact absurd a1 (by decide)
    · rw [es, a1]) q⟩))⟩
  rw [d1.2.1]
  exact x_hs R d1.1 ⟨96, 43500, ⟨by omega, by omega⟩, hx.rch (x_sums (so := none) hx R.cs a2 a3 (fun j e => by cases e) (by omega) (fun M' ρ' f hx' => x_fin R d1.1 f hx' (by rw [es, a1]) q))⟩
theorem x_promiseO (R : XRl M ρ x A G) {x1 x2 : Int32} {Lc Ls : Nat} {Q : Int64 → gM → Prop} (hL : 10 ≤ Lc ∧ 4250 ≤ Ls) (q : Kx (spPromise A x1 x2) x ρ M Q) : F_X0_promise Lc Ls M x x1 x2 Q := by
  refine R.rc (x_gL (l := 1) R (by omega) (fun h d e1 => bT' n10 ?_) (fun e1 => bF' rfl (x_badJ R (by unfold spPromise; rw [e1]) q)))
  obtain ⟨l1, l2, l3, l4, l5, l6, hx⟩ := R.fL e1
  have rr : rC M (G.1.2.1 h) ≤ 4 ∧ rS M (G.1.2.1 h) ≤ 1250 := by unfold rC rS; split <;> omega
  rw [l1, l3]
  refine x_hs R l2 ⟨4, 1250, ⟨by omega, by omega⟩, hx.rch (x_promised hx R.cs rr (by omega) (fun M' ρ' f hx' _ => hx'.gi (by omega) ?_))⟩
  have R' := R.work l2 f hx'
  have nd := nd_le M' (G.1.2.1 h)
  exact ⟨6, 3000, ⟨by omega, by omega⟩, hx'.rch (x_cost hx' R'.cs nd (Nat.le_refl _) (p5_pos _) (fun M2 ρ2 f2 hx2 _ _ => x_fin R l2 (f.tr f2.sf) hx2 (by unfold spPromise; rw [e1]) q))⟩
end XOP2
