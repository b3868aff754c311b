/-! texts of houses: tokens, and what they tell -/
set_option maxRecDepth 100000
def rnN (f : Nat → Bool) (T : Nat → Nat) : Nat → Nat → Nat
  | 0, p => p
  | k + 1, p => if f (T p) = true then rnN f T k (p + 1) else p
/-- where a run of such bytes ends -/
def rn (f : Nat → Bool) (T : Nat → Nat) (n p : Nat) : Nat := rnN f T (n - p) p
theorem rn_step {f : Nat → Bool} {T : Nat → Nat} {n p : Nat} (h : p < n) (hf : f (T p) = true) : rn f T n (p + 1) = rn f T n p := by
  unfold rn
  rw [show n - p = (n - (p + 1)) + 1 by omega]
  show _ = (if _ then _ else _)
  rw [if_pos hf]
theorem rn_stop {f : Nat → Bool} {T : Nat → Nat} {n p : Nat} (h : n ≤ p ∨ f (T p) = false) : rn f T n p = p := by
  unfold rn
  by_cases c : n ≤ p
  · rw [show n - p = 0 by omega]; rfl
  · rw [show n - p = (n - (p + 1)) + 1 by omega]
    show (if _ then _ else _) = _
    rw [if_neg (by
      rcases h with h | h
      · omega
      · rw [h]; exact Bool.noConfusion)]
theorem rn_ge (f : Nat → Bool) (T : Nat → Nat) : ∀ k p, p ≤ rnN f T k p ∧ rnN f T k p ≤ p + k := by
  intro k
  induction k with
  | zero => intro p; exact ⟨Nat.le_refl _, Nat.le_refl _⟩
  | succ k ih =>
    intro p
    unfold rnN
    split
    · have := ih (p + 1); omega
    · omega
theorem rn_bd (f : Nat → Bool) (T : Nat → Nat) {n p : Nat} (h : p ≤ n) : p ≤ rn f T n p ∧ rn f T n p ≤ n := by
  have := rn_ge f T (n - p) p
  unfold rn
  omega
theorem rn_pos {f : Nat → Bool} {T : Nat → Nat} {n p : Nat} (h : p < n) (hf : f (T p) = true) : p + 1 ≤ rn f T n p := by
  rw [← rn_step h hf]
  exact (rn_bd f T (by omega)).1
def isSp (c : Nat) : Bool := c == 32
def isLt (c : Nat) : Bool := decide (97 ≤ c ∧ c ≤ 122)
def isDi (c : Nat) : Bool := decide (48 ≤ c ∧ c ≤ 57)
theorem isLt_t {c : Nat} : isLt c = true ↔ 97 ≤ c ∧ c ≤ 122 := decide_eq_true_iff
theorem isLt_f {c : Nat} : isLt c = false ↔ ¬ (97 ≤ c ∧ c ≤ 122) := decide_eq_false_iff_not
theorem isDi_t {c : Nat} : isDi c = true ↔ 48 ≤ c ∧ c ≤ 57 := decide_eq_true_iff
theorem isDi_f {c : Nat} : isDi c = false ↔ ¬ (48 ≤ c ∧ c ≤ 57) := decide_eq_false_iff_not
theorem isSp_t {c : Nat} : isSp c = true ↔ c = 32 := by unfold isSp; exact beq_iff_eq
theorem isSp_f {c : Nat} : isSp c = false ↔ c ≠ 32 := by unfold isSp; exact beq_eq_false_iff_ne
/-- a token: its sort (0 end, 1 word, 2 number, 3 ;, 4 none), where it begins and ends -/
def tkQ (T : Nat → Nat) (n q : Nat) : Nat × Nat × Nat := if n ≤ q then (0, q, q) else if isLt (T q) = true then (1, q, rn isLt T n q) else if isDi (T q) = true then (2, q, rn isDi T n q) else if T q = 59 then (3, q, q + 1) else (4, q, q + 1)
def tk (T : Nat → Nat) (n p : Nat) : Nat × Nat × Nat := tkQ T n (rn isSp T n p)
/-- the number that figures tell -/
def dv (T : Nat → Nat) (f e : Nat) : Nat := if e ≤ f + 1 then T f - 48 else if e = f + 2 then (T f - 48) * 10 + (T (f + 1) - 48) else 100000
def TkO (n : Nat) (t : Nat × Nat × Nat) : Prop := t.2.1 ≤ t.2.2 ∧ t.2.2 ≤ n ∧ (t.1 = 0 → t.2.1 = n) ∧ (t.1 ≠ 0 → t.2.1 < t.2.2) ∧ t.1 ≤ 4
theorem tkQ_ok (T : Nat → Nat) {n q : Nat} (h : q ≤ n) : TkO n (tkQ T n q) ∧ (tkQ T n q).2.1 = q := by
  unfold tkQ TkO
  by_cases c0 : n ≤ q
  · rw [if_pos c0]
    exact ⟨⟨Nat.le_refl _, h, fun _ => (by show q = n; omega), fun z => absurd rfl z, by show 0 ≤ 4; omega⟩, rfl⟩
  · rw [if_neg c0]
    by_cases c1 : isLt (T q) = true
    · rw [if_pos c1]
      have h1 := rn_bd isLt T h
      have h2 := rn_pos (n := n) (by omega) c1
      exact ⟨⟨h1.1, h1.2, fun z => (by cases z), fun _ => h2, by show 1 ≤ 4; omega⟩, rfl⟩
    · rw [if_neg c1]
      by_cases c2 : isDi (T q) = true
      · rw [if_pos c2]
        have h1 := rn_bd isDi T h
        have h2 := rn_pos (n := n) (by omega) c2
        exact ⟨⟨h1.1, h1.2, fun z => (by cases z), fun _ => h2, by show 2 ≤ 4; omega⟩, rfl⟩
      · rw [if_neg c2]
        by_cases c3 : T q = 59
        · rw [if_pos c3]
          exact ⟨⟨by show q ≤ q + 1; omega, by show q + 1 ≤ n; omega, fun z => (by cases z), fun _ => (by show q < q + 1; omega), by show 3 ≤ 4; omega⟩, rfl⟩
        · rw [if_neg c3]
          exact ⟨⟨by show q ≤ q + 1; omega, by show q + 1 ≤ n; omega, fun z => (by cases z), fun _ => (by show q < q + 1; omega), by show 4 ≤ 4; omega⟩, rfl⟩
theorem tk_ok (T : Nat → Nat) {n p : Nat} (h : p ≤ n) : TkO n (tk T n p) ∧ p ≤ (tk T n p).2.1 := by
  have h1 := rn_bd isSp T h
  have h2 := tkQ_ok T h1.2
  unfold tk
  exact ⟨h2.1, by rw [h2.2]; exact h1.1⟩
/-- a token is a word -/
def isW (T : Nat → Nat) (t : Nat × Nat × Nat) (w : List Nat) : Prop := t.1 = 1 ∧ t.2.2 = t.2.1 + w.length ∧ ∀ i, i < w.length → T (t.2.1 + i) = w.getD i 0
noncomputable def isWb (T : Nat → Nat) (t : Nat × Nat × Nat) (w : List Nat) : Bool := @decide (isW T t w) (Classical.propDecidable _)
theorem isWb_t {T : Nat → Nat} {t : Nat × Nat × Nat} {w : List Nat} : isWb T t w = true ↔ isW T t w := @decide_eq_true_iff _ (Classical.propDecidable _)
theorem isWb_f {T : Nat → Nat} {t : Nat × Nat × Nat} {w : List Nat} : isWb T t w = false ↔ ¬ isW T t w := @decide_eq_false_iff_not _ (Classical.propDecidable _)
def wDays : List Nat := [100, 97, 121, 115]
def wBox : List Nat := [98, 111, 120]
def wRoom : List Nat := [114, 111, 111, 109]
def wFull : List Nat := [102, 117, 108, 108]
def wSort : List Nat := [115, 111, 114, 116]
def wComes : List Nat := [99, 111, 109, 101, 115]
def wHold : List Nat := [104, 111, 108, 100]
def wRefuse : List Nat := [114, 101, 102, 117, 115, 101]
def wLeft : List Nat := [108, 101, 102, 116]
def wSemi : List Nat := [59]
abbrev Tok : Type := Nat × Nat × Nat
/-- a word and its number, then the next token; or where it is wrong -/
noncomputable def tl (T : Nat → Nat) (n : Nat) (w : List Nat) (lo hi : Nat) (t : Tok) : Nat ⊕ (Nat × Tok) :=
  if isWb T t w = true then (if (tk T n t.2.2).1 = 2 ∧ lo ≤ dv T (tk T n t.2.2).2.1 (tk T n t.2.2).2.2 ∧ dv T (tk T n t.2.2).2.1 (tk T n t.2.2).2.2 ≤ hi then .inr (dv T (tk T n t.2.2).2.1 (tk T n t.2.2).2.2, tk T n (tk T n t.2.2).2.2) else .inl (tk T n t.2.2).2.1) else .inl t.2.1
def upP (P : Nat → Nat) (i v : Nat) : Nat → Nat := fun j => if j = i then v else P j
/-- a word that may be there -/
noncomputable def tlO (T : Nat → Nat) (n : Nat) (w : List Nat) (lo hi : Nat) (t : Tok) : Nat ⊕ (Nat × Tok) := if isWb T t w = true then tl T n w lo hi t else .inr (0, t)
noncomputable def sortS (T : Nat → Nat) (n : Nat) (t : Tok) (P : Nat → Nat) : Nat ⊕ (Tok × (Nat → Nat)) :=
  match tl T n wRoom 1 9 t with
  | .inl f => .inl f
  | .inr (v0, t0) => match tl T n wComes 0 4 t0 with
    | .inl f => .inl f
    | .inr (v1, t1) => match tl T n wHold 0 9 t1 with
      | .inl f => .inl f
      | .inr (v2, t2) => match tlO T n wRefuse 0 99 t2 with
        | .inl f => .inl f
        | .inr (v3, t3) => match tlO T n wLeft 0 99 t3 with
          | .inl f => .inl f
          | .inr (v4, t4) => .inr (t4, upP (upP (upP (upP (upP (upP P (5 + 5 * P 4) v0) (6 + 5 * P 4) v1) (7 + 5 * P 4) v2) (8 + 5 * P 4) v3) (9 + 5 * P 4) v4) 4 (P 4 + 1))
noncomputable def stm (T : Nat → Nat) (n : Nat) (t : Tok) (P : Nat → Nat) : Nat ⊕ (Tok × (Nat → Nat)) :=
  if isWb T t wDays = true then (match tl T n wDays 1 6 t with
    | .inl f => .inl f
    | .inr (v, t1) => .inr (t1, upP P 0 v))
  else if isWb T t wBox = true then (match tl T n wBox 0 99 t with
    | .inl f => .inl f
    | .inr (v, t1) => match tl T n wRoom 1 40 t1 with
      | .inl f => .inl f
      | .inr (v2, t2) => .inr (t2, upP (upP P 1 v) 2 v2))
  else if isWb T t wFull = true then (match tl T n wFull 0 3 t with
    | .inl f => .inl f
    | .inr (v, t1) => .inr (t1, upP P 3 v))
  else if isWb T t wSort = true ∧ P 4 ≠ 3 then sortS T n (tk T n t.2.2) P
  else .inl t.2.1
noncomputable def rdN (T : Nat → Nat) (n : Nat) : Nat → Tok → (Nat → Nat) → Nat ⊕ (Nat → Nat)
  | 0, t, _ => .inl t.2.1
  | k + 1, t, P => if t.1 = 0 then (if 0 < P 4 then .inr P else .inl t.2.1) else if t.1 = 3 then (match stm T n (tk T n t.2.2) P with
    | .inl f => .inl f
    | .inr (t', P') => rdN T n k t' P') else .inl t.2.1
def P0 : Nat → Nat := fun i => if i = 0 then 3 else if i = 1 then 10 else if i = 2 then 10 else 0
/-- a text read -/
noncomputable def rdF (T : Nat → Nat) (n : Nat) : Nat ⊕ (Nat → Nat) := match stm T n (tk T n 0) P0 with
  | .inl f => .inl f
  | .inr (t, P) => rdN T n (n + 1) t P
theorem tl_ok {T : Nat → Nat} {n lo hi : Nat} {w : List Nat} {t : Tok} (h : TkO n t) : (∀ f, tl T n w lo hi t = .inl f → f ≤ n) ∧ ∀ v t', tl T n w lo hi t = .inr (v, t') → TkO n t' ∧ t.2.1 < t'.2.1 ∧ lo ≤ v ∧ v ≤ hi := by
  obtain ⟨h1, h2, h3, h4, h5⟩ := h
  obtain ⟨⟨a1, a2, a3, a4, a5⟩, a6⟩ := tk_ok T h2
  obtain ⟨b1, b2⟩ := tk_ok T a2
  unfold tl
  refine ⟨fun f hf => ?_, fun v t' hv => ?_⟩
  · split at hf
    · split at hf
      · cases hf
      · cases hf; omega
    · cases hf; omega
  · split at hv
    · rename_i cw
      have hw := (isWb_t.mp cw).1
      split at hv
      · rename_i c2
        cases hv
        have := a4 (by omega)
        exact ⟨b1, by omega, c2.2.1, c2.2.2⟩
      · cases hv
    · cases hv
theorem tlO_ok {T : Nat → Nat} {n hi : Nat} {w : List Nat} {t : Tok} (h : TkO n t) : (∀ f, tlO T n w 0 hi t = .inl f → f ≤ n) ∧ ∀ v t', tlO T n w 0 hi t = .inr (v, t') → TkO n t' ∧ t.2.1 ≤ t'.2.1 ∧ v ≤ hi := by
  have := tl_ok (T := T) (lo := 0) (hi := hi) (w := w) h
  unfold tlO
  refine ⟨fun f hf => ?_, fun v t' hv => ?_⟩
  · split at hf
    · exact this.1 f hf
    · cases hf
  · split at hv
    · have h9 := this.2 v t' hv
      exact ⟨h9.1, by omega, h9.2.2.2⟩
    · cases hv
      exact ⟨h, Nat.le_refl _, Nat.zero_le _⟩
/-- the numbers of a house that is being read -/
def WfP (P : Nat → Nat) : Prop := (1 ≤ P 0 ∧ P 0 ≤ 6) ∧ P 1 ≤ 99 ∧ (1 ≤ P 2 ∧ P 2 ≤ 40) ∧ P 3 ≤ 3 ∧ P 4 ≤ 3 ∧ ∀ i, i < P 4 → (1 ≤ P (5 + 5 * i) ∧ P (5 + 5 * i) ≤ 9) ∧ P (6 + 5 * i) ≤ 4 ∧ P (7 + 5 * i) ≤ 9 ∧ P (8 + 5 * i) ≤ 99 ∧ P (9 + 5 * i) ≤ 99
theorem up_eq (P : Nat → Nat) (i v : Nat) : upP P i v i = v := if_pos rfl
theorem up_ne {P : Nat → Nat} {i v j : Nat} (h : j ≠ i) : upP P i v j = P j := if_neg h
theorem WfP.up {P : Nat → Nat} {i v : Nat} (h : WfP P) (hi : i < 4) (h0 : i = 0 → 1 ≤ v ∧ v ≤ 6) (h1 : i = 1 → v ≤ 99) (h2 : i = 2 → 1 ≤ v ∧ v ≤ 40) (h3 : i = 3 → v ≤ 3) : WfP (upP P i v) := by
  obtain ⟨a0, a1, a2, a3, a4, a5⟩ := h
  unfold WfP
  rw [up_ne (P := P) (i := i) (v := v) (j := 4) (by omega)]
  refine ⟨?_, ?_, ?_, ?_, a4, fun k hk => ?_⟩
  · by_cases c : 0 = i
    · rw [← c, up_eq]; exact h0 c.symm
    · rw [up_ne c]; exact a0
  · by_cases c : 1 = i
    · rw [← c, up_eq]; exact h1 c.symm
    · rw [up_ne c]; exact a1
  · by_cases c : 2 = i
    · rw [← c, up_eq]; exact h2 c.symm
    · rw [up_ne c]; exact a2
  · by_cases c : 3 = i
    · rw [← c, up_eq]; exact h3 c.symm
    · rw [up_ne c]; exact a3
  · rw [up_ne (by omega), up_ne (by omega), up_ne (by omega), up_ne (by omega), up_ne (by omega)]
    exact a5 k hk
theorem WfP.sort {P : Nat → Nat} {v0 v1 v2 v3 v4 : Nat} (h : WfP P) (hk : P 4 ≠ 3) (h0 : 1 ≤ v0 ∧ v0 ≤ 9) (h1 : v1 ≤ 4) (h2 : v2 ≤ 9) (h3 : v3 ≤ 99) (h4 : v4 ≤ 99) : WfP (upP (upP (upP (upP (upP (upP P (5 + 5 * P 4) v0) (6 + 5 * P 4) v1) (7 + 5 * P 4) v2) (8 + 5 * P 4) v3) (9 + 5 * P 4) v4) 4 (P 4 + 1)) := by
  obtain ⟨a0, a1, a2, a3, a4, a5⟩ := h
  unfold WfP
  rw [up_eq]
  have e : ∀ j, j ≠ 4 → j < 5 + 5 * P 4 → upP (upP (upP (upP (upP (upP P (5 + 5 * P 4) v0) (6 + 5 * P 4) v1) (7 + 5 * P 4) v2) (8 + 5 * P 4) v3) (9 + 5 * P 4) v4) 4 (P 4 + 1) j = P j := fun j h1 h2 => by
    rw [up_ne h1, up_ne (by omega), up_ne (by omega), up_ne (by omega), up_ne (by omega), up_ne (by omega)]
  rw [e 0 (by omega) (by omega), e 1 (by omega) (by omega), e 2 (by omega) (by omega), e 3 (by omega) (by omega)]
  refine ⟨a0, a1, a2, a3, by omega, fun i hi => ?_⟩
  by_cases c : i < P 4
  · rw [e _ (by omega) (by omega), e _ (by omega) (by omega), e _ (by omega) (by omega), e _ (by omega) (by omega), e _ (by omega) (by omega)]
    exact a5 i c
  · have hi : i = P 4 := by omega
    subst hi
    refine ⟨?_, ?_, ?_, ?_, ?_⟩
    · rw [up_ne (by omega), up_ne (by omega), up_ne (by omega), up_ne (by omega), up_ne (by omega), up_eq]; exact h0
    · rw [up_ne (by omega), up_ne (by omega), up_ne (by omega), up_ne (by omega), up_eq]; exact h1
    · rw [up_ne (by omega), up_ne (by omega), up_ne (by omega), up_eq]; exact h2
    · rw [up_ne (by omega), up_ne (by omega), up_eq]; exact h3
    · rw [up_ne (by omega), up_eq]; exact h4
theorem P0_wf : WfP P0 := ⟨⟨by decide, by decide⟩, by decide, ⟨by decide, by decide⟩, by decide, by decide, fun i hi => absurd hi (by show ¬ i < 0; omega)⟩
