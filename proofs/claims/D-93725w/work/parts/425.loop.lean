/-! loops and branches, once for all -/
set_option maxRecDepth 100000
theorem loopV {σ : Type} (B : Nat → σ → gM → Prop) (v : Nat → σ) (I : Nat → gM → Prop) (n : Nat) (step : ∀ i, i < n → ∀ g N, I i N → (∀ N', I (i + 1) N' → B g (v (i + 1)) N') → B (g + 1) (v i) N) (last : ∀ g N, I n N → B (g + 1) (v n) N) : ∀ N, I 0 N → ∃ g, B g (v 0) N := by
  have key : ∀ e i g N, i + e = n → e < g → I i N → B g (v i) N := by
    intro e
    induction e with
    | zero =>
      intro i g N hi hg hI
      obtain ⟨g, rfl⟩ : ∃ z, g = z + 1 := ⟨g - 1, by omega⟩
      have : i = n := by omega
      subst this
      exact last g N hI
    | succ e ih =>
      intro i g N hi hg hI
      obtain ⟨g, rfl⟩ : ∃ z, g = z + 1 := ⟨g - 1, by omega⟩
      exact step i (by omega) g N hI (fun N' h' => ih (i + 1) g N' (by omega) (by omega) h')
  exact fun N h => ⟨n + 1, key n 0 (n + 1) N (by omega) (by omega) h⟩
theorem loopC {σ : Type} (B : Nat → σ → gM → Prop) (v : Nat → σ) (M : gM) (n : Nat) (step : ∀ i, i < n → ∀ g, B g (v (i + 1)) M → B (g + 1) (v i) M) (last : ∀ g, B (g + 1) (v n) M) : ∃ g, B g (v 0) M :=
  loopV B v (fun _ N => N = M) n (fun i hi g N hN k => by subst hN; exact step i hi g (k N rfl)) (fun g N hN => by subst hN; exact last g) M rfl
/-- a loop whose state is found by a relation -/
theorem loopR {σ : Type} (B : Nat → σ → gM → Prop) (I : Nat → σ → gM → Prop) (n : Nat) (step : ∀ i, i < n → ∀ g s N, I i s N → (∀ s' N', I (i + 1) s' N' → B g s' N') → B (g + 1) s N) (last : ∀ g s N, I n s N → B (g + 1) s N) : ∀ s N, I 0 s N → ∃ g, B g s N := by
  have key : ∀ e i g s N, i + e = n → e < g → I i s N → B g s N := by
    intro e
    induction e with
    | zero =>
      intro i g s N hi hg hI
      obtain ⟨g, rfl⟩ : ∃ z, g = z + 1 := ⟨g - 1, by omega⟩
      have : i = n := by omega
      subst this
      exact last g s N hI
    | succ e ih =>
      intro i g s N hi hg hI
      obtain ⟨g, rfl⟩ : ∃ z, g = z + 1 := ⟨g - 1, by omega⟩
      exact step i (by omega) g s N hI (fun s' N' h' => ih (i + 1) g s' N' (by omega) (by omega) h')
  exact fun s N h => ⟨n + 1, key n 0 (n + 1) s N (by omega) (by omega) h⟩
/-- a loop that ends when a measure is used up -/
theorem loopW {σ : Type} (B : Nat → σ → gM → Prop) (I : σ → gM → Prop) (m : σ → gM → Nat) (step : ∀ g s N, I s N → (∀ s' N', I s' N' → m s' N' < m s N → B g s' N') → B (g + 1) s N) : ∀ s N, I s N → ∃ g, B g s N := by
  have key : ∀ e g s N, m s N ≤ e → e < g → I s N → B g s N := by
    intro e
    induction e with
    | zero =>
      intro g s N hi hg hI
      obtain ⟨g, rfl⟩ : ∃ z, g = z + 1 := ⟨g - 1, by omega⟩
      exact step g s N hI (fun s' N' _ hm => absurd hm (by omega))
    | succ e ih =>
      intro g s N hi hg hI
      obtain ⟨g, rfl⟩ : ∃ z, g = z + 1 := ⟨g - 1, by omega⟩
      exact step g s N hI (fun s' N' h' hm => ih g s' N' (by omega) (by omega) h')
  exact fun s N h => ⟨m s N + 1, key (m s N) (m s N + 1) s N (by omega) (by omega) h⟩
section BR
variable {a b : Nat} {A B : Prop}
theorem leT (h : a ≤ b) (hb : b < 2147483648) (k : A) : (Int32.ofNat a ≤ Int32.ofNat b → A) ∧ (¬ Int32.ofNat a ≤ Int32.ofNat b → B) := bT (by rw [i32_le (by omega) hb]; exact h) k
theorem leF (h : b < a) (ha : a < 2147483648) (k : B) : (Int32.ofNat a ≤ Int32.ofNat b → A) ∧ (¬ Int32.ofNat a ≤ Int32.ofNat b → B) := bF (by rw [i32_le ha (by omega)]; omega) k
theorem leS (ha : a < 2147483648) (hb : b < 2147483648) (k1 : a ≤ b → A) (k2 : b < a → B) : (Int32.ofNat a ≤ Int32.ofNat b → A) ∧ (¬ Int32.ofNat a ≤ Int32.ofNat b → B) := by
  rw [i32_le ha hb]
  exact ⟨k1, fun z => k2 (by omega)⟩
theorem ltT (h : a < b) (hb : b < 2147483648) (k : A) : (Int32.ofNat a < Int32.ofNat b → A) ∧ (¬ Int32.ofNat a < Int32.ofNat b → B) := bT (by rw [i32_lt (by omega) hb]; exact h) k
theorem ltF (h : b ≤ a) (ha : a < 2147483648) (k : B) : (Int32.ofNat a < Int32.ofNat b → A) ∧ (¬ Int32.ofNat a < Int32.ofNat b → B) := bF (by rw [i32_lt ha (by omega)]; omega) k
theorem ltS (ha : a < 2147483648) (hb : b < 2147483648) (k1 : a < b → A) (k2 : b ≤ a → B) : (Int32.ofNat a < Int32.ofNat b → A) ∧ (¬ Int32.ofNat a < Int32.ofNat b → B) := by
  rw [i32_lt ha hb]
  exact ⟨k1, fun z => k2 (by omega)⟩
theorem eqT (h : a = b) (k : A) : (Int32.ofNat a = Int32.ofNat b → A) ∧ (¬ Int32.ofNat a = Int32.ofNat b → B) := bT (by rw [h]) k
theorem eqF (h : a ≠ b) (ha : a < 2147483648) (hb : b < 2147483648) (k : B) : (Int32.ofNat a = Int32.ofNat b → A) ∧ (¬ Int32.ofNat a = Int32.ofNat b → B) := bF (by rw [i32_eq ha hb]; exact h) k
theorem eqS (ha : a < 2147483648) (hb : b < 2147483648) (k1 : a = b → A) (k2 : a ≠ b → B) : (Int32.ofNat a = Int32.ofNat b → A) ∧ (¬ Int32.ofNat a = Int32.ofNat b → B) := by
  rw [i32_eq ha hb]
  exact ⟨k1, k2⟩
theorem eqT' (h : a ≠ b) (ha : a < 2147483648) (hb : b < 2147483648) (k : A) : (¬ Int32.ofNat a = Int32.ofNat b → A) ∧ (Int32.ofNat a = Int32.ofNat b → B) := bT' (by rw [i32_eq ha hb]; exact h) k
theorem eqF' (h : a = b) (k : B) : (¬ Int32.ofNat a = Int32.ofNat b → A) ∧ (Int32.ofNat a = Int32.ofNat b → B) := bF' (by rw [h]) k
theorem eqS' (ha : a < 2147483648) (hb : b < 2147483648) (k1 : a ≠ b → A) (k2 : a = b → B) : (¬ Int32.ofNat a = Int32.ofNat b → A) ∧ (Int32.ofNat a = Int32.ofNat b → B) := by
  rw [i32_eq ha hb]
  exact ⟨k1, k2⟩
end BR
theorem n10 : ¬ (1 : Int32) = 0 := by decide
theorem z64 : (0 : Int64) = Int64.ofNat 0 := rfl
theorem i64_0mul (x : Int64) : Int64.ofNat 0 * x = 0 := by
  have : Int64.ofNat 0 = 0 := rfl
  rw [this]
  grind -lia
theorem i64_0add (x : Int64) : x + (0 : Int64) = x := by grind -lia
