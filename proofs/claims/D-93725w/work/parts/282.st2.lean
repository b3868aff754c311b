/-! the first memory -/
set_option maxRecDepth 100000
def isS (ad : Nat → Nat) (a : Nat) : Prop := ∃ j, j < 19 ∧ a = ad j
def sLen (j : Nat) : Nat := (sB (gStr.getD j ("", 0, "")).2.2).length
noncomputable def kd0 (b L pl : Nat) (ad av : Nat → Nat) : Nat → gKd := fun a =>
  haveI := Classical.propDecidable (isS ad a)
  haveI := Classical.propDecidable (∃ j, j < 19 ∧ a = av j)
  if a = b then some (false, .inr (.int, L)) else if a = pl then some (false, .inr (.int, 3)) else if isS ad a then some (false, .inl 15) else if h : ∃ j, j < 19 ∧ a = av j then some (false, .inr (.byte, sLen (Classical.choose h))) else none
noncomputable def I0 (s : State) (D : va_G) (ad : Nat → Nat) : Nat → Nat → Int32 := fun a k =>
  haveI := Classical.propDecidable (isS ad a)
  iOf (s.heap[a]?.bind fun c => if isS ad a then c.slots[D.2 15 k]? else c.slots[k]?)
noncomputable def R0 (s : State) (D : va_G) (ad : Nat → Nat) : Nat → Nat → Option Nat := fun a k =>
  haveI := Classical.propDecidable (isS ad a)
  rOf (s.heap[a]?.bind fun c => if isS ad a then c.slots[D.2 15 k]? else none)
noncomputable def M0 (s : State) (D : va_G) (b L pl : Nat) (ad av : Nat → Nat) : gM := (kd0 b L pl ad av, I0 s D ad, fun _ _ => 0, R0 s D ad, fun j => if j = 0 then pl else ad (j - 1))
/-- what the law's start is, in the memory's words -/
def St0 (M : gM) (b L : Nat) (xs : Nat → Int32) : Prop :=
  (kd M b = some (false, .inr (.int, L)) ∧ ∀ k, k < L → mI M b k = xs k) ∧
  (kd M (gl M 0) = some (false, .inr (.int, 3)) ∧ mI M (gl M 0) 0 = 1 ∧ mI M (gl M 0) 1 = 5 ∧ mI M (gl M 0) 2 = 25) ∧
  (∀ j, j < 19 → ∃ v, kd M (gl M (j + 1)) = some (false, .inl 15) ∧ mR M (gl M (j + 1)) 0 = some v ∧ mI M (gl M (j + 1)) 1 = 0 ∧ kd M v = some (false, .inr (.byte, sLen j)) ∧ ∀ i, i < sLen j → mI M v i = (sB (gStr.getD j ("", 0, "")).2.2).getD i 0) ∧
  ∀ a w t, kd M a = some (w, t) → w = false
theorem st_ab {s : State} {cell : Cell} {x y : FieldType} (h1 : s.isArrayOf cell x) (h2 : s.isArrayOf cell y) : x = y := by
  obtain ⟨-, k, g1, c, g2⟩ := h1
  obtain ⟨-, k', g3, c', g4⟩ := h2
  cases g1.symm.trans g3
  cases g2.symm.trans g4
  rfl
theorem st_as {s : State} {b : Nat} {D : va_G} {dA : FieldType → ClassId} (hS : gS0 s b D dA) {cell : Cell} {x : FieldType} (h1 : s.isArrayOf cell x) (h2 : s.vm.findClass "java/lang/String" = some cell.cls) : False := by
  obtain ⟨-, k, g1, c, g2⟩ := h1
  obtain ⟨-, hfc, kC, hkC, hkind⟩ := hS.1.1 15 (RJ4, TJ4, 4) rfl
  have e : cell.cls = D.1 15 := Option.some.inj (h2.symm.trans hfc)
  rw [e] at g1
  cases g1.symm.trans hkC
  rw [hkind] at g2
  cases g2
theorem st_len {j : Nat} {q : String × Nat × String} (h : gStr[j]? = some q) : gStr.getD j ("", 0, "") = q := by
  rw [List.getD_eq_getElem?_getD, h]
  rfl
theorem st_sl : ∀ j, sLen j < 100 := by
  intro j
  unfold sLen
  cases h : gStr[j]? with
  | none =>
    rw [List.getD_eq_getElem?_getD, h]
    decide +kernel
  | some q =>
    rw [st_len h]
    exact stL q (List.mem_of_getElem? h)
theorem st_i32 {a b : Nat} (ha : a < 2 ^ 31) (hb : b < 2 ^ 31) (h : Int32.ofNat a = Int32.ofNat b) : a = b := by
  have h1 := congrArg Int32.toInt h
  rw [Int32.toInt_ofNat_of_lt (by omega), Int32.toInt_ofNat_of_lt (by omega)] at h1
  omega
theorem st_mem {s : State} {b L pl : Nat} {xs : Nat → Int32} {D : va_G} {dA : FieldType → ClassId} {ad av : Nat → Nat} (hS : gS0 s b D dA) (hL : L ≤ 384) (hb : va_X b L xs s s.heap) (hpl : va_T .int pl 3 (fun j => .int ([1, 5, 25].getD j 0)) (gA s) s s.heap) (hZ : va_Z "SendTheBox" "PLACE" "[I" (.ref pl) (gA s) s s.heap) (had : ∀ j, j < 19 → St1 s (gStr.getD j ("", 0, "")) (ad j) (av j)) : gC s D dA (M0 s D b L pl ad av) s.heap ∧ St0 (M0 s D b L pl ad av) b L xs := by
  obtain ⟨cb, b1, b2, b3, b4, b5⟩ := hb
  obtain ⟨cp, p1, p2, p3, p4, p5, p6, p7⟩ := hpl
  have nb : ¬ isS ad b := by
    rintro ⟨j, hj, e⟩
    obtain ⟨-, ⟨c, g1, -, g3, -⟩, -⟩ := had j hj
    rw [← e, b1] at g1
    cases g1
    exact st_as hS b2 g3
  have np : ¬ isS ad pl := by
    rintro ⟨j, hj, e⟩
    obtain ⟨-, ⟨c, g1, -, g3, -⟩, -⟩ := had j hj
    rw [← e, p1] at g1
    cases g1
    exact st_as hS p2 g3
  have nvs : ∀ j, j < 19 → ¬ isS ad (av j) := by
    rintro i hi ⟨j, hj, e⟩
    obtain ⟨-, ⟨c, g1, -, g3, -⟩, -⟩ := had j hj
    obtain ⟨-, -, -, -, ⟨c', v1, v2, -⟩⟩ := had i hi
    rw [← e, v1] at g1
    cases g1
    exact st_as hS v2 g3
  have nvb : ∀ j, j < 19 → av j ≠ b ∧ av j ≠ pl := by
    intro j hj
    obtain ⟨-, -, -, -, ⟨c', v1, v2, -⟩⟩ := had j hj
    refine ⟨fun e => ?_, fun e => ?_⟩
    · rw [e, b1] at v1
      cases v1
      cases st_ab b2 v2
    · rw [e, p1] at v1
      cases v1
      cases st_ab p2 v2
  have nsb : ∀ a, isS ad a → a ≠ b ∧ a ≠ pl := fun a h => ⟨fun e => nb (e ▸ h), fun e => np (e ▸ h)⟩
  have hlp : b = pl → L = 3 := by
    intro e
    rw [← e, b1] at p1
    cases p1
    rw [b4] at p5
    exact st_i32 (by omega) (by omega) p5
  have kb : kd0 b L pl ad av b = some (false, .inr (.int, L)) := if_pos rfl
  have kp : kd0 b L pl ad av pl = some (false, .inr (.int, 3)) := by
    unfold kd0
    by_cases e : pl = b
    · rw [if_pos e, hlp e.symm]
    · rw [if_neg e, if_pos rfl]
  have ks : ∀ a, isS ad a → kd0 b L pl ad av a = some (false, .inl 15) := fun a h => by
    unfold kd0
    rw [if_neg (nsb a h).1, if_neg (nsb a h).2, if_pos h]
  have kv : ∀ j, j < 19 → kd0 b L pl ad av (av j) = some (false, .inr (.byte, sLen j)) := fun j hj => by
    have hx : ∃ i, i < 19 ∧ av j = av i := ⟨j, hj, rfl⟩
    unfold kd0
    rw [if_neg (nvb j hj).1, if_neg (nvb j hj).2, if_neg (nvs j hj), dif_pos hx]
    have hc := Classical.choose_spec hx
    generalize Classical.choose hx = i at hc
    obtain ⟨-, -, -, -, ⟨c1, v1, -, -, -, v2, -⟩⟩ := had j hj
    obtain ⟨-, -, -, -, ⟨c2, w1, -, -, -, w2, -⟩⟩ := had i hc.1
    rw [← hc.2, v1] at w1
    cases w1
    have e : sLen i = sLen j := st_i32 (by have := st_sl i; omega) (by have := st_sl j; omega) (w2.symm.trans v2)
    rw [e]
  have ib : ∀ k c, s.heap[b]? = some c → I0 s D ad b k = iOf c.slots[k]? := fun k c h => by
    unfold I0
    rw [h, Option.bind_some, if_neg nb]
  have iN : ∀ a k c, ¬ isS ad a → s.heap[a]? = some c → I0 s D ad a k = iOf c.slots[k]? := fun a k c h h2 => by
    unfold I0
    rw [h2, Option.bind_some, if_neg h]
  have iY : ∀ a k c, isS ad a → s.heap[a]? = some c → I0 s D ad a k = iOf c.slots[D.2 15 k]? := fun a k c h h2 => by
    unfold I0
    rw [h2, Option.bind_some, if_pos h]
  have rY : ∀ a k c, isS ad a → s.heap[a]? = some c → R0 s D ad a k = rOf c.slots[D.2 15 k]? := fun a k c h h2 => by
    unfold R0
    rw [h2, Option.bind_some, if_pos h]
  have hsl : ∀ (k : Nat) (hk : k < 4) {n d : String} {v : Value} {a : Nat} {c : Cell}, (TJ4 k).1 = "java/lang/String" → (TJ4 k).2.1 = n → (TJ4 k).2.2.1 = d → va_OF "java/lang/String" n d v a (gA s) s s.heap → s.heap[a]? = some c → c.slots[D.2 15 k]? = some v := by
    intro k hk n d v a c e1 e2 e3 hf hc
    obtain ⟨cf, kf, fi, fd, f1, f2⟩ := (hS.1.1 15 (RJ4, TJ4, 4) rfl).1 k hk
    obtain ⟨cf', k', i', f, cell, g1, g2, g3, g4, g5, -⟩ := hf
    have f1 : s.fieldFound? (TJ4 k).1 (TJ4 k).2.1 (TJ4 k).2.2.1 = some (cf, kf, fi, fd) := f1
    rw [e1, e2, e3] at f1
    cases f1.symm.trans g1
    cases hc.symm.trans g3
    have f2 : fd.slot = D.2 15 k := f2
    rw [← f2]
    exact g5
  refine ⟨⟨fun a => ?_, fun a t h => ?_, ?_⟩, ?_⟩
  · unfold gat
    by_cases e1 : a = b
    · subst e1
      have : (M0 s D a L pl ad av).1 a = some (false, .inr (.int, L)) := kb
      rw [this]
      refine ⟨cb, b1, b2, b3, ⟨Nat.le_of_eq b4.symm, congrArg Nat.toInt32 b4⟩, fun k hk => ?_⟩
      rw [b5 k hk]
      show _ = some (Value.int (I0 s D ad a k))
      rw [ib k cb b1, b5 k hk]
      rfl
    · by_cases e2 : a = pl
      · subst e2
        have : (M0 s D b L a ad av).1 a = some (false, .inr (.int, 3)) := kp
        rw [this]
        refine ⟨cp, p1, p2, p3, ⟨p4, p5⟩, fun k hk => ?_⟩
        rw [p6 k hk]
        show _ = some (Value.int (I0 s D ad a k))
        rw [iN a k cp np p1, p6 k hk]
        rfl
      · by_cases e3 : isS ad a
        · have : (M0 s D b L pl ad av).1 a = some (false, .inl 15) := ks a e3
          rw [this]
          obtain ⟨j, hj, rfl⟩ := id e3
          obtain ⟨-, ⟨c, g1, g2, g3, -⟩, hco, hva, -⟩ := had j hj
          obtain ⟨-, hfc, -⟩ := hS.1.1 15 (RJ4, TJ4, 4) rfl
          have hun : c.vm ≠ .unknown := by
            obtain ⟨_, _, _, _, cell, _, _, z3, z4, _, _⟩ := hco
            cases g1.symm.trans z3
            exact z4
          refine ⟨(RJ4, TJ4, 4), rfl, c, g1, Option.some.inj (g3.symm.trans hfc), ⟨hun, g2⟩, fun k hk hk2 => ?_⟩
          rcases (by omega : k = 0 ∨ k = 1) with rfl | rfl
          · have h0 := hsl 0 (by omega) rfl rfl rfl hva g1
            rw [h0]
            show _ = some (va_rf (R0 s D ad (ad j) 0))
            rw [rY _ 0 c e3 g1, h0]
            rfl
          · have h0 := hsl 1 (by omega) rfl rfl rfl hco g1
            rw [h0]
            show _ = some (Value.int (I0 s D ad (ad j) 1))
            rw [iY _ 1 c e3 g1, h0]
            rfl
        · by_cases e4 : ∃ j, j < 19 ∧ a = av j
          · obtain ⟨j, hj, rfl⟩ := e4
            have : (M0 s D b L pl ad av).1 (av j) = some (false, .inr (.byte, sLen j)) := kv j hj
            rw [this]
            obtain ⟨-, -, -, -, ⟨c1, v1, v2, v3, v4, v5, v6, -⟩⟩ := had j hj
            refine ⟨c1, v1, v2, v3, ⟨v4, v5⟩, fun k hk => ?_⟩
            rw [v6 k hk]
            show _ = some (Value.int (I0 s D ad (av j) k))
            rw [iN _ k c1 (nvs j hj) v1, v6 k hk]
            rfl
          · have : (M0 s D b L pl ad av).1 a = none := by
              show kd0 b L pl ad av a = none
              unfold kd0
              rw [if_neg e1, if_neg e2, if_neg e3, dif_neg e4]
            rw [this]
            trivial
  · have h : kd0 b L pl ad av a = some (true, t) := h
    unfold kd0 at h
    split at h
    · cases h
    split at h
    · cases h
    split at h
    · cases h
    split at h <;> cases h
  · refine ⟨hZ, fun j q hq => ?_⟩
    have hj : j < 19 := (List.getElem?_eq_some_iff.mp hq).1
    have := (had j hj).1
    rw [st_len hq] at this
    exact this
  · refine ⟨⟨kb, fun k hk => ?_⟩, ⟨kp, ?_, ?_, ?_⟩, fun j hj => ?_, fun a w t h => ?_⟩
    · show I0 s D ad b k = xs k
      rw [ib k cb b1, b5 k hk]
      rfl
    · show I0 s D ad pl 0 = 1
      rw [iN pl 0 cp np p1, p6 0 (by omega)]
      rfl
    · show I0 s D ad pl 1 = 5
      rw [iN pl 1 cp np p1, p6 1 (by omega)]
      rfl
    · show I0 s D ad pl 2 = 25
      rw [iN pl 2 cp np p1, p6 2 (by omega)]
      rfl
    · have hs : isS ad (ad j) := ⟨j, hj, rfl⟩
      obtain ⟨-, ⟨c, g1, g2, g3, -⟩, hco, hva, ⟨c1, v1, v2, v3, v4, v5, v6, -⟩⟩ := had j hj
      refine ⟨av j, ks (ad j) hs, ?_, ?_, kv j hj, fun i hi => ?_⟩
      · show R0 s D ad (ad j) 0 = some (av j)
        rw [rY _ 0 c hs g1, hsl 0 (by omega) rfl rfl rfl hva g1]
        rfl
      · show I0 s D ad (ad j) 1 = 0
        rw [iY _ 1 c hs g1, hsl 1 (by omega) rfl rfl rfl hco g1]
        rfl
      · show I0 s D ad (av j) i = _
        rw [iN _ i c1 (nvs j hj) v1, v6 i hi]
        rfl
    · have h : kd0 b L pl ad av a = some (w, t) := h
      unfold kd0 at h
      split at h
      · cases h; rfl
      split at h
      · cases h; rfl
      split at h
      · cases h; rfl
      split at h
      · cases h; rfl
      · cases h
