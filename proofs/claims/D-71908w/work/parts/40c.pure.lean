/-! the pure law, text C -/
set_option maxRecDepth 100000
/-! P2: the steps of a run on both sides -/
theorem bd1_some {T1 β : Type} (x1 : T1) (f : T1 → Option β) : bd1 (some x1) f = f x1 := rfl
def sd (least e : Int64) : Int64 := if e ≤ 0 then e else if least ≤ e then e else 0
def sdd (least e : Int64) : Int64 := if e ≤ 0 then 0 else if least ≤ e then 0 else e
def sdc (least e : Int64) : Int32 := if e ≤ 0 then 0 else if least ≤ e then 0 else 1
def mg (many : Int32) : Int32 := if many ≤ 1 then 0 else 1
def tu (e : Int64) (f : Int32) : Int64 := e * f.toInt64 / 1000
def ps (e : Int64) : Int32 := if e ≤ 0 then 0 else 1
theorem sd_or (l e : Int64) : sd l e = e ∨ sd l e = 0 := by unfold sd; split <;> (try split) <;> simp
/-- fills -/
theorem fill1809_l : ∀ (d i f : Nat) (a : Nat → Int64), i + d = 1809 → d < f → ∃ a', F_J8_fill1809_6 f a 0 (c32 i) 1809 = some a' ∧ (∀ k, i ≤ k → k < 1809 → a' k = 0) ∧ ∀ k, k < i → a' k = a k := by
  intro d
  induction d with
  | zero =>
    intro i f a h hf
    obtain ⟨g, rfl⟩ : ∃ g, f = g + 1 := ⟨f - 1, by omega⟩
    refine ⟨a, ?_, fun k h1 h2 => absurd h2 (by omega), fun k _ => rfl⟩
    show B_J8_fill1809_6 _ _ _ _ _ = _
    unfold B_J8_fill1809_6
    rw [c32_of 1809, ile_t (by omega) (by omega)]
  | succ d ih =>
    intro i f a h hf
    obtain ⟨g, rfl⟩ : ∃ g, f = g + 1 := ⟨f - 1, by omega⟩
    obtain ⟨a', h1, h2, h3⟩ := ih (i + 1) g (vp_updL a i 0) (by omega) (by omega)
    refine ⟨a', ?_, fun k hk hk2 => ?_, fun k hk => ?_⟩
    · show B_J8_fill1809_6 _ _ _ _ _ = _
      unfold B_J8_fill1809_6
      rw [c32_of 1809, ile_f (by omega) (by omega), gin_c (by omega) (by omega), c32_nat (by omega), c32_of 1, c32_add]
      exact h1
    · by_cases e : k = i
      · rw [h3 k (by omega), e, updL_eq]
      · exact h2 k (by omega) hk2
    · rw [h3 k (by omega), updL_ne (by omega)]
theorem fill1809 (a : Nat → Int64) : ∃ a', F_J8_fill1809 a 0 = some a' ∧ ∀ k, k < 1809 → a' k = 0 := by
  obtain ⟨a', h1, h2, -⟩ := fill1809_l 1809 0 gFU a rfl (by decide)
  exact ⟨a', h1, fun k hk => h2 k (by omega) hk⟩
theorem fill201_l : ∀ (d i f : Nat) (a : Nat → Int64), i + d = 201 → d < f → ∃ a', F_J8_fill201_6 f a 0 (c32 i) 201 = some a' ∧ (∀ k, i ≤ k → k < 201 → a' k = 0) ∧ ∀ k, k < i → a' k = a k := by
  intro d
  induction d with
  | zero =>
    intro i f a h hf
    obtain ⟨g, rfl⟩ : ∃ g, f = g + 1 := ⟨f - 1, by omega⟩
    refine ⟨a, ?_, fun k h1 h2 => absurd h2 (by omega), fun k _ => rfl⟩
    show B_J8_fill201_6 _ _ _ _ _ = _
    unfold B_J8_fill201_6
    rw [c32_of 201, ile_t (by omega) (by omega)]
  | succ d ih =>
    intro i f a h hf
    obtain ⟨g, rfl⟩ : ∃ g, f = g + 1 := ⟨f - 1, by omega⟩
    obtain ⟨a', h1, h2, h3⟩ := ih (i + 1) g (vp_updL a i 0) (by omega) (by omega)
    refine ⟨a', ?_, fun k hk hk2 => ?_, fun k hk => ?_⟩
    · show B_J8_fill201_6 _ _ _ _ _ = _
      unfold B_J8_fill201_6
      rw [c32_of 201, ile_f (by omega) (by omega), gin_c (by omega) (by omega), c32_nat (by omega), c32_of 1, c32_add]
      exact h1
    · by_cases e : k = i
      · rw [h3 k (by omega), e, updL_eq]
      · exact h2 k (by omega) hk2
    · rw [h3 k (by omega), updL_ne (by omega)]
theorem fill201 (a : Nat → Int64) : ∃ a', F_J8_fill201 a 0 = some a' ∧ ∀ k, k < 201 → a' k = 0 := by
  obtain ⟨a', h1, h2, -⟩ := fill201_l 201 0 gFU a rfl (by decide)
  exact ⟨a', h1, fun k hk => h2 k (by omega) hk⟩
/-- the pulses of a time -/
def pulS (q : Nat) (tm : Nat → Int32) (en : Nat → Int64) (t : Nat) : Int64 := sg q (fun k => if tm k = c32 t then en k else 0)
def pulN : Nat → (Nat → Int32) → Nat → Int32
  | 0, _, _ => 0
  | k + 1, tm, t => pulN k tm t + (if tm k = c32 t then 1 else 0)
theorem passPulses_l {q t : Nat} {tm : Nat → Int32} {en : Nat → Int64} (hq : q ≤ 4) (he : ∀ k, k < q → ¬ en k ≤ 0) (c0 : Int32) (p0 : Int64) : ∀ (d i f : Nat), i + d = q → d < f → F_X6_passPulses_2 f (c32 q) (c0 + pulN i tm t) (p0 + sg i (fun k => if tm k = c32 t then en k else 0)) tm en (c32 t) (c32 i) = some (c0 + pulN q tm t, p0 + pulS q tm en t) := by
  intro d
  induction d with
  | zero =>
    intro i f h hf
    obtain ⟨g, rfl⟩ : ∃ g, f = g + 1 := ⟨f - 1, by omega⟩
    have : i = q := by omega
    subst this
    show B_X6_passPulses_2 _ _ _ _ _ _ _ _ = _
    unfold B_X6_passPulses_2
    rw [ile_t (by omega) (by omega)]
    rfl
  | succ d ih =>
    intro i f h hf
    obtain ⟨g, rfl⟩ : ∃ g, f = g + 1 := ⟨f - 1, by omega⟩
    show B_X6_passPulses_2 _ _ _ _ _ _ _ _ = _
    unfold B_X6_passPulses_2
    have h2 := ih (i + 1) g (by omega) (by omega)
    rw [pulN, sg, ← Int32.add_assoc, ← Int64.add_assoc] at h2
    have h3 := he i (by omega)
    rw [ile_f (by omega) (by omega), gin_c (by omega) (by omega), c32_nat (by omega)]
    by_cases hc : tm i = c32 t
    · rw [if_pos hc, gin_c (by omega) (by omega)]
      unfold F_X6_passPulses_31 F_X6_contribute
      simp only [bd2, nm, Option.bind_some, if_neg h3]
      rw [c32_of 1, c32_add]
      simp only [if_pos hc] at h2
      exact h2
    · rw [if_neg hc]
      unfold F_X6_passPulses_31 F_X6_contribute
      simp only [bd2, nm, Option.bind_some]
      rw [c32_of 1, c32_add]
      simp only [if_neg hc] at h2
      exact h2
theorem passPulses {q t : Nat} {tm : Nat → Int32} {en : Nat → Int64} (hq : q ≤ 4) (he : ∀ k, k < q → ¬ en k ≤ 0) (c0 : Int32) (p0 : Int64) : F_X6_passPulses (c32 q) c0 p0 tm en (c32 t) = some (c0 + pulN q tm t, p0 + pulS q tm en t) := by
  have := passPulses_l (t := t) (tm := tm) hq he c0 p0 q 0 gFU (by omega) (by show q < 5000; omega)
  rw [pulN, sg, Int32.add_zero, Int64.add_zero] at this
  exact this
theorem setsOut (d : Int64) (mgd dc ct : Int32) (pk : Int64) (m : Nat → Int64) : F_X6_setsOut d mgd dc ct pk m = some (sd (m 18) pk, d + sdd (m 18) pk, mgd + mg ct, dc + sdc (m 18) pk, 0, 0) := by
  unfold F_X6_setsOut F_X6_setsOut_67 sd sdd sdc mg
  simp only [nm]
  by_cases h1 : pk ≤ 0
  · simp [h1]
  · rw [if_neg h1, c32_of 18, gin_c (by omega) (by omega), c32_nat (by omega)]
    by_cases h2 : m 18 ≤ pk
    · simp [h1, h2]
    · simp [h1, h2]
theorem contribute (c : Int32) (p x : Int64) : F_X6_contribute c p x = some (c + ps x, p + x) := rfl
/-- what arrives, in the reference -/
def arv (n : Nat) (len : Nat → Nat) (far near : Nat → Int64) (j t : Nat) (ff : Bool) : Int64 :=
  if ff then (if j < n ∧ len j ≤ t then near (201 * (j + 1) + (t - len j)) else 0)
  else (if 1 ≤ j ∧ j - 1 < n ∧ len (j - 1) ≤ t then far (201 * (j - 1) + (t - len (j - 1))) else 0)
theorem arrives0 {n j t : Nat} {len : Nat → Nat} {lens : Nat → Int32} {far near : Nat → Int64} (hn : n ≤ 8) (hj : j ≤ n) (ht : t ≤ 200) (hl : ∀ k, k < n → lens k = c32 (len k) ∧ 1 ≤ len k ∧ len k ≤ 20) : F_X6_arrives (c32 n) lens far near (c32 j) (c32 t) 0 = some (arv n len far near j t false) := by
  unfold F_X6_arrives F_X6_arrives_38 F_X6_arrives_88 arv
  simp only [if_true, if_false, Bool.false_eq_true, c32_lit]
  by_cases h0 : j = 0
  · subst h0
    rw [if_pos (by decide), if_neg (by omega)]
  · rw [c32_sub (show 1 ≤ j by omega), ilt_f (by omega) (by omega), ile_f (by omega) (by omega), gin_c (by omega) (by omega), c32_nat (by omega), (hl (j - 1) (by omega)).1]
    have hb := (hl (j - 1) (by omega)).2
    by_cases h1 : len (j - 1) ≤ t
    · rw [ile_t h1 (by omega), gin_c (by omega) (by omega), c32_sub h1]
      simp only [nm]
      rw [c32_mul, c32_add, gin_c (by omega) (by omega), c32_nat (by omega), if_pos (by omega)]
    · rw [ile_f (by omega) (by omega), if_neg (by omega)]
theorem arrives1 {n j t : Nat} {len : Nat → Nat} {lens : Nat → Int32} {far near : Nat → Int64} (hn : n ≤ 8) (hj : j ≤ n) (ht : t ≤ 200) (hl : ∀ k, k < n → lens k = c32 (len k) ∧ 1 ≤ len k ∧ len k ≤ 20) : F_X6_arrives (c32 n) lens far near (c32 j) (c32 t) 1 = some (arv n len far near j t true) := by
  unfold F_X6_arrives F_X6_arrives_38 F_X6_arrives_88 arv
  simp only [show ¬ ((1 : Int32) = 0) by decide, if_false, if_true]
  simp only [c32_lit]
  rw [ilt_f (by omega) (by omega)]
  by_cases h0 : j = n
  · rw [ile_t (by omega) (by omega), if_neg (by omega)]
  · rw [ile_f (by omega) (by omega), gin_c (by omega) (by omega), c32_nat (by omega), (hl j (by omega)).1]
    have hb := (hl j (by omega)).2
    by_cases h1 : len j ≤ t
    · rw [ile_t h1 (by omega), gin_c (by omega) (by omega), c32_sub h1]
      simp only [nm]
      rw [c32_add, c32_mul, c32_add, gin_c (by omega) (by omega), c32_nat (by omega), if_pos (by omega)]
    · rw [ile_f (by omega) (by omega), if_neg (by omega)]
