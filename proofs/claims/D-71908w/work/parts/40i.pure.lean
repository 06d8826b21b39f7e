/-! the pure law, text I -/
set_option maxRecDepth 100000
/-! P8: texts of times, kept lists, differences, faults -/
section PG
variable {n q w : Nat} {len : Nat → Nat} {lens fracs tms ens : Nat → Int32} {front least : Int32} {snd obs m : Nat → Int64} {ml mf mt : Nat → Int32} {me : Nat → Int64} {br aw : Int64} {fn ff ech far near ech2 : Nat → Int64}
/-- the time of an echo by its index -/
theorem timeOf_l (hw : w ≤ 200) (hE : ∀ k, k < 201 → ech k = ech2 k) (hZ : ∀ k, w + 1 ≤ k → k < 201 → ech2 k = 0) {T : Type} (F : Int32 → Option T) (K : Nat → Int32 → Int32 → Option T)
    (hK : ∀ f x2 x3, K (f + 1) x2 x3 = if (201 : Int32) ≤ x3 then F (-1) else gin x3 201 (if ech2 x3.toNatClampNeg ≤ 0 then K f x2 (x3 + 1) else if x2 = 0 then F x3 else K f (x2 + (-1)) (x3 + 1))) :
    ∀ (d i f g : Nat) (x : Int32), i + d = w + 1 → d < f → 201 - i < g → ∃ v, F_X1_timeOf_4 f x (c32 i) ech (c32 w) = some v ∧ K g x (c32 i) = F v := by
  have hend : ∀ (d i g : Nat) (x : Int32), i + d = 201 → w + 1 ≤ i → d < g → K g x (c32 i) = F (-1) := by
    intro d
    induction d with
    | zero =>
      intro i g x h hi hg
      obtain ⟨g, rfl⟩ : ∃ z, g = z + 1 := ⟨g - 1, by omega⟩
      rw [hK, c32_of 201, ile_t (by omega) (by omega)]
    | succ d ih =>
      intro i g x h hi hg
      obtain ⟨g, rfl⟩ : ∃ z, g = z + 1 := ⟨g - 1, by omega⟩
      rw [hK, c32_of 201, ile_f (by omega) (by omega), gin_c (by omega) (by omega), c32_nat (by omega), hZ i hi (by omega), if_pos (by decide), c32_of 1, c32_add]
      exact ih (i + 1) g x (by omega) (by omega) (by omega)
  intro d
  induction d with
  | zero =>
    intro i f g x h hf hg
    obtain ⟨f, rfl⟩ : ∃ z, f = z + 1 := ⟨f - 1, by omega⟩
    refine ⟨-1, ?_, hend (201 - i) i g x (by omega) (by omega) hg⟩
    show B_X1_timeOf_4 _ _ _ _ _ = _
    unfold B_X1_timeOf_4
    rw [ilt_t (by omega) (by omega)]
  | succ d ih =>
    intro i f g x h hf hg
    obtain ⟨f, rfl⟩ : ∃ z, f = z + 1 := ⟨f - 1, by omega⟩
    obtain ⟨g, rfl⟩ : ∃ z, g = z + 1 := ⟨g - 1, by omega⟩
    have hB : F_X1_timeOf_4 (f + 1) x (c32 i) ech (c32 w) = (if ech i ≤ 0 then F_X1_timeOf_4 f x (c32 (i + 1)) ech (c32 w) else if x = 0 then some (c32 i) else F_X1_timeOf_4 f (x + (-1)) (c32 (i + 1)) ech (c32 w)) := by
      show B_X1_timeOf_4 _ _ _ _ _ = _
      unfold B_X1_timeOf_4 F_X1_timeOf_40
      rw [ilt_f (by omega) (by omega), atE (by omega)]
      simp only [bd1_some]
      rw [c32_of 1, c32_add]
    rw [hB, hK, c32_of 201, ile_f (by omega) (by omega), gin_c (by omega) (by omega), c32_nat (by omega), ← hE i (by omega), c32_of 1, c32_add]
    by_cases h1 : ech i ≤ 0
    · rw [if_pos h1, if_pos h1]
      exact ih (i + 1) f g x (by omega) (by omega) (by omega)
    · rw [if_neg h1, if_neg h1]
      by_cases h2 : x = 0
      · rw [if_pos h2, if_pos h2]
        exact ⟨_, rfl, rfl⟩
      · rw [if_neg h2, if_neg h2]
        exact ih (i + 1) f g _ (by omega) (by omega) (by omega)
/-- a kept list -/
theorem ofR_l (ech : Nat → Int64) (hw : w ≤ 200) : ∀ (d i f : Nat) (a : Nat → Int64), i + d = w + 1 → d < f → (∀ k, k < i → a k = ech k) → (∀ k, i ≤ k → k < 201 → a k = 0) → ∃ a', F_X4_ofR_10 f a (c32 w) (c32 i) ech = some a' ∧ (∀ k, k ≤ w → a' k = ech k) ∧ (∀ k, w < k → k < 201 → a' k = 0) := by
  intro d
  induction d with
  | zero =>
    intro i f a h hf h1 h2
    obtain ⟨f, rfl⟩ : ∃ z, f = z + 1 := ⟨f - 1, by omega⟩
    refine ⟨a, ?_, fun k hk => h1 k (by omega), fun k hk hk2 => h2 k (by omega) hk2⟩
    show B_X4_ofR_10 _ _ _ _ _ = _
    unfold B_X4_ofR_10
    rw [ilt_t (by omega) (by omega)]
  | succ d ih =>
    intro i f a h hf h1 h2
    obtain ⟨f, rfl⟩ : ∃ z, f = z + 1 := ⟨f - 1, by omega⟩
    obtain ⟨a', k1, k2, k3⟩ := ih (i + 1) f (vp_updL a i (ech i)) (by omega) (by omega) (fun k hk => by
      by_cases e : k = i
      · rw [e, updL_eq]
      · rw [updL_ne e, h1 k (by omega)]) (fun k hk hk2 => by rw [updL_ne (by omega), h2 k (by omega) hk2])
    refine ⟨a', ?_, k2, k3⟩
    show B_X4_ofR_10 _ _ _ _ _ = _
    unfold B_X4_ofR_10
    rw [ilt_f (by omega) (by omega), atE (by omega)]
    simp only [bd1_some]
    rw [gin_c (by omega) (by omega), c32_nat (by omega), c32_of 1, c32_add]
    exact k1
theorem ofR (ech : Nat → Int64) (hw : w ≤ 200) : ∃ a', F_X4_ofR ech (c32 w) = some a' ∧ (∀ k, k ≤ w → a' k = ech k) ∧ (∀ k, w < k → k < 201 → a' k = 0) := by
  obtain ⟨a', h⟩ := ofR_l (w := w) ech hw (w + 1) 0 gFU (fun _ => 0) (by omega) (by show w + 1 < 5000; omega) (fun k hk => absurd hk (by omega)) (fun k _ _ => rfl)
  exact ⟨a', h⟩
theorem ofK_l (ech : Nat → Int64) (hw : w ≤ 200) : ∀ (d i f : Nat) (a : Nat → Int64), i + d = w + 1 → d < f → (∀ k, k < i → a k = ech k) → ∃ a', F_X4_ofK_10 f a (c32 w) (c32 i) ech = some a' ∧ (∀ k, k ≤ w → a' k = ech k) := by
  intro d
  induction d with
  | zero =>
    intro i f a h hf h1
    obtain ⟨f, rfl⟩ : ∃ z, f = z + 1 := ⟨f - 1, by omega⟩
    refine ⟨a, ?_, fun k hk => h1 k (by omega)⟩
    show B_X4_ofK_10 _ _ _ _ _ = _
    unfold B_X4_ofK_10
    rw [ilt_t (by omega) (by omega)]
  | succ d ih =>
    intro i f a h hf h1
    obtain ⟨f, rfl⟩ : ∃ z, f = z + 1 := ⟨f - 1, by omega⟩
    obtain ⟨a', k1, k2⟩ := ih (i + 1) f (vp_updL a i (ech i)) (by omega) (by omega) (fun k hk => by
      by_cases e : k = i
      · rw [e, updL_eq]
      · rw [updL_ne e, h1 k (by omega)])
    refine ⟨a', ?_, k2⟩
    show B_X4_ofK_10 _ _ _ _ _ = _
    unfold B_X4_ofK_10
    rw [ilt_f (by omega) (by omega), atK (by omega)]
    simp only [bd1_some]
    rw [gin_c (by omega) (by omega), c32_nat (by omega), c32_of 1, c32_add]
    exact k1
theorem ofK (ech : Nat → Int64) (hw : w ≤ 200) : ∃ a', F_X4_ofK ech (c32 w) = some a' ∧ (∀ k, k ≤ w → a' k = ech k) := by
  obtain ⟨a', h⟩ := ofK_l (w := w) ech hw (w + 1) 0 gFU (fun _ => 0) (by omega) (by show w + 1 < 5000; omega) (fun k hk => absurd hk (by omega))
  exact ⟨a', h⟩
theorem withK (a : Nat → Int64) {t : Nat} (ht : t < 201) (v : Int64) : ∃ a', F_X4_with a (c32 t) v = some a' ∧ ∀ k, k < 201 → a' k = if k = t then v else a k := by
  obtain ⟨a1, hK, h2⟩ := ofK (w := 200) a (by omega)
  refine ⟨vp_updL a1 t v, ?_, fun k hk => ?_⟩
  · unfold F_X4_with
    rw [c32_of 200, hK, bd1_some, gin_c (by omega) (by omega), c32_nat (by omega)]
  · unfold vp_updL
    split
    · rfl
    · exact h2 k (by omega)
/-- the reference copies its echoes to some cells -/
theorem copies_l {T : Type} (o : Nat) (ho : o + 201 ≤ 431) (ech : Nat → Int64) (F : Int32 → (Nat → Int64) → Option T) (K : Nat → (Nat → Int64) → Int32 → Int32 → Option T)
    (hK : ∀ f mm x2 x3, K (f + 1) mm x2 x3 = if (201 : Int32) ≤ x3 then F x2 mm else gin x3 201 <| gin (c32 o + x3) 431 <| gin x3 201 <| nm (x2 + (if ech x3.toNatClampNeg ≤ 0 then (0 : Int32) else 1)) fun t1 => K f (vp_updL mm (c32 o + x3).toNatClampNeg (ech x3.toNatClampNeg)) t1 (x3 + 1)) :
    ∀ (d i f : Nat) (mm : Nat → Int64), i + d = 201 → d < f → ∃ mm', K f mm (cn i ech) (c32 i) = F (cn 201 ech) mm' ∧ (∀ k, i ≤ k → k < 201 → mm' (o + k) = ech k) ∧ (∀ k, (k < o + i ∨ o + 201 ≤ k) → mm' k = mm k) := by
  intro d
  induction d with
  | zero =>
    intro i f mm h hf
    obtain ⟨f, rfl⟩ : ∃ z, f = z + 1 := ⟨f - 1, by omega⟩
    refine ⟨mm, ?_, fun k h1 h2 => absurd h2 (by omega), fun k _ => rfl⟩
    rw [hK, c32_of 201, ile_t (by omega) (by omega), show i = 201 by omega]
  | succ d ih =>
    intro i f mm h hf
    obtain ⟨f, rfl⟩ : ∃ z, f = z + 1 := ⟨f - 1, by omega⟩
    obtain ⟨mm', k1, k2, k3⟩ := ih (i + 1) f (vp_updL mm (o + i) (ech i)) (by omega) (by omega)
    refine ⟨mm', ?_, fun k h1 h2 => ?_, fun k hk => ?_⟩
    · rw [hK, c32_of 201, ile_f (by omega) (by omega), gin_c (by omega) (by omega), c32_add, gin_c (by omega) (by omega), gin_c (by omega) (by omega), c32_nat (by omega), c32_nat (by omega)]
      simp only [nm]
      rw [c32_of 1, c32_add]
      exact k1
    · by_cases e : k = i
      · rw [k3 (o + k) (by omega), e, updL_eq]
      · exact k2 k (by omega) h2
    · rw [k3 k (by omega), updL_ne (by omega)]
/-- differences -/
def dn : Nat → (Nat → Int64) → (Nat → Int64) → Int32
  | 0, _, _ => 0
  | k + 1, f, g => dn k f g + (if f k = g k then 0 else 1)
theorem dn_congr {f g f2 g2 : Nat → Int64} : ∀ {n : Nat}, (∀ i, i < n → f i = f2 i) → (∀ i, i < n → g i = g2 i) → dn n f g = dn n f2 g2
  | 0, _, _ => rfl
  | n + 1, h, h2 => by rw [dn, dn, dn_congr (fun i hi => h i (by omega)) (fun i hi => h2 i (by omega)), h n (by omega), h2 n (by omega)]
theorem diffM (hw : w ≤ 200) (h19 : m 19 = c64 w) (hS : ∀ t, t < 201 → m (29 + t) = snd t) (ech : Nat → Int64) : ∀ (d i f : Nat), i + d = w + 1 → d < f → F_X6_differencesNow_4 f m ech (dn i ech snd) (c32 i) = some (dn (w + 1) ech snd) := by
  intro d
  induction d with
  | zero =>
    intro i f h hf
    obtain ⟨f, rfl⟩ : ∃ z, f = z + 1 := ⟨f - 1, by omega⟩
    show B_X6_differencesNow_4 _ _ _ _ _ = _
    unfold B_X6_differencesNow_4
    rw [windowM h19]
    simp only [bd1_some]
    rw [ilt_t (by omega) (by omega), show i = w + 1 by omega]
  | succ d ih =>
    intro i f h hf
    obtain ⟨f, rfl⟩ : ∃ z, f = z + 1 := ⟨f - 1, by omega⟩
    show B_X6_differencesNow_4 _ _ _ _ _ = _
    unfold B_X6_differencesNow_4
    rw [windowM h19]
    simp only [bd1_some, nm]
    rw [ilt_f (by omega) (by omega), gin_c (by omega) (by omega), c32_of 29, c32_add, gin_c (by omega) (by omega), c32_nat (by omega), c32_nat (by omega), hS i (by omega), c32_of 1, c32_add]
    exact ih (i + 1) f (by omega) (by omega)
theorem differencesNow (hw : w ≤ 200) (h19 : m 19 = c64 w) (hS : ∀ t, t < 201 → m (29 + t) = snd t) (ech : Nat → Int64) : F_X6_differencesNow m ech = some (dn (w + 1) ech snd) := diffM hw h19 hS ech (w + 1) 0 gFU (by omega) (by show w + 1 < 5000; omega)
theorem diffC (hw : w ≤ 200) (snd : Nat → Int64) (br left dr aw : Int64) (mgg dc : Int32) (fn ff ech : Nat → Int64) : ∀ (d i f : Nat), i + d = w + 1 → d < f → F_X2_differences_12 f br left dr aw mgg dc fn ff ech (dn i ech snd) (c32 i) (c32 w) snd = some (dn (w + 1) ech snd, br, left, dr, aw, mgg, dc, fn, ff, ech) := by
  intro d
  induction d with
  | zero =>
    intro i f h hf
    obtain ⟨f, rfl⟩ : ∃ z, f = z + 1 := ⟨f - 1, by omega⟩
    show B_X2_differences_12 _ _ _ _ _ _ _ _ _ _ _ _ _ _ = _
    unfold B_X2_differences_12
    rw [ilt_t (by omega) (by omega), show i = w + 1 by omega]
  | succ d ih =>
    intro i f h hf
    obtain ⟨f, rfl⟩ : ∃ z, f = z + 1 := ⟨f - 1, by omega⟩
    show B_X2_differences_12 _ _ _ _ _ _ _ _ _ _ _ _ _ _ = _
    unfold B_X2_differences_12
    rw [ilt_f (by omega) (by omega), atE (by omega), atK (by omega)]
    simp only [bd1_some, nm]
    rw [c32_of 1, c32_add]
    exact ih (i + 1) f (by omega) (by omega)
/-- the first difference; none is w + 1 -/
def fd : Nat → Nat → (Nat → Int64) → (Nat → Int64) → Nat
  | 0, i, _, _ => i
  | d + 1, i, f, g => if f i = g i then fd d (i + 1) f g else i
theorem fd_le {f g : Nat → Int64} : ∀ (d i : Nat), i ≤ fd d i f g ∧ fd d i f g ≤ i + d
  | 0, i => by rw [fd]; omega
  | d + 1, i => by
    rw [fd]
    split
    · have := fd_le (f := f) (g := g) d (i + 1)
      omega
    · omega
theorem fd_congr {f g f2 g2 : Nat → Int64} : ∀ (d i : Nat), (∀ k, k < i + d → f k = f2 k) → (∀ k, k < i + d → g k = g2 k) → fd d i f g = fd d i f2 g2
  | 0, i, _, _ => rfl
  | d + 1, i, h, h2 => by rw [fd, fd, h i (by omega), h2 i (by omega), fd_congr d (i + 1) (fun k hk => h k (by omega)) (fun k hk => h2 k (by omega))]
theorem fd_ne {f g : Nat → Int64} : ∀ (d i : Nat), fd d i f g < i + d → f (fd d i f g) ≠ g (fd d i f g)
  | 0, i, h => absurd h (by rw [fd]; omega)
  | d + 1, i, h => by
    rw [fd] at h ⊢
    split
    · rename_i e
      rw [if_pos e] at h
      exact fd_ne d (i + 1) (by omega)
    · assumption
theorem firstDiffC (hw : w ≤ 200) (ech kp : Nat → Int64) : ∀ (d i f : Nat), i + d = w + 1 → d < f → F_X7_firstDifference_2 f (c32 w) (c32 i) ech kp = some (if fd d i ech kp ≤ w then c32 (fd d i ech kp) else -1) := by
  intro d
  induction d with
  | zero =>
    intro i f h hf
    obtain ⟨f, rfl⟩ : ∃ z, f = z + 1 := ⟨f - 1, by omega⟩
    show B_X7_firstDifference_2 _ _ _ _ _ = _
    unfold B_X7_firstDifference_2
    rw [ilt_t (by omega) (by omega), fd, if_neg (by omega)]
  | succ d ih =>
    intro i f h hf
    obtain ⟨f, rfl⟩ : ∃ z, f = z + 1 := ⟨f - 1, by omega⟩
    show B_X7_firstDifference_2 _ _ _ _ _ = _
    unfold B_X7_firstDifference_2
    rw [ilt_f (by omega) (by omega), atE (by omega), atK (by omega)]
    simp only [bd1_some]
    rw [fd]
    by_cases e : ech i = kp i
    · rw [if_pos e, if_pos e, c32_of 1, c32_add]
      exact ih (i + 1) f (by omega) (by omega)
    · rw [if_neg e, if_neg e, if_pos (by omega)]
/-- sums of lengths -/
def ls : Nat → (Nat → Nat) → Nat
  | 0, _ => 0
  | k + 1, f => ls k f + f k
theorem ls_le {f : Nat → Nat} : ∀ {n : Nat}, (∀ i, i < n → f i ≤ 20) → ls n f ≤ 20 * n
  | 0, _ => by rw [ls]; omega
  | n + 1, h => by
    have h1 := ls_le (n := n) (fun i hi => h i (by omega))
    have h2 := h n (by omega)
    rw [ls]; omega
theorem ls_congr {f g : Nat → Nat} : ∀ {n : Nat}, (∀ i, i < n → f i = g i) → ls n f = ls n g
  | 0, _ => rfl
  | n + 1, h => by rw [ls, ls, ls_congr (fun i hi => h i (by omega)), h n (by omega)]
theorem sumC {k : Nat} (hk : k ≤ 8) (hl : ∀ i, i < k → lens i = c32 (len i)) : ∀ (d i f : Nat), i + d = k → d < f → F_X3_sum_4 f (c32 k) (c32 (ls i len)) (c32 i) lens = some (c32 (ls k len)) := by
  intro d
  induction d with
  | zero =>
    intro i f h hf
    obtain ⟨f, rfl⟩ : ∃ z, f = z + 1 := ⟨f - 1, by omega⟩
    show B_X3_sum_4 _ _ _ _ _ = _
    unfold B_X3_sum_4
    rw [ile_t (by omega) (by omega), show i = k by omega]
  | succ d ih =>
    intro i f h hf
    obtain ⟨f, rfl⟩ : ∃ z, f = z + 1 := ⟨f - 1, by omega⟩
    show B_X3_sum_4 _ _ _ _ _ = _
    unfold B_X3_sum_4
    simp only [nm]
    rw [ile_f (by omega) (by omega), gin_c (by omega) (by omega), c32_nat (by omega), hl i (by omega), c32_of 1, c32_add, c32_add]
    exact ih (i + 1) f (by omega) (by omega)
theorem sumF {k : Nat} (hk : k ≤ 8) (hl : ∀ i, i < k → lens i = c32 (len i)) : F_X3_sum lens (c32 k) = some (c32 (ls k len)) := sumC hk hl k 0 gFU (by omega) (by show k < 5000; omega)
theorem upToM {k : Nat} (hk : k < 8) (hl : ∀ i, i ≤ k → m (1 + i) = c64 (len i)) : ∀ (d i f : Nat), i + d = k + 1 → d < f → F_X6_upTo_4 f m (c32 k) (c32 (ls i len)) (c32 i) = some (c32 (ls (k + 1) len)) := by
  intro d
  induction d with
  | zero =>
    intro i f h hf
    obtain ⟨f, rfl⟩ : ∃ z, f = z + 1 := ⟨f - 1, by omega⟩
    show B_X6_upTo_4 _ _ _ _ _ = _
    unfold B_X6_upTo_4
    rw [ilt_t (by omega) (by omega), show i = k + 1 by omega]
  | succ d ih =>
    intro i f h hf
    obtain ⟨f, rfl⟩ : ∃ z, f = z + 1 := ⟨f - 1, by omega⟩
    show B_X6_upTo_4 _ _ _ _ _ = _
    unfold B_X6_upTo_4
    simp only [nm]
    rw [ilt_f (by omega) (by omega), c32_of 1, c32_add, gin_c (by omega) (by omega), c32_nat (by omega), hl i (by omega), c64_32, c32_add, c32_add]
    exact ih (i + 1) f (by omega) (by omega)
theorem upToF {k : Nat} (hk : k < 8) (hl : ∀ i, i ≤ k → m (1 + i) = c64 (len i)) : F_X6_upTo m (c32 k) = some (c32 (ls (k + 1) len)) := upToM hk hl (k + 1) 0 gFU (by omega) (by show k + 1 < 5000; omega)
theorem sumM (hn : n ≤ 8) (h0 : m 0 = c64 n) (hl : ∀ i, i < n → m (1 + i) = c64 (len i)) : ∀ (d i f : Nat), i + d = n → d < f → F_X6_sumOfLengths_4 f m (c32 (ls i len)) (c32 i) = some (c32 (ls n len)) := by
  intro d
  induction d with
  | zero =>
    intro i f h hf
    obtain ⟨f, rfl⟩ : ∃ z, f = z + 1 := ⟨f - 1, by omega⟩
    show B_X6_sumOfLengths_4 _ _ _ _ = _
    unfold B_X6_sumOfLengths_4
    rw [partsM h0]
    simp only [bd1_some]
    rw [ile_t (by omega) (by omega), show i = n by omega]
  | succ d ih =>
    intro i f h hf
    obtain ⟨f, rfl⟩ : ∃ z, f = z + 1 := ⟨f - 1, by omega⟩
    show B_X6_sumOfLengths_4 _ _ _ _ = _
    unfold B_X6_sumOfLengths_4
    rw [partsM h0]
    simp only [nm, bd1_some]
    rw [ile_f (by omega) (by omega), c32_of 1, c32_add, gin_c (by omega) (by omega), c32_nat (by omega), hl i (by omega), c64_32, c32_add, c32_add]
    exact ih (i + 1) f (by omega) (by omega)
theorem sumOfLengths (hn : n ≤ 8) (h0 : m 0 = c64 n) (hl : ∀ i, i < n → m (1 + i) = c64 (len i)) : F_X6_sumOfLengths m = some (c32 (ls n len)) := sumM hn h0 hl n 0 gFU (by omega) (by show n < 5000; omega)
end PG
