/-! the pure law, text M -/
set_option maxRecDepth 100000
/-! P11: the other edits -/
theorem delF {n p : Nat} (hp : p < n) (hn : n ≤ 8) (lens fracs : Nat → Int32) : F_X3_remove (c32 n) lens fracs (c32 p) = some (c32 (n - 1), va_cpy lens lens (p + 1) p (n - 1 - p), va_cpy fracs fracs (p + 1) p (n - 1 - p)) := by
  unfold F_X3_remove
  rw [c32_of 1, c32_add, c32_sub (by omega), c32_sub (by omega), gcp_c (by omega) (by omega) (by omega) (by omega), gcp_c (by omega) (by omega) (by omega) (by omega), c32_nat (by omega), c32_nat (by omega), c32_nat (by omega)]
theorem del_at {α : Type} (f : Nat → α) {n p k : Nat} (hk : k < n) : va_cpy f f (p + 1) p (n - p) k = if k < p then f k else f (k + 1) := by
  unfold va_cpy
  by_cases h : k < p
  · rw [if_neg (by omega), if_pos h]
  · rw [if_pos (by omega), if_neg h]
    congr 1
    omega
section PG
variable {n q w : Nat} {len : Nat → Nat} {lens fracs tms ens : Nat → Int32} {front least : Int32} {snd obs m : Nat → Int64}
theorem isPart {p : Int32} (hn : n ≤ 8) (h0 : m 0 = c64 n) : (F_X2_requirePart (c32 n) p = some (.inr 0) ∧ F_X6_isPart m p = some 0) ∨ (F_X2_requirePart (c32 n) p = some (.inl ()) ∧ F_X6_isPart m p = some 1 ∧ ∃ a, a < n ∧ p = c32 a) := by
  unfold F_X2_requirePart F_X6_isPart
  rw [partsM h0]
  simp only [bd1_some, inC, inM]
  rcases rgn_part p (show n < 2147483648 by omega) with h | ⟨h, a, h1, h2⟩
  · rw [h]; exact Or.inl ⟨rfl, rfl⟩
  · rw [h]; exact Or.inr ⟨rfl, rfl, a, h1, h2⟩
theorem setPart_b (R : pgR n q w len lens fracs tms ens front least snd obs m) (x1 x2 x3 : Int32) : (∃ r lens' fracs' m' len', F_X2_setPart (c32 n) lens fracs x1 x2 x3 = some (.inl (r, lens', fracs')) ∧ F_X6_whyNotSet m x1 x2 x3 = some 0 ∧ F_X6_setsPart m x1 x2 x3 = some (r, m') ∧ ¬ r < 0 ∧ pgR n q w len' lens' fracs' tms ens front least snd obs m') ∨ (∃ k, (k = 0 ∨ k = 1) ∧ F_X2_setPart (c32 n) lens fracs x1 x2 x3 = some (.inr k) ∧ F_X6_whyNotSet m x1 x2 x3 = some (c32 (k + 1))) := by
  have R0 := R
  obtain ⟨hn, hq1, hq, hw1, hw, hl, hen, htm, h0, h17, h18, h19, h20, hL, hF, hT, hE, hS, hO, hfr⟩ := R
  unfold F_X2_setPart F_X6_whyNotSet F_X6_whyNotSet_25
  rcases isPart (p := x1) hn h0 with ⟨e1, e2⟩ | ⟨e1, e2, p, hp, rfl⟩
  · rw [e1, e2]
    exact Or.inr ⟨0, Or.inl rfl, rfl, rfl⟩
  · rw [e1, e2]
    simp only [bd1_some, bc0_l]
    rcases arePart x2 x3 with ⟨f1, f2⟩ | ⟨f1, f2, a, b, rfl, ha1, ha2, rfl, hb⟩
    · rw [f1, f2]
      exact Or.inr ⟨1, Or.inr rfl, rfl, rfl⟩
    · rw [f1, f2]
      simp only [bd1_some, bc0_l]
      rw [gin_c (by omega) (by omega), gin_c (by omega) (by omega), gin_c (by omega) (by omega), c32_nat (by omega)]
      refine Or.inl ⟨fracs p, upd lens p (c32 a), upd fracs p (c32 b), vp_updL (vp_updL m (1 + p) (c64 a)) (9 + p) (c64 b), fun k => if k = p then a else len k, rfl, rfl, ?_, hfr p hp, ?_⟩
      · unfold F_X6_setsPart
        rw [c32_of 9, c32_add, gin_c (by omega) (by omega), c32_nat (by omega), hF p hp, i64_32, laysPart m (by omega), c32_64 (by omega), c32_64 (by omega)]
        rfl
      · refine pgR_parts R0 hn (fun k h1 h2 => ?_) ?_ (fun k hk => ?_) (fun k hk => ?_) (fun k hk => ?_) (fun k hk => ?_)
        · rw [updL_ne (by omega), updL_ne (by omega)]
        · rw [updL_ne (by omega), updL_ne (by omega)]; exact h0
        · by_cases e : k = p
          · rw [if_pos e, e, upd_eq]; exact ⟨rfl, ha1, ha2⟩
          · rw [if_neg e, upd_ne e]; exact hl k hk
        · by_cases e : k = p
          · rw [e, upd_eq, updL_ne (by omega), updL_eq, c32_64 (by omega)]
          · rw [upd_ne e, updL_ne (by omega), updL_ne (by omega)]; exact hL k hk
        · by_cases e : k = p
          · rw [e, upd_eq, updL_eq, c32_64 (by omega)]
          · rw [upd_ne e, updL_ne (by omega), updL_ne (by omega)]; exact hF k hk
        · by_cases e : k = p
          · rw [e, upd_eq]; exact c32_ge0 b (by omega)
          · rw [upd_ne e]; exact hfr k hk
theorem removesM {p nn : Nat} (hp : p ≤ nn) (hn : nn < 8) : ∀ (d i f : Nat) (mm : Nat → Int64), i + d = nn → p ≤ i → d < f → mm 0 = c64 nn → ∃ mm', F_X6_removesPart_12 f mm (c32 i) = some (c32 nn, mm') ∧ (∀ k, i ≤ k → k < nn → mm' (1 + k) = mm (2 + k) ∧ mm' (9 + k) = mm (10 + k)) ∧ (∀ k, (k < 1 + i ∨ (8 < k ∧ k < 9 + i) ∨ 17 ≤ k) → mm' k = mm k) := by
  intro d
  induction d with
  | zero =>
    intro i f mm h hi hf h0
    obtain ⟨f, rfl⟩ : ∃ z, f = z + 1 := ⟨f - 1, by omega⟩
    refine ⟨mm, ?_, fun k h1 h2 => absurd h2 (by omega), fun k _ => rfl⟩
    show B_X6_removesPart_12 _ _ _ = _
    unfold B_X6_removesPart_12
    rw [partsM h0]
    simp only [bd1_some]
    rw [ile_t (by omega) (by omega)]
  | succ d ih =>
    intro i f mm h hi hf h0
    obtain ⟨f, rfl⟩ : ∃ z, f = z + 1 := ⟨f - 1, by omega⟩
    obtain ⟨mm', k1, k2, k3⟩ := ih (i + 1) f (vp_updL (vp_updL mm (1 + i) (mm (2 + i))) (9 + i) (mm (10 + i))) (by omega) (by omega) (by omega) (by rw [updL_ne (by omega), updL_ne (by omega)]; exact h0)
    refine ⟨mm', ?_, fun k h1 h2 => ?_, fun k hk => ?_⟩
    · show B_X6_removesPart_12 _ _ _ = _
      unfold B_X6_removesPart_12
      rw [partsM h0]
      simp only [bd1_some, nm]
      rw [ile_f (by omega) (by omega), c32_of 1, c32_add, c32_add, gin_c (by omega) (by omega), gin_c (by omega) (by omega), c32_of 9, c32_add, c32_add, gin_c (by omega) (by omega), gin_c (by omega) (by omega), c32_nat (by omega), c32_nat (by omega), c32_nat (by omega), c32_nat (by omega), updL_ne (show 9 + i + 1 ≠ 1 + i by omega), c32_add, show 1 + i + 1 = 2 + i by omega, show 9 + i + 1 = 10 + i by omega]
      exact k1
    · by_cases e : k = i
      · subst e
        rw [k3 (1 + k) (by omega), k3 (9 + k) (by omega), updL_ne (by omega), updL_eq, updL_eq]
        exact ⟨rfl, rfl⟩
      · have := k2 k (by omega) h2
        rw [updL_ne (by omega), updL_ne (by omega), updL_ne (by omega), updL_ne (by omega)] at this
        exact this
    · rw [k3 k (by omega), updL_ne (by omega), updL_ne (by omega)]
theorem removePart_b (R : pgR n q w len lens fracs tms ens front least snd obs m) (x1 : Int32) : (∃ lens' fracs' m' len', 1 ≤ n ∧ F_X2_removePart (c32 n) lens fracs x1 = some (.inl (c32 (n - 1), c32 (n - 1), lens', fracs')) ∧ F_X6_isPart m x1 = some 1 ∧ F_X6_removesPart m x1 = some (c32 (n - 1), m') ∧ pgR (n - 1) q w len' lens' fracs' tms ens front least snd obs m') ∨ (F_X2_removePart (c32 n) lens fracs x1 = some (.inr 0) ∧ F_X6_isPart m x1 = some 0) := by
  have R0 := R
  obtain ⟨hn, hq1, hq, hw1, hw, hl, hen, htm, h0, h17, h18, h19, h20, hL, hF, hT, hE, hS, hO, hfr⟩ := R
  unfold F_X2_removePart
  rcases isPart (p := x1) hn h0 with ⟨e1, e2⟩ | ⟨e1, e2, p, hp, rfl⟩
  · rw [e1, e2]
    exact Or.inr ⟨rfl, rfl⟩
  · rw [e1, e2, delF hp hn]
    obtain ⟨mm', k1, k2, k3⟩ := removesM (p := p) (nn := n - 1) (by omega) (by omega) (n - 1 - p) p gFU (vp_updL m 0 (c64 (n - 1))) (by omega) (by omega) (by show n - 1 - p < 5000; omega) updL_eq
    refine Or.inl ⟨va_cpy lens lens (p + 1) p (n - 1 - p), va_cpy fracs fracs (p + 1) p (n - 1 - p), mm', fun k => if k < p then len k else len (k + 1), by omega, rfl, rfl, ?_, ?_⟩
    · unfold F_X6_removesPart
      simp only [nm]
      rw [c32_of 0, gin_c (by omega) (by omega), gin_c (by omega) (by omega), c32_nat (by omega), h0, c64_of 1, c64_sub (by omega)]
      exact k1
    · have hm1 : ∀ k, k < n - 1 → mm' (1 + k) = if k < p then m (1 + k) else m (2 + k) := fun k hk => by
        by_cases e : k < p
        · rw [if_pos e, k3 _ (by omega), updL_ne (by omega)]
        · rw [if_neg e, (k2 k (by omega) hk).1, updL_ne (by omega)]
      have hm9 : ∀ k, k < n - 1 → mm' (9 + k) = if k < p then m (9 + k) else m (10 + k) := fun k hk => by
        by_cases e : k < p
        · rw [if_pos e, k3 _ (by omega), updL_ne (by omega)]
        · rw [if_neg e, (k2 k (by omega) hk).2, updL_ne (by omega)]
      refine pgR_parts R0 (by omega) (fun k h1 h2 => ?_) ?_ (fun k hk => ?_) (fun k hk => ?_) (fun k hk => ?_) (fun k hk => ?_)
      · rw [k3 k (by omega), updL_ne (by omega)]
      · rw [k3 0 (by omega), updL_eq]
      · rw [del_at _ hk]
        by_cases e : k < p
        · rw [if_pos e, if_pos e]; exact hl k (by omega)
        · rw [if_neg e, if_neg e]; exact hl (k + 1) (by omega)
      · rw [del_at _ hk, hm1 k hk]
        by_cases e : k < p
        · rw [if_pos e, if_pos e]; exact hL k (by omega)
        · rw [if_neg e, if_neg e, show 2 + k = 1 + (k + 1) by omega]; exact hL (k + 1) (by omega)
      · rw [del_at _ hk, hm9 k hk]
        by_cases e : k < p
        · rw [if_pos e, if_pos e]; exact hF k (by omega)
        · rw [if_neg e, if_neg e, show 10 + k = 9 + (k + 1) by omega]; exact hF (k + 1) (by omega)
      · rw [del_at _ hk]
        by_cases e : k < p
        · rw [if_pos e]; exact hfr k (by omega)
        · rw [if_neg e]; exact hfr (k + 1) (by omega)
theorem splitsM {p nn a : Nat} (hp : p < nn) (hn : nn < 8) (b : Int32) (F : (Nat → Int64) → Option (Int32 × (Nat → Int64))) (hF : ∀ mm, F mm = B_X6_splitsPart_6 (fun _ _ _ _ _ => none) mm (c32 p) (c32 a) b (c32 p)) : ∀ (d i f : Nat) (mm : Nat → Int64), p + d = i → i ≤ nn → d < f → ∃ mm', F_X6_splitsPart_6 f mm (c32 p) (c32 a) b (c32 i) = F mm' ∧ (∀ k, p < k → k ≤ i → mm' (1 + k) = mm k ∧ mm' (9 + k) = mm (8 + k)) ∧ (∀ k, (k < 2 + p ∨ (1 + i < k ∧ k < 10 + p) ∨ 9 + i < k) → mm' k = mm k) := by
  intro d
  induction d with
  | zero =>
    intro i f mm h hi hf
    obtain ⟨f, rfl⟩ : ∃ z, f = z + 1 := ⟨f - 1, by omega⟩
    have : i = p := by omega
    subst this
    refine ⟨mm, ?_, fun k h1 h2 => absurd h2 (by omega), fun k _ => rfl⟩
    rw [hF]
    show B_X6_splitsPart_6 _ _ _ _ _ _ = _
    unfold B_X6_splitsPart_6
    rw [ile_t (by omega) (by omega), ile_t (by omega) (by omega)]
  | succ d ih =>
    intro i f mm h hi hf
    obtain ⟨f, rfl⟩ : ∃ z, f = z + 1 := ⟨f - 1, by omega⟩
    obtain ⟨mm', k1, k2, k3⟩ := ih (i - 1) f (vp_updL (vp_updL mm (1 + i) (mm i)) (9 + i) (mm (8 + i))) (by omega) (by omega) (by omega)
    refine ⟨mm', ?_, fun k h1 h2 => ?_, fun k hk => ?_⟩
    · show B_X6_splitsPart_6 _ _ _ _ _ _ = _
      unfold B_X6_splitsPart_6
      simp only [nm]
      rw [ile_f (by omega) (by omega), c32_of 1, c32_add, c32_sub (by omega), gin_c (by omega) (by omega), gin_c (by omega) (by omega), c32_of 9, c32_add, c32_sub (by omega), gin_c (by omega) (by omega), gin_c (by omega) (by omega), c32_nat (by omega), c32_nat (by omega), c32_nat (by omega), c32_nat (by omega), show 1 + i - 1 = i by omega, show 9 + i - 1 = 8 + i by omega, updL_ne (show 8 + i ≠ 1 + i by omega), c32_dec (by omega)]
      exact k1
    · by_cases e : k = i
      · subst e
        rw [k3 (1 + k) (by omega), k3 (9 + k) (by omega), updL_ne (by omega), updL_eq, updL_eq]
        exact ⟨rfl, rfl⟩
      · have := k2 k h1 (by omega)
        rw [updL_ne (by omega), updL_ne (by omega), updL_ne (by omega), updL_ne (by omega)] at this
        exact this
    · rw [k3 k (by omega), updL_ne (by omega), updL_ne (by omega)]
end PG
