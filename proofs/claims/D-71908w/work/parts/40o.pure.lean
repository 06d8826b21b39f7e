/-! the pure law, text O -/
set_option maxRecDepth 100000
/-! P13: pulses off, bench numbers, reverse, saved pages -/
section PG
variable {n q w : Nat} {len : Nat → Nat} {lens fracs tms ens : Nat → Int32} {front least : Int32} {snd obs m : Nat → Int64}
theorem delP {p : Nat} (hp : p < q) (hq : q ≤ 4) : F_X3_removePulse (c32 q) tms ens (c32 p) = some (c32 (q - 1), va_cpy tms tms (p + 1) p (q - 1 - p), va_cpy ens ens (p + 1) p (q - 1 - p)) := by
  unfold F_X3_removePulse
  rw [c32_of 1, c32_add, c32_sub (by omega), c32_sub (by omega), gcp_c (by omega) (by omega) (by omega) (by omega), gcp_c (by omega) (by omega) (by omega) (by omega), c32_nat (by omega), c32_nat (by omega), c32_nat (by omega)]
theorem removesP {qq : Nat} (hq : qq ≤ 3) (sc : Int32) (cd : Int32) (ms : Nat → Int64) : ∀ (d i f : Nat) (mm : Nat → Int64), 21 ≤ i → i + d = 21 + 2 * qq → d < f → mm 20 = c64 qq → ∃ mm', F_X6_removePulse_74 f sc cd mm ms (c32 i) = some (c32 qq, sc, cd, mm', ms) ∧ (∀ k, i ≤ k → k < 21 + 2 * qq → mm' k = mm (k + 2)) ∧ (∀ k, (k < i ∨ 21 + 2 * qq ≤ k) → mm' k = mm k) := by
  intro d
  induction d with
  | zero =>
    intro i f mm hi h hf h20
    obtain ⟨f, rfl⟩ : ∃ z, f = z + 1 := ⟨f - 1, by omega⟩
    refine ⟨mm, ?_, fun k h1 h2 => absurd h2 (by omega), fun k _ => rfl⟩
    show B_X6_removePulse_74 _ _ _ _ _ _ = _
    unfold B_X6_removePulse_74
    rw [c32_of 20, gin_c (by omega) (by omega), gin_c (by omega) (by omega), c32_nat (by omega), h20, c64_of 2, c64_mul, c64_of 21, c64_add, if_pos (by rw [c32_64 (by omega), c64_le (by omega) (by omega)]; omega), c64_32]
  | succ d ih =>
    intro i f mm hi h hf h20
    obtain ⟨f, rfl⟩ : ∃ z, f = z + 1 := ⟨f - 1, by omega⟩
    obtain ⟨mm', k1, k2, k3⟩ := ih (i + 1) f (vp_updL mm i (mm (i + 2))) (by omega) (by omega) (by omega) (by rw [updL_ne (by omega)]; exact h20)
    refine ⟨mm', ?_, fun k h1 h2 => ?_, fun k hk => ?_⟩
    · show B_X6_removePulse_74 _ _ _ _ _ _ = _
      unfold B_X6_removePulse_74
      rw [c32_of 20, gin_c (by omega) (by omega), c32_nat (by omega), h20, c64_of 2, c64_mul, c64_of 21, c64_add, if_neg (by rw [c32_64 (by omega), c64_le (by omega) (by omega)]; omega), c32_of 2, c32_add, gin_c (by omega) (by omega), gin_c (by omega) (by omega), c32_nat (by omega), c32_nat (by omega), c32_of 1, c32_add]
      exact k1
    · by_cases e : k = i
      · rw [k3 k (by omega), e, updL_eq]
      · rw [k2 k (by omega) h2, updL_ne (by omega)]
    · rw [k3 k (by omega), updL_ne (by omega)]
theorem pgR_delP (R : pgR n q w len lens fracs tms ens front least snd obs m) {p : Nat} (hp : p < q) (hq2 : 1 < q) {mm : Nat → Int64} (k2 : ∀ k, 21 + 2 * p ≤ k → k < 21 + 2 * (q - 1) → mm k = vp_updL m 20 (c64 (q - 1)) (k + 2)) (k3 : ∀ k, (k < 21 + 2 * p ∨ 21 + 2 * (q - 1) ≤ k) → mm k = vp_updL m 20 (c64 (q - 1)) k) : pgR n (q - 1) w len lens fracs (va_cpy tms tms (p + 1) p (q - 1 - p)) (va_cpy ens ens (p + 1) p (q - 1 - p)) front least snd obs mm := by
  have R0 := R
  obtain ⟨hn, hq1, hq, hw1, hw, hl, hen, htm, h0, h17, h18, h19, h20, hL, hF, hT, hE, hS, hO, hfr⟩ := R
  refine pgR_pulses R0 (by omega) (by omega) (fun k h1 h2 => ?_) ?_ (fun k hk => ?_) (fun k hk => ?_) (fun k hk => ?_) (fun k hk => ?_)
  · rw [k3 k (by omega), updL_ne (by omega)]
  · rw [k3 20 (by omega), updL_eq]
  · rw [del_at _ hk]
    split
    · exact hen k (by omega)
    · exact hen (k + 1) (by omega)
  · rw [del_at _ hk]
    split
    · exact htm k (by omega)
    · exact htm (k + 1) (by omega)
  · rw [del_at _ hk]
    by_cases e : k < p
    · rw [if_pos e, k3 _ (by omega), updL_ne (by omega)]; exact hT k (by omega)
    · rw [if_neg e, k2 _ (by omega) (by omega), updL_ne (by omega), ← hT (k + 1) (by omega), show 21 + 2 * k + 2 = 21 + 2 * (k + 1) by omega]
  · rw [del_at _ hk]
    by_cases e : k < p
    · rw [if_pos e, k3 _ (by omega), updL_ne (by omega)]; exact hE k (by omega)
    · rw [if_neg e, k2 _ (by omega) (by omega), updL_ne (by omega), ← hE (k + 1) (by omega), show 21 + 2 * k + 1 + 2 = 21 + 2 * (k + 1) + 1 by omega]
theorem pgR_bench (R : pgR n q w len lens fracs tms ens front least snd obs m) {a b c : Nat} (ha : a ≤ 999) (hb : b ≤ 1000) (hc1 : 1 ≤ c) (hc : c ≤ 200) : pgR n q c len lens fracs tms ens (c32 a) (c32 b) snd obs (vp_updL (vp_updL (vp_updL m 17 (c64 a)) 18 (c64 b)) 19 (c64 c)) := by
  obtain ⟨hn, hq1, hq, hw1, hw, hl, hen, htm, h0, h17, h18, h19, h20, hL, hF, hT, hE, hS, hO, hfr⟩ := R
  have hm : ∀ k, (k < 17 ∨ 19 < k) → vp_updL (vp_updL (vp_updL m 17 (c64 a)) 18 (c64 b)) 19 (c64 c) k = m k := fun k hk => by rw [updL_ne (by omega), updL_ne (by omega), updL_ne (by omega)]
  exact ⟨hn, hq1, hq, hc1, hc, hl, hen, htm, by rw [hm _ (by omega)]; exact h0, by rw [updL_ne (by omega), updL_ne (by omega), updL_eq, c32_64 (by omega)], by rw [updL_ne (by omega), updL_eq, c32_64 (by omega)], updL_eq, by rw [hm _ (by omega)]; exact h20, fun k hk => by rw [hm _ (by omega)]; exact hL k hk, fun k hk => by rw [hm _ (by omega)]; exact hF k hk, fun k hk => by rw [hm _ (by omega)]; exact hT k hk, fun k hk => by rw [hm _ (by omega)]; exact hE k hk, fun k hk => by rw [hm _ (by omega)]; exact hS k hk, fun k hk => by rw [hm _ (by omega)]; exact hO k hk, hfr⟩
theorem pgR_snd (R : pgR n q w len lens fracs tms ens front least snd obs m) {snd' : Nat → Int64} {mm : Nat → Int64} (h1 : ∀ t, t < 201 → mm (29 + t) = snd' t) (h2 : ∀ k, (k < 29 ∨ 230 ≤ k) → mm k = m k) : pgR n q w len lens fracs tms ens front least snd' obs mm := by
  obtain ⟨hn, hq1, hq, hw1, hw, hl, hen, htm, h0, h17, h18, h19, h20, hL, hF, hT, hE, hS, hO, hfr⟩ := R
  exact ⟨hn, hq1, hq, hw1, hw, hl, hen, htm, by rw [h2 _ (by omega)]; exact h0, by rw [h2 _ (by omega)]; exact h17, by rw [h2 _ (by omega)]; exact h18, by rw [h2 _ (by omega)]; exact h19, by rw [h2 _ (by omega)]; exact h20, fun k hk => by rw [h2 _ (by omega)]; exact hL k hk, fun k hk => by rw [h2 _ (by omega)]; exact hF k hk, fun k hk => by rw [h2 _ (by omega)]; exact hT k hk, fun k hk => by rw [h2 _ (by omega)]; exact hE k hk, h1, fun k hk => by rw [h2 _ (by omega)]; exact hO k hk, hfr⟩
theorem pgR_obs (R : pgR n q w len lens fracs tms ens front least snd obs m) {obs' : Nat → Int64} {mm : Nat → Int64} (h1 : ∀ t, t < 201 → mm (230 + t) = obs' t) (h2 : ∀ k, (k < 230 ∨ 431 ≤ k) → mm k = m k) : pgR n q w len lens fracs tms ens front least snd obs' mm := by
  obtain ⟨hn, hq1, hq, hw1, hw, hl, hen, htm, h0, h17, h18, h19, h20, hL, hF, hT, hE, hS, hO, hfr⟩ := R
  exact ⟨hn, hq1, hq, hw1, hw, hl, hen, htm, by rw [h2 _ (by omega)]; exact h0, by rw [h2 _ (by omega)]; exact h17, by rw [h2 _ (by omega)]; exact h18, by rw [h2 _ (by omega)]; exact h19, by rw [h2 _ (by omega)]; exact h20, fun k hk => by rw [h2 _ (by omega)]; exact hL k hk, fun k hk => by rw [h2 _ (by omega)]; exact hF k hk, fun k hk => by rw [h2 _ (by omega)]; exact hT k hk, fun k hk => by rw [h2 _ (by omega)]; exact hE k hk, fun k hk => by rw [h2 _ (by omega)]; exact hS k hk, h1, hfr⟩
/-- turned round -/
theorem swapF {a b : Nat} (ha : a < 8) (hb : b < 8) (f : Nat → Int32) : F_X3_swap f (c32 a) (c32 b) = some (upd (upd f a (f b)) b (f a)) := by
  unfold F_X3_swap
  rw [gin_c (by omega) (by omega), gin_c (by omega) (by omega), gin_c (by omega) (by omega), gin_c (by omega) (by omega), c32_nat (by omega), c32_nat (by omega)]
theorem exchF {a b : Nat} (ha : a < 431) (hb : b < 431) (f : Nat → Int64) : F_X6_exchange f (c32 a) (c32 b) = some (vp_updL (vp_updL f a (f b)) b (f a)) := by
  unfold F_X6_exchange
  rw [gin_c (by omega) (by omega), gin_c (by omega) (by omega), gin_c (by omega) (by omega), gin_c (by omega) (by omega), c32_nat (by omega), c32_nat (by omega)]
theorem rev_l (hn : n ≤ 8) (hn1 : 1 ≤ n) (m : Nat → Int64) (cd : Int32) : ∀ (d i f g : Nat) (lens : Nat → Int32) (mm : Nat → Int64), n ≤ 2 * i + 1 + d → i + 1 ≤ n → d < f → d < g → (∀ k, k < n → mm (1 + k) = (lens k).toInt64 ∧ ∃ a, lens k = c32 a ∧ 1 ≤ a ∧ a ≤ 20) → (∀ k, (k < 1 ∨ 9 ≤ k) → mm k = m k) → ∃ lens' mm', (∀ fr, F_X3_reverse_2 f (c32 n) lens fr (c32 i) = F_X3_reverse_38 gFU (c32 n) lens' fr (c32 0)) ∧ (∀ sc ms, F_X6_reverse_16 g sc cd mm ms (c32 n) (c32 i) = F_X6_reverse_47 gFU sc cd mm' ms (c32 n) (c32 0)) ∧ (∀ k, k < n → mm' (1 + k) = (lens' k).toInt64 ∧ ∃ a, lens' k = c32 a ∧ 1 ≤ a ∧ a ≤ 20) ∧ (∀ k, (k < 1 ∨ 9 ≤ k) → mm' k = m k) := by
  intro d
  induction d with
  | zero =>
    intro i f g lens mm h hi hf hg h1 h2
    obtain ⟨f, rfl⟩ : ∃ z, f = z + 1 := ⟨f - 1, by omega⟩
    obtain ⟨g, rfl⟩ : ∃ z, g = z + 1 := ⟨g - 1, by omega⟩
    refine ⟨lens, mm, fun fr => ?_, fun sc ms => ?_, h1, h2⟩
    · show B_X3_reverse_2 _ _ _ _ _ = _
      unfold B_X3_reverse_2
      rw [c32_of 1, c32_sub hn1, c32_sub (by omega), ile_t (by omega) (by omega), c32_of 0]
    · show B_X6_reverse_16 _ _ _ _ _ _ _ = _
      unfold B_X6_reverse_16
      rw [c32_of 1, c32_sub hn1, c32_of 2, c32_mul, ile_t (by omega) (by omega), c32_of 0]
  | succ d ih =>
    intro i f g lens mm h hi hf hg h1 h2
    by_cases hs : n ≤ 2 * i + 1 + d
    · exact ih i f g lens mm hs hi (by omega) (by omega) h1 h2
    obtain ⟨f, rfl⟩ : ∃ z, f = z + 1 := ⟨f - 1, by omega⟩
    obtain ⟨g, rfl⟩ : ∃ z, g = z + 1 := ⟨g - 1, by omega⟩
    have ea := h1 i (by omega)
    have eb := h1 (n - 1 - i) (by omega)
    obtain ⟨lens', mm', k1, k2, k3⟩ := ih (i + 1) f g (upd (upd lens i (lens (n - 1 - i))) (n - 1 - i) (lens i)) (vp_updL (vp_updL mm (1 + i) (mm (1 + (n - 1 - i)))) (1 + (n - 1 - i)) (mm (1 + i))) (by omega) (by omega) (by omega) (by omega) (fun k hk => by
      by_cases e1 : k = n - 1 - i
      · rw [e1, upd_eq, updL_eq]; exact ea
      · rw [upd_ne e1, updL_ne (by omega)]
        by_cases e2 : k = i
        · rw [e2, upd_eq, updL_eq]; exact eb
        · rw [upd_ne e2, updL_ne (by omega)]; exact h1 k hk) (fun k hk => by rw [updL_ne (by omega), updL_ne (by omega)]; exact h2 k hk)
    refine ⟨lens', mm', fun fr => ?_, fun sc ms => ?_, k3⟩
    · show B_X3_reverse_2 _ _ _ _ _ = _
      unfold B_X3_reverse_2
      rw [c32_of 1, c32_sub hn1, c32_sub (by omega), ile_f (by omega) (by omega), swapF (by omega) (by omega)]
      simp only [bd1_some]
      rw [c32_add]
      exact k1 fr
    · show B_X6_reverse_16 _ _ _ _ _ _ _ = _
      unfold B_X6_reverse_16
      rw [c32_of 1, c32_sub hn1, c32_of 2, c32_mul, ile_f (by omega) (by omega), c32_add, c32_add, c32_sub (by omega), c32_sub (by omega), exchF (by omega) (by omega)]
      simp only [bd1_some]
      rw [c32_add, show 1 + n - 1 - i = 1 + (n - 1 - i) by omega]
      exact k2 sc ms
theorem rev_f (hn : n ≤ 8) (hn1 : 2 ≤ n) (m : Nat → Int64) (cd : Int32) (lens : Nat → Int32) (K : Int32 × Int64 → Unit) : ∀ (d i f g : Nat) (fr : Nat → Int32) (mm : Nat → Int64), n ≤ 2 * i + 2 + d → i + 2 ≤ n → d < f → d < g → (∀ k, k < n → mm (9 + k) = (fr k).toInt64 ∧ ¬ fr k < 0) → (∀ k, (k < 9 ∨ 17 ≤ k) → mm k = m k) → ∃ fr' mm', (F_X3_reverse_38 f (c32 n) lens fr (c32 i) = some (lens, fr')) ∧ (∀ sc ms, F_X6_reverse_47 g sc cd mm ms (c32 n) (c32 i) = bd1 (F_X6_sumOfLengths mm') fun r => some (r, sc, cd, mm', ms)) ∧ (∀ k, k < n → mm' (9 + k) = (fr' k).toInt64 ∧ ¬ fr' k < 0) ∧ (∀ k, (k < 9 ∨ 17 ≤ k) → mm' k = m k) := by
  intro d
  induction d with
  | zero =>
    intro i f g fr mm h hi hf hg h1 h2
    obtain ⟨f, rfl⟩ : ∃ z, f = z + 1 := ⟨f - 1, by omega⟩
    obtain ⟨g, rfl⟩ : ∃ z, g = z + 1 := ⟨g - 1, by omega⟩
    refine ⟨fr, mm, ?_, fun sc ms => ?_, h1, h2⟩
    · show B_X3_reverse_38 _ _ _ _ _ = _
      unfold B_X3_reverse_38
      rw [c32_of 2, c32_sub hn1, c32_sub (by omega), ile_t (by omega) (by omega)]
    · show B_X6_reverse_47 _ _ _ _ _ _ _ = _
      unfold B_X6_reverse_47
      rw [c32_of 2, c32_sub hn1, c32_mul, ile_t (by omega) (by omega)]
  | succ d ih =>
    intro i f g fr mm h hi hf hg h1 h2
    by_cases hs : n ≤ 2 * i + 2 + d
    · exact ih i f g fr mm hs hi (by omega) (by omega) h1 h2
    obtain ⟨f, rfl⟩ : ∃ z, f = z + 1 := ⟨f - 1, by omega⟩
    obtain ⟨g, rfl⟩ : ∃ z, g = z + 1 := ⟨g - 1, by omega⟩
    have ea := h1 i (by omega)
    have eb := h1 (n - 2 - i) (by omega)
    obtain ⟨lens', mm', k1, k2, k3⟩ := ih (i + 1) f g (upd (upd fr i (fr (n - 2 - i))) (n - 2 - i) (fr i)) (vp_updL (vp_updL mm (9 + i) (mm (9 + (n - 2 - i)))) (9 + (n - 2 - i)) (mm (9 + i))) (by omega) (by omega) (by omega) (by omega) (fun k hk => by
      by_cases e1 : k = n - 2 - i
      · rw [e1, upd_eq, updL_eq]; exact ea
      · rw [upd_ne e1, updL_ne (by omega)]
        by_cases e2 : k = i
        · rw [e2, upd_eq, updL_eq]; exact eb
        · rw [upd_ne e2, updL_ne (by omega)]; exact h1 k hk) (fun k hk => by rw [updL_ne (by omega), updL_ne (by omega)]; exact h2 k hk)
    refine ⟨lens', mm', ?_, fun sc ms => ?_, k3⟩
    · show B_X3_reverse_38 _ _ _ _ _ = _
      unfold B_X3_reverse_38
      rw [c32_of 2, c32_sub hn1, c32_sub (by omega), ile_f (by omega) (by omega), swapF (by omega) (by omega)]
      simp only [bd1_some]
      rw [c32_of 1, c32_add]
      exact k1
    · show B_X6_reverse_47 _ _ _ _ _ _ _ = _
      unfold B_X6_reverse_47
      rw [c32_of 2, c32_sub hn1, c32_mul, ile_f (by omega) (by omega), c32_of 9, c32_add, c32_add, c32_sub (by omega), c32_sub (by omega), exchF (by omega) (by omega)]
      simp only [bd1_some]
      rw [c32_of 1, c32_add, show 9 + n - 2 - i = 9 + (n - 2 - i) by omega]
      exact k2 sc ms
theorem reverse_b (R : pgR n q w len lens fracs tms ens front least snd obs m) (cd : Int32) : ∃ r lens' fracs' m' len', F_X3_reverse (c32 n) lens fracs = some (lens', fracs') ∧ F_X3_sum lens' (c32 n) = some r ∧ (∀ sc ms, F_X6_reverse_16 gFU sc cd m ms (c32 n) (c32 0) = some (r, sc, cd, m', ms)) ∧ pgR n q w len' lens' fracs' tms ens front least snd obs m' := by
  have R0 := R
  obtain ⟨hn, hq1, hq, hw1, hw, hl, hen, htm, h0, h17, h18, h19, h20, hL, hF, hT, hE, hS, hO, hfr⟩ := R
  by_cases hn0 : n = 0
  · subst hn0
    refine ⟨c32 0, lens, fracs, m, len, rfl, rfl, fun sc ms => ?_, R0⟩
    rw [gFU_s]
    show B_X6_reverse_16 _ _ _ _ _ _ _ = _
    unfold B_X6_reverse_16
    rw [if_pos (by decide), gFU_s]
    show B_X6_reverse_47 _ _ _ _ _ _ _ = _
    unfold B_X6_reverse_47
    rw [if_pos (by decide), sumOfLengths (len := len) (by omega) h0 (fun i hi => absurd hi (by omega))]
    rfl
  obtain ⟨lens', m1, a1, a2, a3, a4⟩ := rev_l hn (by omega) m cd n 0 gFU gFU lens m (by omega) (by omega) (by show n < 5000; omega) (by show n < 5000; omega) (fun k hk => ⟨hL k hk, len k, hl k hk⟩) (fun k _ => rfl)
  have hlen : ∀ k, k < n → lens' k = c32 ((lens' k).toNatClampNeg) ∧ 1 ≤ (lens' k).toNatClampNeg ∧ (lens' k).toNatClampNeg ≤ 20 := fun k hk => by
    obtain ⟨-, a, e, e1, e2⟩ := a3 k hk
    rw [e, c32_nat (by omega)]
    exact ⟨rfl, e1, e2⟩
  have fin : ∀ (fr' : Nat → Int32) (m2 : Nat → Int64), (∀ k, k < n → m2 (9 + k) = (fr' k).toInt64 ∧ ¬ fr' k < 0) → (∀ k, (k < 9 ∨ 17 ≤ k) → m2 k = m1 k) → F_X6_sumOfLengths m2 = some (c32 (ls n (fun k => (lens' k).toNatClampNeg))) ∧ pgR n q w (fun k => (lens' k).toNatClampNeg) lens' fr' tms ens front least snd obs m2 := by
    intro fr' m2 h1 h2
    refine ⟨sumOfLengths (len := fun k => (lens' k).toNatClampNeg) hn (by rw [h2 0 (by omega), a4 0 (by omega)]; exact h0) (fun i hi => ?_), ?_⟩
    · rw [h2 _ (by omega), (a3 i hi).1]
      have := hlen i hi
      rw [this.1, c32_64 (by omega), c32_nat (by omega)]
    · refine pgR_parts R0 hn (fun k h3 h4 => ?_) (by rw [h2 0 (by omega), a4 0 (by omega)]; exact h0) hlen (fun k hk => ?_) (fun k hk => (h1 k hk).1) (fun k hk => (h1 k hk).2)
      · rw [h2 k (by omega), a4 k (by omega)]
      · rw [h2 _ (by omega)]; exact (a3 k hk).1
  have hsum : F_X3_sum lens' (c32 n) = some (c32 (ls n (fun k => (lens' k).toNatClampNeg))) := sumF hn (fun i hi => (hlen i hi).1)
  have hf1 : ∀ k, k < n → m1 (9 + k) = (fracs k).toInt64 ∧ ¬ fracs k < 0 := fun k hk => ⟨by rw [a4 _ (by omega)]; exact hF k hk, hfr k hk⟩
  by_cases hn1 : n = 1
  · subst hn1
    obtain ⟨f1, f2⟩ := fin fracs m1 hf1 (fun k _ => rfl)
    refine ⟨_, lens', fracs, m1, _, ?_, hsum, fun sc ms => ?_, f2⟩
    · unfold F_X3_reverse
      rw [c32_of 0, a1 fracs, gFU_s]
      show B_X3_reverse_38 _ _ _ _ _ = _
      unfold B_X3_reverse_38
      rw [if_pos (by decide)]
    · rw [a2, gFU_s]
      show B_X6_reverse_47 _ _ _ _ _ _ _ = _
      unfold B_X6_reverse_47
      rw [if_pos (by decide), f1]
      rfl
  · obtain ⟨fr', m2, b1, b2, b3, b4⟩ := rev_f hn (by omega) m1 cd lens' (fun _ => ()) n 0 gFU gFU fracs m1 (by omega) (by omega) (by show n < 5000; omega) (by show n < 5000; omega) hf1 (fun k _ => rfl)
    obtain ⟨f1, f2⟩ := fin fr' m2 b3 b4
    refine ⟨_, lens', fr', m2, _, ?_, hsum, fun sc ms => ?_, f2⟩
    · unfold F_X3_reverse
      rw [c32_of 0, a1 fracs, b1]
    · rw [a2, b2, f1]
      rfl
end PG
