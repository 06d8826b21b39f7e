/-! the pure law, text K -/
set_option maxRecDepth 100000
/-! P10: edits of a line -/
def rgn (x lo hi : Int64) : Int32 := if x < lo then 0 else if hi < x then 0 else 1
theorem inC (x lo hi : Int64) : F_X1_inRange x lo hi = some (rgn x lo hi) := rfl
theorem inM (x lo hi : Int64) : F_X6_in x lo hi = some (rgn x lo hi) := rfl
theorem rgn_cases (p : Int32) (lo : Nat) (hlo : lo < 2147483648) (hi : Int64) : (rgn p.toInt64 (c64 lo) hi = 0 ∧ ¬ ((lo : Int) ≤ p.toInt ∧ p.toInt ≤ hi.toInt)) ∨ (rgn p.toInt64 (c64 lo) hi = 1 ∧ ∃ a, a < 2147483648 ∧ p = c32 a ∧ lo ≤ a ∧ (a : Int) ≤ hi.toInt) := by
  unfold rgn
  by_cases h1 : p.toInt64 < c64 lo
  · rw [if_pos h1]
    refine Or.inl ⟨rfl, fun h => ?_⟩
    rw [Int64.lt_iff_toInt_lt, Int32.toInt_toInt64, c64_toInt (by omega)] at h1
    omega
  · rw [if_neg h1]
    rw [Int64.lt_iff_toInt_lt, Int32.toInt_toInt64, c64_toInt (by omega)] at h1
    by_cases h2 : hi < p.toInt64
    · rw [if_pos h2]
      refine Or.inl ⟨rfl, fun h => ?_⟩
      rw [Int64.lt_iff_toInt_lt, Int32.toInt_toInt64] at h2
      omega
    · rw [if_neg h2]
      rw [Int64.lt_iff_toInt_lt, Int32.toInt_toInt64] at h2
      obtain ⟨a, ha, rfl⟩ := c32_ex (x := p) (by rw [Int32.lt_iff_toInt_lt]; show ¬ p.toInt < 0; omega)
      rw [c32_toInt ha] at h1 h2
      exact Or.inr ⟨rfl, a, ha, rfl, by omega, by omega⟩
theorem rgn_c (p : Int32) (lo hi : Nat) (hlo : lo < 2147483648) (hhi : hi < 2147483648) : (rgn p.toInt64 (c64 lo) (c64 hi) = 0 ∧ ¬ ((lo : Int) ≤ p.toInt ∧ p.toInt ≤ hi)) ∨ (rgn p.toInt64 (c64 lo) (c64 hi) = 1 ∧ ∃ a, p = c32 a ∧ lo ≤ a ∧ a ≤ hi) := by
  have h := rgn_cases p lo hlo (c64 hi)
  rw [c64_toInt (by omega)] at h
  rcases h with h | ⟨h, a, -, h1, h2, h3⟩
  · exact Or.inl h
  · exact Or.inr ⟨h, a, h1, h2, by omega⟩
theorem c32_m1 {n : Nat} (hn : n < 2147483648) : (c32 n - 1).toInt64.toInt = (n : Int) - 1 := by
  rw [Int32.toInt_toInt64]
  cases n with
  | zero => rfl
  | succ k => rw [c32_of 1, c32_sub (by omega), c32_toInt (by omega)]; omega
theorem rgn_part (p : Int32) {n : Nat} (hn : n < 2147483648) : (rgn p.toInt64 0 (c32 n - 1).toInt64 = 0) ∨ (rgn p.toInt64 0 (c32 n - 1).toInt64 = 1 ∧ ∃ a, a < n ∧ p = c32 a) := by
  have h := rgn_cases p 0 (by omega) (c32 n - 1).toInt64
  rw [c32_m1 hn] at h
  rcases h with h | ⟨h, a, -, h1, h2, h3⟩
  · exact Or.inl h.1
  · exact Or.inr ⟨h, a, by omega, h1⟩
theorem bc0_l {β : Type} (x : Option β) (g : Nat → Option β) : bc0 (some (.inl ())) x g = x := rfl
theorem bc0_r {β : Type} (x : Option β) (g : Nat → Option β) (k : Nat) : bc0 (some (.inr k)) x g = g k := rfl
theorem arePart (x1 x2 : Int32) : (F_X2_requireValues x1 x2 = some (.inr 1) ∧ F_X6_arePartNumbers x1 x2 = some 0) ∨ (F_X2_requireValues x1 x2 = some (.inl ()) ∧ F_X6_arePartNumbers x1 x2 = some 1 ∧ ∃ a b, x1 = c32 a ∧ 1 ≤ a ∧ a ≤ 20 ∧ x2 = c32 b ∧ b ≤ 1000) := by
  unfold F_X2_requireValues F_X6_arePartNumbers F_X2_requireValues_28 F_X2_requireValues_29 F_X6_arePartNumbers_28 F_X6_arePartNumbers_29
  simp only [inC, inM, bd1_some]
  rcases rgn_c x1 1 20 (by omega) (by omega) with ⟨h1, -⟩ | ⟨h1, a, ha, hb, hc⟩
  · rw [show rgn x1.toInt64 1 20 = 0 from h1]
    exact Or.inl ⟨rfl, rfl⟩
  · rw [show rgn x1.toInt64 1 20 = 1 from h1]
    rcases rgn_c x2 0 1000 (by omega) (by omega) with ⟨h2, -⟩ | ⟨h2, b, hd, -, he⟩
    · rw [show rgn x2.toInt64 0 1000 = 0 from h2]
      exact Or.inl ⟨rfl, rfl⟩
    · rw [show rgn x2.toInt64 0 1000 = 1 from h2]
      exact Or.inr ⟨rfl, rfl, a, b, ha, hb, hc, hd, he⟩
theorem cpy0 {α : Type} (f g : Nat → α) {n k : Nat} (h : k < n) : va_cpy f g 0 0 n k = f k := by
  unfold va_cpy
  rw [if_pos (by omega)]
  congr 1
  omega
theorem insertF {n p : Nat} (hn : n < 8) (hp : p ≤ n) (lens fracs : Nat → Int32) (a b : Int32) : F_X3_insert (c32 n) lens fracs (c32 p) a b = some (c32 (n + 1), upd (va_cpy lens lens p (p + 1) (n - p)) p a, upd (va_cpy fracs fracs p (p + 1) (n - p)) p b) := by
  unfold F_X3_insert
  rw [c32_of 1, c32_add, c32_sub hp, gcp_c (by omega) (by omega) (by omega) (by omega), gcp_c (by omega) (by omega) (by omega) (by omega), gin_c (by omega) (by omega), gin_c (by omega) (by omega), c32_nat (by omega), c32_nat (by omega), c32_nat (by omega), c32_add]
theorem ins_at {α : Type} (f : Nat → α) {n p k : Nat} (hk : k ≤ n) : va_cpy f f p (p + 1) (n - p) k = if k ≤ p then f k else f (k - 1) := by
  unfold va_cpy
  by_cases h : k ≤ p
  · rw [if_neg (by omega), if_pos h]
  · rw [if_pos (by omega), if_neg h]
    congr 1
    omega
theorem c32_ge0 (b : Nat) (h : b < 2147483648) : ¬ c32 b < 0 := c32_neg h
section PG
variable {n q w : Nat} {len : Nat → Nat} {lens fracs tms ens : Nat → Int32} {front least : Int32} {snd obs m : Nat → Int64}
/-- the page and the bench when what is read of them is the same -/
theorem pgR_congr (R : pgR n q w len lens fracs tms ens front least snd obs m) {lens2 fracs2 tms2 ens2 : Nat → Int32} {snd2 obs2 m2 : Nat → Int64} (h1 : ∀ k, k < n → lens2 k = lens k) (h2 : ∀ k, k < n → fracs2 k = fracs k) (h3 : ∀ k, k < q → tms2 k = tms k) (h4 : ∀ k, k < q → ens2 k = ens k) (h5 : ∀ k, k < 201 → snd2 k = snd k) (h6 : ∀ k, k < 201 → obs2 k = obs k) (h7 : ∀ k, k < 431 → m2 k = m k) : pgR n q w len lens2 fracs2 tms2 ens2 front least snd2 obs2 m2 := by
  obtain ⟨hn, hq1, hq, hw1, hw, hl, hen, htm, h0, h17, h18, h19, h20, hL, hF, hT, hE, hS, hO, hfr⟩ := R
  refine ⟨hn, hq1, hq, hw1, hw, fun k hk => by rw [h1 k hk]; exact hl k hk, fun k hk => by rw [h4 k hk]; exact hen k hk, fun k hk => by rw [h3 k hk]; exact htm k hk, ?_, ?_, ?_, ?_, ?_, fun k hk => ?_, fun k hk => ?_, fun k hk => ?_, fun k hk => ?_, fun k hk => ?_, fun k hk => ?_, fun k hk => by rw [h2 k hk]; exact hfr k hk⟩
  · rw [h7 _ (by omega)]; exact h0
  · rw [h7 _ (by omega)]; exact h17
  · rw [h7 _ (by omega)]; exact h18
  · rw [h7 _ (by omega)]; exact h19
  · rw [h7 _ (by omega)]; exact h20
  · rw [h7 _ (by omega), h1 k hk]; exact hL k hk
  · rw [h7 _ (by omega), h2 k hk]; exact hF k hk
  · rw [h7 _ (by omega), h3 k hk]; exact hT k hk
  · rw [h7 _ (by omega), h4 k hk]; exact hE k hk
  · rw [h7 _ (by omega), h5 k hk]; exact hS k hk
  · rw [h7 _ (by omega), h6 k hk]; exact hO k hk
theorem laysPart (m : Nat → Int64) {p : Nat} (hp : p < 8) (a b : Int32) : F_X6_laysPart m (c32 p) a b = some (vp_updL (vp_updL m (1 + p) a.toInt64) (9 + p) b.toInt64) := by
  unfold F_X6_laysPart
  rw [c32_of 1, c32_add, gin_c (by omega) (by omega), c32_of 9, c32_add, gin_c (by omega) (by omega), c32_nat (by omega), c32_nat (by omega)]
/-- the parts are edited -/
theorem pgR_parts (R : pgR n q w len lens fracs tms ens front least snd obs m) {n' : Nat} {len' : Nat → Nat} {lens' fracs' : Nat → Int32} {m' : Nat → Int64} (hn' : n' ≤ 8) (hm : ∀ k, 17 ≤ k → k < 431 → m' k = m k) (h0' : m' 0 = c64 n') (hl' : ∀ k, k < n' → lens' k = c32 (len' k) ∧ 1 ≤ len' k ∧ len' k ≤ 20) (hL' : ∀ k, k < n' → m' (1 + k) = (lens' k).toInt64) (hF' : ∀ k, k < n' → m' (9 + k) = (fracs' k).toInt64) (hfr' : ∀ k, k < n' → ¬ fracs' k < 0) : pgR n' q w len' lens' fracs' tms ens front least snd obs m' := by
  obtain ⟨hn, hq1, hq, hw1, hw, hl, hen, htm, h0, h17, h18, h19, h20, hL, hF, hT, hE, hS, hO, hfr⟩ := R
  exact ⟨hn', hq1, hq, hw1, hw, hl', hen, htm, h0', by rw [hm _ (by omega) (by omega)]; exact h17, by rw [hm _ (by omega) (by omega)]; exact h18, by rw [hm _ (by omega) (by omega)]; exact h19, by rw [hm _ (by omega) (by omega)]; exact h20, hL', hF', fun k hk => by rw [hm _ (by omega) (by omega)]; exact hT k hk, fun k hk => by rw [hm _ (by omega) (by omega)]; exact hE k hk, fun k hk => by rw [hm _ (by omega) (by omega)]; exact hS k hk, fun k hk => by rw [hm _ (by omega) (by omega)]; exact hO k hk, hfr'⟩
/-- the pulses are edited -/
theorem pgR_pulses (R : pgR n q w len lens fracs tms ens front least snd obs m) {q' : Nat} {tms' ens' : Nat → Int32} {m' : Nat → Int64} (hq1' : 1 ≤ q') (hq' : q' ≤ 4) (hm : ∀ k, (k < 20 ∨ 29 ≤ k) → k < 431 → m' k = m k) (h20' : m' 20 = c64 q') (hen' : ∀ k, k < q' → ¬ (ens' k).toInt64 ≤ 0) (htm' : ∀ k, k < q' → ∃ a, a ≤ 100 ∧ tms' k = c32 a) (hT' : ∀ k, k < q' → m' (21 + 2 * k) = (tms' k).toInt64) (hE' : ∀ k, k < q' → m' (21 + 2 * k + 1) = (ens' k).toInt64) : pgR n q' w len lens fracs tms' ens' front least snd obs m' := by
  obtain ⟨hn, hq1, hq, hw1, hw, hl, hen, htm, h0, h17, h18, h19, h20, hL, hF, hT, hE, hS, hO, hfr⟩ := R
  exact ⟨hn, hq1', hq', hw1, hw, hl, hen', htm', by rw [hm _ (by omega) (by omega)]; exact h0, by rw [hm _ (by omega) (by omega)]; exact h17, by rw [hm _ (by omega) (by omega)]; exact h18, by rw [hm _ (by omega) (by omega)]; exact h19, h20', fun k hk => by rw [hm _ (by omega) (by omega)]; exact hL k hk, fun k hk => by rw [hm _ (by omega) (by omega)]; exact hF k hk, hT', hE', fun k hk => by rw [hm _ (by omega) (by omega)]; exact hS k hk, fun k hk => by rw [hm _ (by omega) (by omega)]; exact hO k hk, hfr⟩
/-- a part behind the last -/
theorem addPart_b (R : pgR n q w len lens fracs tms ens front least snd obs m) (x1 x2 : Int32) : (∃ lens' fracs' m' len', F_X2_addPart (c32 n) lens fracs x1 x2 = some (.inl (c32 (n + 1), c32 (n + 1), lens', fracs')) ∧ F_X6_whyNoPart m x1 x2 = some 0 ∧ F_X6_addsPart m x1 x2 = some (c32 (n + 1), m') ∧ pgR (n + 1) q w len' lens' fracs' tms ens front least snd obs m') ∨ (∃ k, (k = 1 ∨ k = 2) ∧ F_X2_addPart (c32 n) lens fracs x1 x2 = some (.inr k) ∧ F_X6_whyNoPart m x1 x2 = some (c32 k)) := by
  have R0 := R
  obtain ⟨hn, hq1, hq, hw1, hw, hl, hen, htm, h0, h17, h18, h19, h20, hL, hF, hT, hE, hS, hO, hfr⟩ := R
  unfold F_X2_addPart F_X6_whyNoPart F_X6_whyNoPart_26
  rcases arePart x1 x2 with ⟨e1, e2⟩ | ⟨e1, e2, a, b, rfl, ha1, ha2, rfl, hb⟩
  · rw [e1, e2]
    exact Or.inr ⟨1, Or.inl rfl, rfl, rfl⟩
  · rw [e1, e2, partsM h0]
    simp only [bd1_some, bc0_l]
    rw [if_neg (by decide)]
    by_cases h8 : n = 8
    · subst h8
      exact Or.inr ⟨2, Or.inr rfl, rfl, rfl⟩
    · have hroom : F_X2_requireRoom (c32 n) = some (.inl ()) := by
        unfold F_X2_requireRoom F_X1_requireState
        rw [c32_of 8, ile_f (by omega) (by omega), if_neg (by decide)]
        rfl
      rw [hroom, insertF (by omega) (Nat.le_refl n), c32_of 8, ieq_f h8 (by omega) (by omega)]
      refine Or.inl ⟨upd (va_cpy lens lens n (n + 1) (n - n)) n (c32 a), upd (va_cpy fracs fracs n (n + 1) (n - n)) n (c32 b), vp_updL (vp_updL (vp_updL m (1 + n) (c64 a)) (9 + n) (c64 b)) 0 (c64 (n + 1)), fun k => if k = n then a else len k, rfl, rfl, ?_, ?_⟩
      · unfold F_X6_addsPart
        rw [partsM h0]
        simp only [bd1_some]
        rw [laysPart m (by omega)]
        simp only [bd1_some, nm]
        rw [c32_of 0, gin_c (by omega) (by omega), gin_c (by omega) (by omega), c32_nat (by omega), updL_ne (by omega), updL_ne (by omega), h0, c64_of 1, c64_add, partsM updL_eq, c32_64 (by omega), c32_64 (by omega)]
        rfl
      · have hlk : ∀ k, k < n + 1 → upd (va_cpy lens lens n (n + 1) (n - n)) n (c32 a) k = if k = n then c32 a else lens k := fun k hk => by
          by_cases e : k = n
          · rw [if_pos e, e, upd_eq]
          · rw [if_neg e, upd_ne e, ins_at _ (by omega), if_pos (by omega)]
        have hfk : ∀ k, k < n + 1 → upd (va_cpy fracs fracs n (n + 1) (n - n)) n (c32 b) k = if k = n then c32 b else fracs k := fun k hk => by
          by_cases e : k = n
          · rw [if_pos e, e, upd_eq]
          · rw [if_neg e, upd_ne e, ins_at _ (by omega), if_pos (by omega)]
        refine pgR_parts R0 (by omega) (fun k h1 h2 => ?_) updL_eq (fun k hk => ?_) (fun k hk => ?_) (fun k hk => ?_) (fun k hk => ?_)
        · rw [updL_ne (by omega), updL_ne (by omega), updL_ne (by omega)]
        · rw [hlk k hk]
          by_cases e : k = n
          · rw [if_pos e, if_pos e]; exact ⟨rfl, ha1, ha2⟩
          · rw [if_neg e, if_neg e]; exact hl k (by omega)
        · rw [hlk k hk]
          by_cases e : k = n
          · rw [if_pos e, e, updL_ne (by omega), updL_ne (by omega), updL_eq, c32_64 (by omega)]
          · rw [if_neg e, updL_ne (by omega), updL_ne (by omega), updL_ne (by omega)]; exact hL k (by omega)
        · rw [hfk k hk]
          by_cases e : k = n
          · rw [if_pos e, e, updL_ne (by omega), updL_eq, c32_64 (by omega)]
          · rw [if_neg e, updL_ne (by omega), updL_ne (by omega), updL_ne (by omega)]; exact hF k (by omega)
        · rw [hfk k hk]
          by_cases e : k = n
          · rw [if_pos e]; exact c32_ge0 b (by omega)
          · rw [if_neg e]; exact hfr k (by omega)
end PG
