/-! the pure law, text ZE -/
set_option maxRecDepth 100000
/-! P26: numbers as text; what a builder of text does -/
theorem shr0 (x : Int32) : x >>> ((0 : Int32) &&& 31) = x := by
  rw [show (0 : Int32) &&& 31 = 0 by decide]
  exact Int32.shiftRight_zero
theorem shl0 (x : Int32) : x <<< ((0 : Int32) &&& 31) = x := by
  rw [show (0 : Int32) &&& 31 = 0 by decide]
  exact Int32.shiftLeft_zero
theorem ofNat_c32 (n : Nat) : Int32.ofNat n = c32 n := by
  have h : Int32.ofNat n = c32 n := rfl
  exact h
/-- bytes of an array -/
def bytesOk (a : Nat → Int32) (N : Nat) : Prop := ∀ k, k < N → -128 ≤ a k ∧ a k ≤ 127
/-- room is made for s more -/
theorem ens_ok {arr : Nat → Int32} {cnt cap s : Nat} (h1 : cnt ≤ cap) (h2 : 16 ≤ cap) (h3 : cap ≤ 12000) (h4 : cnt + s ≤ 6000) (hs : s ≤ 20) (hb : bytesOk arr cap) : ∃ arr1 cap1, cnt + s ≤ cap1 ∧ 16 ≤ cap1 ∧ bytesOk arr1 cap1 ∧ (∀ k, k < cnt → arr1 k = arr k) ∧ (cap1 = cap ∨ cap1 ≤ 2 * (cnt + s)) ∧ cap1 ≤ 12000 ∧
    ∀ {T : Type} (G : (Nat → Int32) → Nat → Option T), (∀ a N, cnt + s ≤ N → (G a N).isSome) → ∀ (E : Nat → Nat → Option T), (∀ rc rs, E rc rs = bd2 (F_J10_ensureCapacityInternal arr cap (c32 (cnt + s)) rc rs) G) → E (gRc (E 0 0)) (gRs (E 0 0) cap) = G arr1 cap1 ∧ (cap / 16 + gRc (E 0 0) ≤ cap1 / 16 ∧ 3 * cap + gRs (E 0 0) cap ≤ 3 * cap1 ∧ cap ≤ 12000 ∧ cap1 ≤ 12000) := by
  by_cases hc : cnt + s ≤ cap
  · refine ⟨arr, cap, hc, h2, hb, fun _ _ => rfl, Or.inl rfl, h3, fun G hG E hE => ?_⟩
    have he : ∀ rc rs, E rc rs = G arr cap := fun rc rs => by
      rw [hE]
      unfold F_J10_ensureCapacityInternal
      simp only [nm, shr0, ofNat_c32]
      have : (c32 (cnt + s) - c32 cap : Int32) ≤ 0 := by
        rw [Int32.le_iff_toInt_le, show (0 : Int32).toInt = 0 from rfl, Int32.toInt_sub, c32_toInt (by omega), c32_toInt (by omega)]
        rw [Int.bmod_eq_of_le] <;> omega
      rw [if_pos this]
      rfl
    obtain ⟨z, hz⟩ := Option.isSome_iff_exists.mp (hG arr cap hc)
    have hr : gRc (E 0 0) = 0 := by unfold gRc; rw [he, hz]; rfl
    have hr2 : gRs (E 0 0) cap = 0 := by unfold gRs; rw [he, hz]; rfl
    rw [hr, hr2, he]
    exact ⟨rfl, by omega, by omega, h3, h3⟩
  · -- grown
    obtain ⟨N, hN⟩ : ∃ N, N = (if cnt + s - cap < cap + 2 then 2 * cap + 2 else cnt + s) := ⟨_, rfl⟩
    have hN1 : cnt + s ≤ N ∧ 2 * cap + 2 ≤ N ∧ N ≤ 2 * cap + 20 ∧ N ≤ 2 * (cnt + s) := by
      rw [hN]; split <;> omega
    have hens : ∀ rc rs, F_J10_ensureCapacityInternal arr cap (c32 (cnt + s)) rc rs = bd2 (F_J8_copyOf arr cap (c32 N) rc rs) fun a b => some (a, b) := fun rc rs => by
      unfold F_J10_ensureCapacityInternal
      simp only [nm, shr0, shl0, ofNat_c32]
      have : ¬ (c32 (cnt + s) - c32 cap : Int32) ≤ 0 := by
        rw [c32_sub (by omega), Int32.le_iff_toInt_le, c32_toInt (by omega)]
        show ¬ ((cnt + s - cap : Nat) : Int) ≤ 0
        omega
      rw [if_neg this]
      have hnc : F_J10_newCapacity cap (c32 (cnt + s)) = some (c32 N) := by
        unfold F_J10_newCapacity F_J14_newLength
        simp only [nm, shr0, shl0, ofNat_c32]
        have e1 : (if (c32 (cnt + s) - c32 cap : Int32) < c32 cap + 2 then c32 cap + 2 else (c32 (cnt + s) - c32 cap : Int32)) = c32 (N - cap) := by
          rw [c32_sub (by omega), c32_of 2, c32_add]
          by_cases h : cnt + s - cap < cap + 2
          · rw [ilt_t h (by omega), hN, if_pos h]; congr 1; omega
          · rw [ilt_f (by omega) (by omega), hN, if_neg h]
        rw [e1, c32_add, show cap + (N - cap) = N by omega, c32_of 0, ile_f (by omega) (by omega), c32_of 2147483639, ilt_f (by omega) (by omega), bd1_some, c32_of 2147483647, ieq_f (by omega) (by omega) (by omega)]
      rw [hnc, bd1_some]
    have hcp : ∀ rc rs, F_J8_copyOf arr cap (c32 N) rc rs = if 1 ≤ rc ∧ N ≤ rs then some (va_cpy arr (fun _ => 0) 0 0 cap, N) else none := fun rc rs => by
      unfold F_J8_copyOf
      simp only [ofNat_c32]
      rw [ieq_f (by omega) (by omega) (by omega), ilt_f (by omega) (by omega), c32_nat (by omega), c32_nat (by omega)]
      unfold gch
      by_cases h : 1 ≤ rc ∧ N ≤ rs
      · rw [if_pos h, if_pos ⟨c32_ge0 N (by omega), by omega, by omega, by omega⟩, c32_of 0, gcp_c (by omega) (by omega) (by omega) (by omega), if_pos (fun i hi => by rw [c32_nat (by omega), Nat.zero_add]; exact hb i hi), c32_nat (by omega)]
      · rw [if_neg h, if_neg (fun z => h ⟨by omega, by omega⟩)]
    refine ⟨va_cpy arr (fun _ => 0) 0 0 cap, N, hN1.1, by omega, fun k hk => ?_, fun k hk => cpy0 _ _ (by omega), Or.inr hN1.2.2.2, by omega, fun G hG E hE => ?_⟩
    · by_cases h : k < cap
      · rw [cpy0 _ _ h]; exact hb k h
      · unfold va_cpy
        rw [if_neg (by omega)]
        show -128 ≤ (0 : Int32) ∧ (0 : Int32) ≤ 127
        decide
    · have h0 : E 0 0 = none := by
        rw [hE, hens, hcp, if_neg (by omega)]
        rfl
      have hr : gRc (E 0 0) = 1 := by unfold gRc; rw [h0]; rfl
      have hr2 : gRs (E 0 0) cap = 2 * cap + 20 := by unfold gRs; rw [h0]; rfl
      rw [hr, hr2, hE, hens, hcp, if_pos ⟨by omega, by omega⟩]
      exact ⟨rfl, by omega, by omega, h3, by omega⟩
/-- decimal digits -/
def dg (u : Nat) : Nat := if u < 10 then 1 else dg (u / 10) + 1
theorem dg_pos (u : Nat) : 1 ≤ dg u := by
  rw [dg]; split <;> omega
theorem dg_lt : ∀ (k u : Nat), 1 ≤ k → u < 10 ^ k → dg u ≤ k
  | 0, _, h, _ => absurd h (by omega)
  | k + 1, u, _, h => by
    rw [dg]
    split
    · omega
    · rename_i hu
      by_cases hk : k = 0
      · subst hk; simp at h; omega
      · have := dg_lt k (u / 10) (by omega) (by rw [Nat.pow_succ] at h; omega)
        omega
theorem dg_ge : ∀ (k u : Nat), 10 ^ k ≤ u → k + 1 ≤ dg u
  | 0, u, _ => dg_pos u
  | k + 1, u, h => by
    have hp : 0 < 10 ^ k := Nat.pow_pos (by omega)
    rw [Nat.pow_succ] at h
    rw [dg, if_neg (by omega)]
    have := dg_ge k (u / 10) (by omega)
    omega
theorem dg_19 {u : Nat} (h : u < 9223372036854775808) : dg u ≤ 19 := dg_lt 19 u (by omega) (by omega)
/-- the j-th digit from the end, as a byte -/
def dch (u j : Nat) : Int32 := c32 (48 + u / 10 ^ j % 10)
theorem dch_div (u j : Nat) : dch (u / 10) j = dch u (j + 1) := by
  unfold dch
  rw [Nat.div_div_eq_div_mul, Nat.pow_succ, Nat.mul_comm]
/-- what is written behind a position -/
def wrote (a b : Nat → Int32) (pos u : Nat) : Prop := (∀ j, j < dg u → b (pos - 1 - j) = dch u j) ∧ ∀ k, (k < pos - dg u ∨ pos ≤ k) → b k = a k
theorem wrote_1 {a : Nat → Int32} {pos u : Nat} (hu : u < 10) (hp : 1 ≤ pos) : wrote a (upd a (pos - 1) (dch u 0)) pos u := by
  have e : dg u = 1 := by rw [dg, if_pos hu]
  refine ⟨fun j hj => ?_, fun k hk => ?_⟩
  · rw [show j = 0 by omega, Nat.sub_zero, upd_eq]
  · rw [upd_ne (by omega)]
theorem wrote_2 {a : Nat → Int32} {pos u : Nat} (hu : 10 ≤ u) (hu2 : u < 100) (hp : 2 ≤ pos) : wrote a (upd (upd a (pos - 1) (dch u 0)) (pos - 2) (dch u 1)) pos u := by
  have e : dg u = 2 := by rw [dg, if_neg (by omega), dg, if_pos (by omega)]
  refine ⟨fun j hj => ?_, fun k hk => ?_⟩
  · by_cases h : j = 0
    · rw [h, Nat.sub_zero, upd_ne (by omega), upd_eq]
    · rw [show j = 1 by omega, show pos - 1 - 1 = pos - 2 by omega, upd_eq]
  · rw [upd_ne (by omega), upd_ne (by omega)]
theorem wrote_step {a b : Nat → Int32} {pos u : Nat} (hu : 100 ≤ u) (hp : dg u ≤ pos) (h : wrote (upd (upd a (pos - 1) (dch u 0)) (pos - 2) (dch u 1)) b (pos - 2) (u / 100)) : wrote a b pos u := by
  have e : dg u = dg (u / 100) + 2 := by
    rw [dg, if_neg (by omega), dg, if_neg (by omega), Nat.div_div_eq_div_mul]
  have hd := dg_pos (u / 100)
  refine ⟨fun j hj => ?_, fun k hk => ?_⟩
  · by_cases h0 : j = 0
    · rw [h0, Nat.sub_zero, h.2 _ (by omega), upd_ne (by omega), upd_eq]
    · by_cases h1 : j = 1
      · rw [h1, show pos - 1 - 1 = pos - 2 by omega, h.2 _ (by omega), upd_eq]
      · have := h.1 (j - 2) (by omega)
        rw [show pos - 2 - 1 - (j - 2) = pos - 1 - j by omega] at this
        rw [this, show u / 100 = u / 10 / 10 by rw [Nat.div_div_eq_div_mul], dch_div, dch_div]
        congr 1
        omega
  · rw [h.2 k (by omega), upd_ne (by omega), upd_ne (by omega)]
theorem dch_range (u j : Nat) : ∃ d, d < 10 ∧ dch u j = c32 (48 + d) := ⟨u / 10 ^ j % 10, Nat.mod_lt _ (by omega), rfl⟩
