/-! the pure law, text Q -/
set_option maxRecDepth 100000
/-! P14: saved pages; copies; the relation of both sides -/
abbrev gBt : Type := Int32 × Int32 × Int32 × Int32 × Int32 × (Nat → Int32) × (Nat → Int32) × (Nat → Int32) × (Nat → Int32) × (Nat → Int64) × (Nat → Int64)
def pgB (B : gBt) (m : Nat → Int64) : Prop := ∃ n q w len, B.1 = c32 n ∧ B.2.1 = c32 q ∧ B.2.2.2.2.1 = c32 w ∧ pgR n q w len B.2.2.2.2.2.1 B.2.2.2.2.2.2.1 B.2.2.2.2.2.2.2.1 B.2.2.2.2.2.2.2.2.1 B.2.2.1 B.2.2.2.1 B.2.2.2.2.2.2.2.2.2.1 B.2.2.2.2.2.2.2.2.2.2 m
theorem pgB_m {B : gBt} {m m2 : Nat → Int64} (h : pgB B m) (h2 : ∀ k, k < 431 → m2 k = m k) : pgB B m2 := by
  obtain ⟨n, q, w, len, h3, h4, h5, h6⟩ := h
  exact ⟨n, q, w, len, h3, h4, h5, pgR_congr h6 (fun _ _ => rfl) (fun _ _ => rfl) (fun _ _ => rfl) (fun _ _ => rfl) (fun _ _ => rfl) (fun _ _ => rfl) h2⟩
def savR (dp : Nat) (Bs : Nat → gBt) (saved : Nat → Option Nat) (ms : Nat → Int64) : Prop := dp ≤ 3 ∧ (∀ i, i < dp → ∃ y, saved i = some y) ∧ ∀ i, i < dp → pgB (Bs i) (fun k => ms (431 * i + k))
/-- one more is saved -/
def bSh {α : Type} (dp : Nat) (f : Nat → α) (v : α) : Nat → α := if dp = 3 then va_up (va_cpy f f 1 0 2) 2 v else va_up f dp v
def dpS (dp : Nat) : Nat := if dp = 3 then 3 else dp + 1
theorem bSh_at {α : Type} {dp : Nat} (hd : dp ≤ 3) (f : Nat → α) (v : α) {i : Nat} (hi : i < dpS dp) : bSh dp f v i = if i + 1 = dpS dp then v else if dp = 3 then f (i + 1) else f i := by
  by_cases h : dp = 3
  · subst h
    replace hi : i < 3 := hi
    show (if i = 2 then v else if 0 ≤ i ∧ i < 0 + 2 then f (1 + (i - 0)) else f i) = if i + 1 = 3 then v else if 3 = 3 then f (i + 1) else f i
    by_cases h2 : i = 2
    · rw [if_pos h2, if_pos (by omega)]
    · rw [if_neg h2, if_pos (by omega), if_neg (by omega), if_pos rfl]
      congr 1
      omega
  · have e1 : dpS dp = dp + 1 := if_neg h
    have e2 : bSh dp f v = va_up f dp v := if_neg h
    rw [e1] at hi ⊢
    rw [e2, if_neg h]
    unfold va_up
    by_cases h2 : i = dp
    · rw [if_pos h2, if_pos (by omega)]
    · rw [if_neg h2, if_neg (by omega)]
theorem becomeF (a1 : Nat) {dp : Nat} (hd : dp ≤ 3) (saved : Nat → Option Nat) (r : Int32) : F_X1_become a1 (c32 dp) saved r = some (r, c32 (dpS dp), bSh dp saved (some a1)) := by
  unfold F_X1_become dpS bSh
  by_cases h : dp = 3
  · subst h
    rfl
  · rw [c32_of 3, ieq_f h (by omega) (by omega), gin_c (by omega) (by omega), c32_nat (by omega), c32_of 1, c32_add, if_neg h, if_neg h]
theorem keep51 {dp : Nat} (hd : dp ≤ 2) (m : Nat → Int64) : ∀ (d i f : Nat) (ms : Nat → Int64), i + d = 431 → d < f → ∃ ms', F_X6_keep_51 f (c32 dp) m ms (c32 i) = some (c32 (dp + 1), ms') ∧ (∀ k, i ≤ k → k < 431 → ms' (431 * dp + k) = m k) ∧ (∀ k, (k < 431 * dp + i ∨ 431 * dp + 431 ≤ k) → ms' k = ms k) := by
  intro d
  induction d with
  | zero =>
    intro i f ms h hf
    obtain ⟨f, rfl⟩ : ∃ z, f = z + 1 := ⟨f - 1, by omega⟩
    refine ⟨ms, ?_, fun k h1 h2 => absurd h2 (by omega), fun k _ => rfl⟩
    show B_X6_keep_51 _ _ _ _ _ = _
    unfold B_X6_keep_51
    rw [c32_of 431, ile_t (by omega) (by omega), c32_of 1, c32_add]
  | succ d ih =>
    intro i f ms h hf
    obtain ⟨f, rfl⟩ : ∃ z, f = z + 1 := ⟨f - 1, by omega⟩
    obtain ⟨ms', k1, k2, k3⟩ := ih (i + 1) f (vp_updL ms (431 * dp + i) (m i)) (by omega) (by omega)
    refine ⟨ms', ?_, fun k h1 h2 => ?_, fun k hk => ?_⟩
    · show B_X6_keep_51 _ _ _ _ _ = _
      unfold B_X6_keep_51
      rw [c32_of 431, ile_f (by omega) (by omega), gin_c (by omega) (by omega), c32_mul, c32_add, gin_c (by omega) (by omega), c32_nat (by omega), c32_nat (by omega), c32_of 1, c32_add]
      exact k1
    · by_cases e : k = i
      · rw [k3 (431 * dp + k) (by omega), e, updL_eq]
      · exact k2 k (by omega) h2
    · rw [k3 k (by omega), updL_ne (by omega)]
theorem keep10 (m : Nat → Int64) : ∀ (d i f : Nat) (ms : Nat → Int64), i + d = 862 → d < f → ∃ ms', F_X6_keep_10 f (c32 3) m ms (c32 i) = F_X6_keep_49 (c32 2) m ms' ∧ (∀ k, i ≤ k → k < 862 → ms' k = ms (k + 431)) ∧ (∀ k, k < i → ms' k = ms k) := by
  intro d
  induction d with
  | zero =>
    intro i f ms h hf
    obtain ⟨f, rfl⟩ : ∃ z, f = z + 1 := ⟨f - 1, by omega⟩
    refine ⟨ms, ?_, fun k h1 h2 => absurd h2 (by omega), fun k _ => rfl⟩
    show B_X6_keep_10 _ _ _ _ _ = _
    unfold B_X6_keep_10
    rw [c32_of 862, ile_t (by omega) (by omega), c32_of 1, c32_sub (by omega)]
  | succ d ih =>
    intro i f ms h hf
    obtain ⟨f, rfl⟩ : ∃ z, f = z + 1 := ⟨f - 1, by omega⟩
    obtain ⟨ms', k1, k2, k3⟩ := ih (i + 1) f (vp_updL ms i (ms (i + 431))) (by omega) (by omega)
    refine ⟨ms', ?_, fun k h1 h2 => ?_, fun k hk => ?_⟩
    · show B_X6_keep_10 _ _ _ _ _ = _
      unfold B_X6_keep_10
      simp only [nm]
      rw [c32_of 862, ile_f (by omega) (by omega), c32_of 431, c32_add, gin_c (by omega) (by omega), gin_c (by omega) (by omega), c32_nat (by omega), c32_nat (by omega), c32_of 1, c32_add]
      exact k1
    · by_cases e : k = i
      · rw [k3 k (by omega), e, updL_eq]
      · rw [k2 k (by omega) h2, updL_ne (by omega)]
    · rw [k3 k (by omega), updL_ne (by omega)]
theorem keepF {dp : Nat} (hd : dp ≤ 3) (m ms : Nat → Int64) : ∃ ms', F_X6_keep (c32 dp) m ms = some (c32 (dpS dp), ms') ∧ ∀ i, i < dpS dp → ∀ k, k < 431 → ms' (431 * i + k) = if i + 1 = dpS dp then m k else if dp = 3 then ms (431 * (i + 1) + k) else ms (431 * i + k) := by
  unfold F_X6_keep dpS
  by_cases h : dp = 3
  · subst h
    obtain ⟨m1, a1, a2, -⟩ := keep10 m 862 0 gFU ms rfl (by show 862 < 5000; omega)
    obtain ⟨m2, b1, b2, b3⟩ := keep51 (dp := 2) (by omega) m 431 0 gFU m1 rfl (by show 431 < 5000; omega)
    refine ⟨m2, ?_, fun i hi k hk => ?_⟩
    · rw [c32_of 3, ieq_t rfl, c32_of 0, a1]
      unfold F_X6_keep_49
      rw [c32_of 0, b1]
      rfl
    · rw [if_pos rfl] at hi ⊢
      by_cases h2 : i = 2
      · subst h2
        rw [if_pos rfl, b2 k (by omega) hk]
      · rw [if_neg (by omega), if_pos rfl, b3 _ (by omega), a2 _ (by omega) (by omega), show 431 * i + k + 431 = 431 * (i + 1) + k by omega]
  · obtain ⟨m2, b1, b2, b3⟩ := keep51 (dp := dp) (by omega) m 431 0 gFU ms rfl (by show 431 < 5000; omega)
    refine ⟨m2, ?_, fun i hi k hk => ?_⟩
    · rw [c32_of 3, ieq_f h (by omega) (by omega), if_neg h]
      unfold F_X6_keep_49
      rw [c32_of 0, b1]
    · rw [if_neg h] at hi ⊢
      by_cases h2 : i = dp
      · subst h2
        rw [if_pos rfl, b2 k (by omega) hk]
      · rw [if_neg (by omega), if_neg h, b3 _ (by omega)]
theorem savR_keep {dp : Nat} {Bs : Nat → gBt} {saved : Nat → Option Nat} {ms : Nat → Int64} (S : savR dp Bs saved ms) (a1 : Nat) {B : gBt} {m : Nat → Int64} (h : pgB B m) : ∃ ms', F_X6_keep (c32 dp) m ms = some (c32 (dpS dp), ms') ∧ savR (dpS dp) (bSh dp Bs B) (bSh dp saved (some a1)) ms' := by
  obtain ⟨hd, s1, s2⟩ := S
  obtain ⟨ms', k1, k2⟩ := keepF hd m ms
  refine ⟨ms', k1, by unfold dpS; split <;> omega, fun i hi => ?_, fun i hi => ?_⟩
  · rw [bSh_at hd _ _ hi]
    by_cases h1 : i + 1 = dpS dp
    · rw [if_pos h1]; exact ⟨a1, rfl⟩
    · rw [if_neg h1]
      unfold dpS at hi h1
      by_cases h3 : dp = 3
      · rw [if_pos h3] at hi h1 ⊢; exact s1 _ (by omega)
      · rw [if_neg h3] at hi h1 ⊢; exact s1 _ (by omega)
  · have hk := k2 i hi
    rw [bSh_at hd _ _ hi]
    by_cases h1 : i + 1 = dpS dp
    · rw [if_pos h1]
      exact pgB_m h (fun k hk2 => by rw [hk k hk2, if_pos h1])
    · rw [if_neg h1]
      unfold dpS at hi h1
      by_cases h3 : dp = 3
      · rw [if_pos h3] at hi h1 ⊢
        exact pgB_m (s2 (i + 1) (by omega)) (fun k hk2 => by
          have := hk k hk2
          unfold dpS at this
          rw [if_pos h3, if_neg h1, if_pos h3] at this
          exact this)
      · rw [if_neg h3] at hi h1 ⊢
        exact pgB_m (s2 i (by omega)) (fun k hk2 => by
          have := hk k hk2
          unfold dpS at this
          rw [if_neg h3, if_neg h1, if_neg h3] at this
          exact this)
/-- a copy of a line -/
theorem copyF {n q : Nat} (hn : n ≤ 8) (hq : q ≤ 4) (front least vw : Int32) (lens fracs tms ens : Nat → Int32) : ∃ l f t e, F_X2_copy (c32 n) (c32 q) front least vw lens fracs tms ens = some (c32 n, c32 q, front, least, vw, l, f, t, e) ∧ (∀ k, k < n → l k = lens k) ∧ (∀ k, k < n → f k = fracs k) ∧ (∀ k, k < q → t k = tms k) ∧ (∀ k, k < q → e k = ens k) := by
  refine ⟨va_cpy lens (fun _ => 0) 0 0 n, va_cpy fracs (fun _ => 0) 0 0 n, va_cpy tms (fun _ => 0) 0 0 q, va_cpy ens (fun _ => 0) 0 0 q, ?_, fun k hk => cpy0 _ _ hk, fun k hk => cpy0 _ _ hk, fun k hk => cpy0 _ _ hk, fun k hk => cpy0 _ _ hk⟩
  have h3 : F_X3_copy (c32 n) (c32 q) front least vw lens fracs tms ens = some (c32 n, c32 q, front, least, vw, va_cpy lens (fun _ => 0) 0 0 n, va_cpy fracs (fun _ => 0) 0 0 n, va_cpy tms (fun _ => 0) 0 0 q, va_cpy ens (fun _ => 0) 0 0 q) := by
    unfold F_X3_copy F_X3_init F_X3_setBench
    simp only [bd6, bd3, Option.bind_some]
    rw [c32_of 0, gcp_c (by omega) (by omega) (by omega) (by omega), gcp_c (by omega) (by omega) (by omega) (by omega), gcp_c (by omega) (by omega) (by omega) (by omega), gcp_c (by omega) (by omega) (by omega) (by omega), c32_nat (by omega), c32_nat (by omega), c32_nat (by omega)]
  unfold F_X2_copy
  rw [h3, show F_X2_init = some (0, 1, 0, 1, 100, fun _ => 0, fun _ => 0, upd (fun _ => 0) 0 0, upd (fun _ => 0) 0 100000, fun _ => 0, fun _ => 0) from rfl]
  rfl
theorem pgR_copy {n q w : Nat} {len : Nat → Nat} {lens fracs tms ens : Nat → Int32} {front least : Int32} {snd obs m : Nat → Int64} (R : pgR n q w len lens fracs tms ens front least snd obs m) : ∃ l f t e, F_X2_copy (c32 n) (c32 q) front least (c32 w) lens fracs tms ens = some (c32 n, c32 q, front, least, c32 w, l, f, t, e) ∧ pgR n q w len l f t e front least snd obs m := by
  obtain ⟨l, f, t, e, h, h1, h2, h3, h4⟩ := copyF R.1 R.2.2.1 front least (c32 w) lens fracs tms ens
  exact ⟨l, f, t, e, h, pgR_congr R h1 h2 h3 h4 (fun _ _ => rfl) (fun _ _ => rfl) (fun _ _ => rfl)⟩
