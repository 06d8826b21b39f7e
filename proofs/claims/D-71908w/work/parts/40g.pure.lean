/-! the pure law, text G -/
set_option maxRecDepth 100000
/-! P6: the page of the reference and the bench of the system -/
theorem upd_ne {f : Nat → Int32} {k j : Nat} {x : Int32} (h : j ≠ k) : upd f k x j = f j := by simp [upd, h]
theorem upd_eq {f : Nat → Int32} {k : Nat} {x : Int32} : upd f k x k = x := by simp [upd]
def pgR (n q w : Nat) (len : Nat → Nat) (lens fracs tms ens : Nat → Int32) (front least : Int32) (snd obs : Nat → Int64) (m : Nat → Int64) : Prop :=
  n ≤ 8 ∧ 1 ≤ q ∧ q ≤ 4 ∧ 1 ≤ w ∧ w ≤ 200 ∧ (∀ k, k < n → lens k = c32 (len k) ∧ 1 ≤ len k ∧ len k ≤ 20) ∧ (∀ k, k < q → ¬ (ens k).toInt64 ≤ 0) ∧ (∀ k, k < q → ∃ a, a ≤ 100 ∧ tms k = c32 a) ∧
  m 0 = c64 n ∧ m 17 = front.toInt64 ∧ m 18 = least.toInt64 ∧ m 19 = c64 w ∧ m 20 = c64 q ∧ (∀ k, k < n → m (1 + k) = (lens k).toInt64) ∧ (∀ k, k < n → m (9 + k) = (fracs k).toInt64) ∧ (∀ k, k < q → m (21 + 2 * k) = (tms k).toInt64) ∧ (∀ k, k < q → m (21 + 2 * k + 1) = (ens k).toInt64) ∧ (∀ t, t < 201 → m (29 + t) = snd t) ∧ (∀ t, t < 201 → m (230 + t) = obs t) ∧ (∀ k, k < n → ¬ fracs k < 0)
theorem partsM {m : Nat → Int64} {n : Nat} (h : m 0 = c64 n) : F_X6_parts m = some (c32 n) := by
  unfold F_X6_parts
  rw [c32_of 0, gin_c (by omega) (by omega), c32_nat (by omega), h, c64_32]
section PG
variable {n q w : Nat} {len : Nat → Nat} {lens fracs tms ens : Nat → Int32} {front least : Int32} {snd obs m : Nat → Int64}
theorem present_q (R : pgR n q w len lens fracs tms ens front least snd obs m) (far near ech : Nat → Int64) (ml mf : Nat → Int32) : ∀ (d i f : Nat) (mt : Nat → Int32) (me : Nat → Int64), i + d = q → d < f → (∀ k, k < i → mt k = tms k) → (∀ k, k < i → me k = (ens k).toInt64) → ∃ mt' me', (∀ k, k < q → mt' k = tms k) ∧ (∀ k, k < q → me' k = (ens k).toInt64) ∧
    F_X6_runPresent_85 f (c32 n) (c32 q) m ml mf mt me far near ech (c32 i) = bd9 (F_X6_runLine (c32 n) (c32 q) m ml mf mt' me' far near ech) fun a b c d e f g h i => some (c32 n, c32 q, a, b, c, d, e, f, ml, mf, mt', me', g, h, i) := by
  obtain ⟨hn, hq1, hq, hw1, hw, hl, hen, htm, h0, h17, h18, h19, h20, hL, hF, hT, hE, hS, hO⟩ := R
  intro d
  induction d with
  | zero =>
    intro i f mt me h hf h1 h2
    obtain ⟨f, rfl⟩ : ∃ z, f = z + 1 := ⟨f - 1, by omega⟩
    have : i = q := by omega
    subst this
    refine ⟨mt, me, h1, h2, ?_⟩
    show B_X6_runPresent_85 _ _ _ _ _ _ _ _ _ _ _ _ = _
    unfold B_X6_runPresent_85
    rw [ile_t (by omega) (by omega)]
  | succ d ih =>
    intro i f mt me h hf h1 h2
    obtain ⟨f, rfl⟩ : ∃ z, f = z + 1 := ⟨f - 1, by omega⟩
    obtain ⟨mt', me', k1, k2, k3⟩ := ih (i + 1) f (upd mt i (tms i)) (vp_updL me i ((ens i).toInt64)) (by omega) (by omega) (fun k hk => by
      by_cases e : k = i
      · rw [e, upd_eq]
      · rw [upd_ne e, h1 k (by omega)]) (fun k hk => by
      by_cases e : k = i
      · rw [e, updL_eq]
      · rw [updL_ne e, h2 k (by omega)])
    refine ⟨mt', me', k1, k2, ?_⟩
    show B_X6_runPresent_85 _ _ _ _ _ _ _ _ _ _ _ _ = _
    unfold B_X6_runPresent_85
    simp only [nm]
    rw [ile_f (by omega) (by omega), c32_of 2, c32_mul, c32_of 21, c32_add, gin_c (by omega) (by omega), gin_c (by omega) (by omega), c32_of 1, c32_add, gin_c (by omega) (by omega), gin_c (by omega) (by omega), c32_nat (by omega), c32_nat (by omega), c32_nat (by omega), hT i (by omega), hE i (by omega), i64_32, c32_add]
    exact k3
theorem present_n (R : pgR n q w len lens fracs tms ens front least snd obs m) (far near ech : Nat → Int64) (mt : Nat → Int32) (me : Nat → Int64) : ∀ (d i f : Nat) (ml mf : Nat → Int32), i + d = n → d < f → (∀ k, k < i → ml k = lens k) → mf 0 = front → (∀ k, k < i → mf (k + 1) = fracs k) → ∃ ml' mf', (∀ k, k < n → ml' k = lens k) ∧ mf' 0 = front ∧ (∀ k, k < n → mf' (k + 1) = fracs k) ∧
    F_X6_runPresent_24 f (c32 n) m ml mf mt me far near ech (c32 i) = F_X6_runPresent_85 gFU (c32 n) (c32 q) m ml' mf' mt me far near ech (c32 0) := by
  obtain ⟨hn, hq1, hq, hw1, hw, hl, hen, htm, h0, h17, h18, h19, h20, hL, hF, hT, hE, hS, hO⟩ := R
  intro d
  induction d with
  | zero =>
    intro i f ml mf h hf h1 h2 h3
    obtain ⟨f, rfl⟩ : ∃ z, f = z + 1 := ⟨f - 1, by omega⟩
    have : i = n := by omega
    subst this
    refine ⟨ml, mf, h1, h2, h3, ?_⟩
    show B_X6_runPresent_24 _ _ _ _ _ _ _ _ _ _ _ = _
    unfold B_X6_runPresent_24
    simp only [nm]
    rw [ile_t (by omega) (by omega), c32_of 20, gin_c (by omega) (by omega), c32_nat (by omega), h20, c64_32, c32_of 0]
  | succ d ih =>
    intro i f ml mf h hf h1 h2 h3
    obtain ⟨f, rfl⟩ : ∃ z, f = z + 1 := ⟨f - 1, by omega⟩
    obtain ⟨ml', mf', k1, k2, k3, k4⟩ := ih (i + 1) f (upd ml i (lens i)) (upd mf (i + 1) (fracs i)) (by omega) (by omega) (fun k hk => by
      by_cases e : k = i
      · rw [e, upd_eq]
      · rw [upd_ne e, h1 k (by omega)]) (by rw [upd_ne (by omega), h2]) (fun k hk => by
      by_cases e : k = i
      · rw [e, upd_eq]
      · rw [upd_ne (by omega), h3 k (by omega)])
    refine ⟨ml', mf', k1, k2, k3, ?_⟩
    show B_X6_runPresent_24 _ _ _ _ _ _ _ _ _ _ _ = _
    unfold B_X6_runPresent_24
    simp only [nm]
    rw [ile_f (by omega) (by omega), c32_of 1, c32_add, gin_c (by omega) (by omega), gin_c (by omega) (by omega), c32_of 9, c32_add, gin_c (by omega) (by omega), c32_add, gin_c (by omega) (by omega), c32_nat (by omega), c32_nat (by omega), c32_nat (by omega), c32_nat (by omega), hL i (by omega), hF i (by omega), i64_32, i64_32]
    exact k4
/-- what both sides hold behind a run -/
def ranR (n q w : Nat) (len : Nat → Nat) (lens fracs tms ens : Nat → Int32) (front least : Int32) (m : Nat → Int64) (ml mf mt : Nat → Int32) (me : Nat → Int64) (br aw : Int64) (fn ff ech far near ech2 : Nat → Int64) : Prop :=
  lnR n q w len lens fracs tms ens front least m ml mf mt me ∧ rI n w len (fun _ => w + 1) (fun _ => w + 1) fn ff far near aw ∧ (∀ k, k < 201 → ech k = ech2 k) ∧ (∀ k, w + 1 ≤ k → k < 201 → ech2 k = 0) ∧ br = sg (w + 1) (pulS q mt me)
theorem present_ok (R : pgR n q w len lens fracs tms ens front least snd obs m) (fn0 ff0 ec0 far0 near0 ech0 : Nat → Int64) (ml0 mf0 mt0 : Nat → Int32) (me0 : Nat → Int64) : ∃ ml mf mt me br left dr aw mgg dc fn ff ech far near ech2,
    F_X5_run fn0 ff0 ec0 (c32 n) (c32 q) front least (c32 w) lens fracs tms ens = some (br, left, dr, aw, mgg, dc, fn, ff, ech) ∧
    F_X6_runPresent m ml0 mf0 mt0 me0 far0 near0 ech0 = some (c32 n, c32 q, left, dr, mgg, dc, 0, 0, ml, mf, mt, me, far, near, ech2) ∧
    ranR n q w len lens fracs tms ens front least m ml mf mt me br aw fn ff ech far near ech2 := by
  have R0 := R
  obtain ⟨hn, hq1, hq, hw1, hw, hl, hen, htm, h0, h17, h18, h19, h20, hL, hF, hT, hE, hS, hO⟩ := R0
  obtain ⟨ml, mf, a1, a2, a3, a4⟩ := present_n R far0 near0 ech0 mt0 me0 n 0 gFU ml0 (upd mf0 0 front) (by omega) (by show n < 5000; omega) (fun k hk => absurd hk (by omega)) upd_eq (fun k hk => absurd hk (by omega))
  obtain ⟨mt, me, b1, b2, b3⟩ := present_q R far0 near0 ech0 ml mf q 0 gFU mt0 me0 (by omega) (by show q < 5000; omega) (fun k hk => absurd hk (by omega)) (fun k hk => absurd hk (by omega))
  have L : lnR n q w len lens fracs tms ens front least m ml mf mt me := ⟨hn, hq, hw, hl, a1, a2, a3, b1, b2, hen, h18, h19⟩
  obtain ⟨br, left, dr, aw, mgg, dc, fn, ff, ech, far, near, ech2, e1, e2, e3, e4, e5, e6⟩ := run_ok L fn0 ff0 ec0 far0 near0 ech0
  refine ⟨ml, mf, mt, me, br, left, dr, aw, mgg, dc, fn, ff, ech, far, near, ech2, e1, ?_, L, e3, e4, e5, e6⟩
  unfold F_X6_runPresent
  rw [partsM h0]
  simp only [bd1_some, nm]
  rw [c32_of 17, gin_c (by omega) (by omega), c32_nat (by omega), h17, i64_32, c32_of 0, gin_c (by omega) (by omega), c32_nat (by omega), a4, b3, e2]
  rfl
end PG
