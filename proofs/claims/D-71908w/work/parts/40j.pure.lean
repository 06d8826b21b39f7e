/-! the pure law, text J -/
set_option maxRecDepth 100000
/-! P9: faults -/
theorem le32_64 (x : Int32) {a : Nat} (h : a < 2147483648) : (x.toInt64 ≤ c64 a) ↔ (x ≤ c32 a) := by
  rw [Int64.le_iff_toInt_le, Int32.le_iff_toInt_le, Int32.toInt_toInt64, c64_toInt (by omega), c32_toInt h]
theorem lt64_32 (x : Int32) {a : Nat} (h : a < 2147483648) : (c64 a < x.toInt64) ↔ (c32 a < x) := by
  rw [Int64.lt_iff_toInt_lt, Int32.lt_iff_toInt_lt, Int32.toInt_toInt64, c64_toInt (by omega), c32_toInt h]
theorem lt32_64 (x : Int32) {a : Nat} (h : a < 2147483648) : (x.toInt64 < c64 a) ↔ (x < c32 a) := by
  rw [Int64.lt_iff_toInt_lt, Int32.lt_iff_toInt_lt, Int32.toInt_toInt64, c64_toInt (by omega), c32_toInt h]
def er : Nat → (Nat → Int32) → Int32
  | 0, f => f 0
  | k + 1, f => if f (k + 1) < er k f then f (k + 1) else er k f
theorem er_congr {f g : Nat → Int32} : ∀ {n : Nat}, (∀ i, i ≤ n → f i = g i) → er n f = er n g
  | 0, h => h 0 (by omega)
  | n + 1, h => by rw [er, er, er_congr (fun i hi => h i (by omega)), h (n + 1) (by omega)]
section PG
variable {n q w : Nat} {len : Nat → Nat} {lens fracs tms ens : Nat → Int32} {front least : Int32} {snd obs m : Nat → Int64} {ml mf mt : Nat → Int32} {me : Nat → Int64} {br aw : Int64} {fn ff ech far near ech2 : Nat → Int64}
theorem earlC {q : Nat} (hq : q ≤ 3) (tms : Nat → Int32) : ∀ (d i f : Nat), i + d = q → d < f → F_X3_earliest_9 f (er i tms) (c32 (i + 1)) (c32 (q + 1)) tms = some (er q tms) := by
  intro d
  induction d with
  | zero =>
    intro i f h hf
    obtain ⟨f, rfl⟩ : ∃ z, f = z + 1 := ⟨f - 1, by omega⟩
    show B_X3_earliest_9 _ _ _ _ _ = _
    unfold B_X3_earliest_9
    rw [ile_t (by omega) (by omega), show i = q by omega]
  | succ d ih =>
    intro i f h hf
    obtain ⟨f, rfl⟩ : ∃ z, f = z + 1 := ⟨f - 1, by omega⟩
    show B_X3_earliest_9 _ _ _ _ _ = _
    unfold B_X3_earliest_9
    rw [ile_f (by omega) (by omega), gin_c (by omega) (by omega), c32_nat (by omega), c32_of 1, c32_add]
    exact ih (i + 1) f (by omega) (by omega)
theorem earlM {q : Nat} (hq : q ≤ 3) (tms : Nat → Int32) : ∀ (d i f : Nat), i + d = q → d < f → F_X6_earliest_9 f (c32 (q + 1)) tms (er i tms) (c32 (i + 1)) = some (er q tms) := by
  intro d
  induction d with
  | zero =>
    intro i f h hf
    obtain ⟨f, rfl⟩ : ∃ z, f = z + 1 := ⟨f - 1, by omega⟩
    show B_X6_earliest_9 _ _ _ _ _ = _
    unfold B_X6_earliest_9
    rw [ile_t (by omega) (by omega), show i = q by omega]
  | succ d ih =>
    intro i f h hf
    obtain ⟨f, rfl⟩ : ∃ z, f = z + 1 := ⟨f - 1, by omega⟩
    show B_X6_earliest_9 _ _ _ _ _ = _
    unfold B_X6_earliest_9 F_X6_earliest_37
    have h2 := ih (i + 1) f (by omega) (by omega)
    rw [er] at h2
    rw [ile_f (by omega) (by omega), gin_c (by omega) (by omega), gin_c (by omega) (by omega), c32_nat (by omega), c32_of 1, c32_add]
    by_cases hc : er i tms ≤ tms (i + 1)
    · rw [if_pos hc]
      rw [if_neg (by rw [Int32.lt_iff_toInt_lt]; rw [Int32.le_iff_toInt_le] at hc; omega)] at h2
      exact h2
    · rw [if_neg hc]
      rw [if_pos (by rw [Int32.lt_iff_toInt_lt]; rw [Int32.le_iff_toInt_le] at hc; omega)] at h2
      exact h2
theorem earliest_ok (h1 : 1 ≤ q) (hq : q ≤ 4) (hmt : ∀ k, k < q → mt k = tms k) : ∃ v, F_X3_earliest (c32 q) tms = some v ∧ F_X6_earliest (c32 q) mt = some v := by
  obtain ⟨q, rfl⟩ : ∃ z, q = z + 1 := ⟨q - 1, by omega⟩
  refine ⟨er q tms, ?_, ?_⟩
  · unfold F_X3_earliest
    simp only [nm]
    rw [c32_of 0, gin_c (by omega) (by omega), c32_nat (by omega), c32_of 1]
    exact earlC (by omega) tms q 0 gFU (by omega) (by show q < 5000; omega)
  · unfold F_X6_earliest
    simp only [nm]
    rw [c32_of 0, gin_c (by omega) (by omega), c32_nat (by omega), c32_of 1, ← er_congr (f := mt) (g := tms) (fun i hi => hmt i (by omega))]
    exact earlM (by omega) mt q 0 gFU (by omega) (by show q < 5000; omega)
theorem partOf_l (hn : n ≤ 8) (hl : ∀ k, k < n → lens k = c32 (len k) ∧ 1 ≤ len k ∧ len k ≤ 20) (h0 : m 0 = c64 n) (hL : ∀ k, k < n → m (1 + k) = (lens k).toInt64) (pl : Int32) : ∀ (d i f g : Nat), i + d = n → d < f → d < g → ∃ v, F_X3_partOf_2 f pl (c32 i) (c32 n) lens = some v ∧ F_X6_faultOf_100 g m pl (c32 i) = some v := by
  have hL2 : ∀ k, k < n → m (1 + k) = c64 (len k) := fun k hk => by
    have := hl k hk
    rw [hL k hk, this.1, c32_64 (by omega)]
  intro d
  induction d with
  | zero =>
    intro i f g h hf hg
    obtain ⟨f, rfl⟩ : ∃ z, f = z + 1 := ⟨f - 1, by omega⟩
    obtain ⟨g, rfl⟩ : ∃ z, g = z + 1 := ⟨g - 1, by omega⟩
    refine ⟨-1, ?_, ?_⟩
    · show B_X3_partOf_2 _ _ _ _ _ = _
      unfold B_X3_partOf_2
      rw [ile_t (by omega) (by omega)]
    · show B_X6_faultOf_100 _ _ _ _ = _
      unfold B_X6_faultOf_100
      rw [partsM h0]
      simp only [bd1_some]
      rw [ile_t (by omega) (by omega)]
  | succ d ih =>
    intro i f g h hf hg
    obtain ⟨f, rfl⟩ : ∃ z, f = z + 1 := ⟨f - 1, by omega⟩
    obtain ⟨g, rfl⟩ : ∃ z, g = z + 1 := ⟨g - 1, by omega⟩
    have hb := ls_le (f := len) (n := i + 1) (fun k hk => (hl k (by omega)).2.2)
    have hC : F_X3_partOf_2 (f + 1) pl (c32 i) (c32 n) lens = if pl ≤ c32 (2 * ls i len) then F_X3_partOf_2 f pl (c32 (i + 1)) (c32 n) lens else if c32 (2 * ls (i + 1) len) < pl then F_X3_partOf_2 f pl (c32 (i + 1)) (c32 n) lens else some (c32 i) := by
      show B_X3_partOf_2 _ _ _ _ _ = _
      unfold B_X3_partOf_2 F_X3_partOf_36
      rw [ile_f (by omega) (by omega), sumF (len := len) (by omega) (fun k hk => (hl k (by omega)).1), c32_of 1, c32_add, sumF (len := len) (by omega) (fun k hk => (hl k (by omega)).1)]
      simp only [bd1_some]
      rw [c32_of 2, c32_mul, c32_mul]
    have hM : F_X6_faultOf_100 (g + 1) m pl (c32 i) = if pl ≤ c32 (2 * ls i len) then F_X6_faultOf_100 g m pl (c32 (i + 1)) else if c32 (2 * ls (i + 1) len) < pl then F_X6_faultOf_100 g m pl (c32 (i + 1)) else some (c32 i) := by
      show B_X6_faultOf_100 _ _ _ _ = _
      unfold B_X6_faultOf_100 F_X6_faultOf_151
      rw [partsM h0]
      simp only [bd1_some]
      rw [ile_f (by omega) (by omega), upToF (len := len) (by omega) (fun k hk => hL2 k (by omega))]
      simp only [bd1_some]
      rw [c32_of 1, c32_add, gin_c (by omega) (by omega), c32_nat (by omega), hL2 i (by omega), c32_64 (by omega), c64_sub (by rw [ls]; omega), show ls (i + 1) len - len i = ls i len by rw [ls]; omega, c64_of 2, c64_mul, c32_of 2, c32_mul, c32_add]
      have hbi : 2 * ls i len < 2147483648 := by rw [ls] at hb; omega
      by_cases hc : pl ≤ c32 (2 * ls i len)
      · rw [if_pos hc, if_pos ((le32_64 pl hbi).mpr hc)]
      · rw [if_neg hc, if_neg (fun z => hc ((le32_64 pl hbi).mp z))]
    rw [hC, hM]
    split
    · exact ih (i + 1) f g (by omega) (by omega) (by omega)
    · split
      · exact ih (i + 1) f g (by omega) (by omega) (by omega)
      · exact ⟨_, rfl, rfl⟩
theorem faultM2 (hw : w ≤ 200) (h19 : m 19 = c64 w) (hS : ∀ t, t < 201 → m (29 + t) = snd t) (pm : Int32) (mt : Nat → Int32) (ech : Nat → Int64) (x1 : Int32) : ∀ (d i f : Nat), i + d = w + 1 → d < f → F_X6_faultOf_2 f pm m mt ech x1 (c32 i) = F_X6_faultOf_35 pm m mt ech x1 (c32 (fd d i ech snd)) := by
  intro d
  induction d with
  | zero =>
    intro i f h hf
    obtain ⟨f, rfl⟩ : ∃ z, f = z + 1 := ⟨f - 1, by omega⟩
    show B_X6_faultOf_2 _ _ _ _ _ _ _ = _
    unfold B_X6_faultOf_2
    rw [windowM h19]
    simp only [bd1_some]
    rw [ilt_t (by omega) (by omega), fd]
  | succ d ih =>
    intro i f h hf
    obtain ⟨f, rfl⟩ : ∃ z, f = z + 1 := ⟨f - 1, by omega⟩
    show B_X6_faultOf_2 _ _ _ _ _ _ _ = _
    unfold B_X6_faultOf_2
    rw [windowM h19]
    simp only [bd1_some]
    rw [ilt_f (by omega) (by omega), gin_c (by omega) (by omega), c32_of 29, c32_add, gin_c (by omega) (by omega), c32_nat (by omega), c32_nat (by omega), hS i (by omega), fd]
    by_cases e : ech i = snd i
    · rw [if_pos e, if_pos e, c32_of 1, c32_add]
      exact ih (i + 1) f (by omega) (by omega)
    · rw [if_neg e, if_neg e]
theorem c32_ne1 {a : Nat} (h : a < 2147483648) : ¬ c32 a = -1 := by
  intro e
  have := congrArg Int32.toInt e
  rw [c32_toInt h, show (-1 : Int32).toInt = -1 from rfl] at this
  omega
/-- A FAULT: what the system says behind a run, and the reference -/
theorem fault_ok (R : pgR n q w len lens fracs tms ens front least snd obs m) (N : ranR n q w len lens fracs tms ens front least m ml mf mt me br aw fn ff ech far near ech2) (left dr : Int64) (mgg dc : Int32) {x : Nat} (hx : x ≤ 3) : ∃ v, (∀ fn0 ff0 ec0, F_X5_run fn0 ff0 ec0 (c32 n) (c32 q) front least (c32 w) lens fracs tms ens = some (br, left, dr, aw, mgg, dc, fn, ff, ech) → F_X2_fault fn0 ff0 ec0 (c32 n) (c32 q) front least (c32 w) lens fracs tms ens snd (c32 x) = some (v, br, left, dr, aw, mgg, dc, fn, ff, ech)) ∧ F_X6_faultOf (c32 q) m mt ech2 (c32 x) = some v := by
  obtain ⟨hn, hq1, hq, hw1, hw, hl, hen, htm, h0, h17, h18, h19, h20, hL, hF, hT, hE, hS, hO⟩ := R
  obtain ⟨L, -, hEE, -, -⟩ := N
  have hmt : ∀ k, k < q → mt k = tms k := L.2.2.2.2.2.2.2.1
  have hfd : fd (w + 1) 0 ech snd = fd (w + 1) 0 ech2 snd := fd_congr _ _ (fun k hk => hEE k (by omega)) (fun k hk => rfl)
  have hM := faultM2 hw h19 hS (c32 q) mt ech2 (c32 x) (w + 1) 0 gFU (by omega) (by show w + 1 < 5000; omega)
  rw [← hfd] at hM
  have hC := firstDiffC hw ech snd (w + 1) 0 gFU (by omega) (by show w + 1 < 5000; omega)
  have hle := fd_le (f := ech) (g := snd) (w + 1) 0
  obtain ⟨er, he1, he2⟩ := earliest_ok (tms := tms) (mt := mt) hq1 hq hmt
  generalize fd (w + 1) 0 ech snd = t at hM hC hle
  unfold F_X6_faultOf
  rw [c32_of 0, hM]
  unfold F_X6_faultOf_35
  rw [windowM h19]
  simp only [bd1_some]
  by_cases ht : t ≤ w
  · rw [if_pos ht] at hC
    rw [ile_t ht (by omega), he2]
    simp only [bd1_some]
    have hpre : ∀ fn0 ff0 ec0, F_X5_run fn0 ff0 ec0 (c32 n) (c32 q) front least (c32 w) lens fracs tms ens = some (br, left, dr, aw, mgg, dc, fn, ff, ech) → F_X2_fault fn0 ff0 ec0 (c32 n) (c32 q) front least (c32 w) lens fracs tms ens snd (c32 x) = (if c32 x = 0 then some (c32 t, br, left, dr, aw, mgg, dc, fn, ff, ech) else if c32 x = 1 then some (c32 t - er, br, left, dr, aw, mgg, dc, fn, ff, ech) else if c32 x = 2 then bd1 (F_X3_partOf (c32 n) lens (c32 t - er)) fun r12 => some (r12, br, left, dr, aw, mgg, dc, fn, ff, ech) else some ((if ech t ≤ snd t then -1 else 1), br, left, dr, aw, mgg, dc, fn, ff, ech)) := by
      intro fn0 ff0 ec0 hr
      unfold F_X2_fault
      rw [hr]
      simp only [bd9, Option.bind_some]
      unfold F_X7_firstDifference
      rw [c32_of 0, hC, he1, ← c32_of 0]
      simp only [bd1_some]
      rw [if_neg (c32_ne1 (by omega)), atE (by omega), atK (by omega)]
      rfl
    obtain ⟨v, hv1, hv2⟩ := partOf_l hn hl h0 hL (c32 t - er) n 0 gFU gFU (by omega) (by show n < 5000; omega) (by show n < 5000; omega)
    rcases (show x = 0 ∨ x = 1 ∨ x = 2 ∨ x = 3 by omega) with rfl | rfl | rfl | rfl
    · exact ⟨c32 t, fun fn0 ff0 ec0 hr => by rw [hpre fn0 ff0 ec0 hr, if_pos (by decide)], by rw [if_neg (by decide), if_pos (by decide)]⟩
    · exact ⟨c32 t - er, fun fn0 ff0 ec0 hr => by rw [hpre fn0 ff0 ec0 hr, if_neg (by decide), if_pos (by decide)], by rw [if_neg (by decide), if_neg (by decide)]⟩
    · refine ⟨v, fun fn0 ff0 ec0 hr => ?_, ?_⟩
      · rw [hpre fn0 ff0 ec0 hr, if_neg (by decide), if_neg (by decide), if_pos (by decide)]
        unfold F_X3_partOf
        rw [c32_of 0, hv1]
        rfl
      · rw [if_pos (by decide), if_neg (by decide)]
        exact hv2
    · refine ⟨if ech t ≤ snd t then -1 else 1, fun fn0 ff0 ec0 hr => ?_, ?_⟩
      · rw [hpre fn0 ff0 ec0 hr, if_neg (by decide), if_neg (by decide), if_neg (by decide)]
      · rw [if_pos (by decide), if_pos (by decide), gin_c (by omega) (by omega), c32_of 29, c32_add, gin_c (by omega) (by omega), c32_nat (by omega), c32_nat (by omega), hS t (by omega), ← hEE t (by omega)]
  · rw [if_neg ht] at hC
    rw [ile_f (by omega) (by omega)]
    refine ⟨-1, fun fn0 ff0 ec0 hr => ?_, rfl⟩
    unfold F_X2_fault
    rw [hr]
    simp only [bd9, Option.bind_some]
    unfold F_X7_firstDifference
    rw [c32_of 0, hC]
    simp only [bd1_some]
    rw [if_pos trivial]
end PG
