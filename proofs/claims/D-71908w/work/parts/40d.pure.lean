/-! the pure law, text D -/
set_option maxRecDepth 100000
/-! P3: one step of time on both sides -/
theorem setOutF (d aw : Int64) (mgg dr : Int32) (fn ff : Nat → Int64) (least : Int32) (w : Nat) (lens : Nat → Int32) {p t lp : Nat} (e : Int64) (many : Int32) (hp : p < 8) (hl : lens p = c32 lp) (hb : lp ≤ 20) (ht : t ≤ w) (hw : w ≤ 200) : F_X5_setOut d aw mgg dr fn ff least (c32 w) lens (c32 p) 1 (c32 t) e many = some (d + sdd least.toInt64 e, (if t + lp ≤ w then aw else aw + sd least.toInt64 e), mgg + mg many, dr + sdc least.toInt64 e, (if t + lp ≤ w then (if sd least.toInt64 e = e then vp_updL fn (201 * (p + 1) + (t + lp)) e else fn) else fn), ff) := by
  have h63 : ∀ (mgg dr : Int32), F_X5_setOut_63 d aw mgg dr fn ff (c32 p) 1 (c32 t) e (c32 w) lens = some (d, (if t + lp ≤ w then aw else aw + e), mgg, dr, (if t + lp ≤ w then vp_updL fn (201 * (p + 1) + (t + lp)) e else fn), ff) := by
    intro mgg dr
    unfold F_X5_setOut_63 F_X5_setOut_141
    rw [gin_c (by omega) (by omega), c32_nat (by omega), hl]
    simp only [nm, c32_add]
    by_cases h : t + lp ≤ w
    · rw [ile_t h (by omega), if_neg (by decide), c32_of 1, c32_add, c32_of 201, c32_mul, c32_add, gin_c (by omega) (by omega), c32_nat (by omega), if_pos h, if_pos h]
    · rw [ile_f (by omega) (by omega), if_neg h, if_neg h]
  unfold F_X5_setOut sd sdd sdc mg
  simp only [nm, h63]
  by_cases h1 : e ≤ 0
  · simp [h1]
  · rw [if_neg h1]
    by_cases h2 : least.toInt64 ≤ e
    · simp [h1, h2]
    · have h3 : ¬ (0 : Int64) = e := fun h => h1 (by rw [← h]; decide)
      simp [h1, h2, h3]
theorem setOutN (d aw : Int64) (mgg dr : Int32) (fn ff : Nat → Int64) (least : Int32) (w : Nat) (lens : Nat → Int32) {p t lp : Nat} (e : Int64) (many : Int32) (hp : p < 8) (hl : lens p = c32 lp) (hb : lp ≤ 20) (ht : t ≤ w) (hw : w ≤ 200) : F_X5_setOut d aw mgg dr fn ff least (c32 w) lens (c32 p) 0 (c32 t) e many = some (d + sdd least.toInt64 e, (if t + lp ≤ w then aw else aw + sd least.toInt64 e), mgg + mg many, dr + sdc least.toInt64 e, fn, (if t + lp ≤ w then (if sd least.toInt64 e = e then vp_updL ff (201 * p + (t + lp)) e else ff) else ff)) := by
  have h63 : ∀ (mgg dr : Int32), F_X5_setOut_63 d aw mgg dr fn ff (c32 p) 0 (c32 t) e (c32 w) lens = some (d, (if t + lp ≤ w then aw else aw + e), mgg, dr, fn, (if t + lp ≤ w then vp_updL ff (201 * p + (t + lp)) e else ff)) := by
    intro mgg dr
    unfold F_X5_setOut_63 F_X5_setOut_141
    rw [gin_c (by omega) (by omega), c32_nat (by omega), hl]
    simp only [nm, c32_add]
    by_cases h : t + lp ≤ w
    · rw [ile_t h (by omega), if_pos trivial, c32_of 201, c32_mul, c32_add, gin_c (by omega) (by omega), c32_nat (by omega), if_pos h, if_pos h]
    · rw [ile_f (by omega) (by omega), if_neg h, if_neg h]
  unfold F_X5_setOut sd sdd sdc mg
  simp only [nm, h63]
  by_cases h1 : e ≤ 0
  · simp [h1]
  · rw [if_neg h1]
    by_cases h2 : least.toInt64 ≤ e
    · simp [h1, h2]
    · have h3 : ¬ (0 : Int64) = e := fun h => h1 (by rw [← h]; decide)
      simp [h1, h2, h3]
/-- the line of a run, on both sides -/
def lnR (n q w : Nat) (len : Nat → Nat) (lens fracs tms ens : Nat → Int32) (front least : Int32) (m : Nat → Int64) (mlens mfracs mtms : Nat → Int32) (mens : Nat → Int64) : Prop :=
  n ≤ 8 ∧ q ≤ 4 ∧ w ≤ 200 ∧ (∀ k, k < n → lens k = c32 (len k) ∧ 1 ≤ len k ∧ len k ≤ 20) ∧ (∀ k, k < n → mlens k = lens k) ∧ mfracs 0 = front ∧ (∀ k, k < n → mfracs (k + 1) = fracs k) ∧ (∀ k, k < q → mtms k = tms k) ∧ (∀ k, k < q → mens k = (ens k).toInt64) ∧ (∀ k, k < q → ¬ (ens k).toInt64 ≤ 0) ∧ m 18 = least.toInt64 ∧ m 19 = c64 w
section RUN
variable {n q w : Nat} {len : Nat → Nat} {lens fracs tms ens : Nat → Int32} {front least : Int32} {m : Nat → Int64} {mlens mfracs mtms : Nat → Int32} {mens : Nat → Int64}
theorem arv_near {P Q : Nat → Nat} {fn ff far near : Nat → Int64} {aw : Int64} (h : rI n w len P Q fn ff far near aw) (hl : ∀ k, k < n → 1 ≤ len k) {j t : Nat} (hj : j ≤ n) (ht : t ≤ w) (hP : ∀ p, p < n → p < j → t ≤ P p) : arv n len far near j t false = fn (201 * j + t) := by
  obtain ⟨h0, h1, h2, h3, h4, h5⟩ := h
  unfold arv
  rw [if_neg (by decide)]
  cases j with
  | zero =>
    rw [if_neg (by omega), show 201 * 0 + t = t by omega, h3 t ht]
  | succ p =>
    rw [h1 p (by omega) t ht]
    have e1 := hP p (by omega) (by omega)
    have e2 := hl p (by omega)
    show (if 1 ≤ p + 1 ∧ p < n ∧ len p ≤ t then far (201 * p + (t - len p)) else 0) = _
    by_cases hc : len p ≤ t
    · rw [if_pos (by omega), if_pos (by omega)]
    · rw [if_neg (by omega), if_neg (by omega)]
theorem arv_far {P Q : Nat → Nat} {fn ff far near : Nat → Int64} {aw : Int64} (h : rI n w len P Q fn ff far near aw) (hl : ∀ k, k < n → 1 ≤ len k) {j t : Nat} (hj : j ≤ n) (ht : t ≤ w) (hQ : j < n → t ≤ Q j) : arv n len far near j t true = ff (201 * j + t) := by
  obtain ⟨h0, h1, h2, h3, h4, h5⟩ := h
  unfold arv
  rw [if_pos rfl]
  by_cases hjn : j = n
  · subst hjn
    rw [if_neg (by omega), h4 t ht]
  · rw [h2 j (by omega) t ht]
    have e1 := hQ (by omega)
    have e2 := hl j (by omega)
    by_cases hc : len j ≤ t
    · rw [if_pos (by omega), if_pos (by omega)]
    · rw [if_neg (by omega), if_neg (by omega)]
theorem rI_congr {P Q P' Q' : Nat → Nat} {fn ff far near : Nat → Int64} {aw : Int64} (h : rI n w len P Q fn ff far near aw) (hP : ∀ p, p < n → P p = P' p) (hQ : ∀ p, p < n → Q p = Q' p) : rI n w len P' Q' fn ff far near aw := by
  obtain ⟨h0, h1, h2, h3, h4, h5⟩ := h
  refine ⟨fun p hp => ?_, fun p hp a ha => ?_, fun p hp a ha => ?_, h3, h4, ?_⟩
  · rw [← hP p hp, ← hQ p hp]; exact h0 p hp
  · rw [← hP p hp]; exact h1 p hp a ha
  · rw [← hQ p hp]; exact h2 p hp a ha
  · rw [h5]
    refine sg_congr fun p hp => ?_
    rw [hP p hp, hQ p hp]
theorem tu_zero (f : Int32) : tu 0 f = 0 := by
  unfold tu
  rw [Int64.zero_mul]
  decide
theorem backM (fr : Nat → Int32) {e : Int64} {j : Nat} (hj : j < 9) : F_X6_back fr e (c32 j) = some (tu e (fr j)) := by
  unfold F_X6_back tu
  rw [gin_c (by omega) (by omega), c32_nat (by omega)]
theorem turnedC (e : Int64) (f : Int32) : F_X7_turned e f = some (tu e f) := rfl
theorem c0a (x : Int32) : 0 + x = x := Int32.zero_add x
theorem l0a (x : Int64) : 0 + x = x := Int64.zero_add x
/-- a joint behind the front, in the reference -/
theorem runAt_j (L : lnR n q w len lens fracs tms ens front least m mlens mfracs mtms mens) {j t : Nat} (h1 : 1 ≤ j) (hj : j ≤ n) (ht : t ≤ w) (left dr : Int64) (mgg dc : Int32) (far near ech : Nat → Int64) (a b : Int64) (ha : arv n len far near j t false = a) (hb : arv n len far near j t true = b) : F_X6_runAt (c32 n) (c32 q) left dr mgg dc 0 0 m mlens mfracs mtms mens far near ech (c32 j) (c32 t) =
    if j = n then some (left + (a - tu a (mfracs j)), dr + sdd least.toInt64 (tu a (mfracs j) + (b - tu b (mfracs j))), mgg + mg (ps (tu a (mfracs j)) + ps (b - tu b (mfracs j))), dc + sdc least.toInt64 (tu a (mfracs j) + (b - tu b (mfracs j))), 0, 0, far, vp_updL near (201 * j + t) (sd least.toInt64 (tu a (mfracs j) + (b - tu b (mfracs j)))), ech)
    else some (left, dr + sdd least.toInt64 (tu b (mfracs j) + (a - tu a (mfracs j))) + sdd least.toInt64 (tu a (mfracs j) + (b - tu b (mfracs j))), mgg + mg (ps (tu b (mfracs j)) + ps (a - tu a (mfracs j))) + mg (ps (tu a (mfracs j)) + ps (b - tu b (mfracs j))), dc + sdc least.toInt64 (tu b (mfracs j) + (a - tu a (mfracs j))) + sdc least.toInt64 (tu a (mfracs j) + (b - tu b (mfracs j))), 0, 0, vp_updL far (201 * j + t) (sd least.toInt64 (tu b (mfracs j) + (a - tu a (mfracs j)))), vp_updL near (201 * j + t) (sd least.toInt64 (tu a (mfracs j) + (b - tu b (mfracs j)))), ech) := by
  obtain ⟨hn, hq, hw, hl, hml, -, -, -, -, -, hm18, -⟩ := L
  have hl2 : ∀ k, k < n → mlens k = c32 (len k) ∧ 1 ≤ len k ∧ len k ≤ 20 := fun k hk => ⟨(hml k hk).trans (hl k hk).1, (hl k hk).2⟩
  unfold F_X6_runAt
  rw [arrives0 hn hj (by omega) hl2, arrives1 hn hj (by omega) hl2, ha, hb]
  simp only [bd1_some, backM mfracs (show j < 9 by omega)]
  have h97 : ∀ (left dr : Int64) (mgg dc : Int32) (far : Nat → Int64), F_X6_runAt_97 left dr mgg dc 0 0 m far near ech (c32 j) (c32 t) b (tu a (mfracs j)) (tu b (mfracs j)) = some (left, dr + sdd least.toInt64 (tu a (mfracs j) + (b - tu b (mfracs j))), mgg + mg (ps (tu a (mfracs j)) + ps (b - tu b (mfracs j))), dc + sdc least.toInt64 (tu a (mfracs j) + (b - tu b (mfracs j))), 0, 0, far, vp_updL near (201 * j + t) (sd least.toInt64 (tu a (mfracs j) + (b - tu b (mfracs j)))), ech) := by
    intro left dr mgg dc far
    unfold F_X6_runAt_97 F_X6_runAt_146
    rw [c32_of 0, ile_f (by omega) (by omega)]
    simp only [contribute, bd2, Option.bind_some, setsOut, bd6]
    rw [c32_of 201, c32_mul, c32_add, gin_c (by omega) (by omega), c32_nat (by omega), hm18, ← c32_of 0, c0a, l0a]
  by_cases hjn : j = n
  · rw [ile_t (by omega) (by omega), if_pos hjn, h97]
  · rw [ile_f (by omega) (by omega), if_neg hjn]
    simp only [contribute, bd2, Option.bind_some]
    rw [c32_of 0, ieq_f (by omega) (by omega) (by omega)]
    unfold F_X6_runAt_65
    simp only [setsOut, bd6, Option.bind_some]
    rw [c32_of 201, c32_mul, c32_add, gin_c (by omega) (by omega), c32_nat (by omega), ← c32_of 0, h97, hm18, c0a, l0a]
/-- the front, in the reference -/
theorem runAt_0 (L : lnR n q w len lens fracs tms ens front least m mlens mfracs mtms mens) {t : Nat} (h1 : 0 < n) (ht : t ≤ w) (left dr : Int64) (mgg dc : Int32) (far near ech : Nat → Int64) (b : Int64) (hb : arv n len far near 0 t true = b) : F_X6_runAt (c32 n) (c32 q) left dr mgg dc 0 0 m mlens mfracs mtms mens far near ech (c32 0) (c32 t) =
    some (left, dr + sdd least.toInt64 (tu b front + pulS q mtms mens t), mgg + mg (ps (tu b front) + pulN q mtms t), dc + sdc least.toInt64 (tu b front + pulS q mtms mens t), 0, 0, vp_updL far t (sd least.toInt64 (tu b front + pulS q mtms mens t)), near, vp_updL ech t (b - tu b front)) := by
  obtain ⟨hn, hq, hw, hl, hml, hf0, -, -, hme, hen, hm18, -⟩ := L
  have hl2 : ∀ k, k < n → mlens k = c32 (len k) ∧ 1 ≤ len k ∧ len k ≤ 20 := fun k hk => ⟨(hml k hk).trans (hl k hk).1, (hl k hk).2⟩
  have ha : arv n len far near 0 t false = 0 := by unfold arv; rw [if_neg (by decide), if_neg (by omega)]
  have hpp := fun c0 p0 => passPulses (q := q) (t := t) (tm := mtms) (en := mens) hq (fun k hk => by rw [hme k hk]; exact hen k hk) c0 p0
  unfold F_X6_runAt
  rw [arrives0 hn (by omega) (by omega) hl2, arrives1 hn (by omega) (by omega) hl2, ha, hb]
  simp only [bd1_some, backM mfracs (show 0 < 9 by omega), hf0, tu_zero]
  rw [ile_f (by omega) (by omega)]
  simp only [contribute, bd2, Option.bind_some]
  rw [c32_of 0, ieq_t rfl, hpp]
  unfold F_X6_runAt_65 F_X6_runAt_97 F_X6_runAt_146
  simp only [setsOut, bd6, Option.bind_some]
  rw [c32_of 201, c32_mul, c32_add, gin_c (by omega) (by omega), c32_nat (by omega), c32_of 0, ile_t (by omega) (by omega), gin_c (by omega) (by omega), c32_nat (by omega), hm18, ← c32_of 0, c0a, l0a]
  rw [show (0 : Int64) - 0 = 0 from rfl, Int64.add_zero, show ps 0 = 0 from rfl, Int32.add_zero, show 201 * 0 + t = t by omega]
/-- a joint behind the front, in the system -/
theorem passJoint_j (L : lnR n q w len lens fracs tms ens front least m mlens mfracs mtms mens) {j t : Nat} (h1 : 1 ≤ j) (hj : j ≤ n) (ht : t ≤ w) (left d aw : Int64) (mgg dc : Int32) (fn ff : Nat → Int64) (a b : Int64) (ha : fn (201 * j + t) = a) (hb : ff (201 * j + t) = b) : ∃ fn' ff' aw', F_X5_passJoint left d aw mgg dc fn ff (c32 n) least (c32 w) lens fracs (c32 j) (c32 t) =
    (if j = n then some (left + (a - tu a (mfracs j)), d + sdd least.toInt64 (tu a (mfracs j) + (b - tu b (mfracs j))), aw', mgg + mg (ps (tu a (mfracs j)) + ps (b - tu b (mfracs j))), dc + sdc least.toInt64 (tu a (mfracs j) + (b - tu b (mfracs j))), fn', ff')
    else some (left, d + sdd least.toInt64 (tu b (mfracs j) + (a - tu a (mfracs j))) + sdd least.toInt64 (tu a (mfracs j) + (b - tu b (mfracs j))), aw', mgg + mg (ps (tu b (mfracs j)) + ps (a - tu a (mfracs j))) + mg (ps (tu a (mfracs j)) + ps (b - tu b (mfracs j))), dc + sdc least.toInt64 (tu b (mfracs j) + (a - tu a (mfracs j))) + sdc least.toInt64 (tu a (mfracs j) + (b - tu b (mfracs j))), fn', ff')) ∧
    ∀ (far near : Nat → Int64) (P Q : Nat → Nat), rI n w len P Q fn ff far near aw → (j < n → P j = t) → Q (j - 1) = t → rI n w len (if j = n then P else up1 P j (t + 1)) (up1 Q (j - 1) (t + 1)) fn' ff' (if j = n then far else vp_updL far (201 * j + t) (sd least.toInt64 (tu b (mfracs j) + (a - tu a (mfracs j))))) (vp_updL near (201 * j + t) (sd least.toInt64 (tu a (mfracs j) + (b - tu b (mfracs j))))) aw' := by
  obtain ⟨hn, hq, hw, hl, hml, -, hfr, -, -, -, hm18, -⟩ := L
  obtain ⟨p, rfl⟩ : ∃ p, j = p + 1 := ⟨j - 1, by omega⟩
  have hfp := hfr p (by omega)
  have hlp := hl p (by omega)
  unfold F_X5_passJoint F_X5_passJoint_171
  simp only [nm, turnedC, bd1_some]
  rw [c32_of 201, c32_mul, c32_add, gin_c (by omega) (by omega), gin_c (by omega) (by omega), c32_nat (by omega), ha, hb, c32_of 1, c32_sub (by omega), show p + 1 - 1 = p by omega, gin_c (by omega) (by omega), c32_nat (by omega), ← hfp]
  rw [show (if tu a (mfracs (p + 1)) ≤ 0 then (0 : Int32) else c32 1) = ps (tu a (mfracs (p + 1))) from rfl, show (if b - tu b (mfracs (p + 1)) ≤ 0 then (0 : Int32) else c32 1) = ps (b - tu b (mfracs (p + 1))) from rfl, setOutN d aw mgg dc fn ff least w lens _ _ (by omega) hlp.1 hlp.2.2 ht hw]
  simp only [bd6, Option.bind_some]
  by_cases hjn : p + 1 = n
  · subst hjn
    simp only [if_true]
    refine ⟨_, _, _, rfl, fun far near P Q h hP hQ => ?_⟩
    exact rI_near h hw (by omega) hQ ht hlp.2.1 _ _ (sd_or _ _)
  · have hlj := hl (p + 1) (by omega)
    rw [ieq_f hjn (by omega) (by omega), show (if a - tu a (mfracs (p + 1)) ≤ 0 then (0 : Int32) else c32 1) = ps (a - tu a (mfracs (p + 1))) from rfl, show (if tu b (mfracs (p + 1)) ≤ 0 then (0 : Int32) else c32 1) = ps (tu b (mfracs (p + 1))) from rfl, ← c32_of 1, setOutF _ _ _ _ _ _ least w lens _ _ (by omega) hlj.1 hlj.2.2 ht hw]
    simp only [Option.bind_some, if_neg hjn]
    rw [Int64.add_comm (a - tu a (mfracs (p + 1))) (tu b (mfracs (p + 1))), Int32.add_comm (ps (a - tu a (mfracs (p + 1)))) (ps (tu b (mfracs (p + 1))))]
    rw [Int64.add_assoc d, Int64.add_comm (sdd _ (tu a (mfracs (p + 1)) + (b - tu b (mfracs (p + 1))))), ← Int64.add_assoc d]
    rw [Int32.add_assoc mgg, Int32.add_comm (mg (ps (tu a (mfracs (p + 1))) + _)), ← Int32.add_assoc mgg]
    rw [Int32.add_assoc dc, Int32.add_comm (sdc _ (tu a (mfracs (p + 1)) + (b - tu b (mfracs (p + 1))))), ← Int32.add_assoc dc]
    refine ⟨_, _, _, rfl, fun far near P Q h hP hQ => ?_⟩
    have h2 := rI_near h hw (show p < n by omega) hQ ht hlp.2.1 (tu a (mfracs (p + 1)) + (b - tu b (mfracs (p + 1)))) (sd least.toInt64 (tu a (mfracs (p + 1)) + (b - tu b (mfracs (p + 1))))) (sd_or _ _)
    have h3 := rI_far h2 hw (show p + 1 < n by omega) (hP (by omega)) ht hlj.2.1 (tu b (mfracs (p + 1)) + (a - tu a (mfracs (p + 1)))) (sd least.toInt64 (tu b (mfracs (p + 1)) + (a - tu a (mfracs (p + 1))))) (sd_or _ _)
    exact h3
end RUN
