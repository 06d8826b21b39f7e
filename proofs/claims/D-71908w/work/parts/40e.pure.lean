/-! the pure law, text E -/
set_option maxRecDepth 100000
/-! P4: the loops of a run, both sides in step -/
section RUN
variable {n q w : Nat} {len : Nat → Nat} {lens fracs tms ens : Nat → Int32} {front least : Int32} {m : Nat → Int64} {mlens mfracs mtms : Nat → Int32} {mens : Nat → Int64}
def pj (j t : Nat) : Nat → Nat := fun p => if p < j then t + 1 else t
def qj (j t : Nat) : Nat → Nat := fun p => if p + 1 < j then t + 1 else t
theorem pj_up (j t : Nat) : up1 (pj j t) j (t + 1) = pj (j + 1) t := by
  funext p; unfold up1 pj
  by_cases h : p = j
  · rw [if_pos h, if_pos (by omega)]
  · rw [if_neg h]
    by_cases h2 : p < j
    · rw [if_pos h2, if_pos (by omega)]
    · rw [if_neg h2, if_neg (by omega)]
theorem qj_up {j t : Nat} (hj : 1 ≤ j) : up1 (qj j t) (j - 1) (t + 1) = qj (j + 1) t := by
  funext p; unfold up1 qj
  by_cases h : p = j - 1
  · rw [if_pos h, if_pos (by omega)]
  · rw [if_neg h]
    by_cases h2 : p + 1 < j
    · rw [if_pos h2, if_pos (by omega)]
    · rw [if_neg h2, if_neg (by omega)]
theorem joints (L : lnR n q w len lens fracs tms ens front least m mlens mfracs mtms mens) {t : Nat} (ht : t ≤ w) (br : Int64) (ech ech2 : Nat → Int64) : ∀ (d j f g : Nat) (left dr aw : Int64) (mgg dc : Int32) (fn ff far near : Nat → Int64), j + d = n + 1 → 1 ≤ j → d < f → d < g → rI n w len (pj j t) (qj j t) fn ff far near aw →
    ∃ left' dr' aw' mgg' dc' fn' ff' far' near', rI n w len (fun _ => t + 1) (fun _ => t + 1) fn' ff' far' near' aw' ∧
      (∀ K, F_X5_run_79 K f br left dr aw mgg dc fn ff ech (c32 t) (c32 j) (c32 n) (c32 q) front least (c32 w) lens fracs tms ens = K br left' dr' aw' mgg' dc' fn' ff' ech (c32 (t + 1)) (c32 n) (c32 q) front least (c32 w) lens fracs tms ens) ∧
      (0 < n → ∀ K, F_X6_runLine_99 K g (c32 n) (c32 q) left dr mgg dc 0 0 m mlens mfracs mtms mens far near ech2 (c32 t) (c32 j) = K (c32 n) (c32 q) left' dr' mgg' dc' 0 0 m mlens mfracs mtms mens far' near' ech2 (c32 (t + 1))) ∧ (n = 0 → left' = left ∧ dr' = dr ∧ mgg' = mgg ∧ dc' = dc ∧ far' = far ∧ near' = near) := by
  have L0 := L
  obtain ⟨hn, hq, hw, hl, hml, -, hfr, -, -, -, hm18, -⟩ := L0
  intro d
  induction d with
  | zero =>
    intro j f g left dr aw mgg dc fn ff far near hj h1 hf hg hI
    obtain ⟨f, rfl⟩ : ∃ z, f = z + 1 := ⟨f - 1, by omega⟩
    obtain ⟨g, rfl⟩ : ∃ z, g = z + 1 := ⟨g - 1, by omega⟩
    refine ⟨left, dr, aw, mgg, dc, fn, ff, far, near, rI_congr hI (fun p hp => ?_) (fun p hp => ?_), fun K => ?_, fun hn0 K => ?_, fun _ => ⟨rfl, rfl, rfl, rfl, rfl, rfl⟩⟩
    · unfold pj; rw [if_pos (by omega)]
    · unfold qj; rw [if_pos (by omega)]
    · show B_X5_run_79 _ _ _ _ _ _ _ _ _ _ _ _ _ _ _ _ _ _ _ _ _ _ = _
      unfold B_X5_run_79
      rw [ilt_t (by omega) (by omega), c32_of 1, c32_add]
    · show B_X6_runLine_99 _ _ _ _ _ _ _ _ _ _ _ _ _ _ _ _ _ _ _ _ = _
      unfold B_X6_runLine_99 F_X6_runLine_126
      rw [ilt_t (by omega) (by omega), c32_of 1, c32_add]
  | succ d ih =>
    intro j f g left dr aw mgg dc fn ff far near hj h1 hf hg hI
    obtain ⟨f, rfl⟩ : ∃ z, f = z + 1 := ⟨f - 1, by omega⟩
    obtain ⟨g, rfl⟩ : ∃ z, g = z + 1 := ⟨g - 1, by omega⟩
    have hl1 : ∀ k, k < n → 1 ≤ len k := fun k hk => (hl k hk).2.1
    have ea := arv_near hI hl1 (show j ≤ n by omega) ht (fun p hp hpj => by unfold pj; split <;> omega)
    have eb := arv_far hI hl1 (show j ≤ n by omega) ht (fun hp => by unfold qj; split <;> omega)
    have hM := runAt_j L h1 (show j ≤ n by omega) ht left dr mgg dc far near ech2 _ _ ea eb
    obtain ⟨fn', ff', aw', hC, hS⟩ := passJoint_j L h1 (show j ≤ n by omega) ht left dr aw mgg dc fn ff (fn (201 * j + t)) (ff (201 * j + t)) rfl rfl
    have hI2 := hS far near (pj j t) (qj j t) hI (fun _ => by unfold pj; rw [if_neg (by omega)]) (by unfold qj; rw [if_neg (by omega)])
    rw [qj_up h1] at hI2
    by_cases hjn : j = n
    · rw [if_pos hjn] at hM hC
      rw [if_pos hjn, if_pos hjn] at hI2
      obtain ⟨l2, d2, a2, m2, c2, fn2, ff2, far2, near2, k1, k2, k3, k4⟩ := ih (j + 1) f g _ _ aw' _ _ fn' ff' _ _ (by omega) (by omega) (by omega) (by omega) (rI_congr hI2 (P' := pj (j + 1) t) (fun p hp => by unfold pj; rw [if_pos (by omega), if_pos (by omega)]) (fun _ _ => rfl))
      refine ⟨l2, d2, a2, m2, c2, fn2, ff2, far2, near2, k1, fun K => ?_, fun hn0 K => ?_, fun h => absurd h (by omega)⟩
      · show B_X5_run_79 _ _ _ _ _ _ _ _ _ _ _ _ _ _ _ _ _ _ _ _ _ _ = _
        unfold B_X5_run_79
        rw [ilt_f (by omega) (by omega), hC]
        simp only [bd7, Option.bind_some]
        rw [c32_of 1, c32_add]
        exact k2 K
      · show B_X6_runLine_99 _ _ _ _ _ _ _ _ _ _ _ _ _ _ _ _ _ _ _ _ = _
        unfold B_X6_runLine_99
        rw [ilt_f (by omega) (by omega), c32_of 0, ile_f (by omega) (by omega), ← c32_of 0, hM]
        simp only [bd9, Option.bind_some]
        rw [c32_of 1, c32_add]
        exact k3 hn0 K
    · rw [if_neg hjn] at hM hC
      rw [if_neg hjn, if_neg hjn, pj_up] at hI2
      obtain ⟨l2, d2, a2, m2, c2, fn2, ff2, far2, near2, k1, k2, k3, k4⟩ := ih (j + 1) f g _ _ aw' _ _ fn' ff' _ _ (by omega) (by omega) (by omega) (by omega) hI2
      refine ⟨l2, d2, a2, m2, c2, fn2, ff2, far2, near2, k1, fun K => ?_, fun hn0 K => ?_, fun h => absurd h (by omega)⟩
      · show B_X5_run_79 _ _ _ _ _ _ _ _ _ _ _ _ _ _ _ _ _ _ _ _ _ _ = _
        unfold B_X5_run_79
        rw [ilt_f (by omega) (by omega), hC]
        simp only [bd7, Option.bind_some]
        rw [c32_of 1, c32_add]
        exact k2 K
      · show B_X6_runLine_99 _ _ _ _ _ _ _ _ _ _ _ _ _ _ _ _ _ _ _ _ = _
        unfold B_X6_runLine_99
        rw [ilt_f (by omega) (by omega), c32_of 0, ile_f (by omega) (by omega), ← c32_of 0, hM]
        simp only [bd9, Option.bind_some]
        rw [c32_of 1, c32_add]
        exact k3 hn0 K
theorem pulN_congr {tm tm2 : Nat → Int32} {t : Nat} : ∀ {q : Nat}, (∀ k, k < q → tm k = tm2 k) → pulN q tm t = pulN q tm2 t
  | 0, _ => rfl
  | q + 1, h => by rw [pulN, pulN, pulN_congr (fun k hk => h k (by omega)), h q (by omega)]
/-- the pulses and the front, in the system -/
theorem passFront_l (L : lnR n q w len lens fracs tms ens front least m mlens mfracs mtms mens) {t : Nat} (ht : t ≤ w) (br left d aw : Int64) (mgg dc : Int32) (fn ff ech : Nat → Int64) : ∃ fn' aw', (∀ (dd i f : Nat), i + dd = q → dd < f → F_X5_passFront_8 f br left d aw mgg dc fn ff ech (c32 t) (sg i (fun k => if mtms k = c32 t then mens k else 0)) (pulN i mtms t) (c32 i) (c32 n) (c32 q) front least (c32 w) lens tms ens = (if n = 0 then some (br + pulS q mtms mens t, left + pulS q mtms mens t, d, aw, mgg, dc, fn, ff, ech) else some (br + pulS q mtms mens t, left, d + sdd least.toInt64 (tu (ff t) front + pulS q mtms mens t), aw', mgg + mg (ps (tu (ff t) front) + pulN q mtms t), dc + sdc least.toInt64 (tu (ff t) front + pulS q mtms mens t), fn', ff, vp_updL ech t (ff t - tu (ff t) front)))) ∧
    ∀ (far near : Nat → Int64) (P Q : Nat → Nat), rI n w len P Q fn ff far near aw → 0 < n → P 0 = t → rI n w len (up1 P 0 (t + 1)) Q fn' ff (vp_updL far t (sd least.toInt64 (tu (ff t) front + pulS q mtms mens t))) near aw' := by
  obtain ⟨hn, hq, hw, hl, hml, -, hfr, htm, hme, hen, hm18, -⟩ := L
  refine ⟨(if t + len 0 ≤ w then (if sd least.toInt64 (tu (ff t) front + pulS q mtms mens t) = tu (ff t) front + pulS q mtms mens t then vp_updL fn (201 * (0 + 1) + (t + len 0)) (tu (ff t) front + pulS q mtms mens t) else fn) else fn), (if t + len 0 ≤ w then aw else aw + sd least.toInt64 (tu (ff t) front + pulS q mtms mens t)), ?_, ?_⟩
  · intro dd
    induction dd with
    | zero =>
      intro i f h hf
      obtain ⟨f, rfl⟩ : ∃ z, f = z + 1 := ⟨f - 1, by omega⟩
      have : i = q := by omega
      subst this
      show B_X5_passFront_8 _ _ _ _ _ _ _ _ _ _ _ _ _ _ _ _ _ _ _ _ _ _ = _
      unfold B_X5_passFront_8
      rw [ile_t (by omega) (by omega)]
      by_cases hn0 : n = 0
      · rw [c32_of 0, ieq_t hn0, if_pos hn0]
        rfl
      · rw [c32_of 0, ieq_f hn0 (by omega) (by omega), if_neg hn0, gin_c (by omega) (by omega), c32_nat (by omega), ← c32_of 0]
        simp only [turnedC, bd1_some, nm]
        rw [gin_c (by omega) (by omega), c32_of 0, show (if tu (ff t) front ≤ 0 then c32 0 else 1) = ps (tu (ff t) front) from rfl, setOutF _ _ _ _ _ _ least w lens _ _ (by omega) (hl 0 (by omega)).1 (hl 0 (by omega)).2.2 ht hw]
        simp only [bd6, Option.bind_some]
        rw [show sg i (fun k => if mtms k = c32 t then mens k else 0) = pulS i mtms mens t from rfl, Int64.add_comm (pulS i mtms mens t), Int32.add_comm (pulN i mtms t)]
    | succ dd ih =>
      intro i f h hf
      obtain ⟨f, rfl⟩ : ∃ z, f = z + 1 := ⟨f - 1, by omega⟩
      show B_X5_passFront_8 _ _ _ _ _ _ _ _ _ _ _ _ _ _ _ _ _ _ _ _ _ _ = _
      unfold B_X5_passFront_8 F_X5_passFront_62
      have h2 := ih (i + 1) f (by omega) (by omega)
      rw [pulN, sg] at h2
      rw [ile_f (by omega) (by omega), gin_c (by omega) (by omega), gin_c (by omega) (by omega), c32_nat (by omega), ← htm i (by omega)]
      simp only [nm]
      by_cases hc : mtms i = c32 t
      · simp only [if_pos hc] at h2 ⊢
        rw [if_neg (by decide), if_neg (by decide), c32_of 1, c32_add, ← hme i (by omega)]
        exact h2
      · simp only [if_neg hc] at h2 ⊢
        rw [if_pos trivial, if_pos trivial, c32_of 1, c32_add]
        exact h2
  · intro far near P Q h hn0 hP
    have h3 := rI_far h hw hn0 hP ht (hl 0 hn0).2.1 (tu (ff t) front + pulS q mtms mens t) (sd least.toInt64 (tu (ff t) front + pulS q mtms mens t)) (sd_or _ _)
    rw [show 201 * 0 + t = t by omega] at h3
    exact h3
end RUN
