/-! the pure law, text F -/
set_option maxRecDepth 100000
/-! P5: a whole run, both sides in step -/
theorem windowM {m : Nat → Int64} {w : Nat} (h : m 19 = c64 w) : F_X6_window m = some (c32 w) := by
  unfold F_X6_window
  rw [c32_of 19, gin_c (by omega) (by omega), c32_nat (by omega), h, c64_32]
theorem gFU_s : gFU = 4999 + 1 := rfl
section RUN
variable {n q w : Nat} {len : Nat → Nat} {lens fracs tms ens : Nat → Int32} {front least : Int32} {m : Nat → Int64} {mlens mfracs mtms : Nat → Int32} {mens : Nat → Int64}
theorem run_l (L : lnR n q w len lens fracs tms ens front least m mlens mfracs mtms mens) : ∀ (d t f g : Nat) (br left dr aw : Int64) (mgg dc : Int32) (fn ff ech far near ech2 : Nat → Int64), t + d = w + 1 → d < f → d < g → rI n w len (fun _ => t) (fun _ => t) fn ff far near aw → (∀ k, k < 201 → ech k = ech2 k) → (∀ k, t ≤ k → k < 201 → ech2 k = 0) → br = sg t (pulS q mtms mens) →
    ∃ br' left' dr' aw' mgg' dc' fn' ff' ech' far' near' ech2', F_X5_run_61 f br left dr aw mgg dc fn ff ech (c32 t) (c32 n) (c32 q) front least (c32 w) lens fracs tms ens = some (br', left', dr', aw', mgg', dc', fn', ff', ech') ∧
      F_X6_runLine_54 g (c32 n) (c32 q) left dr mgg dc 0 0 m mlens mfracs mtms mens far near ech2 (c32 t) = some (left', dr', mgg', dc', 0, 0, far', near', ech2') ∧
      rI n w len (fun _ => w + 1) (fun _ => w + 1) fn' ff' far' near' aw' ∧ (∀ k, k < 201 → ech' k = ech2' k) ∧ (∀ k, w + 1 ≤ k → k < 201 → ech2' k = 0) ∧ br' = sg (w + 1) (pulS q mtms mens) := by
  have L0 := L
  obtain ⟨hn, hq, hw, hl, hml, -, hfr, htm, hme, hen, hm18, hm19⟩ := L0
  have hl1 : ∀ k, k < n → 1 ≤ len k := fun k hk => (hl k hk).2.1
  intro d
  induction d with
  | zero =>
    intro t f g br left dr aw mgg dc fn ff ech far near ech2 h hf hg hI hE hZ hB
    obtain ⟨f, rfl⟩ : ∃ z, f = z + 1 := ⟨f - 1, by omega⟩
    obtain ⟨g, rfl⟩ : ∃ z, g = z + 1 := ⟨g - 1, by omega⟩
    have : t = w + 1 := by omega
    subst this
    refine ⟨br, left, dr, aw, mgg, dc, fn, ff, ech, far, near, ech2, ?_, ?_, hI, hE, hZ, hB⟩
    · show B_X5_run_61 _ _ _ _ _ _ _ _ _ _ _ _ _ _ _ _ _ _ _ _ = _
      unfold B_X5_run_61
      rw [ilt_t (by omega) (by omega)]
    · show B_X6_runLine_54 _ _ _ _ _ _ _ _ _ _ _ _ _ _ _ _ _ _ = _
      unfold B_X6_runLine_54
      rw [windowM hm19]
      simp only [bd1_some]
      rw [ilt_t (by omega) (by omega)]
  | succ d ih =>
    intro t f g br left dr aw mgg dc fn ff ech far near ech2 h hf hg hI hE hZ hB
    obtain ⟨f, rfl⟩ : ∃ z, f = z + 1 := ⟨f - 1, by omega⟩
    obtain ⟨g, rfl⟩ : ∃ z, g = z + 1 := ⟨g - 1, by omega⟩
    have ht : t ≤ w := by omega
    obtain ⟨fn1, aw1, hC, hS⟩ := passFront_l L ht br left dr aw mgg dc fn ff ech
    have hC := hC q 0 gFU (by omega) (by show q < 5000; omega)
    rw [sg, pulN] at hC
    have hB2 : br + pulS q mtms mens t = sg (t + 1) (pulS q mtms mens) := by rw [hB, sg]
    by_cases hn0 : n = 0
    · subst hn0
      rw [if_pos rfl] at hC
      obtain ⟨l2, d2, a2, m2, c2, fn2, ff2, far2, near2, k1, k2, -, k4⟩ := joints L ht (br + pulS q mtms mens t) ech ech2 0 1 gFU 5 (left + pulS q mtms mens t) dr aw mgg dc fn ff far near (by omega) (by omega) (by decide) (by decide) (rI_congr hI (fun p hp => absurd hp (by omega)) (fun p hp => absurd hp (by omega)))
      obtain ⟨rfl, rfl, rfl, rfl, rfl, rfl⟩ := k4 rfl
      obtain ⟨br', left', dr', aw', mgg', dc', fn', ff', ech', far', near', ech2', e1, e2, e3⟩ := ih (t + 1) f g (br + pulS q mtms mens t) (left + pulS q mtms mens t) _ a2 _ _ fn2 ff2 ech _ _ ech2 (by omega) (by omega) (by omega) k1 hE (fun k hk hk2 => hZ k (by omega) hk2) hB2
      refine ⟨br', left', dr', aw', mgg', dc', fn', ff', ech', far', near', ech2', ?_, ?_, e3⟩
      · show B_X5_run_61 _ _ _ _ _ _ _ _ _ _ _ _ _ _ _ _ _ _ _ _ = _
        unfold B_X5_run_61 F_X5_passFront
        rw [ilt_f (by omega) (by omega), show (0 : Int32) = c32 0 from rfl, show (0 : Int64) = c64 0 from rfl]
        rw [show c64 0 = 0 from rfl, show F_X5_passFront_8 gFU br left _ aw _ _ fn ff ech (c32 t) 0 (c32 0) (c32 0) (c32 0) (c32 q) front least (c32 w) lens tms ens = _ from hC]
        simp only [bd9, Option.bind_some]
        rw [show (1 : Int32) = c32 1 from rfl, k2]
        exact e1
      · show B_X6_runLine_54 _ _ _ _ _ _ _ _ _ _ _ _ _ _ _ _ _ _ = _
        unfold B_X6_runLine_54
        rw [windowM hm19]
        simp only [bd1_some]
        rw [ilt_f (by omega) (by omega), c32_of 0, ieq_t rfl, ← c32_of 0, passPulses hq (fun k hk => by rw [hme k hk]; exact hen k hk)]
        simp only [bd2, Option.bind_some]
        unfold F_X6_runLine_97
        rw [gFU_s]
        show B_X6_runLine_99 _ _ _ _ _ _ _ _ _ _ _ _ _ _ _ _ _ _ _ _ = _
        unfold B_X6_runLine_99 F_X6_runLine_126
        rw [c32_of 0, ilt_f (by omega) (by omega), ile_t (by omega) (by omega), c32_of 1, c32_add, ← c32_of 0, l0a]
        exact e2
    · rw [if_neg hn0] at hC
      have eb := arv_far hI hl1 (show 0 ≤ n by omega) ht (fun hp => Nat.le_refl _)
      rw [show 201 * 0 + t = t by omega] at eb
      have hM := runAt_0 L (by omega) ht left dr mgg dc far near ech2 _ eb
      have hI1 := hS far near (fun _ => t) (fun _ => t) hI (by omega) rfl
      obtain ⟨l2, d2, a2, m2, c2, fn2, ff2, far2, near2, k1, k2, k3, -⟩ := joints L ht (br + pulS q mtms mens t) (vp_updL ech t (ff t - tu (ff t) front)) (vp_updL ech2 t (ff t - tu (ff t) front)) n 1 gFU 4999 left _ aw1 _ _ fn1 ff _ near (by omega) (by omega) (by show n < 5000; omega) (by omega) (rI_congr hI1 (P' := pj 1 t) (Q' := qj 1 t) (fun p hp => by unfold up1 pj; by_cases hp0 : p = 0 <;> simp [hp0]) (fun p hp => by unfold qj; rw [if_neg (by omega)]))
      obtain ⟨br', left', dr', aw', mgg', dc', fn', ff', ech', far', near', ech2', e1, e2, e3⟩ := ih (t + 1) f g (br + pulS q mtms mens t) l2 d2 a2 m2 c2 fn2 ff2 (vp_updL ech t (ff t - tu (ff t) front)) far2 near2 (vp_updL ech2 t (ff t - tu (ff t) front)) (by omega) (by omega) (by omega) k1 (fun k hk => by unfold vp_updL; split; rfl; exact hE k hk) (fun k hk hk2 => by rw [updL_ne (by omega)]; exact hZ k (by omega) hk2) hB2
      refine ⟨br', left', dr', aw', mgg', dc', fn', ff', ech', far', near', ech2', ?_, ?_, e3⟩
      · show B_X5_run_61 _ _ _ _ _ _ _ _ _ _ _ _ _ _ _ _ _ _ _ _ = _
        unfold B_X5_run_61 F_X5_passFront
        rw [ilt_f (by omega) (by omega)]
        rw [show F_X5_passFront_8 gFU br left dr aw mgg dc fn ff ech (c32 t) 0 0 0 (c32 n) (c32 q) front least (c32 w) lens tms ens = _ from hC]
        simp only [bd9, Option.bind_some]
        rw [show (1 : Int32) = c32 1 from rfl, k2]
        exact e1
      · show B_X6_runLine_54 _ _ _ _ _ _ _ _ _ _ _ _ _ _ _ _ _ _ = _
        unfold B_X6_runLine_54
        rw [windowM hm19]
        simp only [bd1_some]
        rw [ilt_f (by omega) (by omega), c32_of 0, ieq_f hn0 (by omega) (by omega)]
        unfold F_X6_runLine_97
        rw [gFU_s]
        show B_X6_runLine_99 _ _ _ _ _ _ _ _ _ _ _ _ _ _ _ _ _ _ _ _ = _
        unfold B_X6_runLine_99
        rw [c32_of 0, ilt_f (by omega) (by omega), ile_f (by omega) (by omega), ← c32_of 0, show F_X6_runAt (c32 n) (c32 q) left dr mgg dc 0 0 m mlens mfracs mtms mens far near ech2 0 (c32 t) = _ from hM]
        simp only [bd9, Option.bind_some]
        rw [c32_of 1, c32_of 0, c32_add, ← c32_of 0, show 0 + 1 = 1 from rfl, k3 (by omega)]
        exact e2
theorem fillM (cn cq : Int32) (far near : Nat → Int64) : ∀ (d i f : Nat) (a : Nat → Int64), i + d = 201 → d < f → ∃ a', F_X6_runLine_32 f cn cq 0 0 0 0 0 0 m mlens mfracs mtms mens far near a (c32 i) = F_X6_runLine_54 gFU cn cq 0 0 0 0 0 0 m mlens mfracs mtms mens far near a' 0 ∧ (∀ k, i ≤ k → k < 201 → a' k = 0) ∧ ∀ k, k < i → a' k = a k := by
  intro d
  induction d with
  | zero =>
    intro i f a h hf
    obtain ⟨g, rfl⟩ : ∃ g, f = g + 1 := ⟨f - 1, by omega⟩
    refine ⟨a, ?_, fun k h1 h2 => absurd h2 (by omega), fun k _ => rfl⟩
    show B_X6_runLine_32 _ _ _ _ _ _ _ _ _ _ _ _ _ _ _ _ _ _ = _
    unfold B_X6_runLine_32
    rw [c32_of 201, ile_t (by omega) (by omega)]
  | succ d ih =>
    intro i f a h hf
    obtain ⟨g, rfl⟩ : ∃ g, f = g + 1 := ⟨f - 1, by omega⟩
    obtain ⟨a', h1, h2, h3⟩ := ih (i + 1) g (vp_updL a i 0) (by omega) (by omega)
    refine ⟨a', ?_, fun k hk hk2 => ?_, fun k hk => ?_⟩
    · show B_X6_runLine_32 _ _ _ _ _ _ _ _ _ _ _ _ _ _ _ _ _ _ = _
      unfold B_X6_runLine_32
      rw [c32_of 201, ile_f (by omega) (by omega), gin_c (by omega) (by omega), c32_nat (by omega), c32_of 1, c32_add]
      exact h1
    · by_cases e : k = i
      · rw [h3 k (by omega), e, updL_eq]
      · exact h2 k (by omega) hk2
    · rw [h3 k (by omega), updL_ne (by omega)]
/-- A RUN: both sides, from whatever their rows held -/
theorem run_ok (L : lnR n q w len lens fracs tms ens front least m mlens mfracs mtms mens) (fn0 ff0 ech0 far0 near0 ech20 : Nat → Int64) : ∃ br left dr aw mgg dc fn ff ech far near ech2, F_X5_run fn0 ff0 ech0 (c32 n) (c32 q) front least (c32 w) lens fracs tms ens = some (br, left, dr, aw, mgg, dc, fn, ff, ech) ∧
    F_X6_runLine (c32 n) (c32 q) m mlens mfracs mtms mens far0 near0 ech20 = some (left, dr, mgg, dc, 0, 0, far, near, ech2) ∧
    rI n w len (fun _ => w + 1) (fun _ => w + 1) fn ff far near aw ∧ (∀ k, k < 201 → ech k = ech2 k) ∧ (∀ k, w + 1 ≤ k → k < 201 → ech2 k = 0) ∧ br = sg (w + 1) (pulS q mtms mens) := by
  have L0 := L
  obtain ⟨hn, hq, hw, hl, -⟩ := L0
  obtain ⟨fn1, a1, a2⟩ := fill1809 fn0
  obtain ⟨ff1, b1, b2⟩ := fill1809 ff0
  obtain ⟨ec1, d1, d2⟩ := fill201 ech0
  obtain ⟨ec2, e1, e2, -⟩ := fillM (m := m) (mlens := mlens) (mfracs := mfracs) (mtms := mtms) (mens := mens) (c32 n) (c32 q) far0 near0 201 0 gFU ech20 rfl (by decide)
  obtain ⟨br', left', dr', aw', mgg', dc', fn', ff', ech', far', near', ech2', k1, k2, k3⟩ := run_l L (w + 1) 0 gFU gFU 0 0 0 0 0 0 fn1 ff1 ec1 far0 near0 ec2 (by omega) (by show w + 1 < 5000; omega) (by show w + 1 < 5000; omega) ⟨fun p hp => by dsimp only; omega, fun p hp a ha => by dsimp only; rw [if_neg (by omega), a2 _ (by omega)], fun p hp a ha => by dsimp only; rw [if_neg (by omega), b2 _ (by omega)], fun a ha => a2 a (by omega), fun a ha => b2 _ (by omega), (sg_zero (fun i hi => by rw [sg, sg]; rfl)).symm⟩ (fun k hk => by rw [d2 k hk, e2 k (by omega) hk]) (fun k _ hk => e2 k (by omega) hk) rfl
  refine ⟨br', left', dr', aw', mgg', dc', fn', ff', ech', far', near', ech2', ?_, ?_, k3⟩
  · unfold F_X5_run
    rw [a1, b1, d1]
    simp only [bd1_some]
    exact k1
  · unfold F_X6_runLine
    rw [show F_X6_runLine_32 gFU (c32 n) (c32 q) 0 0 0 0 0 0 m mlens mfracs mtms mens far0 near0 ech20 0 = _ from e1]
    exact k2
end RUN
