/-! the pure law, text Y -/
set_option maxRecDepth 100000
/-! P21: peeling as a whole -/
section PEEL
variable {w : Nat} {front least : Int32} {obs m : Nat → Int64} {tms ens : Nat → Int32} {mt : Nat → Int32} {me : Nat → Int64}
def plR (n : Nat) (len : Nat → Nat) (lens fracs ml mf : Nat → Int32) : Prop := n ≤ 8 ∧ ∀ k, k < n → (lens k = c32 (len k) ∧ 1 ≤ len k ∧ len k ≤ 20) ∧ ml k = lens k ∧ mf (k + 1) = fracs k ∧ ¬ fracs k < 0
theorem peel_step {n : Nat} {len : Nat → Nat} {lens fracs ml mf : Nat → Int32} (L : lnR n 1 w len lens fracs tms ens front least m ml mf mt me) (hfr : ∀ k, k < n → ¬ fracs k < 0) (hO : ∀ t, t < 201 → m (230 + t) = obs t) (far0 near0 ech0 : Nat → Int64) {left dr : Int64} {mgg dc : Int32} {far near ech : Nat → Int64} (hrun : F_X6_runLine (c32 n) (c32 1) m ml mf mt me far0 near0 ech0 = some (left, dr, mgg, dc, 0, 0, far, near, ech)) (fn ff ec : Nat → Int64) :
    (∃ res en lens' fracs' ml' mf' br' left' dr' aw' mgg' dc' fn' ff' ec' left2 dr2 mg2 dc2 co2 pa2 far2 near2 ech2, F_X8_takesPart 0 (-1) (c32 n) (c32 1) front least (c32 w) lens fracs tms ens fn ff ec obs = some (0, res, en, c32 n, lens', fracs', br', left', dr', aw', mgg', dc', fn', ff', ec') ∧ F_X6_peels (c32 n) (c32 1) left dr mgg dc 0 0 (c32 (ls n len)) m ml mf mt me far near ech = some (0, c32 n, left2, dr2, mg2, dc2, co2, pa2, res, en, c32 (ls n len), ml', mf', far2, near2, ech2) ∧ plR n len lens' fracs' ml' mf') ∨
    (∃ len' lens' fracs' ml' mf' br' left' dr' aw' mgg' dc' fn' ff' ec' left2 dr2 mg2 dc2 res2 t2 far2 near2 ech2 fx nx ex, n < 8 ∧ F_X8_takesPart 0 (-1) (c32 n) (c32 1) front least (c32 w) lens fracs tms ens fn ff ec obs = some (1, 0, -1, c32 (n + 1), lens', fracs', br', left', dr', aw', mgg', dc', fn', ff', ec') ∧ F_X6_peels (c32 n) (c32 1) left dr mgg dc 0 0 (c32 (ls n len)) m ml mf mt me far near ech = some (1, c32 (n + 1), left2, dr2, mg2, dc2, 0, 0, res2, t2, c32 (ls (n + 1) len'), ml', mf', far2, near2, ech2) ∧ lnR (n + 1) 1 w len' lens' fracs' tms ens front least m ml' mf' mt me ∧ (∀ k, k < n + 1 → ¬ fracs' k < 0) ∧ F_X6_runLine (c32 (n + 1)) (c32 1) m ml' mf' mt me fx nx ex = some (left2, dr2, mg2, dc2, 0, 0, far2, near2, ech2)) := by
  have L0 := L
  obtain ⟨hn, -, hw, hl, hml, hf0, hfk, -, -, -, h18, h19⟩ := L0
  obtain ⟨br1, left1, dr1, aw1, mg1, dc1, fn1, ff1, ec1, far1, near1, ech1, e1, e2, -, e4, -⟩ := run_ok L fn ff ec far0 near0 ech0
  have e5 := hrun.symm.trans e2
  obtain ⟨rfl, rfl, rfl, rfl, -, -, rfl, rfl, rfl⟩ : left = left1 ∧ dr = dr1 ∧ mgg = mg1 ∧ dc = dc1 ∧ (0 : Int32) = 0 ∧ (0 : Int64) = 0 ∧ far = far1 ∧ near = near1 ∧ ech = ech1 := by
    simpa using e5
  have hfd : fd (w + 1) 0 ec1 obs = fd (w + 1) 0 ech obs := fd_congr _ _ (fun k hk => e4 k (by omega)) (fun _ _ => rfl)
  have hU := unlikeM hw h19 hO ech (w + 1) 0 gFU (by omega) (by show w + 1 < 5000; omega)
  have hF := firstDiffC hw ec1 obs (w + 1) 0 gFU (by omega) (by show w + 1 < 5000; omega)
  have hle := fd_le (f := ech) (g := obs) (w + 1) 0
  rw [hfd] at hF
  generalize fd (w + 1) 0 ech obs = t at hU hF hle
  have hsum := sumF (lens := lens) (len := len) hn (fun k hk => (hl k hk).1)
  have hls := ls_le (f := len) (n := n) (fun k hk => (hl k hk).2.2)
  have same : plR n len lens fracs ml mf := ⟨hn, fun k hk => ⟨hl k hk, hml k hk, hfk k hk, hfr k hk⟩⟩
  by_cases ht : ¬ t ≤ w
  · -- complete
    rw [if_neg ht] at hU hF
    refine Or.inl ⟨0, -1, lens, fracs, ml, mf, br1, left, dr, aw1, mgg, dc, fn1, ff1, ec1, left, dr, mgg, dc, 0, 0, far, near, ech, ?_, ?_, same⟩
    · unfold F_X8_takesPart F_X7_firstDifference
      rw [e1, bd9_s, c32_of 0, hF, bd1_some, if_pos rfl, ← c32_of 0]
    · unfold F_X6_peels F_X6_firstUnlike
      rw [show F_X6_firstUnlike_2 gFU m ech 0 = _ from hU, bd1_some, if_pos rfl]
  replace ht : t ≤ w := by omega
  rw [if_pos ht] at hU hF
  have hne := c32_ne1 (show t < 2147483648 by omega)
  have hE0 : F_X5_at ec1 (c32 t) = some (ec1 t) := atE (by omega)
  have hK0 : F_X4_at obs (c32 t) = some (obs t) := atK (by omega)
  -- the two sides, opened
  have hC : F_X8_takesPart 0 (-1) (c32 n) (c32 1) front least (c32 w) lens fracs tms ens fn ff ec obs = if obs t < ech t then some (0, 1, c32 t, c32 n, lens, fracs, br1, left, dr, aw1, mgg, dc, fn1, ff1, ec1) else if t % 2 = 1 then some (0, 1, c32 t, c32 n, lens, fracs, br1, left, dr, aw1, mgg, dc, fn1, ff1, ec1) else if 2 * ls n len < t then (if 20 < t / 2 - ls n len then some (0, 2, c32 t, c32 n, lens, fracs, br1, left, dr, aw1, mgg, dc, fn1, ff1, ec1) else if n = 8 then some (0, 2, c32 t, c32 n, lens, fracs, br1, left, dr, aw1, mgg, dc, fn1, ff1, ec1) else (bd3 (F_X3_insert (c32 n) lens fracs (c32 n) (c32 (t / 2 - ls n len)) 0) fun w14_n w15_lengths w16_fractions =>
              bd1 (F_X4_at obs (c32 t)) fun r17 =>
              bd11 (F_X8_fraction w14_n (c32 1) front least (c32 w) w15_lengths w16_fractions tms ens br1 left dr aw1 mgg dc fn1 ff1 ec1 (c32 t) r17) fun r18 w19_fractions w20_brought w21_left w22_dropped w23_away w24_mergings w25_drops w26_fromNear w27_fromFar w28_echoes =>
              gin (w14_n - 1) 8 <|
              bd9 (F_X5_run w26_fromNear w27_fromFar w28_echoes w14_n (c32 1) front least (c32 w) w15_lengths (upd w19_fractions (w14_n - 1).toNatClampNeg r18) tms ens) fun w30_brought w31_left w32_dropped w33_away w34_mergings w35_drops w36_fromNear w37_fromFar w38_echoes =>
              bd1 (F_X5_at w38_echoes (c32 t)) fun r39 =>
              bd1 (F_X4_at obs (c32 t)) fun r40 =>
              if r39 = r40 then
                (some (1, 0, -1, w14_n, w15_lengths, upd w19_fractions (w14_n - 1).toNatClampNeg r18, w30_brought, w31_left, w32_dropped, w33_away, w34_mergings, w35_drops, w36_fromNear, w37_fromFar, w38_echoes))
              else
                (bd3 (F_X3_remove w14_n w15_lengths (upd w19_fractions (w14_n - 1).toNatClampNeg r18) (w14_n - 1)) fun w41_n w42_lengths w43_fractions =>
                bd3 (F_X8_end 1 (c32 t)) fun r44 w45_result w46_ended =>
                gch (r44 = 0 ∨ r44 = 1) <|
                some (r44, w45_result, w46_ended, w41_n, w42_lengths, w43_fractions, w30_brought, w31_left, w32_dropped, w33_away, w34_mergings, w35_drops, w36_fromNear, w37_fromFar, w38_echoes)))) else some (0, 1, c32 t, c32 n, lens, fracs, br1, left, dr, aw1, mgg, dc, fn1, ff1, ec1) := by
    unfold F_X8_takesPart F_X7_firstDifference F_X8_takesPart_75 F_X8_takesPart_109 F_X8_end
    rw [e1, bd9_s, show F_X7_firstDifference_2 gFU (c32 w) 0 ec1 obs = _ from hF, bd1_some, if_neg hne, hsum, bd1_some, hK0, bd1_some, hE0, bd1_some, e4 t (by omega)]
    refine ifc rfl ?_
    rw [c32_of 2, c32_div (by omega) (by omega) (by omega), c32_mul, c32_sub (show t / 2 * 2 ≤ t by omega), c32_mul]
    by_cases h1 : t % 2 = 1
    · rw [if_pos h1, c32_of 1, ieq_t (by omega)]
      rfl
    rw [if_neg h1, c32_of 1, ieq_f (by omega) (by omega) (by omega)]
    by_cases h2 : ¬ 2 * ls n len < t
    · rw [if_neg h2, ilt_f (by omega) (by omega)]
      rfl
    replace h2 : 2 * ls n len < t := by omega
    rw [if_pos h2, ilt_t h2 (by omega), c32_sub (show ls n len ≤ t / 2 by omega), c32_of 20]
    by_cases h3 : 20 < t / 2 - ls n len
    · rw [if_pos h3, ilt_t h3 (by omega)]
      rfl
    rw [if_neg h3, ilt_f (by omega) (by omega), c32_of 8]
    by_cases h4 : n = 8
    · rw [if_pos h4, ieq_t h4]
      rfl
    rw [if_neg h4, ieq_f h4 (by omega) (by omega)]
  have hM : F_X6_peels (c32 n) (c32 1) left dr mgg dc 0 0 (c32 (ls n len)) m ml mf mt me far near ech = if obs t < ech t then some (0, c32 n, left, dr, mgg, dc, 0, 0, 1, c32 t, c32 (ls n len), ml, mf, far, near, ech) else if t % 2 = 1 then some (0, c32 n, left, dr, mgg, dc, 0, 0, 1, c32 t, c32 (ls n len), ml, mf, far, near, ech) else if 2 * ls n len < t then (if 20 < t / 2 - ls n len then some (0, c32 n, left, dr, mgg, dc, 0, 0, 2, c32 t, c32 (ls n len), ml, mf, far, near, ech) else if n = 8 then some (0, c32 n, left, dr, mgg, dc, 0, 0, 2, c32 t, c32 (ls n len), ml, mf, far, near, ech) else bd14 (F_X6_puts_36 gFU (c32 (n + 1)) (c32 1) (c32 (ls n len)) m (upd ml n (c32 (t / 2 - ls n len))) mf mt me far near ech (c32 t) (c32 (t / 2 - ls n len)) (c32 1) (c32 1000)) fun r2 w3_lineParts w4_left w5_dropped w6_merged w7_drops w8_contributions w9_packet w10_peelSum w11_lengths w12_fractions w13_far w14_near w15_echoes =>
              gch (r2 = 0 ∨ r2 = 1) <|
              some (r2, w3_lineParts, w4_left, w5_dropped, w6_merged, w7_drops, w8_contributions, w9_packet, 1, c32 t, w10_peelSum, w11_lengths, w12_fractions, w13_far, w14_near, w15_echoes)) else some (0, c32 n, left, dr, mgg, dc, 0, 0, 1, c32 t, c32 (ls n len), ml, mf, far, near, ech) := by
    unfold F_X6_peels F_X6_firstUnlike F_X6_peels_59 F_X6_peels_88
    rw [show F_X6_firstUnlike_2 gFU m ech 0 = _ from hU, bd1_some, if_neg hne, c32_of 230, c32_add, gin_c (by omega) (by omega), gin_c (by omega) (by omega), c32_nat (by omega), c32_nat (by omega), hO t (by omega)]
    refine ifc rfl ?_
    rw [c32_of 2, c32_div (by omega) (by omega) (by omega), c32_mul, c32_sub (show t / 2 * 2 ≤ t by omega), c32_mul]
    by_cases h1 : t % 2 = 1
    · rw [if_pos h1, c32_of 1, ieq_t (by omega)]
    rw [if_neg h1, c32_of 1, ieq_f (by omega) (by omega) (by omega)]
    by_cases h2 : ¬ 2 * ls n len < t
    · rw [if_neg h2, ilt_f (by omega) (by omega)]
    replace h2 : 2 * ls n len < t := by omega
    rw [if_pos h2, ilt_t h2 (by omega), c32_sub (show ls n len ≤ t / 2 by omega), c32_of 20]
    by_cases h3 : 20 < t / 2 - ls n len
    · rw [if_pos h3, ilt_t h3 (by omega)]
    rw [if_neg h3, ilt_f (by omega) (by omega), c32_of 8]
    by_cases h4 : n = 8
    · rw [if_pos h4, ieq_t h4]
    rw [if_neg h4, ieq_f h4 (by omega) (by omega)]
    unfold F_X6_puts
    rw [gin_c (by omega) (by omega), c32_of 1, c32_add, c32_of 2, c32_div (by omega) (by omega) (by omega), c32_sub (show ls n len ≤ t / 2 by omega), c32_nat (by omega), c32_of 1000]
  have stop : ∀ res : Int32, F_X8_takesPart 0 (-1) (c32 n) (c32 1) front least (c32 w) lens fracs tms ens fn ff ec obs = some (0, res, c32 t, c32 n, lens, fracs, br1, left, dr, aw1, mgg, dc, fn1, ff1, ec1) → F_X6_peels (c32 n) (c32 1) left dr mgg dc 0 0 (c32 (ls n len)) m ml mf mt me far near ech = some (0, c32 n, left, dr, mgg, dc, 0, 0, res, c32 t, c32 (ls n len), ml, mf, far, near, ech) → (∃ res en lens' fracs' ml' mf' br' left' dr' aw' mgg' dc' fn' ff' ec' left2 dr2 mg2 dc2 co2 pa2 far2 near2 ech2, F_X8_takesPart 0 (-1) (c32 n) (c32 1) front least (c32 w) lens fracs tms ens fn ff ec obs = some (0, res, en, c32 n, lens', fracs', br', left', dr', aw', mgg', dc', fn', ff', ec') ∧ F_X6_peels (c32 n) (c32 1) left dr mgg dc 0 0 (c32 (ls n len)) m ml mf mt me far near ech = some (0, c32 n, left2, dr2, mg2, dc2, co2, pa2, res, en, c32 (ls n len), ml', mf', far2, near2, ech2) ∧ plR n len lens' fracs' ml' mf') := fun res h1 h2 => ⟨res, c32 t, lens, fracs, ml, mf, br1, left, dr, aw1, mgg, dc, fn1, ff1, ec1, left, dr, mgg, dc, 0, 0, far, near, ech, h1, h2, same⟩
  by_cases h0 : obs t < ech t
  · rw [if_pos h0] at hC hM
    exact Or.inl (stop 1 hC hM)
  rw [if_neg h0] at hC hM
  by_cases h1 : t % 2 = 1
  · rw [if_pos h1] at hC hM
    exact Or.inl (stop 1 hC hM)
  rw [if_neg h1] at hC hM
  by_cases h2 : ¬ 2 * ls n len < t
  · rw [if_neg h2] at hC hM
    exact Or.inl (stop 1 hC hM)
  replace h2 : 2 * ls n len < t := by omega
  rw [if_pos h2] at hC hM
  by_cases h3 : 20 < t / 2 - ls n len
  · rw [if_pos h3] at hC hM
    exact Or.inl (stop 2 hC hM)
  rw [if_neg h3] at hC hM
  by_cases h4 : n = 8
  · rw [if_pos h4] at hC hM
    exact Or.inl (stop 2 hC hM)
  rw [if_neg h4] at hC hM
  -- a part is put behind the last
  have hq := L.2.1
  generalize hLd : t / 2 - ls n len = ld at hC hM h3
  rw [insertF (by omega) (Nat.le_refl n), bd3_s] at hC
  have hlk : ∀ k, k < n + 1 → upd (va_cpy lens lens n (n + 1) (n - n)) n (c32 ld) k = if k = n then c32 ld else lens k := fun k hk => by
    by_cases e : k = n
    · rw [if_pos e, e, upd_eq]
    · rw [if_neg e, upd_ne e, ins_at _ (by omega), if_pos (by omega)]
  have hfk2 : ∀ k, k < n → upd (va_cpy fracs fracs n (n + 1) (n - n)) n 0 k = fracs k := fun k hk => by
    rw [upd_ne (by omega), ins_at _ (by omega), if_pos (by omega)]
  generalize upd (va_cpy lens lens n (n + 1) (n - n)) n (c32 ld) = lens2 at hC hlk
  generalize upd (va_cpy fracs fracs n (n + 1) (n - n)) n 0 = fr2 at hC hfk2
  have hlen2 : ∀ k, k < n + 1 → lens2 k = c32 ((fun k => if k = n then ld else len k) k) ∧ 1 ≤ (fun k => if k = n then ld else len k) k ∧ (fun k => if k = n then ld else len k) k ≤ 20 := fun k hk => by
    dsimp only
    rw [hlk k hk]
    by_cases e : k = n
    · rw [if_pos e, if_pos e]; exact ⟨rfl, by omega, by omega⟩
    · rw [if_neg e, if_neg e]; exact hl k (by omega)
  have hml2 : ∀ k, k < n + 1 → upd ml n (c32 ld) k = lens2 k := fun k hk => by
    rw [hlk k hk]
    by_cases e : k = n
    · rw [if_pos e, e, upd_eq]
    · rw [if_neg e, upd_ne e]; exact hml k (by omega)
  have hls2 : ls (n + 1) (fun k => if k = n then ld else len k) = ls n len + ld := by
    rw [ls, if_pos rfl, ls_congr (f := fun k => if k = n then ld else len k) (g := len) (fun k hk => if_neg (by omega))]
  generalize hlenN : (fun k => if k = n then ld else len k) = len2 at hlen2 hls2
  obtain ⟨-, -, -, -, -, -, -, hmt, hme, hen, -, -⟩ := L
  -- any line with these lengths
  have Lx : ∀ fr mf2 : Nat → Int32, mf2 0 = front → (∀ k, k < n + 1 → mf2 (k + 1) = fr k) → lnR (n + 1) 1 w len2 lens2 fr tms ens front least m (upd ml n (c32 ld)) mf2 mt me := fun fr mf2 g1 g2 => ⟨by omega, hq, hw, hlen2, hml2, g1, g2, hmt, hme, hen, h18, h19⟩
  have Lb := Lx (fun k => mf (k + 1)) mf hf0 (fun _ _ => rfl)
  obtain ⟨v, fr', mf', br', left', dr', aw', mgg', dc', fn', ff', ec', far', near', ech', i1, i2, i3, i4, i5, i6, i7⟩ := frac_l Lb hO (show t ≤ 200 by omega) (c32 ld) (c32 (ls n len)) 999 1 1000 gFU gFU fr2 mf br1 left dr aw1 mgg dc fn1 ff1 ec1 far near ech (by omega) (by omega) (by omega) (by omega) (by decide) (by decide) hf0 (fun k hk => by rw [hfk2 k hk]; exact hfk k hk)
  have L3 := Lx (upd fr' n (c32 v)) (upd mf' (n + 1) (c32 v)) (by rw [upd_ne (by omega)]; exact i5) (fun k hk => by
    by_cases e : k = n
    · rw [e, upd_eq, upd_eq]
    · rw [upd_ne (by omega), upd_ne e]; exact i6 k (by omega))
  obtain ⟨br9, left9, dr9, aw9, mg9, dc9, fn9, ff9, ec9, far9, near9, ech9, u1, u2, -, u4, -⟩ := run_ok L3 fn' ff' ec' far' near' ech'
  have hfr9 : ∀ k, k < n + 1 → ¬ upd fr' n (c32 v) k < 0 := fun k hk => by
    by_cases e : k = n
    · rw [e, upd_eq]; exact c32_ge0 v (by omega)
    · rw [upd_ne e, i7 k (by omega), hfk2 k (by omega)]; exact hfr k (by omega)
  have hF8 : F_X8_fraction (c32 (n + 1)) (c32 1) front least (c32 w) lens2 fr2 tms ens br1 left dr aw1 mgg dc fn1 ff1 ec1 (c32 t) (obs t) = some (c32 v, fr', br', left', dr', aw', mgg', dc', fn', ff', ec') := by
    unfold F_X8_fraction
    rw [c32_of 1, c32_of 1000]
    exact i3
  rw [hK0, bd1_some, hF8, bd11_s, show (c32 (n + 1) - 1 : Int32) = c32 n by rw [c32_of 1, c32_sub (by omega)]; rfl, gin_c (by omega) (by omega), c32_nat (by omega), u1, bd9_s, atE (by omega), bd1_some, bd1_some, u4 t (by omega)] at hC
  rw [i4] at hM
  have hPut : F_X6_puts_36 1 (c32 (n + 1)) (c32 1) (c32 (ls n len)) m (upd ml n (c32 ld)) mf' mt me far' near' ech' (c32 t) (c32 ld) (c32 v) (c32 v) = if ech9 t = obs t then some (1, c32 (n + 1), left9, dr9, mg9, dc9, 0, 0, c32 (ls (n + 1) len2), upd ml n (c32 ld), upd mf' (n + 1) (c32 v), far9, near9, ech9) else some (0, c32 n, left9, dr9, mg9, dc9, 0, 0, c32 (ls n len), upd ml n (c32 ld), upd mf' (n + 1) (c32 v), far9, near9, ech9) := by
    show B_X6_puts_36 _ _ _ _ _ _ _ _ _ _ _ _ _ _ _ _ = _
    unfold B_X6_puts_36
    rw [ile_t (by omega) (by omega), gin_c (by omega) (by omega), c32_nat (by omega), u2, bd9_s, gin_c (by omega) (by omega), c32_of 230, c32_add, gin_c (by omega) (by omega), c32_nat (by omega), c32_nat (by omega), hO t (by omega)]
    simp only [nm]
    by_cases h : ech9 t = obs t
    · rw [if_pos h, if_pos h, if_neg (by decide), if_neg (by decide), c32_of 0, c32_sub (by omega), c32_add, hls2]
      rfl
    · rw [if_neg h, if_neg h, if_pos (by decide), if_pos (by decide), c32_of 1, c32_sub (by omega), c32_of 0, c32_add]
      rfl
  rw [hPut] at hM
  by_cases h9 : ech9 t = obs t
  · rw [if_pos h9] at hC hM
    rw [bd14_s] at hM
    refine Or.inr ⟨len2, lens2, upd fr' n (c32 v), upd ml n (c32 ld), upd mf' (n + 1) (c32 v), br9, left9, dr9, aw9, mg9, dc9, fn9, ff9, ec9, left9, dr9, mg9, dc9, 1, c32 t, far9, near9, ech9, far', near', ech', by omega, hC, ?_, L3, hfr9, u2⟩
    rw [hM]
    rfl
  · rw [if_neg h9] at hC hM
    rw [bd14_s] at hM
    rw [delF (by omega) (by omega), bd3_s] at hC
    refine Or.inl ⟨1, c32 t, _, _, upd ml n (c32 ld), upd mf' (n + 1) (c32 v), br9, left9, dr9, aw9, mg9, dc9, fn9, ff9, ec9, left9, dr9, mg9, dc9, 0, 0, far9, near9, ech9, hC, ?_, hn, fun k hk => ?_⟩
    · rw [hM]
      rfl
    · have d1 : ∀ f : Nat → Int32, va_cpy f f (n + 1) n (n + 1 - 1 - n) k = f k := fun f => by
        unfold va_cpy
        rw [if_neg (by omega)]
      rw [d1, d1, hlk k (by omega), if_neg (by omega), upd_ne (by omega), upd_ne (by omega), upd_ne (by omega), i7 k hk, hfk2 k hk, i6 k hk, i7 k hk, hfk2 k hk]
      exact ⟨hl k hk, hml k hk, rfl, hfr k hk⟩
end PEEL
