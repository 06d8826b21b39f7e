/-! the pure law, text X -/
set_option maxRecDepth 100000
/-! P20: peeling, both sides in step -/
theorem c32_div {a b : Nat} (ha : a < 2147483648) (hb : 0 < b) (hb2 : b < 2147483648) : c32 a / c32 b = c32 (a / b) := by
  apply Int32.toInt_inj.mp
  have h1 : a / b ≤ a := Nat.div_le_self a b
  rw [Int32.toInt_div, c32_toInt ha, c32_toInt hb2, c32_toInt (by omega)]
  rw [show (a : Int).tdiv (b : Int) = ((a / b : Nat) : Int) from by simp [Int.tdiv_eq_ediv]]
  generalize a / b = c at h1 ⊢
  rw [Int.bmod_eq_of_le] <;> omega
section PEEL
variable {w : Nat} {front least : Int32} {obs m : Nat → Int64} {tms ens : Nat → Int32} {mt : Nat → Int32} {me : Nat → Int64}
theorem lnR_fr {n q : Nat} {len : Nat → Nat} {lens fracs : Nat → Int32} {ml mf : Nat → Int32} (L : lnR n q w len lens fracs tms ens front least m ml mf mt me) {fr2 mf2 : Nat → Int32} (h0 : mf2 0 = front) (h1 : ∀ k, k < n → mf2 (k + 1) = fr2 k) : lnR n q w len lens fr2 tms ens front least m ml mf2 mt me := by
  obtain ⟨hn, hq, hw, hl, hml, -, -, hmt, hme, hen, h18, h19⟩ := L
  exact ⟨hn, hq, hw, hl, hml, h0, h1, hmt, hme, hen, h18, h19⟩
/-- the search of a fraction -/
theorem frac_l {N : Nat} {len : Nat → Nat} {lens ml fb mb : Nat → Int32} (L : lnR (N + 1) 1 w len lens fb tms ens front least m ml mb mt me) (hO : ∀ t, t < 201 → m (230 + t) = obs t) {t : Nat} (ht : t ≤ 200) (pl pp : Int32) : ∀ (d a b f g : Nat) (fr mf : Nat → Int32) (br left dr aw : Int64) (mgg dc : Int32) (fn ff ec far near ech : Nat → Int64), b ≤ a + d → 1 ≤ a → a ≤ b → b ≤ 1000 → d < f → d < g → mf 0 = front → (∀ k, k < N → mf (k + 1) = fr k) →
    ∃ v fr' mf' br' left' dr' aw' mgg' dc' fn' ff' ec' far' near' ech', 1 ≤ v ∧ v ≤ 1000 ∧ F_X8_fraction_8 f (c32 (N + 1)) (c32 1) front least (c32 w) lens fr tms ens br left dr aw mgg dc fn ff ec (c32 t) (obs t) (c32 a) (c32 b) = some (c32 v, fr', br', left', dr', aw', mgg', dc', fn', ff', ec') ∧
      F_X6_puts_36 g (c32 (N + 1)) (c32 1) pp m ml mf mt me far near ech (c32 t) pl (c32 a) (c32 b) = F_X6_puts_36 1 (c32 (N + 1)) (c32 1) pp m ml mf' mt me far' near' ech' (c32 t) pl (c32 v) (c32 v) ∧ mf' 0 = front ∧ (∀ k, k < N → mf' (k + 1) = fr' k) ∧ (∀ k, k < N → fr' k = fr k) := by
  have hn := L.1
  have hw := L.2.2.1
  intro d
  induction d with
  | zero =>
    intro a b f g fr mf br left dr aw mgg dc fn ff ec far near ech h h1 h2 h3 hf hg hm0 hmk
    obtain ⟨f, rfl⟩ : ∃ z, f = z + 1 := ⟨f - 1, by omega⟩
    obtain ⟨g, rfl⟩ : ∃ z, g = z + 1 := ⟨g - 1, by omega⟩
    have : b = a := by omega
    subst this
    refine ⟨b, fr, mf, br, left, dr, aw, mgg, dc, fn, ff, ec, far, near, ech, h1, h3, ?_, ?_, hm0, hmk, fun _ _ => rfl⟩
    · show B_X8_fraction_8 _ _ _ _ _ _ _ _ _ _ _ _ _ _ _ _ _ _ _ _ _ _ _ = _
      unfold B_X8_fraction_8
      rw [ile_t (by omega) (by omega)]
    · show B_X6_puts_36 _ _ _ _ _ _ _ _ _ _ _ _ _ _ _ _ = B_X6_puts_36 _ _ _ _ _ _ _ _ _ _ _ _ _ _ _ _
      unfold B_X6_puts_36
      rw [ile_t (by omega) (by omega), ile_t (by omega) (by omega)]
  | succ d ih =>
    intro a b f g fr mf br left dr aw mgg dc fn ff ec far near ech h h1 h2 h3 hf hg hm0 hmk
    by_cases hs : b ≤ a + d
    · exact ih a b f g fr mf br left dr aw mgg dc fn ff ec far near ech hs h1 h2 h3 (by omega) (by omega) hm0 hmk
    obtain ⟨f, rfl⟩ : ∃ z, f = z + 1 := ⟨f - 1, by omega⟩
    obtain ⟨g, rfl⟩ : ∃ z, g = z + 1 := ⟨g - 1, by omega⟩
    have hk0 : upd mf (N + 1) (c32 ((a + b) / 2)) 0 = front := by rw [upd_ne (by omega)]; exact hm0
    have hk1 : ∀ k, k < N → upd mf (N + 1) (c32 ((a + b) / 2)) (k + 1) = upd fr N (c32 ((a + b) / 2)) k := fun k hk => by rw [upd_ne (by omega), upd_ne (by omega)]; exact hmk k hk
    have L2 : lnR (N + 1) 1 w len lens (upd fr N (c32 ((a + b) / 2))) tms ens front least m ml (upd mf (N + 1) (c32 ((a + b) / 2))) mt me := lnR_fr L hk0 (fun k hk => by
      by_cases e : k = N
      · rw [e, upd_eq, upd_eq]
      · exact hk1 k (by omega))
    obtain ⟨br1, left1, dr1, aw1, mg1, dc1, fn1, ff1, ec1, far1, near1, ech1, e1, e2, -, e4, -⟩ := run_ok L2 fn ff ec far near ech
    have hmid : (c32 a + c32 b : Int32) / 2 = c32 ((a + b) / 2) := by rw [c32_add, c32_of 2, c32_div (by omega) (by omega) (by omega)]
    have hC : F_X8_fraction_8 (f + 1) (c32 (N + 1)) (c32 1) front least (c32 w) lens fr tms ens br left dr aw mgg dc fn ff ec (c32 t) (obs t) (c32 a) (c32 b) = if ech1 t < obs t then F_X8_fraction_8 f (c32 (N + 1)) (c32 1) front least (c32 w) lens (upd fr N (c32 ((a + b) / 2))) tms ens br1 left1 dr1 aw1 mg1 dc1 fn1 ff1 ec1 (c32 t) (obs t) (c32 ((a + b) / 2 + 1)) (c32 b) else F_X8_fraction_8 f (c32 (N + 1)) (c32 1) front least (c32 w) lens (upd fr N (c32 ((a + b) / 2))) tms ens br1 left1 dr1 aw1 mg1 dc1 fn1 ff1 ec1 (c32 t) (obs t) (c32 a) (c32 ((a + b) / 2)) := by
      show B_X8_fraction_8 _ _ _ _ _ _ _ _ _ _ _ _ _ _ _ _ _ _ _ _ _ _ _ = _
      unfold B_X8_fraction_8 F_X8_fraction_76
      rw [ile_f (by omega) (by omega), hmid, show (c32 (N + 1) - 1 : Int32) = c32 N by rw [c32_of 1, c32_sub (by omega)]; rfl, gin_c (by omega) (by omega), c32_nat (by omega), e1]
      rw [bd9_s, atE (by omega), bd1_some, e4 t (by omega), show (c32 ((a + b) / 2) + 1 : Int32) = c32 ((a + b) / 2 + 1) from c32_add _ 1]
    have hM : F_X6_puts_36 (g + 1) (c32 (N + 1)) (c32 1) pp m ml mf mt me far near ech (c32 t) pl (c32 a) (c32 b) = if ech1 t < obs t then F_X6_puts_36 g (c32 (N + 1)) (c32 1) pp m ml (upd mf (N + 1) (c32 ((a + b) / 2))) mt me far1 near1 ech1 (c32 t) pl (c32 ((a + b) / 2 + 1)) (c32 b) else F_X6_puts_36 g (c32 (N + 1)) (c32 1) pp m ml (upd mf (N + 1) (c32 ((a + b) / 2))) mt me far1 near1 ech1 (c32 t) pl (c32 a) (c32 ((a + b) / 2)) := by
      show B_X6_puts_36 _ _ _ _ _ _ _ _ _ _ _ _ _ _ _ _ = _
      unfold B_X6_puts_36
      rw [ile_f (by omega) (by omega), hmid, gin_c (by omega) (by omega), c32_nat (by omega), e2]
      rw [bd9_s, gin_c (by omega) (by omega), c32_of 230, c32_add, gin_c (by omega) (by omega), gin_c (by omega) (by omega), gin_c (by omega) (by omega), c32_nat (by omega), c32_nat (by omega), hO t (by omega)]
      by_cases hc : ech1 t < obs t
      · have hc2 : ¬ obs t ≤ ech1 t := by rw [Int64.le_iff_toInt_le]; rw [Int64.lt_iff_toInt_lt] at hc; omega
        rw [if_pos hc, if_neg hc2, if_neg hc2, show (c32 ((a + b) / 2) + 1 : Int32) = c32 ((a + b) / 2 + 1) from c32_add _ 1]
      · have hc2 : obs t ≤ ech1 t := by rw [Int64.le_iff_toInt_le]; rw [Int64.lt_iff_toInt_lt] at hc; omega
        rw [if_neg hc, if_pos hc2, if_pos hc2]
    have fin : ∀ a' b', b' ≤ a' + d → 1 ≤ a' → a' ≤ b' → b' ≤ 1000 → ∃ v fr' mf' br' left' dr' aw' mgg' dc' fn' ff' ec' far' near' ech', 1 ≤ v ∧ v ≤ 1000 ∧ F_X8_fraction_8 f (c32 (N + 1)) (c32 1) front least (c32 w) lens (upd fr N (c32 ((a + b) / 2))) tms ens br1 left1 dr1 aw1 mg1 dc1 fn1 ff1 ec1 (c32 t) (obs t) (c32 a') (c32 b') = some (c32 v, fr', br', left', dr', aw', mgg', dc', fn', ff', ec') ∧
      F_X6_puts_36 g (c32 (N + 1)) (c32 1) pp m ml (upd mf (N + 1) (c32 ((a + b) / 2))) mt me far1 near1 ech1 (c32 t) pl (c32 a') (c32 b') = F_X6_puts_36 1 (c32 (N + 1)) (c32 1) pp m ml mf' mt me far' near' ech' (c32 t) pl (c32 v) (c32 v) ∧ mf' 0 = front ∧ (∀ k, k < N → mf' (k + 1) = fr' k) ∧ (∀ k, k < N → fr' k = fr k) := by
      intro a' b' h4 h5 h6 h7
      obtain ⟨v, fr', mf', br', left', dr', aw', mgg', dc', fn', ff', ec', far', near', ech', i1, i2, i3, i4, i5, i6, i7⟩ := ih a' b' f g (upd fr N (c32 ((a + b) / 2))) (upd mf (N + 1) (c32 ((a + b) / 2))) br1 left1 dr1 aw1 mg1 dc1 fn1 ff1 ec1 far1 near1 ech1 h4 h5 h6 h7 (by omega) (by omega) hk0 hk1
      exact ⟨v, fr', mf', br', left', dr', aw', mgg', dc', fn', ff', ec', far', near', ech', i1, i2, i3, i4, i5, i6, fun k hk => by rw [i7 k hk, upd_ne (by omega)]⟩
    rw [hC, hM]
    by_cases hc : ech1 t < obs t
    · rw [if_pos hc, if_pos hc]
      exact fin _ _ (by omega) (by omega) (by omega) (by omega)
    · rw [if_neg hc, if_neg hc]
      exact fin _ _ (by omega) (by omega) (by omega) (by omega)
/-- the reference's first time unlike -/
theorem unlikeM (hw : w ≤ 200) (h19 : m 19 = c64 w) (hO : ∀ t, t < 201 → m (230 + t) = obs t) (ech : Nat → Int64) : ∀ (d i f : Nat), i + d = w + 1 → d < f → F_X6_firstUnlike_2 f m ech (c32 i) = some (if fd d i ech obs ≤ w then c32 (fd d i ech obs) else -1) := by
  intro d
  induction d with
  | zero =>
    intro i f h hf
    obtain ⟨f, rfl⟩ : ∃ z, f = z + 1 := ⟨f - 1, by omega⟩
    show B_X6_firstUnlike_2 _ _ _ _ = _
    unfold B_X6_firstUnlike_2
    rw [windowM h19, bd1_some, ilt_t (by omega) (by omega), fd, if_neg (by omega)]
  | succ d ih =>
    intro i f h hf
    obtain ⟨f, rfl⟩ : ∃ z, f = z + 1 := ⟨f - 1, by omega⟩
    show B_X6_firstUnlike_2 _ _ _ _ = _
    unfold B_X6_firstUnlike_2
    rw [windowM h19, bd1_some, ilt_f (by omega) (by omega), c32_of 230, c32_add, gin_c (by omega) (by omega), gin_c (by omega) (by omega), c32_nat (by omega), c32_nat (by omega), hO i (by omega), fd]
    by_cases e : ech i = obs i
    · rw [if_pos e, if_pos e.symm, c32_of 1, c32_add]
      exact ih (i + 1) f (by omega) (by omega)
    · rw [if_neg e, if_neg (fun z => e z.symm), if_pos (by omega)]
end PEEL
