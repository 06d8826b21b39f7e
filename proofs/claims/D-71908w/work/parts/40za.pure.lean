/-! the pure law, text ZA -/
set_option maxRecDepth 100000
/-! P22: the whole of peeling; peel, found, adopt -/
section PEEL
variable {w : Nat} {front least : Int32} {obs m : Nat → Int64} {tms ens : Nat → Int32} {mt : Nat → Int32} {me : Nat → Int64}
theorem peel_l (hO : ∀ t, t < 201 → m (230 + t) = obs t) : ∀ (d n f g : Nat) (len : Nat → Nat) (lens fracs ml mf : Nat → Int32) (br0 l0 d0 aw0 : Int64) (mg0 dc0 : Int32) (fn ff ec : Nat → Int64) (res0 t0 : Int32) (far0 near0 ech0 : Nat → Int64) (left dr : Int64) (mgg dc : Int32) (far near ech : Nat → Int64), n + d = 9 → d < f → d < g → lnR n 1 w len lens fracs tms ens front least m ml mf mt me → (∀ k, k < n → ¬ fracs k < 0) → F_X6_runLine (c32 n) (c32 1) m ml mf mt me far0 near0 ech0 = some (left, dr, mgg, dc, 0, 0, far, near, ech) →
    ∃ n' len' lens' fracs' ml' mf' br' left' dr' aw' mgg' dc' fn' ff' ec' res en left2 dr2 mg2 dc2 co2 pa2 far2 near2 ech2, F_X8_of_15 f br0 l0 d0 aw0 mg0 dc0 fn ff ec (c32 n) (c32 1) front least (c32 w) lens fracs tms ens 0 (-1) 1 obs = some (br', left', dr', aw', mgg', dc', fn', ff', ec', res, en, c32 n', c32 1, front, least, c32 w, lens', fracs', tms, ens) ∧
      F_X6_peelAll_55 g (c32 n) (c32 1) left dr mgg dc 0 0 res0 t0 (c32 (ls n len)) m ml mf mt me far near ech 1 = some (c32 n', c32 1, left2, dr2, mg2, dc2, co2, pa2, res, en, c32 (ls n' len'), ml', mf', mt, me, far2, near2, ech2) ∧ plR n' len' lens' fracs' ml' mf' := by
  intro d
  induction d with
  | zero =>
    intro n f g len lens fracs ml mf br0 l0 d0 aw0 mg0 dc0 fn ff ec res0 t0 far0 near0 ech0 left dr mgg dc far near ech h hf hg L
    exact absurd L.1 (by omega)
  | succ d ih =>
    intro n f g len lens fracs ml mf br0 l0 d0 aw0 mg0 dc0 fn ff ec res0 t0 far0 near0 ech0 left dr mgg dc far near ech h hf hg L hfr hrun
    obtain ⟨f, rfl⟩ : ∃ z, f = z + 1 := ⟨f - 1, by omega⟩
    obtain ⟨g, rfl⟩ : ∃ z, g = z + 1 := ⟨g - 1, by omega⟩
    rcases peel_step L hfr hO far0 near0 ech0 hrun fn ff ec with ⟨res, en, lens', fracs', ml', mf', br', left', dr', aw', mgg', dc', fn', ff', ec', left2, dr2, mg2, dc2, co2, pa2, far2, near2, ech2, hC, hM, hP⟩ | ⟨len', lens', fracs', ml', mf', br', left', dr', aw', mgg', dc', fn', ff', ec', left2, dr2, mg2, dc2, res2, t2, far2, near2, ech2, fx, nx, ex, hn8, hC, hM, L', hfr', hrun'⟩
    · obtain ⟨f, rfl⟩ : ∃ z, f = z + 1 := ⟨f - 1, by omega⟩
      obtain ⟨g, rfl⟩ : ∃ z, g = z + 1 := ⟨g - 1, by omega⟩
      refine ⟨n, len, lens', fracs', ml', mf', br', left', dr', aw', mgg', dc', fn', ff', ec', res, en, left2, dr2, mg2, dc2, co2, pa2, far2, near2, ech2, ?_, ?_, hP⟩
      · show B_X8_of_15 _ _ _ _ _ _ _ _ _ _ _ _ _ _ _ _ _ _ _ _ _ _ _ = _
        unfold B_X8_of_15
        rw [if_neg (by decide), hC, bd15_s]
        show B_X8_of_15 _ _ _ _ _ _ _ _ _ _ _ _ _ _ _ _ _ _ _ _ _ _ _ = _
        unfold B_X8_of_15
        rw [if_pos (by decide)]
      · show B_X6_peelAll_55 _ _ _ _ _ _ _ _ _ _ _ _ _ _ _ _ _ _ _ _ _ = _
        unfold B_X6_peelAll_55
        rw [if_neg (by decide), hM, bd16_s]
        show B_X6_peelAll_55 _ _ _ _ _ _ _ _ _ _ _ _ _ _ _ _ _ _ _ _ _ = _
        unfold B_X6_peelAll_55
        rw [if_pos (by decide)]
    · obtain ⟨n9, len9, lens9, fr9, ml9, mf9, br9, l9, d9, a9, g9, c9, fn9, ff9, ec9, res9, en9, x1, x2, x3, x4, x5, x6, x7, x8, x9, k1, k2, k3⟩ := ih (n + 1) f g len' lens' fracs' ml' mf' br' left' dr' aw' mgg' dc' fn' ff' ec' res2 t2 fx nx ex left2 dr2 mg2 dc2 far2 near2 ech2 (by omega) (by omega) (by omega) L' hfr' hrun'
      refine ⟨n9, len9, lens9, fr9, ml9, mf9, br9, l9, d9, a9, g9, c9, fn9, ff9, ec9, res9, en9, x1, x2, x3, x4, x5, x6, x7, x8, x9, ?_, ?_, k3⟩
      · show B_X8_of_15 _ _ _ _ _ _ _ _ _ _ _ _ _ _ _ _ _ _ _ _ _ _ _ = _
        unfold B_X8_of_15
        rw [if_neg (by decide), hC, bd15_s]
        exact k1
      · show B_X6_peelAll_55 _ _ _ _ _ _ _ _ _ _ _ _ _ _ _ _ _ _ _ _ _ = _
        unfold B_X6_peelAll_55
        rw [if_neg (by decide), hM, bd16_s]
        exact k2
end PEEL
section PG
variable {n q w : Nat} {len : Nat → Nat} {lens fracs tms ens : Nat → Int32} {front least : Int32} {snd obs m : Nat → Int64}
theorem peel_ok (R : pgR n q w len lens fracs tms ens front least snd obs m) (br0 l0 d0 aw0 : Int64) (mg0 dc0 : Int32) (fn0 ff0 ec0 : Nat → Int64) (gres gtime : Int32) (gl gf gt : Nat → Int32) (ge gfar gnear gech : Nat → Int64) : ∃ n' len' lens' fracs' ml' mf' tms' ens' mt' me' br' left' dr' aw' mgg' dc' fn' ff' ec' res en left2 dr2 mg2 dc2 co2 pa2 far2 near2 ech2,
    F_X8_of br0 l0 d0 aw0 mg0 dc0 fn0 ff0 ec0 front least (c32 w) ens obs = some (br', left', dr', aw', mgg', dc', fn', ff', ec', res, en, c32 n', c32 1, front, least, c32 w, lens', fracs', tms', ens') ∧
    F_X6_peelAll gres gtime m gl gf gt ge gfar gnear gech = some (c32 n', c32 1, left2, dr2, mg2, dc2, co2, pa2, res, en, c32 (ls n' len'), ml', mf', mt', me', far2, near2, ech2) ∧ plR n' len' lens' fracs' ml' mf' := by
  obtain ⟨hn, hq1, hq, hw1, hw, hl, hen, htm, h0, h17, h18, h19, h20, hL, hF, hT, hE, hS, hO, hfr⟩ := R
  have L : lnR 0 1 w (fun _ => 0) (fun _ => 0) (fun _ => 0) (upd (fun _ => 0) 0 0) (upd (fun _ => 0) 0 (ens 0)) front least m gl (upd gf 0 front) (upd gt 0 0) (vp_updL ge 0 (ens 0).toInt64) := by
    refine ⟨by omega, by omega, hw, fun k hk => absurd hk (by omega), fun k hk => absurd hk (by omega), upd_eq, fun k hk => absurd hk (by omega), fun k hk => ?_, fun k hk => ?_, fun k hk => ?_, h18, h19⟩
    · rw [show k = 0 by omega, upd_eq, upd_eq]
    · rw [show k = 0 by omega, upd_eq, updL_eq]
    · rw [show k = 0 by omega, upd_eq]; exact hen 0 (by omega)
  obtain ⟨-, left, dr, -, mgg, dc, -, -, -, far, near, ech, -, e2, -⟩ := run_ok L fn0 ff0 ec0 gfar gnear gech
  obtain ⟨n9, len9, lens9, fr9, ml9, mf9, br9, l9, d9, a9, g9, c9, fn9, ff9, ec9, res9, en9, x1, x2, x3, x4, x5, x6, x7, x8, x9, k1, k2, k3⟩ := peel_l hO 9 0 gFU gFU (fun _ => 0) (fun _ => 0) (fun _ => 0) gl (upd gf 0 front) br0 l0 d0 aw0 mg0 dc0 fn0 ff0 ec0 gres gtime gfar gnear gech left dr mgg dc far near ech rfl (by show 9 < 5000; omega) (by show 9 < 5000; omega) L (fun k hk => absurd hk (by omega)) e2
  refine ⟨n9, len9, lens9, fr9, ml9, mf9, upd (fun _ => 0) 0 0, upd (fun _ => 0) 0 (ens 0), upd gt 0 0, vp_updL ge 0 (ens 0).toInt64, br9, l9, d9, a9, g9, c9, fn9, ff9, ec9, res9, en9, x1, x2, x3, x4, x5, x6, x7, x8, x9, ?_, ?_, k3⟩
  · unfold F_X8_of
    rw [show F_X3_forPeeling front least (c32 w) ens = some (c32 0, c32 1, front, least, c32 w, fun _ => 0, fun _ => 0, upd (fun _ => 0) 0 0, upd (fun _ => 0) 0 (ens 0)) from rfl, bd9_s, show F_X8_init = some (0, -1) from rfl, bd2_s]
    exact k1
  · have h22 : m 22 = (ens 0).toInt64 := hE 0 (by omega)
    unfold F_X6_peelAll
    simp only [nm]
    rw [c32_of 17, gin_c (by omega) (by omega), c32_of 0, gin_c (by omega) (by omega), gin_c (by omega) (by omega), c32_of 22, gin_c (by omega) (by omega), gin_c (by omega) (by omega), c32_nat (by omega), c32_nat (by omega), c32_nat (by omega), h17, i64_32, h22, ← c32_of 0]
    rw [show F_X6_runLine 0 1 m gl (upd gf 0 front) (upd gt 0 0) (vp_updL ge 0 (ens 0).toInt64) gfar gnear gech = _ from e2, bd9_s]
    exact k2
theorem pvalue_ok {len : Nat → Nat} {lens fracs ml mf : Nat → Int32} (P : plR n len lens fracs ml mf) (res en : Int32) {x : Nat} (hx : x ≤ 3) : ∃ r, F_X8_value res en (c32 n) lens (c32 x) = some r ∧ F_X6_peelOf (c32 n) res en (c32 (ls n len)) (c32 x) = some r := by
  unfold F_X8_value F_X8_value_52 F_X6_peelOf F_X6_peelOf_39
  rw [sumF (len := len) P.1 (fun k hk => (P.2 k hk).1.1)]
  rcases (show x = 0 ∨ x = 1 ∨ x = 2 ∨ x = 3 by omega) with rfl | rfl | rfl | rfl
  · exact ⟨res, rfl, rfl⟩
  · exact ⟨en, rfl, rfl⟩
  · exact ⟨c32 n, rfl, rfl⟩
  · exact ⟨c32 (ls n len), rfl, rfl⟩
theorem fvalue_ok {len : Nat → Nat} {lens fracs ml mf : Nat → Int32} (P : plR n len lens fracs ml mf) {a : Nat} (ha : a < 2147483648) {x : Nat} (hx : x ≤ 1) : ∃ r, F_X1_foundValue (c32 n) lens fracs (c32 a) (c32 x) = some r ∧ (if (c32 a) < (c32 n) then (if (c32 x) = 0 then gin (c32 a) 8 (some (ml (c32 a).toNatClampNeg)) else gin (c32 a + 1) 9 (some (mf (c32 a + 1).toNatClampNeg))) else some (-1)) = some r := by
  have hn := P.1
  unfold F_X1_foundValue F_X1_foundValue_31
  by_cases h : a < n
  · have hP := P.2 a h
    rw [ilt_t h (by omega), ilt_t h (by omega), gin_c (by omega) (by omega), gin_c (by omega) (by omega), gin_c (by omega) (by omega), c32_of 1, c32_add, gin_c (by omega) (by omega), c32_nat (by omega), c32_nat (by omega), hP.2.1, hP.2.2.1]
    rcases (show x = 0 ∨ x = 1 by omega) with rfl | rfl
    · exact ⟨lens a, rfl, rfl⟩
    · exact ⟨fracs a, rfl, rfl⟩
  · rw [ilt_f (by omega) (by omega), ilt_f (by omega) (by omega)]
    exact ⟨-1, rfl, rfl⟩
/-- the parts that were found are taken -/
theorem adopt_l {n' : Nat} (hn' : n' ≤ 8) (ml mf : Nat → Int32) {T : Type} (F : (Nat → Int64) → Option T) (K : Nat → (Nat → Int64) → Int32 → Option T) (hK : ∀ f mm x, K (f + 1) mm x = if c32 n' ≤ x then F mm else gin x 8 <| gin (x + 1) 9 <| bd1 (F_X6_laysPart mm x (ml x.toNatClampNeg) (mf (x + 1).toNatClampNeg)) fun w1 => K f w1 (x + 1)) : ∀ (d i f : Nat) (mm : Nat → Int64), i + d = n' → d < f → ∃ mm', K f mm (c32 i) = F mm' ∧ (∀ k, i ≤ k → k < n' → mm' (1 + k) = (ml k).toInt64 ∧ mm' (9 + k) = (mf (k + 1)).toInt64) ∧ (∀ k, (k < 1 + i ∨ (8 < k ∧ k < 9 + i) ∨ 17 ≤ k) → mm' k = mm k) := by
  intro d
  induction d with
  | zero =>
    intro i f mm h hf
    obtain ⟨f, rfl⟩ : ∃ z, f = z + 1 := ⟨f - 1, by omega⟩
    exact ⟨mm, by rw [hK, ile_t (by omega) (by omega)], fun k h1 h2 => absurd h2 (by omega), fun k _ => rfl⟩
  | succ d ih =>
    intro i f mm h hf
    obtain ⟨f, rfl⟩ : ∃ z, f = z + 1 := ⟨f - 1, by omega⟩
    obtain ⟨mm', k1, k2, k3⟩ := ih (i + 1) f (vp_updL (vp_updL mm (1 + i) (ml i).toInt64) (9 + i) (mf (i + 1)).toInt64) (by omega) (by omega)
    refine ⟨mm', ?_, fun k h1 h2 => ?_, fun k hk => ?_⟩
    · rw [hK, ile_f (by omega) (by omega), gin_c (by omega) (by omega), c32_of 1, c32_add, gin_c (by omega) (by omega), c32_nat (by omega), c32_nat (by omega), laysPart mm (by omega), bd1_some]
      exact k1
    · by_cases e : k = i
      · subst e
        rw [k3 (1 + k) (by omega), k3 (9 + k) (by omega), updL_ne (by omega), updL_eq, updL_eq]
        exact ⟨rfl, rfl⟩
      · exact k2 k (by omega) h2
    · rw [k3 k (by omega), updL_ne (by omega), updL_ne (by omega)]
theorem adopt_b (R : pgR n q w len lens fracs tms ens front least snd obs m) (br0 l0 d0 aw0 : Int64) (mg0 dc0 : Int32) (fn0 ff0 ec0 : Nat → Int64) (gres gtime : Int32) (gl gf gt : Nat → Int32) (ge gfar gnear gech : Nat → Int64) : ∃ n' len' lens' fracs' br' left' dr' aw' mgg' dc' fn' ff' ec' m' z1 z2 z3 z4 z5 z6 z7 z8 z9 z10 z11 y, F_X2_adopt front least (c32 w) lens fracs ens br0 l0 d0 aw0 mg0 dc0 fn0 ff0 ec0 obs = some (c32 n', c32 n', lens', fracs', br', left', dr', aw', mgg', dc', fn', ff', ec') ∧
    F_X6_adopts gres gtime m gl gf gt ge gfar gnear gech = some (c32 n', z1, z2, z3, z4, z5, z6, z7, z8, z9, z10, z11, m', (y : (Nat → Int32) × (Nat → Int32) × (Nat → Int32) × (Nat → Int64) × (Nat → Int64) × (Nat → Int64) × (Nat → Int64))) ∧ n' ≤ 8 ∧ pgR n' q w len' lens' fracs' tms ens front least snd obs m' := by
  obtain ⟨n', len', lens', fracs', ml', mf', tms', ens', mt', me', br', left', dr', aw', mgg', dc', fn', ff', ec', res, en, left2, dr2, mg2, dc2, co2, pa2, far2, near2, ech2, h1, h2, P⟩ := peel_ok R br0 l0 d0 aw0 mg0 dc0 fn0 ff0 ec0 gres gtime gl gf gt ge gfar gnear gech
  have hn' := P.1
  obtain ⟨m', a1, a2, a3⟩ := adopt_l hn' ml' mf' (fun mm => some (c32 n', c32 n', c32 1, left2, dr2, mg2, dc2, co2, pa2, res, en, c32 (ls n' len'), mm, ml', mf', mt', me', far2, near2, ech2)) (fun f mm x => F_X6_adopts_17 f (c32 n') (c32 1) left2 dr2 mg2 dc2 co2 pa2 res en (c32 (ls n' len')) mm ml' mf' mt' me' far2 near2 ech2 x) (fun f mm x => by
    show B_X6_adopts_17 _ _ _ _ _ _ _ _ _ _ _ _ _ _ _ _ _ _ _ _ _ = _
    unfold B_X6_adopts_17
    rfl) n' 0 gFU (vp_updL m 0 (c64 n')) (by omega) (by show n' < 5000; omega)
  refine ⟨n', len', va_cpy lens' lens 0 0 n', va_cpy fracs' fracs 0 0 n', br', left', dr', aw', mgg', dc', fn', ff', ec', m', c32 n', c32 1, left2, dr2, mg2, dc2, co2, pa2, res, en, c32 (ls n' len'), (ml', mf', mt', me', far2, near2, ech2), ?_, ?_, hn', ?_⟩
  · unfold F_X2_adopt F_X3_takeParts
    rw [h1, bd20_s, c32_of 0, gcp_c (by omega) (by omega) (by omega) (by omega), gcp_c (by omega) (by omega) (by omega) (by omega), bd3_s, c32_nat (by omega), c32_nat (by omega)]
  · unfold F_X6_adopts
    rw [h2, bd18_s, c32_of 0, gin_c (by omega) (by omega), c32_nat (by omega), c32_64 (by omega)]
    exact a1
  · refine pgR_parts R hn' (fun k g1 g2 => by rw [a3 k (by omega), updL_ne (by omega)]) (by rw [a3 0 (by omega), updL_eq]) (fun k hk => ?_) (fun k hk => ?_) (fun k hk => ?_) (fun k hk => ?_)
    · rw [cpy0 _ _ hk]; exact (P.2 k hk).1
    · rw [cpy0 _ _ hk, (a2 k (by omega) hk).1, (P.2 k hk).2.1]
    · rw [cpy0 _ _ hk, (a2 k (by omega) hk).2, (P.2 k hk).2.2.1]
    · rw [cpy0 _ _ hk]; exact (P.2 k hk).2.2.2
end PG
