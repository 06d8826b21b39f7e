/-! the pure law, text T -/
set_option maxRecDepth 100000
/-! P16: the other commands without a run -/
section CMD
variable {vn vq vf vl vw : Int32} {lens fracs tms ens : Nat → Int32} {snd obs m ms : Nat → Int64} {dp : Nat} {Bs : Nat → gBt} {saved : Nat → Option Nat}
theorem pc_setBench (a1 : Nat) (R : pgB (vn, vq, vf, vl, vw, lens, fracs, tms, ens, snd, obs) m) (S : savR dp Bs saved ms) (out : Nat → Int64) (x1 x2 x3 : Int32) :
    (∃ r out' n' q' f' l' w' a b c d m' ms', F_L_setBench a1 (c32 dp) saved out vn vq vf vl vw lens fracs tms ens x1 x2 x3 = some (0, c32 (dpS dp), bSh dp saved (some a1), out', n', q', f', l', w', a, b, c, d) ∧ F_X6_setBench (c32 dp) m ms x1 x2 x3 = some (r, c32 (dpS dp), 0, m', ms') ∧ out' (Int32.toNatClampNeg 0) = r.toInt64 ∧ pgB (n', q', f', l', w', a, b, c, d, snd, obs) m' ∧ savR (dpS dp) (bSh dp Bs (vn, vq, vf, vl, vw, lens, fracs, tms, ens, snd, obs)) (bSh dp saved (some a1)) ms') ∨
    (∃ kr r, ¬ kr = 0 ∧ F_LX_setBench a1 (c32 dp) saved vn vq vf vl vw lens fracs tms ens x1 x2 x3 = some (kr, c32 dp, saved) ∧ F_X6_setBench (c32 dp) m ms x1 x2 x3 = some (r, c32 dp, kr, m, ms)) := by
  obtain ⟨ms', k1, k2⟩ := savR_keep S a1 R
  have hd := S.1
  obtain ⟨n, q, w, len, rfl, rfl, rfl, R⟩ := R
  obtain ⟨l, f, t, e, hc, R2⟩ := pgR_copy R
  have hC : F_X1_setBench a1 (c32 dp) saved (c32 n) (c32 q) vf vl (c32 w) lens fracs tms ens x1 x2 x3 = if rgn x1.toInt64 (c64 0) (c64 999) = 0 then some (.inr 1) else if rgn x2.toInt64 (c64 0) (c64 1000) = 0 then some (.inr 1) else if rgn x3.toInt64 (c64 1) (c64 200) = 0 then some (.inr 1) else some (.inl (c32 w, c32 (dpS dp), bSh dp saved (some a1), c32 n, c32 q, x1, x2, x3, l, f, t, e)) := by
    unfold F_X1_setBench F_X1_setBench_40 F_X1_setBench_41
    simp only [bd1_some, inC]
    refine ifc rfl (ifc rfl (ifc rfl ?_))
    rw [hc]
    simp only [bd9, Option.bind_some]
    rw [becomeF a1 hd]
    rfl
  have hM : F_X6_setBench (c32 dp) m ms x1 x2 x3 = if rgn x1.toInt64 (c64 0) (c64 999) = 0 then some (0, c32 dp, 1, m, ms) else if rgn x2.toInt64 (c64 0) (c64 1000) = 0 then some (0, c32 dp, 1, m, ms) else if rgn x3.toInt64 (c64 1) (c64 200) = 0 then some (0, c32 dp, 1, m, ms) else some (c32 w, c32 (dpS dp), 0, vp_updL (vp_updL (vp_updL m 17 x1.toInt64) 18 x2.toInt64) 19 x3.toInt64, ms') := by
    unfold F_X6_setBench F_X6_setBench_41 F_X6_setBench_42
    simp only [bd1_some, inM]
    refine ifc rfl (ifc rfl (ifc rfl ?_))
    rw [if_pos (by decide), k1]
    simp only [bd2, Option.bind_some]
    rw [windowM R.2.2.2.2.2.2.2.2.2.2.2.1]
    simp only [bd1_some]
    rw [c32_of 17, gin_c (by omega) (by omega), c32_of 18, gin_c (by omega) (by omega), c32_of 19, gin_c (by omega) (by omega), c32_nat (by omega), c32_nat (by omega), c32_nat (by omega)]
  have bad : F_X1_setBench a1 (c32 dp) saved (c32 n) (c32 q) vf vl (c32 w) lens fracs tms ens x1 x2 x3 = some (.inr 1) → F_X6_setBench (c32 dp) m ms x1 x2 x3 = some (0, c32 dp, 1, m, ms) → (∃ kr r, ¬ kr = 0 ∧ F_LX_setBench a1 (c32 dp) saved (c32 n) (c32 q) vf vl (c32 w) lens fracs tms ens x1 x2 x3 = some (kr, c32 dp, saved) ∧ F_X6_setBench (c32 dp) m ms x1 x2 x3 = some (r, c32 dp, kr, m, ms)) := by
    intro h1 h2
    refine ⟨1, 0, by decide, ?_, h2⟩
    unfold F_LX_setBench
    rw [h1]
    rfl
  rcases rgn_c x1 0 999 (by omega) (by omega) with ⟨h1, -⟩ | ⟨h1, a, rfl, -, ha⟩
  · rw [if_pos h1] at hC hM
    exact Or.inr (bad hC hM)
  rw [if_neg (by rw [h1]; decide)] at hC hM
  rcases rgn_c x2 0 1000 (by omega) (by omega) with ⟨h2, -⟩ | ⟨h2, b, rfl, -, hb⟩
  · rw [if_pos h2] at hC hM
    exact Or.inr (bad hC hM)
  rw [if_neg (by rw [h2]; decide)] at hC hM
  rcases rgn_c x3 1 200 (by omega) (by omega) with ⟨h3, -⟩ | ⟨h3, c, rfl, hc1, hc2⟩
  · rw [if_pos h3] at hC hM
    exact Or.inr (bad hC hM)
  rw [if_neg (by rw [h3]; decide)] at hC hM
  have hg := pgR_bench R2 ha hb hc1 hc2
  rw [c32_64 (show a < 2147483648 by omega), c32_64 (show b < 2147483648 by omega), c32_64 (show c < 2147483648 by omega)] at hM
  refine Or.inl ⟨c32 w, vp_updL out (Int32.toNatClampNeg 0) (c32 w).toInt64, c32 n, c32 q, c32 a, c32 b, c32 c, l, f, t, e, _, ms', ?_, hM, out0 _ _, ⟨_, _, _, _, rfl, rfl, rfl, hg⟩, k2⟩
  unfold F_L_setBench
  rw [show F_X1_setBench a1 (c32 dp) saved (c32 n) (c32 q) vf vl (c32 w) lens fracs tms ens (c32 a) (c32 b) (c32 c) = _ from hC]
  rfl
theorem pc_removePulse (a1 : Nat) (R : pgB (vn, vq, vf, vl, vw, lens, fracs, tms, ens, snd, obs) m) (S : savR dp Bs saved ms) (out : Nat → Int64) (x1 : Int32) :
    (∃ r out' n' q' f' l' w' a b c d m' ms', F_L_removePulse a1 (c32 dp) saved out vn vq vf vl vw lens fracs tms ens x1 = some (0, c32 (dpS dp), bSh dp saved (some a1), out', n', q', f', l', w', a, b, c, d) ∧ F_X6_removePulse (c32 dp) m ms x1 = some (r, c32 (dpS dp), 0, m', ms') ∧ out' (Int32.toNatClampNeg 0) = r.toInt64 ∧ pgB (n', q', f', l', w', a, b, c, d, snd, obs) m' ∧ savR (dpS dp) (bSh dp Bs (vn, vq, vf, vl, vw, lens, fracs, tms, ens, snd, obs)) (bSh dp saved (some a1)) ms') ∨
    (∃ kr r, ¬ kr = 0 ∧ F_LX_removePulse a1 (c32 dp) saved vn vq vf vl vw lens fracs tms ens x1 = some (kr, c32 dp, saved) ∧ F_X6_removePulse (c32 dp) m ms x1 = some (r, c32 dp, kr, m, ms)) := by
  obtain ⟨ms', k1, k2⟩ := savR_keep S a1 R
  have hd := S.1
  obtain ⟨n, q, w, len, rfl, rfl, rfl, R⟩ := R
  obtain ⟨l, f, t, e, hc, R2⟩ := pgR_copy R
  have hq1 := R.2.1
  have hq := R.2.2.1
  have h20 : m 20 = c64 q := R.2.2.2.2.2.2.2.2.2.2.2.2.1
  have hhi : (c32 q - 1).toInt64 = c64 (q - 1) := by rw [c32_of 1, c32_sub hq1, c32_64 (by omega)]
  have hC : F_X1_removePulse a1 (c32 dp) saved (c32 n) (c32 q) vf vl (c32 w) lens fracs tms ens x1 = if rgn x1.toInt64 (c64 0) (c64 (q - 1)) = 0 then some (.inr 0) else if q = 1 then some (.inr 2) else bd3 (F_X3_removePulse (c32 q) t e x1) fun a b c => some (.inl (a, c32 (dpS dp), bSh dp saved (some a1), c32 n, a, vf, vl, c32 w, l, f, b, c)) := by
    unfold F_X1_removePulse
    rw [hhi]
    simp only [bd1_some, inC]
    rcases rgn_c x1 0 (q - 1) (by omega) (by omega) with ⟨h1, -⟩ | ⟨h1, a, -, -, ha⟩
    · rw [if_pos h1, show rgn x1.toInt64 0 (c64 (q - 1)) = 0 from h1]
      rfl
    · rw [if_neg (show ¬ rgn x1.toInt64 (c64 0) (c64 (q - 1)) = 0 by rw [h1]; decide), show rgn x1.toInt64 0 (c64 (q - 1)) = 1 from h1]
      rw [show F_X1_requireIndex 1 = some (.inl ()) from rfl]
      simp only [bc0_l]
      by_cases h2 : q = 1
      · subst h2; rfl
      · rw [if_neg h2, c32_of 1, ile_f (by omega) (by omega), show F_X1_requireState (c32 1) = some (.inl ()) from rfl]
        simp only [bc0_l]
        rw [hc]
        simp only [bd9, Option.bind_some, becomeF a1 hd]
        rfl
  have hM : F_X6_removePulse (c32 dp) m ms x1 = if rgn x1.toInt64 (c64 0) (c64 (q - 1)) = 0 then some (0, c32 dp, 1, m, ms) else if q = 1 then some (0, c32 dp, 2, m, ms) else F_X6_removePulse_74 gFU (c32 (dpS dp)) 0 (vp_updL m 20 (c64 (q - 1))) ms' (21 + 2 * x1) := by
    unfold F_X6_removePulse F_X6_removePulse_40
    rw [c32_of 20, gin_c (by omega) (by omega), gin_c (by omega) (by omega), c32_nat (by omega), h20, show c64 q - 1 = c64 (q - 1) by rw [c64_of 1, c64_sub hq1]]
    simp only [bd1_some, inM]
    refine ifc rfl ?_
    by_cases h2 : q = 1
    · subst h2; rfl
    · have hnq : ¬ (c64 q = 1) := by rw [c64_of 1, c64_eq (by omega) (by omega)]; exact h2
      rw [if_neg h2, if_neg hnq, if_pos (by decide), k1]
      simp only [bd2, Option.bind_some, nm]
      rw [gin_c (by omega) (by omega), gin_c (by omega) (by omega)]
  rcases rgn_c x1 0 (q - 1) (by omega) (by omega) with ⟨h1, -⟩ | ⟨h1, p, rfl, -, hp⟩
  · rw [if_pos h1] at hC hM
    refine Or.inr ⟨1, 0, by decide, ?_, hM⟩
    unfold F_LX_removePulse
    rw [show F_X1_removePulse a1 (c32 dp) saved (c32 n) (c32 q) vf vl (c32 w) lens fracs tms ens x1 = _ from hC]
    rfl
  rw [if_neg (by rw [h1]; decide)] at hC hM
  by_cases h2 : q = 1
  · rw [if_pos h2] at hC hM
    refine Or.inr ⟨2, 0, by decide, ?_, hM⟩
    unfold F_LX_removePulse
    rw [show F_X1_removePulse a1 (c32 dp) saved (c32 n) (c32 q) vf vl (c32 w) lens fracs tms ens (c32 p) = _ from hC]
    rfl
  · rw [if_neg h2] at hC hM
    rw [delP (by omega) hq] at hC
    obtain ⟨mm, j1, j2, j3⟩ := removesP (qq := q - 1) (by omega) (c32 (dpS dp)) 0 ms' (2 * (q - 1) - 2 * p) (21 + 2 * p) gFU (vp_updL m 20 (c64 (q - 1))) (by omega) (by omega) (by show 2 * (q - 1) - 2 * p < 5000; omega) updL_eq
    rw [c32_of 2, c32_mul, c32_of 21, c32_add, j1] at hM
    refine Or.inl ⟨c32 (q - 1), vp_updL out (Int32.toNatClampNeg 0) (c32 (q - 1)).toInt64, c32 n, c32 (q - 1), vf, vl, c32 w, l, f, _, _, mm, ms', ?_, hM, out0 _ _, ⟨_, _, _, _, rfl, rfl, rfl, pgR_delP R2 (show p < q by omega) (by omega) j2 j3⟩, k2⟩
    unfold F_L_removePulse
    rw [show F_X1_removePulse a1 (c32 dp) saved (c32 n) (c32 q) vf vl (c32 w) lens fracs tms ens (c32 p) = _ from hC]
    rfl
theorem pc_reverse (a1 : Nat) (R : pgB (vn, vq, vf, vl, vw, lens, fracs, tms, ens, snd, obs) m) (S : savR dp Bs saved ms) :
    ∃ r n' q' f' l' w' a b c d m' ms', F_X1_reverse a1 (c32 dp) saved vn vq vf vl vw lens fracs tms ens = some (r, c32 (dpS dp), bSh dp saved (some a1), n', q', f', l', w', a, b, c, d) ∧ F_X6_reverse (c32 dp) m ms = some (r, c32 (dpS dp), 0, m', ms') ∧ pgB (n', q', f', l', w', a, b, c, d, snd, obs) m' ∧ savR (dpS dp) (bSh dp Bs (vn, vq, vf, vl, vw, lens, fracs, tms, ens, snd, obs)) (bSh dp saved (some a1)) ms' := by
  obtain ⟨ms', k1, k2⟩ := savR_keep S a1 R
  have hd := S.1
  obtain ⟨n, q, w, len, rfl, rfl, rfl, R⟩ := R
  obtain ⟨l, f, t, e, hc, R2⟩ := pgR_copy R
  obtain ⟨r, l2, f2, m2, len2, h1, h2, h3, h4⟩ := reverse_b R2 0
  have h0 : m 0 = c64 n := R.2.2.2.2.2.2.2.2.1
  refine ⟨r, c32 n, c32 q, vf, vl, c32 w, l2, f2, t, e, m2, ms', ?_, ?_, ⟨_, _, _, _, rfl, rfl, rfl, h4⟩, k2⟩
  · unfold F_X1_reverse
    rw [hc]
    simp only [bd9, Option.bind_some]
    rw [h1]
    simp only [bd2, Option.bind_some]
    rw [h2]
    simp only [bd1_some]
    rw [becomeF a1 hd]
    rfl
  · unfold F_X6_reverse
    rw [k1]
    simp only [bd2, Option.bind_some]
    rw [partsM h0]
    simp only [bd1_some]
    exact h3 _ _
theorem pc_undo (R : pgB (vn, vq, vf, vl, vw, lens, fracs, tms, ens, snd, obs) m) (S : savR dp Bs saved ms) (a1 : Nat) (out : Nat → Int64) :
    (∃ r out' y m', 1 ≤ dp ∧ F_L_undo (c32 dp) saved out = some (0, some y, c32 (dp - 1), out') ∧ F_X6_undo (c32 dp) m ms = some (r, c32 (dp - 1), 0, m') ∧ out' (Int32.toNatClampNeg 0) = r.toInt64 ∧ saved (dp - 1) = some y ∧ pgB (Bs (dp - 1)) m' ∧ savR (dp - 1) Bs saved ms) ∨
    (∃ kr r, ¬ kr = 0 ∧ F_LX_undo (some a1) (c32 dp) saved = some (kr, some a1, c32 dp) ∧ F_X6_undo (c32 dp) m ms = some (r, c32 dp, kr, m)) := by
  obtain ⟨hd, s1, s2⟩ := S
  by_cases h0 : dp = 0
  · subst h0
    exact Or.inr ⟨1, 0, by decide, rfl, rfl⟩
  · obtain ⟨y, hy⟩ := s1 (dp - 1) (by omega)
    have loop : ∀ (d i f : Nat) (mm : Nat → Int64), i + d = 431 → d < f → ∃ mm', F_X6_undo_37 f (c32 (dp - 1)) 0 mm ms (c32 i) = some (c32 (dp - 1), c32 (dp - 1), 0, mm') ∧ (∀ k, i ≤ k → k < 431 → mm' k = ms (431 * (dp - 1) + k)) ∧ (∀ k, k < i → mm' k = mm k) := by
      intro d
      induction d with
      | zero =>
        intro i f mm h hf
        obtain ⟨f, rfl⟩ : ∃ z, f = z + 1 := ⟨f - 1, by omega⟩
        refine ⟨mm, ?_, fun k h1 h2 => absurd h2 (by omega), fun k _ => rfl⟩
        show B_X6_undo_37 _ _ _ _ _ _ = _
        unfold B_X6_undo_37
        rw [c32_of 431, ile_t (by omega) (by omega)]
      | succ d ih =>
        intro i f mm h hf
        obtain ⟨f, rfl⟩ : ∃ z, f = z + 1 := ⟨f - 1, by omega⟩
        obtain ⟨mm', k1, k2, k3⟩ := ih (i + 1) f (vp_updL mm i (ms (431 * (dp - 1) + i))) (by omega) (by omega)
        refine ⟨mm', ?_, fun k h1 h2 => ?_, fun k hk => ?_⟩
        · show B_X6_undo_37 _ _ _ _ _ _ = _
          unfold B_X6_undo_37
          simp only [nm]
          rw [c32_of 431, ile_f (by omega) (by omega), c32_mul, c32_add, gin_c (by omega) (by omega), gin_c (by omega) (by omega), c32_nat (by omega), c32_nat (by omega), c32_of 1, c32_add]
          exact k1
        · by_cases e : k = i
          · rw [k3 k (by omega), e, updL_eq]
          · exact k2 k (by omega) h2
        · rw [k3 k (by omega), updL_ne (by omega)]
    obtain ⟨mm, j1, j2, -⟩ := loop 431 0 gFU m rfl (by show 431 < 5000; omega)
    refine Or.inl ⟨c32 (dp - 1), vp_updL out (Int32.toNatClampNeg 0) (c32 (dp - 1)).toInt64, y, mm, by omega, ?_, ?_, out0 _ _, hy, pgB_m (s2 (dp - 1) (by omega)) (fun k hk => j2 k (by omega) hk), by omega, fun i hi => s1 i (by omega), fun i hi => s2 i (by omega)⟩
    · unfold F_L_undo F_X1_undo F_X1_requireState
      rw [c32_of 0, ile_f (by omega) (by omega), if_neg (by decide)]
      simp only [bc0_l]
      rw [c32_of 1, c32_sub (by omega), gin_c (by omega) (by omega), c32_nat (by omega), hy]
      simp only [bc3, Option.bind_some]
      rw [← c32_of 0, gin01]
    · unfold F_X6_undo
      rw [c32_of 0, ieq_f h0 (by omega) (by omega), if_pos rfl, c32_of 1, c32_sub (by omega)]
      exact j1
end CMD
