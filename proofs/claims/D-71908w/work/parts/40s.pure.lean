/-! the pure law, text S -/
set_option maxRecDepth 100000
/-! P15: commands that edit, on both sides -/
theorem gin01 {β : Type} (x : Option β) : gin 0 1 x = x := gin_c (a := 0) (n := 1) (by omega) (by omega) x
theorem out0 (o : Nat → Int64) (v : Int64) : vp_updL o (Int32.toNatClampNeg 0) v (Int32.toNatClampNeg 0) = v := updL_eq
section CMD
variable {vn vq vf vl vw : Int32} {lens fracs tms ens : Nat → Int32} {snd obs m ms : Nat → Int64} {dp : Nat} {Bs : Nat → gBt} {saved : Nat → Option Nat}
theorem pc_addPart (a1 : Nat) (R : pgB (vn, vq, vf, vl, vw, lens, fracs, tms, ens, snd, obs) m) (S : savR dp Bs saved ms) (out : Nat → Int64) (x1 x2 : Int32) :
    (∃ r out' n' q' f' l' w' a b c d m' ms', F_L_addPart a1 (c32 dp) saved out vn vq vf vl vw lens fracs tms ens x1 x2 = some (0, c32 (dpS dp), bSh dp saved (some a1), out', n', q', f', l', w', a, b, c, d) ∧ F_X6_addPart (c32 dp) m ms x1 x2 = some (r, c32 (dpS dp), 0, m', ms') ∧ out' (Int32.toNatClampNeg 0) = r.toInt64 ∧ pgB (n', q', f', l', w', a, b, c, d, snd, obs) m' ∧ savR (dpS dp) (bSh dp Bs (vn, vq, vf, vl, vw, lens, fracs, tms, ens, snd, obs)) (bSh dp saved (some a1)) ms') ∨
    (∃ kr r, ¬ kr = 0 ∧ F_LX_addPart a1 (c32 dp) saved vn vq vf vl vw lens fracs tms ens x1 x2 = some (kr, c32 dp, saved) ∧ F_X6_addPart (c32 dp) m ms x1 x2 = some (r, c32 dp, kr, m, ms)) := by
  obtain ⟨ms', k1, k2⟩ := savR_keep S a1 R
  have hd := S.1
  obtain ⟨n, q, w, len, rfl, rfl, rfl, R⟩ := R
  obtain ⟨l, f, t, e, hc, R2⟩ := pgR_copy R
  rcases addPart_b R2 x1 x2 with ⟨l2, f2, m2, len2, h1, h2, h3, h4⟩ | ⟨k, hk, h1, h2⟩
  · refine Or.inl ⟨c32 (n + 1), vp_updL out (Int32.toNatClampNeg 0) (c32 (n + 1)).toInt64, c32 (n + 1), c32 q, vf, vl, c32 w, l2, f2, t, e, m2, ms', ?_, ?_, out0 _ _, ⟨_, _, _, _, rfl, rfl, rfl, h4⟩, k2⟩
    · unfold F_L_addPart F_X1_addPart
      rw [hc]
      simp only [bd9, Option.bind_some]
      rw [h1]
      simp only [bc4, Option.bind_some]
      rw [becomeF a1 hd]
      rfl
    · unfold F_X6_addPart
      rw [h2]
      simp only [bd1_some]
      rw [if_pos (by decide), k1]
      simp only [bd2, Option.bind_some]
      rw [h3]
      rfl
  · have hX : F_X1_addPart a1 (c32 dp) saved (c32 n) (c32 q) vf vl (c32 w) lens fracs tms ens x1 x2 = some (.inr k) := by
      unfold F_X1_addPart
      rw [hc]
      simp only [bd9, Option.bind_some]
      rw [h1]
      rfl
    refine Or.inr ⟨c32 (k), 0, ?_, ?_, ?_⟩
    · rcases hk with rfl | rfl <;> decide
    · unfold F_LX_addPart
      rw [show F_X1_addPart a1 (c32 dp) saved (c32 n) (c32 q) vf vl (c32 w) lens fracs tms ens x1 x2 = some (.inr k) from hX]
      rcases hk with rfl | rfl <;> rfl
    · unfold F_X6_addPart
      rw [h2]
      simp only [bd1_some]
      rcases hk with rfl | rfl <;> rfl
theorem pc_setPart (a1 : Nat) (R : pgB (vn, vq, vf, vl, vw, lens, fracs, tms, ens, snd, obs) m) (S : savR dp Bs saved ms) (out : Nat → Int64) (x1 x2 x3 : Int32) :
    (∃ r out' n' q' f' l' w' a b c d m' ms', F_L_setPart a1 (c32 dp) saved out vn vq vf vl vw lens fracs tms ens x1 x2 x3 = some (0, c32 (dpS dp), bSh dp saved (some a1), out', n', q', f', l', w', a, b, c, d) ∧ F_X6_setPart (c32 dp) m ms x1 x2 x3 = some (r, c32 (dpS dp), 0, m', ms') ∧ out' (Int32.toNatClampNeg 0) = r.toInt64 ∧ pgB (n', q', f', l', w', a, b, c, d, snd, obs) m' ∧ savR (dpS dp) (bSh dp Bs (vn, vq, vf, vl, vw, lens, fracs, tms, ens, snd, obs)) (bSh dp saved (some a1)) ms') ∨
    (∃ kr r, ¬ kr = 0 ∧ F_LX_setPart a1 (c32 dp) saved vn vq vf vl vw lens fracs tms ens x1 x2 x3 = some (kr, c32 dp, saved) ∧ F_X6_setPart (c32 dp) m ms x1 x2 x3 = some (r, c32 dp, kr, m, ms)) := by
  obtain ⟨ms', k1, k2⟩ := savR_keep S a1 R
  have hd := S.1
  obtain ⟨n, q, w, len, rfl, rfl, rfl, R⟩ := R
  obtain ⟨l, f, t, e, hc, R2⟩ := pgR_copy R
  rcases setPart_b R2 x1 x2 x3 with ⟨r, l2, f2, m2, len2, h1, h2, h3, -, h4⟩ | ⟨k, hk, h1, h2⟩
  · refine Or.inl ⟨r, vp_updL out (Int32.toNatClampNeg 0) (r).toInt64, c32 n, c32 q, vf, vl, c32 w, l2, f2, t, e, m2, ms', ?_, ?_, out0 _ _, ⟨_, _, _, _, rfl, rfl, rfl, h4⟩, k2⟩
    · unfold F_L_setPart F_X1_setPart
      rw [hc]
      simp only [bd9, Option.bind_some]
      rw [h1]
      simp only [bc3, Option.bind_some]
      rw [becomeF a1 hd]
      rfl
    · unfold F_X6_setPart
      rw [h2]
      simp only [bd1_some]
      rw [if_pos (by decide), k1]
      simp only [bd2, Option.bind_some]
      rw [h3]
      rfl
  · have hX : F_X1_setPart a1 (c32 dp) saved (c32 n) (c32 q) vf vl (c32 w) lens fracs tms ens x1 x2 x3 = some (.inr k) := by
      unfold F_X1_setPart
      rw [hc]
      simp only [bd9, Option.bind_some]
      rw [h1]
      rfl
    refine Or.inr ⟨c32 (k + 1), 0, ?_, ?_, ?_⟩
    · rcases hk with rfl | rfl <;> decide
    · unfold F_LX_setPart
      rw [show F_X1_setPart a1 (c32 dp) saved (c32 n) (c32 q) vf vl (c32 w) lens fracs tms ens x1 x2 x3 = some (.inr k) from hX]
      rcases hk with rfl | rfl <;> rfl
    · unfold F_X6_setPart
      rw [h2]
      simp only [bd1_some]
      rcases hk with rfl | rfl <;> rfl
theorem pc_removePart (a1 : Nat) (R : pgB (vn, vq, vf, vl, vw, lens, fracs, tms, ens, snd, obs) m) (S : savR dp Bs saved ms) (out : Nat → Int64) (x1 : Int32) :
    (∃ r out' n' q' f' l' w' a b c d m' ms', F_L_removePart a1 (c32 dp) saved out vn vq vf vl vw lens fracs tms ens x1 = some (0, c32 (dpS dp), bSh dp saved (some a1), out', n', q', f', l', w', a, b, c, d) ∧ F_X6_removePart (c32 dp) m ms x1 = some (r, c32 (dpS dp), 0, m', ms') ∧ out' (Int32.toNatClampNeg 0) = r.toInt64 ∧ pgB (n', q', f', l', w', a, b, c, d, snd, obs) m' ∧ savR (dpS dp) (bSh dp Bs (vn, vq, vf, vl, vw, lens, fracs, tms, ens, snd, obs)) (bSh dp saved (some a1)) ms') ∨
    (∃ kr r, ¬ kr = 0 ∧ F_LX_removePart a1 (c32 dp) saved vn vq vf vl vw lens fracs tms ens x1 = some (kr, c32 dp, saved) ∧ F_X6_removePart (c32 dp) m ms x1 = some (r, c32 dp, kr, m, ms)) := by
  obtain ⟨ms', k1, k2⟩ := savR_keep S a1 R
  have hd := S.1
  obtain ⟨n, q, w, len, rfl, rfl, rfl, R⟩ := R
  obtain ⟨l, f, t, e, hc, R2⟩ := pgR_copy R
  rcases removePart_b R2 x1 with ⟨l2, f2, m2, len2, -, h1, h2, h3, h4⟩ | ⟨h1, h2⟩
  · refine Or.inl ⟨c32 (n - 1), vp_updL out (Int32.toNatClampNeg 0) (c32 (n - 1)).toInt64, c32 (n - 1), c32 q, vf, vl, c32 w, l2, f2, t, e, m2, ms', ?_, ?_, out0 _ _, ⟨_, _, _, _, rfl, rfl, rfl, h4⟩, k2⟩
    · unfold F_L_removePart F_X1_removePart
      rw [hc]
      simp only [bd9, Option.bind_some]
      rw [h1]
      simp only [bc4, Option.bind_some]
      rw [becomeF a1 hd]
      rfl
    · unfold F_X6_removePart
      rw [h2]
      simp only [bd1_some]
      rw [if_pos (by decide), k1]
      simp only [bd2, Option.bind_some]
      rw [h3]
      rfl
  · have hX : F_X1_removePart a1 (c32 dp) saved (c32 n) (c32 q) vf vl (c32 w) lens fracs tms ens x1 = some (.inr 0) := by
      unfold F_X1_removePart
      rw [hc]
      simp only [bd9, Option.bind_some]
      rw [h1]
      rfl
    refine Or.inr ⟨c32 (1), 0, ?_, ?_, ?_⟩
    · decide
    · unfold F_LX_removePart
      rw [show F_X1_removePart a1 (c32 dp) saved (c32 n) (c32 q) vf vl (c32 w) lens fracs tms ens x1 = some (.inr 0) from hX]
      rfl
    · unfold F_X6_removePart
      rw [h2]
      simp only [bd1_some]
      rfl
theorem pc_splitPart (a1 : Nat) (R : pgB (vn, vq, vf, vl, vw, lens, fracs, tms, ens, snd, obs) m) (S : savR dp Bs saved ms) (out : Nat → Int64) (x1 x2 x3 : Int32) :
    (∃ r out' n' q' f' l' w' a b c d m' ms', F_L_splitPart a1 (c32 dp) saved out vn vq vf vl vw lens fracs tms ens x1 x2 x3 = some (0, c32 (dpS dp), bSh dp saved (some a1), out', n', q', f', l', w', a, b, c, d) ∧ F_X6_splitPart (c32 dp) m ms x1 x2 x3 = some (r, c32 (dpS dp), 0, m', ms') ∧ out' (Int32.toNatClampNeg 0) = r.toInt64 ∧ pgB (n', q', f', l', w', a, b, c, d, snd, obs) m' ∧ savR (dpS dp) (bSh dp Bs (vn, vq, vf, vl, vw, lens, fracs, tms, ens, snd, obs)) (bSh dp saved (some a1)) ms') ∨
    (∃ kr r, ¬ kr = 0 ∧ F_LX_splitPart a1 (c32 dp) saved vn vq vf vl vw lens fracs tms ens x1 x2 x3 = some (kr, c32 dp, saved) ∧ F_X6_splitPart (c32 dp) m ms x1 x2 x3 = some (r, c32 dp, kr, m, ms)) := by
  obtain ⟨ms', k1, k2⟩ := savR_keep S a1 R
  have hd := S.1
  obtain ⟨n, q, w, len, rfl, rfl, rfl, R⟩ := R
  obtain ⟨l, f, t, e, hc, R2⟩ := pgR_copy R
  rcases splitPart_b R2 x1 x2 x3 with ⟨l2, f2, m2, len2, h1, h2, h3, h4⟩ | ⟨k, hk, h1, h2⟩
  · refine Or.inl ⟨c32 (n + 1), vp_updL out (Int32.toNatClampNeg 0) (c32 (n + 1)).toInt64, c32 (n + 1), c32 q, vf, vl, c32 w, l2, f2, t, e, m2, ms', ?_, ?_, out0 _ _, ⟨_, _, _, _, rfl, rfl, rfl, h4⟩, k2⟩
    · unfold F_L_splitPart F_X1_splitPart
      rw [hc]
      simp only [bd9, Option.bind_some]
      rw [h1]
      simp only [bc4, Option.bind_some]
      rw [becomeF a1 hd]
      rfl
    · unfold F_X6_splitPart
      rw [h2]
      simp only [bd1_some]
      rw [if_pos (by decide), k1]
      simp only [bd2, Option.bind_some]
      rw [h3]
      rfl
  · have hX : F_X1_splitPart a1 (c32 dp) saved (c32 n) (c32 q) vf vl (c32 w) lens fracs tms ens x1 x2 x3 = some (.inr k) := by
      unfold F_X1_splitPart
      rw [hc]
      simp only [bd9, Option.bind_some]
      rw [h1]
      rfl
    refine Or.inr ⟨c32 (k + 1), 0, ?_, ?_, ?_⟩
    · rcases hk with rfl | rfl | rfl <;> decide
    · unfold F_LX_splitPart
      rw [show F_X1_splitPart a1 (c32 dp) saved (c32 n) (c32 q) vf vl (c32 w) lens fracs tms ens x1 x2 x3 = some (.inr k) from hX]
      rcases hk with rfl | rfl | rfl <;> rfl
    · unfold F_X6_splitPart
      rw [h2]
      simp only [bd1_some]
      rcases hk with rfl | rfl | rfl <;> rfl
theorem pc_addPulse (a1 : Nat) (R : pgB (vn, vq, vf, vl, vw, lens, fracs, tms, ens, snd, obs) m) (S : savR dp Bs saved ms) (out : Nat → Int64) (x1 x2 : Int32) :
    (∃ r out' n' q' f' l' w' a b c d m' ms', F_L_addPulse a1 (c32 dp) saved out vn vq vf vl vw lens fracs tms ens x1 x2 = some (0, c32 (dpS dp), bSh dp saved (some a1), out', n', q', f', l', w', a, b, c, d) ∧ F_X6_addPulse (c32 dp) m ms x1 x2 = some (r, c32 (dpS dp), 0, m', ms') ∧ out' (Int32.toNatClampNeg 0) = r.toInt64 ∧ pgB (n', q', f', l', w', a, b, c, d, snd, obs) m' ∧ savR (dpS dp) (bSh dp Bs (vn, vq, vf, vl, vw, lens, fracs, tms, ens, snd, obs)) (bSh dp saved (some a1)) ms') ∨
    (∃ kr r, ¬ kr = 0 ∧ F_LX_addPulse a1 (c32 dp) saved vn vq vf vl vw lens fracs tms ens x1 x2 = some (kr, c32 dp, saved) ∧ F_X6_addPulse (c32 dp) m ms x1 x2 = some (r, c32 dp, kr, m, ms)) := by
  obtain ⟨ms', k1, k2⟩ := savR_keep S a1 R
  have hd := S.1
  obtain ⟨n, q, w, len, rfl, rfl, rfl, R⟩ := R
  obtain ⟨l, f, t, e, hc, R2⟩ := pgR_copy R
  rcases addPulse_b R2 x1 x2 with ⟨t2, e2, m2, h1, h2, h3, h4⟩ | ⟨k, hk, h1, h2⟩
  · refine Or.inl ⟨c32 (q + 1), vp_updL out (Int32.toNatClampNeg 0) (c32 (q + 1)).toInt64, c32 n, c32 (q + 1), vf, vl, c32 w, l, f, t2, e2, m2, ms', ?_, ?_, out0 _ _, ⟨_, _, _, _, rfl, rfl, rfl, h4⟩, k2⟩
    · unfold F_L_addPulse F_X1_addPulse
      rw [hc]
      simp only [bd9, Option.bind_some]
      rw [h1]
      simp only [bc4, Option.bind_some]
      rw [becomeF a1 hd]
      rfl
    · unfold F_X6_addPulse
      rw [h2]
      simp only [bd1_some]
      rw [if_pos (by decide), k1]
      simp only [bd2, Option.bind_some]
      rw [h3]
      rfl
  · have hX : F_X1_addPulse a1 (c32 dp) saved (c32 n) (c32 q) vf vl (c32 w) lens fracs tms ens x1 x2 = some (.inr k) := by
      unfold F_X1_addPulse
      rw [hc]
      simp only [bd9, Option.bind_some]
      rw [h1]
      rfl
    refine Or.inr ⟨c32 (k), 0, ?_, ?_, ?_⟩
    · rcases hk with rfl | rfl <;> decide
    · unfold F_LX_addPulse
      rw [show F_X1_addPulse a1 (c32 dp) saved (c32 n) (c32 q) vf vl (c32 w) lens fracs tms ens x1 x2 = some (.inr k) from hX]
      rcases hk with rfl | rfl <;> rfl
    · unfold F_X6_addPulse
      rw [h2]
      simp only [bd1_some]
      rcases hk with rfl | rfl <;> rfl
end CMD
