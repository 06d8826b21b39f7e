/-! the pure law, text ZB -/
set_option maxRecDepth 100000
/-! P23: the commands on peeling -/
section CMD
variable {vn vq vf vl vw : Int32} {lens fracs tms ens : Nat → Int32} {snd obs m ms : Nat → Int64} {dp : Nat} {Bs : Nat → gBt} {saved : Nat → Option Nat}
theorem pc_peel (R : pgB (vn, vq, vf, vl, vw, lens, fracs, tms, ens, snd, obs) m) (fn0 ff0 ec0 out : Nat → Int64) (br0 l0 d0 aw0 : Int64) (mg0 dc0 : Int32) (lp pm : Int32) (gle gdr : Int64) (gmg gdc gco : Int32) (gpa : Int64) (gpr gpt gps : Int32) (gl gf gt : Nat → Int32) (ge gfar gnear gech : Nat → Int64) (x1 : Int32) :
    (∃ r br l d aw mgg dc fn ff ec out' Z, F_L_peel br0 l0 d0 aw0 mg0 dc0 fn0 ff0 ec0 out vf vl vw ens obs x1 = some (0, br, l, d, aw, mgg, dc, fn, ff, ec, out') ∧ F_X6_peel lp pm gle gdr gmg gdc gco gpa gpr gpt gps m gl gf gt ge gfar gnear gech x1 = some (r, 0, (Z : Int32 × Int32 × Int64 × Int64 × Int32 × Int32 × Int32 × Int64 × Int32 × Int32 × Int32 × (Nat → Int32) × (Nat → Int32) × (Nat → Int32) × (Nat → Int64) × (Nat → Int64) × (Nat → Int64) × (Nat → Int64))) ∧ out' (Int32.toNatClampNeg 0) = r.toInt64) ∨
    (∃ kr r, ¬ kr = 0 ∧ F_LX_peel br0 l0 d0 aw0 mg0 dc0 fn0 ff0 ec0 vf vl vw ens obs x1 = some (kr, br0, l0, d0, aw0, mg0, dc0, fn0, ff0, ec0) ∧ F_X6_peel lp pm gle gdr gmg gdc gco gpa gpr gpt gps m gl gf gt ge gfar gnear gech x1 = some (r, kr, lp, pm, gle, gdr, gmg, gdc, gco, gpa, gpr, gpt, gps, gl, gf, gt, ge, gfar, gnear, gech)) := by
  obtain ⟨n, q, w, len, rfl, rfl, rfl, R⟩ := R
  dsimp only at R
  obtain ⟨n', len', lens', fracs', ml', mf', tms', ens', mt', me', br', left', dr', aw', mgg', dc', fn', ff', ec', res, en, left2, dr2, mg2, dc2, co2, pa2, far2, near2, ech2, h1, h2, P⟩ := peel_ok R br0 l0 d0 aw0 mg0 dc0 fn0 ff0 ec0 gpr gpt gl gf gt ge gfar gnear gech
  have hP : F_X1_peeling br0 l0 d0 aw0 mg0 dc0 fn0 ff0 ec0 vf vl (c32 w) ens obs = some (br', left', dr', aw', mgg', dc', fn', ff', ec', res, en, c32 n', c32 1, vf, vl, c32 w, lens', fracs', tms', ens') := by
    unfold F_X1_peeling
    rw [h1, bd20_s]
  have hC : F_X1_peel br0 l0 d0 aw0 mg0 dc0 fn0 ff0 ec0 vf vl (c32 w) ens obs x1 = if rgn x1.toInt64 (c64 0) (c64 3) = 0 then some (.inr 1) else bd1 (F_X8_value res en (c32 n') lens' x1) fun r => some (.inl (r, br', left', dr', aw', mgg', dc', fn', ff', ec')) := by
    unfold F_X1_peel
    rw [inC, bd1_some]
    rcases rgn_c x1 0 3 (by omega) (by omega) with ⟨h, -⟩ | ⟨h, -⟩
    · rw [if_pos h, show rgn x1.toInt64 0 3 = 0 from h]; rfl
    · rw [if_neg (show ¬ rgn x1.toInt64 (c64 0) (c64 3) = 0 by rw [h]; decide), show rgn x1.toInt64 0 3 = 1 from h, show F_X1_requireArgument 1 = some (.inl ()) from rfl, bc0_l, hP, bd20_s]
  have hM : F_X6_peel lp pm gle gdr gmg gdc gco gpa gpr gpt gps m gl gf gt ge gfar gnear gech x1 = if rgn x1.toInt64 (c64 0) (c64 3) = 0 then some (0, 1, lp, pm, gle, gdr, gmg, gdc, gco, gpa, gpr, gpt, gps, gl, gf, gt, ge, gfar, gnear, gech) else bd1 (F_X6_peelOf (c32 n') res en (c32 (ls n' len')) x1) fun r => some (r, 0, c32 n', c32 1, left2, dr2, mg2, dc2, co2, pa2, res, en, c32 (ls n' len'), ml', mf', mt', me', far2, near2, ech2) := by
    unfold F_X6_peel
    rw [inM, bd1_some]
    rcases rgn_c x1 0 3 (by omega) (by omega) with ⟨h, -⟩ | ⟨h, -⟩
    · rw [if_pos h, show rgn x1.toInt64 0 3 = 0 from h]; rfl
    · rw [if_neg (show ¬ rgn x1.toInt64 (c64 0) (c64 3) = 0 by rw [h]; decide), show rgn x1.toInt64 0 3 = 1 from h, if_neg (show ¬ (1 : Int32) = 0 by decide), if_pos (by decide), h2, bd18_s]
  rcases rgn_c x1 0 3 (by omega) (by omega) with ⟨h, -⟩ | ⟨h, x, rfl, -, hx⟩
  · rw [if_pos h] at hC hM
    refine Or.inr ⟨1, 0, by decide, ?_, hM⟩
    unfold F_LX_peel
    rw [hC]
    rfl
  · rw [if_neg (by rw [h]; decide)] at hC hM
    obtain ⟨r, e1, e2⟩ := pvalue_ok P res en hx
    rw [e1, bd1_some] at hC
    rw [e2, bd1_some] at hM
    refine Or.inl ⟨r, br', left', dr', aw', mgg', dc', fn', ff', ec', vp_updL out (Int32.toNatClampNeg 0) r.toInt64, _, ?_, hM, out0 _ _⟩
    unfold F_L_peel
    rw [hC]
    rfl
theorem pc_found (R : pgB (vn, vq, vf, vl, vw, lens, fracs, tms, ens, snd, obs) m) (fn0 ff0 ec0 out : Nat → Int64) (br0 l0 d0 aw0 : Int64) (mg0 dc0 : Int32) (lp pm : Int32) (gle gdr : Int64) (gmg gdc gco : Int32) (gpa : Int64) (gpr gpt gps : Int32) (gl gf gt : Nat → Int32) (ge gfar gnear gech : Nat → Int64) (x1 x2 : Int32) :
    (∃ r br l d aw mgg dc fn ff ec out' Z, F_L_found br0 l0 d0 aw0 mg0 dc0 fn0 ff0 ec0 out vf vl vw ens obs x1 x2 = some (0, br, l, d, aw, mgg, dc, fn, ff, ec, out') ∧ F_X6_found lp pm gle gdr gmg gdc gco gpa gpr gpt gps m gl gf gt ge gfar gnear gech x1 x2 = some (r, 0, (Z : Int32 × Int32 × Int64 × Int64 × Int32 × Int32 × Int32 × Int64 × Int32 × Int32 × Int32 × (Nat → Int32) × (Nat → Int32) × (Nat → Int32) × (Nat → Int64) × (Nat → Int64) × (Nat → Int64) × (Nat → Int64))) ∧ out' (Int32.toNatClampNeg 0) = r.toInt64) ∨
    (∃ kr r, ¬ kr = 0 ∧ F_LX_found br0 l0 d0 aw0 mg0 dc0 fn0 ff0 ec0 vf vl vw ens obs x1 x2 = some (kr, br0, l0, d0, aw0, mg0, dc0, fn0, ff0, ec0) ∧ F_X6_found lp pm gle gdr gmg gdc gco gpa gpr gpt gps m gl gf gt ge gfar gnear gech x1 x2 = some (r, kr, lp, pm, gle, gdr, gmg, gdc, gco, gpa, gpr, gpt, gps, gl, gf, gt, ge, gfar, gnear, gech)) := by
  obtain ⟨n, q, w, len, rfl, rfl, rfl, R⟩ := R
  dsimp only at R
  obtain ⟨n', len', lens', fracs', ml', mf', tms', ens', mt', me', br', left', dr', aw', mgg', dc', fn', ff', ec', res, en, left2, dr2, mg2, dc2, co2, pa2, far2, near2, ech2, h1, h2, P⟩ := peel_ok R br0 l0 d0 aw0 mg0 dc0 fn0 ff0 ec0 gpr gpt gl gf gt ge gfar gnear gech
  have hP : F_X1_peeling br0 l0 d0 aw0 mg0 dc0 fn0 ff0 ec0 vf vl (c32 w) ens obs = some (br', left', dr', aw', mgg', dc', fn', ff', ec', res, en, c32 n', c32 1, vf, vl, c32 w, lens', fracs', tms', ens') := by
    unfold F_X1_peeling
    rw [h1, bd20_s]
  have bad : F_X1_found br0 l0 d0 aw0 mg0 dc0 fn0 ff0 ec0 vf vl (c32 w) ens obs x1 x2 = some (.inr 1) → F_X6_found lp pm gle gdr gmg gdc gco gpa gpr gpt gps m gl gf gt ge gfar gnear gech x1 x2 = some (0, 1, lp, pm, gle, gdr, gmg, gdc, gco, gpa, gpr, gpt, gps, gl, gf, gt, ge, gfar, gnear, gech) → (∃ kr r, ¬ kr = 0 ∧ F_LX_found br0 l0 d0 aw0 mg0 dc0 fn0 ff0 ec0 vf vl (c32 w) ens obs x1 x2 = some (kr, br0, l0, d0, aw0, mg0, dc0, fn0, ff0, ec0) ∧ F_X6_found lp pm gle gdr gmg gdc gco gpa gpr gpt gps m gl gf gt ge gfar gnear gech x1 x2 = some (r, kr, lp, pm, gle, gdr, gmg, gdc, gco, gpa, gpr, gpt, gps, gl, gf, gt, ge, gfar, gnear, gech)) := by
    intro a1 a2
    refine ⟨1, 0, by decide, ?_, a2⟩
    unfold F_LX_found
    rw [a1]
    rfl
  by_cases hx : x1 < 0
  · refine Or.inr (bad ?_ ?_)
    · unfold F_X1_found F_X1_found_18 F_X1_found_19
      rw [if_pos hx]
      rfl
    · unfold F_X6_found F_X6_found_19 F_X6_found_20
      rw [if_pos hx]
      rfl
  obtain ⟨a, ha, rfl⟩ := c32_ex hx
  rcases rgn_c x2 0 1 (by omega) (by omega) with ⟨h, -⟩ | ⟨h, x, rfl, -, hx2⟩
  · refine Or.inr (bad ?_ ?_)
    · unfold F_X1_found F_X1_found_18 F_X1_found_19
      rw [if_neg hx, inC, bd1_some, show rgn x2.toInt64 0 1 = 0 from h]
      rfl
    · unfold F_X6_found F_X6_found_19 F_X6_found_20
      rw [if_neg hx, inM, bd1_some, show rgn x2.toInt64 0 1 = 0 from h]
      rfl
  · obtain ⟨r, e1, e2⟩ := fvalue_ok P ha hx2
    refine Or.inl ⟨r, br', left', dr', aw', mgg', dc', fn', ff', ec', vp_updL out (Int32.toNatClampNeg 0) r.toInt64, (c32 n', c32 1, left2, dr2, mg2, dc2, co2, pa2, res, en, c32 (ls n' len'), ml', mf', mt', me', far2, near2, ech2), ?_, ?_, out0 _ _⟩
    · unfold F_L_found F_X1_found F_X1_found_19
      rw [if_neg hx, inC, bd1_some, show rgn (c32 x).toInt64 0 1 = 1 from h, if_neg (show ¬ (1 : Int32) = 0 by decide), show F_X1_requireArgument 1 = some (.inl ()) from rfl, bc0_l, hP, bd20_s, e1]
      rfl
    · unfold F_X6_found F_X6_found_20 F_X6_found_67
      rw [if_neg hx, inM, bd1_some, show rgn (c32 x).toInt64 0 1 = 1 from h, if_neg (show ¬ (1 : Int32) = 0 by decide), if_pos (show (0 : Int32) = 0 by decide), h2, bd18_s]
      by_cases hA : c32 a < c32 n'
      · rw [if_pos hA] at e2 ⊢
        by_cases hB : c32 x = 0
        · rw [if_pos hB] at e2 ⊢
          unfold gin at e2 ⊢
          by_cases hG : c32 a < 0 ∨ 8 ≤ (c32 a).toNatClampNeg
          · rw [if_pos hG] at e2; cases e2
          · rw [if_neg hG] at e2 ⊢
            rw [Option.some.inj e2]
        · rw [if_neg hB] at e2 ⊢
          unfold gin at e2 ⊢
          by_cases hG : c32 a + 1 < 0 ∨ 9 ≤ (c32 a + 1).toNatClampNeg
          · rw [if_pos hG] at e2; cases e2
          · rw [if_neg hG] at e2 ⊢
            rw [Option.some.inj e2]
      · rw [if_neg hA] at e2 ⊢
        rw [Option.some.inj e2]
theorem pc_adopt (a1 : Nat) (R : pgB (vn, vq, vf, vl, vw, lens, fracs, tms, ens, snd, obs) m) (S : savR dp Bs saved ms) (fn0 ff0 ec0 : Nat → Int64) (br0 l0 d0 aw0 : Int64) (mg0 dc0 : Int32) (gpr gpt : Int32) (gl gf gt : Nat → Int32) (ge gfar gnear gech : Nat → Int64) :
    ∃ r br left dr aw mgg dc fn ff ec n' q' f' l' w' a b c d z1 z2 z3 z4 z5 z6 z7 z8 z9 z10 z11 m' ms' y, F_X1_adopt a1 (c32 dp) saved br0 l0 d0 aw0 mg0 dc0 fn0 ff0 ec0 vn vq vf vl vw lens fracs tms ens obs = some (r, c32 (dpS dp), bSh dp saved (some a1), br, left, dr, aw, mgg, dc, fn, ff, ec, n', q', f', l', w', a, b, c, d) ∧ F_X6_adopt (c32 dp) gpr gpt m ms gl gf gt ge gfar gnear gech = some (r, c32 (dpS dp), 0, z1, z2, z3, z4, z5, z6, z7, z8, z9, z10, z11, m', ms', (y : (Nat → Int32) × (Nat → Int32) × (Nat → Int32) × (Nat → Int64) × (Nat → Int64) × (Nat → Int64) × (Nat → Int64))) ∧ pgB (n', q', f', l', w', a, b, c, d, snd, obs) m' ∧ savR (dpS dp) (bSh dp Bs (vn, vq, vf, vl, vw, lens, fracs, tms, ens, snd, obs)) (bSh dp saved (some a1)) ms' := by
  obtain ⟨ms', k1, k2⟩ := savR_keep S a1 R
  have hd := S.1
  obtain ⟨n, q, w, len, rfl, rfl, rfl, R⟩ := R
  obtain ⟨l, f, t, e, hc, R2⟩ := pgR_copy R
  obtain ⟨n', len', lens', fracs', br', left', dr', aw', mgg', dc', fn', ff', ec', m', z1, z2, z3, z4, z5, z6, z7, z8, z9, z10, z11, y, h1, h2, -, h3⟩ := adopt_b R2 br0 l0 d0 aw0 mg0 dc0 fn0 ff0 ec0 gpr gpt gl gf gt ge gfar gnear gech
  refine ⟨c32 n', br', left', dr', aw', mgg', dc', fn', ff', ec', c32 n', c32 q, vf, vl, c32 w, lens', fracs', t, e, z1, z2, z3, z4, z5, z6, z7, z8, z9, z10, z11, m', ms', y, ?_, ?_, ⟨_, _, _, _, rfl, rfl, rfl, h3⟩, k2⟩
  · unfold F_X1_adopt
    rw [hc, bd9_s, h1, bd13_s, becomeF a1 hd]
    rfl
  · unfold F_X6_adopt
    rw [k1, bd2_s, h2]
    rfl
end CMD
