/-! the pure law, text V -/
set_option maxRecDepth 100000
/-! P18: what is asked of a run, on both sides -/
section CMD
variable {vn vq vf vl vw : Int32} {lens fracs tms ens : Nat → Int32} {snd obs m ms : Nat → Int64} {dp : Nat} {Bs : Nat → gBt} {saved : Nat → Option Nat}
theorem reqTime {w : Nat} (hw : w ≤ 200) (x1 : Int32) : (F_X1_requireTime (c32 w) x1 = some (.inr 1) ∧ rgn x1.toInt64 0 (c32 w).toInt64 = 0) ∨ (F_X1_requireTime (c32 w) x1 = some (.inl ()) ∧ rgn x1.toInt64 0 (c32 w).toInt64 = 1 ∧ ∃ t, t ≤ w ∧ x1 = c32 t) := by
  unfold F_X1_requireTime
  simp only [inC, bd1_some]
  rw [c32_64 (by omega)]
  rcases rgn_c x1 0 w (by omega) (by omega) with ⟨h1, -⟩ | ⟨h1, x, rfl, -, hx⟩
  · rw [show rgn x1.toInt64 0 (c64 w) = 0 from h1]
    exact Or.inl ⟨rfl, rfl⟩
  · rw [show rgn (c32 x).toInt64 0 (c64 w) = 1 from h1]
    exact Or.inr ⟨rfl, rfl, x, hx, rfl⟩
theorem pc_echo (R : pgB (vn, vq, vf, vl, vw, lens, fracs, tms, ens, snd, obs) m) (fn0 ff0 ec0 out : Nat → Int64) (br0 l0 d0 aw0 : Int64) (mg0 dc0 : Int32) (lp pm : Int32) (gle gdr : Int64) (gmg gdc gco : Int32) (gpa : Int64) (gl gf gt : Nat → Int32) (ge gfar gnear gech : Nat → Int64) (x1 : Int32) :
    (∃ r br l d aw mgg dc fn ff ec out' Z, F_L_echo fn0 ff0 ec0 out vn vq vf vl vw lens fracs tms ens x1 = some (0, br, l, d, aw, mgg, dc, fn, ff, ec, out') ∧ F_X6_echo lp pm gle gdr gmg gdc gco gpa m gl gf gt ge gfar gnear gech x1 = some (r, 0, (Z : Int32 × Int32 × Int64 × Int64 × Int32 × Int32 × Int32 × Int64 × (Nat → Int32) × (Nat → Int32) × (Nat → Int32) × (Nat → Int64) × (Nat → Int64) × (Nat → Int64) × (Nat → Int64))) ∧ out' (Int32.toNatClampNeg 0) = r) ∨
    (∃ kr r, ¬ kr = 0 ∧ F_LX_echo br0 l0 d0 aw0 mg0 dc0 fn0 ff0 ec0 vn vq vf vl vw lens fracs tms ens x1 = some (kr, br0, l0, d0, aw0, mg0, dc0, fn0, ff0, ec0) ∧ F_X6_echo lp pm gle gdr gmg gdc gco gpa m gl gf gt ge gfar gnear gech x1 = some (r, kr, lp, pm, gle, gdr, gmg, gdc, gco, gpa, gl, gf, gt, ge, gfar, gnear, gech)) := by
  obtain ⟨n, q, w, len, rfl, rfl, rfl, R⟩ := R
  dsimp only at R
  have hw := R.2.2.2.2.1
  have h19 : m 19 = c64 w := R.2.2.2.2.2.2.2.2.2.2.2.1
  obtain ⟨ml, mf, mt, me, br, left, dr, aw, mgg, dc, fn, ff, ech, far, near, ech2, e1, e2, N⟩ := present_ok R fn0 ff0 ec0 gfar gnear gech gl gf gt ge
  have hM : F_X6_echo lp pm gle gdr gmg gdc gco gpa m gl gf gt ge gfar gnear gech x1 = (if rgn x1.toInt64 0 (c32 w).toInt64 = 0 then some (0, 1, lp, pm, gle, gdr, gmg, gdc, gco, gpa, gl, gf, gt, ge, gfar, gnear, gech) else gin x1 201 <| some (ech2 x1.toNatClampNeg, 0, c32 n, c32 q, left, dr, mgg, dc, 0, 0, ml, mf, mt, me, far, near, ech2)) := by
    unfold F_X6_echo
    rw [windowM h19, e2]
    simp only [bd1_some, inM, bd15, Option.bind_some]
    by_cases h : rgn x1.toInt64 0 (c32 w).toInt64 = 0
    · rw [if_pos h, if_pos h]; rfl
    · rw [if_neg h, if_neg h]; rfl
  rcases reqTime hw x1 with ⟨f1, f2⟩ | ⟨f1, f2, t, ht, rfl⟩
  · rw [if_pos f2] at hM
    refine Or.inr ⟨1, 0, by decide, ?_, hM⟩
    unfold F_LX_echo F_X1_echo
    rw [f1]
    rfl
  · rw [if_neg (by rw [f2]; decide), gin_c (by omega) (by omega), c32_nat (by omega)] at hM
    refine Or.inl ⟨ech2 t, br, left, dr, aw, mgg, dc, fn, ff, ech, vp_updL out (Int32.toNatClampNeg 0) (ech t), _, ?_, hM, ?_⟩
    · unfold F_L_echo F_X1_echo
      rw [f1]
      simp only [bc0_l]
      rw [e1]
      simp only [bd9, Option.bind_some]
      rw [atE (by omega)]
      rfl
    · rw [out0]; exact N.2.2.1 t (by omega)
theorem pc_echoTime (R : pgB (vn, vq, vf, vl, vw, lens, fracs, tms, ens, snd, obs) m) (fn0 ff0 ec0 out : Nat → Int64) (br0 l0 d0 aw0 : Int64) (mg0 dc0 : Int32) (lp pm : Int32) (gle gdr : Int64) (gmg gdc gco : Int32) (gpa : Int64) (gl gf gt : Nat → Int32) (ge gfar gnear gech : Nat → Int64) (x1 : Int32) :
    (∃ r br l d aw mgg dc fn ff ec out' Z, F_L_echoTime fn0 ff0 ec0 out vn vq vf vl vw lens fracs tms ens x1 = some (0, br, l, d, aw, mgg, dc, fn, ff, ec, out') ∧ F_X6_echoTime lp pm gle gdr gmg gdc gco gpa m gl gf gt ge gfar gnear gech x1 = some (r, 0, (Z : Int32 × Int32 × Int64 × Int64 × Int32 × Int32 × Int32 × Int64 × (Nat → Int32) × (Nat → Int32) × (Nat → Int32) × (Nat → Int64) × (Nat → Int64) × (Nat → Int64) × (Nat → Int64))) ∧ out' (Int32.toNatClampNeg 0) = r.toInt64) ∨
    (∃ kr r, ¬ kr = 0 ∧ F_LX_echoTime br0 l0 d0 aw0 mg0 dc0 fn0 ff0 ec0 vn vq vf vl vw lens fracs tms ens x1 = some (kr, br0, l0, d0, aw0, mg0, dc0, fn0, ff0, ec0) ∧ F_X6_echoTime lp pm gle gdr gmg gdc gco gpa m gl gf gt ge gfar gnear gech x1 = some (r, kr, lp, pm, gle, gdr, gmg, gdc, gco, gpa, gl, gf, gt, ge, gfar, gnear, gech)) := by
  obtain ⟨n, q, w, len, rfl, rfl, rfl, R⟩ := R
  dsimp only at R
  have hw := R.2.2.2.2.1
  have h19 : m 19 = c64 w := R.2.2.2.2.2.2.2.2.2.2.2.1
  obtain ⟨ml, mf, mt, me, br, left, dr, aw, mgg, dc, fn, ff, ech, far, near, ech2, e1, e2, N⟩ := present_ok R fn0 ff0 ec0 gfar gnear gech gl gf gt ge
  by_cases hx : x1 < 0
  · refine Or.inr ⟨1, 0, by decide, ?_, ?_⟩
    · unfold F_LX_echoTime F_X1_echoTime
      rw [if_pos hx]
      rfl
    · unfold F_X6_echoTime
      rw [if_neg (show ¬ (0 ≤ x1) by rw [Int32.le_iff_toInt_le]; rw [Int32.lt_iff_toInt_lt] at hx; exact Int.not_le.mpr hx)]
      rfl
  · obtain ⟨v, k1, k2⟩ := timeOf_l hw N.2.2.1 (fun k h1 h2 => N.2.2.2.1 k h1 h2) (fun r => some (r, (0 : Int32), c32 n, c32 q, left, dr, mgg, dc, (0 : Int32), (0 : Int64), ml, mf, mt, me, far, near, ech2)) (fun f x2 x3 => F_X6_echoTime_30 f 0 (c32 n) (c32 q) left dr mgg dc 0 0 ml mf mt me far near ech2 x2 x3) (fun f x2 x3 => by
        show B_X6_echoTime_30 _ _ _ _ _ _ _ _ _ _ _ _ _ _ _ _ _ _ _ = _
        unfold B_X6_echoTime_30 F_X6_echoTime_57
        rfl) (w + 1) 0 gFU gFU x1 (by omega) (by show w + 1 < 5000; omega) (by show 201 - 0 < 5000; omega)
    refine Or.inl ⟨v, br, left, dr, aw, mgg, dc, fn, ff, ech, vp_updL out (Int32.toNatClampNeg 0) v.toInt64, (c32 n, c32 q, left, dr, mgg, dc, 0, 0, ml, mf, mt, me, far, near, ech2), ?_, ?_, out0 _ _⟩
    · unfold F_L_echoTime F_X1_echoTime F_X1_timeOf
      rw [if_neg hx, show F_X1_requireArgument 1 = some (.inl ()) from rfl]
      simp only [bc0_l]
      rw [e1]
      simp only [bd9, Option.bind_some]
      rw [c32_of 0, k1]
      rfl
    · unfold F_X6_echoTime
      rw [if_pos (show (0 ≤ x1) by rw [Int32.le_iff_toInt_le]; rw [Int32.lt_iff_toInt_lt] at hx; exact Int.not_lt.mp hx), if_pos rfl, e2]
      simp only [bd15, Option.bind_some]
      exact k2
theorem pc_total (R : pgB (vn, vq, vf, vl, vw, lens, fracs, tms, ens, snd, obs) m) (fn0 ff0 ec0 out : Nat → Int64) (br0 l0 d0 aw0 : Int64) (mg0 dc0 : Int32) (lp pm : Int32) (gle gdr : Int64) (gmg gdc gco : Int32) (gpa : Int64) (gl gf gt : Nat → Int32) (ge gfar gnear gech : Nat → Int64) (x1 : Int32) :
    (∃ r br l d aw mgg dc fn ff ec out' Z, F_L_total fn0 ff0 ec0 out vn vq vf vl vw lens fracs tms ens x1 = some (0, br, l, d, aw, mgg, dc, fn, ff, ec, out') ∧ F_X6_total lp pm gle gdr gmg gdc gco gpa m gl gf gt ge gfar gnear gech x1 = some (r, 0, (Z : Int32 × Int32 × Int64 × Int64 × Int32 × Int32 × Int32 × Int64 × (Nat → Int32) × (Nat → Int32) × (Nat → Int32) × (Nat → Int64) × (Nat → Int64) × (Nat → Int64) × (Nat → Int64))) ∧ out' (Int32.toNatClampNeg 0) = r) ∨
    (∃ kr r, ¬ kr = 0 ∧ F_LX_total br0 l0 d0 aw0 mg0 dc0 fn0 ff0 ec0 vn vq vf vl vw lens fracs tms ens x1 = some (kr, br0, l0, d0, aw0, mg0, dc0, fn0, ff0, ec0) ∧ F_X6_total lp pm gle gdr gmg gdc gco gpa m gl gf gt ge gfar gnear gech x1 = some (r, kr, lp, pm, gle, gdr, gmg, gdc, gco, gpa, gl, gf, gt, ge, gfar, gnear, gech)) := by
  obtain ⟨n, q, w, len, rfl, rfl, rfl, R⟩ := R
  dsimp only at R
  have hw := R.2.2.2.2.1
  have h19 : m 19 = c64 w := R.2.2.2.2.2.2.2.2.2.2.2.1
  obtain ⟨ml, mf, mt, me, br, left, dr, aw, mgg, dc, fn, ff, ech, far, near, ech2, e1, e2, N⟩ := present_ok R fn0 ff0 ec0 gfar gnear gech gl gf gt ge
  obtain ⟨v, t1, t2⟩ := total_ok N (fun k hk => R.2.2.2.2.2.2.2.1 k hk) left dr mgg dc x1
  unfold F_L_total F_LX_total F_X1_total F_X6_total
  rw [e1, e2]
  simp only [inC, inM, bd1_some, bd9, bd15, Option.bind_some]
  rw [t1, t2]
  by_cases h : rgn x1.toInt64 0 8 = 0
  · rw [if_pos h, h]
    exact Or.inr ⟨1, 0, by decide, rfl, rfl⟩
  · have h1 : rgn x1.toInt64 0 8 = 1 := (rgn_c x1 0 8 (by omega) (by omega)).elim (fun z => absurd z.1 h) (fun z => z.1)
    rw [if_neg h, h1]
    exact Or.inl ⟨v, br, left, dr, aw, mgg, dc, fn, ff, ech, vp_updL out (Int32.toNatClampNeg 0) v, (c32 n, c32 q, left, dr, mgg, dc, 0, 0, ml, mf, mt, me, far, near, ech2), rfl, rfl, out0 _ _⟩
theorem pc_arrival (R : pgB (vn, vq, vf, vl, vw, lens, fracs, tms, ens, snd, obs) m) (fn0 ff0 ec0 out : Nat → Int64) (br0 l0 d0 aw0 : Int64) (mg0 dc0 : Int32) (lp pm : Int32) (gle gdr : Int64) (gmg gdc gco : Int32) (gpa : Int64) (gl gf gt : Nat → Int32) (ge gfar gnear gech : Nat → Int64) (x1 x2 x3 : Int32) (hz : x3 = 0 ∨ x3 = 1) :
    (∃ r br l d aw mgg dc fn ff ec out' Z, F_L_arrival fn0 ff0 ec0 out vn vq vf vl vw lens fracs tms ens x1 x2 x3 = some (0, br, l, d, aw, mgg, dc, fn, ff, ec, out') ∧ F_X6_arrival lp pm gle gdr gmg gdc gco gpa m gl gf gt ge gfar gnear gech x1 x2 x3 = some (r, 0, (Z : Int32 × Int32 × Int64 × Int64 × Int32 × Int32 × Int32 × Int64 × (Nat → Int32) × (Nat → Int32) × (Nat → Int32) × (Nat → Int64) × (Nat → Int64) × (Nat → Int64) × (Nat → Int64))) ∧ out' (Int32.toNatClampNeg 0) = r) ∨
    (∃ kr r, ¬ kr = 0 ∧ F_LX_arrival br0 l0 d0 aw0 mg0 dc0 fn0 ff0 ec0 vn vq vf vl vw lens fracs tms ens x1 x2 x3 = some (kr, br0, l0, d0, aw0, mg0, dc0, fn0, ff0, ec0) ∧ F_X6_arrival lp pm gle gdr gmg gdc gco gpa m gl gf gt ge gfar gnear gech x1 x2 x3 = some (r, kr, lp, pm, gle, gdr, gmg, gdc, gco, gpa, gl, gf, gt, ge, gfar, gnear, gech)) := by
  obtain ⟨n, q, w, len, rfl, rfl, rfl, R⟩ := R
  dsimp only at R
  have hw := R.2.2.2.2.1
  have h19 : m 19 = c64 w := R.2.2.2.2.2.2.2.2.2.2.2.1
  obtain ⟨ml, mf, mt, me, br, left, dr, aw, mgg, dc, fn, ff, ech, far, near, ech2, e1, e2, N⟩ := present_ok R fn0 ff0 ec0 gfar gnear gech gl gf gt ge
  have h0 : m 0 = c64 n := R.2.2.2.2.2.2.2.2.1
  have hn := R.1
  have hM : F_X6_arrival lp pm gle gdr gmg gdc gco gpa m gl gf gt ge gfar gnear gech x1 x2 x3 = (if rgn x1.toInt64 0 (c32 n).toInt64 = 0 then some (0, 1, lp, pm, gle, gdr, gmg, gdc, gco, gpa, gl, gf, gt, ge, gfar, gnear, gech) else if rgn x2.toInt64 0 (c32 w).toInt64 = 0 then some (0, 2, lp, pm, gle, gdr, gmg, gdc, gco, gpa, gl, gf, gt, ge, gfar, gnear, gech) else bd1 (F_X6_arrives (c32 n) ml far near x1 x2 x3) fun r => some (r, 0, c32 n, c32 q, left, dr, mgg, dc, 0, 0, ml, mf, mt, me, far, near, ech2)) := by
    unfold F_X6_arrival F_X6_arrival_38
    rw [partsM h0, windowM h19, e2]
    simp only [bd1_some, inM, bd15, Option.bind_some]
    by_cases h : rgn x1.toInt64 0 (c32 n).toInt64 = 0
    · rw [if_pos h, if_pos h]; rfl
    · rw [if_neg h, if_neg h]
      by_cases h2 : rgn x2.toInt64 0 (c32 w).toInt64 = 0
      · rw [if_pos h2, if_pos h2]; rfl
      · rw [if_neg h2, if_neg h2]; rfl
  have hj : (rgn x1.toInt64 0 (c32 n).toInt64 = 0) ∨ (rgn x1.toInt64 0 (c32 n).toInt64 = 1 ∧ ∃ j, j ≤ n ∧ x1 = c32 j) := by
    rw [c32_64 (by omega)]
    rcases rgn_c x1 0 n (by omega) (by omega) with ⟨h1, -⟩ | ⟨h1, x, rfl, -, hx⟩
    · exact Or.inl h1
    · exact Or.inr ⟨h1, x, hx, rfl⟩
  rcases hj with h1 | ⟨h1, j, hj, rfl⟩
  · rw [if_pos h1] at hM
    refine Or.inr ⟨1, 0, by decide, ?_, hM⟩
    unfold F_LX_arrival F_X1_arrival
    simp only [inC, bd1_some]
    rw [h1]
    rfl
  · rw [if_neg (by rw [h1]; decide)] at hM
    rcases reqTime hw x2 with ⟨f1, f2⟩ | ⟨f1, f2, t, ht, rfl⟩
    · rw [if_pos f2] at hM
      refine Or.inr ⟨2, 0, by decide, ?_, hM⟩
      unfold F_LX_arrival F_X1_arrival
      simp only [inC, bd1_some]
      rw [h1, f1]
      rfl
    · obtain ⟨v, g1, g2⟩ := arrival_ok N hj ht x3 hz
      rw [if_neg (by rw [f2]; decide), g2] at hM
      refine Or.inl ⟨v, br, left, dr, aw, mgg, dc, fn, ff, ech, vp_updL out (Int32.toNatClampNeg 0) v, _, ?_, hM, out0 _ _⟩
      unfold F_L_arrival F_X1_arrival
      simp only [inC, bd1_some]
      rw [h1, show F_X1_requireIndex 1 = some (.inl ()) from rfl]
      simp only [bc0_l]
      rw [f1]
      simp only [bc0_l]
      rw [e1]
      simp only [bd9, Option.bind_some]
      rw [g1]
      rfl
theorem pc_fault (R : pgB (vn, vq, vf, vl, vw, lens, fracs, tms, ens, snd, obs) m) (fn0 ff0 ec0 out : Nat → Int64) (br0 l0 d0 aw0 : Int64) (mg0 dc0 : Int32) (lp pm : Int32) (gle gdr : Int64) (gmg gdc gco : Int32) (gpa : Int64) (gl gf gt : Nat → Int32) (ge gfar gnear gech : Nat → Int64) (x1 : Int32) :
    (∃ r br l d aw mgg dc fn ff ec out' Z, F_L_fault fn0 ff0 ec0 out vn vq vf vl vw lens fracs tms ens snd x1 = some (0, br, l, d, aw, mgg, dc, fn, ff, ec, out') ∧ F_X6_fault lp pm gle gdr gmg gdc gco gpa m gl gf gt ge gfar gnear gech x1 = some (r, 0, (Z : Int32 × Int32 × Int64 × Int64 × Int32 × Int32 × Int32 × Int64 × (Nat → Int32) × (Nat → Int32) × (Nat → Int32) × (Nat → Int64) × (Nat → Int64) × (Nat → Int64) × (Nat → Int64))) ∧ out' (Int32.toNatClampNeg 0) = r.toInt64) ∨
    (∃ kr r, ¬ kr = 0 ∧ F_LX_fault br0 l0 d0 aw0 mg0 dc0 fn0 ff0 ec0 vn vq vf vl vw lens fracs tms ens snd x1 = some (kr, br0, l0, d0, aw0, mg0, dc0, fn0, ff0, ec0) ∧ F_X6_fault lp pm gle gdr gmg gdc gco gpa m gl gf gt ge gfar gnear gech x1 = some (r, kr, lp, pm, gle, gdr, gmg, gdc, gco, gpa, gl, gf, gt, ge, gfar, gnear, gech)) := by
  obtain ⟨n, q, w, len, rfl, rfl, rfl, R⟩ := R
  dsimp only at R
  have hw := R.2.2.2.2.1
  have h19 : m 19 = c64 w := R.2.2.2.2.2.2.2.2.2.2.2.1
  obtain ⟨ml, mf, mt, me, br, left, dr, aw, mgg, dc, fn, ff, ech, far, near, ech2, e1, e2, N⟩ := present_ok R fn0 ff0 ec0 gfar gnear gech gl gf gt ge
  unfold F_L_fault F_LX_fault F_X1_fault F_X6_fault
  rw [e2]
  simp only [inC, inM, bd1_some, bd15, Option.bind_some]
  rcases rgn_c x1 0 3 (by omega) (by omega) with ⟨h1, -⟩ | ⟨h1, x, rfl, -, hx⟩
  · rw [show rgn x1.toInt64 0 3 = 0 from h1]
    exact Or.inr ⟨1, 0, by decide, rfl, rfl⟩
  · rw [show rgn (c32 x).toInt64 0 3 = 1 from h1]
    obtain ⟨v, g1, g2⟩ := fault_ok R N left dr mgg dc hx
    rw [g1 _ _ _ e1, g2]
    exact Or.inl ⟨v, br, left, dr, aw, mgg, dc, fn, ff, ech, vp_updL out (Int32.toNatClampNeg 0) v.toInt64, (c32 n, c32 q, left, dr, mgg, dc, 0, 0, ml, mf, mt, me, far, near, ech2), rfl, rfl, out0 _ _⟩
theorem pc_differences (R : pgB (vn, vq, vf, vl, vw, lens, fracs, tms, ens, snd, obs) m) (fn0 ff0 ec0 out : Nat → Int64) (br0 l0 d0 aw0 : Int64) (mg0 dc0 : Int32) (lp pm : Int32) (gle gdr : Int64) (gmg gdc gco : Int32) (gpa : Int64) (gl gf gt : Nat → Int32) (ge gfar gnear gech : Nat → Int64) :
    ∃ r br l d aw mgg dc fn ff ec Z, F_X1_differences fn0 ff0 ec0 vn vq vf vl vw lens fracs tms ens snd = some (r, br, l, d, aw, mgg, dc, fn, ff, ec) ∧ F_X6_differences m gl gf gt ge gfar gnear gech = some (r, 0, (Z : Int32 × Int32 × Int64 × Int64 × Int32 × Int32 × Int32 × Int64 × (Nat → Int32) × (Nat → Int32) × (Nat → Int32) × (Nat → Int64) × (Nat → Int64) × (Nat → Int64) × (Nat → Int64))) := by
  obtain ⟨n, q, w, len, rfl, rfl, rfl, R⟩ := R
  dsimp only at R
  have hw := R.2.2.2.2.1
  have h19 : m 19 = c64 w := R.2.2.2.2.2.2.2.2.2.2.2.1
  obtain ⟨ml, mf, mt, me, br, left, dr, aw, mgg, dc, fn, ff, ech, far, near, ech2, e1, e2, N⟩ := present_ok R fn0 ff0 ec0 gfar gnear gech gl gf gt ge
  have hS : ∀ t, t < 201 → m (29 + t) = snd t := R.2.2.2.2.2.2.2.2.2.2.2.2.2.2.2.2.2.1
  have hd := differencesNow hw h19 hS ech2
  have hc := diffC hw snd br left dr aw mgg dc fn ff ech (w + 1) 0 gFU (by omega) (by show w + 1 < 5000; omega)
  refine ⟨dn (w + 1) ech snd, br, left, dr, aw, mgg, dc, fn, ff, ech, (c32 n, c32 q, left, dr, mgg, dc, 0, 0, ml, mf, mt, me, far, near, ech2), ?_, ?_⟩
  · unfold F_X1_differences F_X2_differences
    rw [e1]
    simp only [bd9, Option.bind_some]
    rw [show F_X2_differences_12 gFU br left dr aw mgg dc fn ff ech 0 0 (c32 w) snd = _ from hc]
    rfl
  · unfold F_X6_differences
    rw [e2]
    simp only [bd15, Option.bind_some]
    rw [hd, dn_congr (f := ech) (f2 := ech2) (g := snd) (g2 := snd) (fun i hi => N.2.2.1 i (by omega)) (fun _ _ => rfl)]
    rfl
end CMD
