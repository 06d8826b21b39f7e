/-! the pure law, text W -/
set_option maxRecDepth 100000
/-! P19: sound and look -/
theorem cn_nn {f : Nat → Int64} : ∀ (k : Nat), ∃ j, j ≤ k ∧ cn k f = c32 j
  | 0 => ⟨0, by omega, rfl⟩
  | k + 1 => by
    obtain ⟨j, h1, h2⟩ := cn_nn (f := f) k
    rw [cn, h2]
    unfold ps
    split
    · exact ⟨j, by omega, Int32.add_zero _⟩
    · exact ⟨j + 1, by omega, c32_add j 1⟩
section PG
variable {n q w : Nat} {len : Nat → Nat} {lens fracs tms ens : Nat → Int32} {front least : Int32} {snd obs m : Nat → Int64}
theorem keepSound_b (R : pgR n q w len lens fracs tms ens front least snd obs m) (fn0 ff0 ec0 : Nat → Int64) (gl gf gt : Nat → Int32) (ge gfar gnear gech : Nat → Int64) : ∃ r br left dr aw mgg dc fn ff ech l m' z1 z2 z3 z4 z5 z6 z7 z8 y, F_X2_keepSound fn0 ff0 ec0 (c32 n) (c32 q) front least (c32 w) lens fracs tms ens = some (r, br, left, dr, aw, mgg, dc, fn, ff, ech, l) ∧ F_X6_copies m gl gf gt ge gfar gnear gech 29 = some (r, z1, z2, z3, z4, z5, z6, z7, z8, m', (y : (Nat → Int32) × (Nat → Int32) × (Nat → Int32) × (Nat → Int64) × (Nat → Int64) × (Nat → Int64) × (Nat → Int64))) ∧ ¬ r < 0 ∧ pgR n q w len lens fracs tms ens front least l obs m' := by
  obtain ⟨ml, mf, mt, me, br, left, dr, aw, mgg, dc, fn, ff, ech, far, near, ech2, e1, e2, N⟩ := present_ok R fn0 ff0 ec0 gfar gnear gech gl gf gt ge
  have hw := R.2.2.2.2.1
  obtain ⟨l, l1, l2, l3⟩ := ofR (w := w) ech hw
  have hcn : cn (w + 1) ech = cn 201 ech2 := by
    rw [cn_congr (fun i hi => N.2.2.1 i (by omega)), show 201 = (w + 1) + (200 - w) by omega]
    exact (cn_ext (fun k h1 h2 => N.2.2.2.1 k h1 (by omega))).symm
  have hl : ∀ t, t < 201 → l t = ech2 t := fun t ht => by
    by_cases h : t ≤ w
    · rw [l2 t h, N.2.2.1 t ht]
    · rw [l3 t (by omega) ht, N.2.2.2.1 t (by omega) ht]
  obtain ⟨m', c1, c2, c3⟩ := copies_l 29 (by omega) ech2 (fun r mm => some (r, c32 n, c32 q, left, dr, mgg, dc, (0 : Int32), (0 : Int64), mm, ml, mf, mt, me, far, near, ech2)) (fun f mm x2 x3 => F_X6_copies_8 f (c32 n) (c32 q) left dr mgg dc 0 0 mm ml mf mt me far near ech2 (c32 29) x2 x3) (fun f mm x2 x3 => by
    show B_X6_copies_8 _ _ _ _ _ _ _ _ _ _ _ _ _ _ _ _ _ _ _ _ = _
    unfold B_X6_copies_8
    rfl) 201 0 gFU m rfl (by show 201 < 5000; omega)
  obtain ⟨j, j1, j2⟩ := cn_nn (f := ech2) 201
  refine ⟨cn (w + 1) ech, br, left, dr, aw, mgg, dc, fn, ff, ech, l, m', c32 n, c32 q, left, dr, mgg, dc, 0, 0, (ml, mf, mt, me, far, near, ech2), ?_, ?_, ?_, ?_⟩
  · unfold F_X2_keepSound
    rw [e1]
    simp only [bd9, Option.bind_some]
    rw [l1, countE ech hw]
    rfl
  · unfold F_X6_copies
    rw [e2, hcn]
    rw [bd15_s]
    exact c1
  · rw [hcn, j2]
    exact c32_ge0 j (by omega)
  · exact pgR_snd R (fun t ht => by rw [hl t ht]; exact c2 t (by omega) ht) (fun k hk => c3 k (by omega))
theorem observe_b (R : pgR n q w len lens fracs tms ens front least snd obs m) (fn0 ff0 ec0 : Nat → Int64) (gl gf gt : Nat → Int32) (ge gfar gnear gech : Nat → Int64) : ∃ r br left dr aw mgg dc fn ff ech l m' z1 z2 z3 z4 z5 z6 z7 z8 y, F_X2_observe fn0 ff0 ec0 (c32 n) (c32 q) front least (c32 w) lens fracs tms ens = some (r, br, left, dr, aw, mgg, dc, fn, ff, ech, l) ∧ F_X6_copies m gl gf gt ge gfar gnear gech 230 = some (r, z1, z2, z3, z4, z5, z6, z7, z8, m', (y : (Nat → Int32) × (Nat → Int32) × (Nat → Int32) × (Nat → Int64) × (Nat → Int64) × (Nat → Int64) × (Nat → Int64))) ∧ ¬ r < 0 ∧ pgR n q w len lens fracs tms ens front least snd l m' := by
  obtain ⟨ml, mf, mt, me, br, left, dr, aw, mgg, dc, fn, ff, ech, far, near, ech2, e1, e2, N⟩ := present_ok R fn0 ff0 ec0 gfar gnear gech gl gf gt ge
  have hw := R.2.2.2.2.1
  obtain ⟨l, l1, l2, l3⟩ := ofR (w := w) ech hw
  have hcn : cn (w + 1) ech = cn 201 ech2 := by
    rw [cn_congr (fun i hi => N.2.2.1 i (by omega)), show 201 = (w + 1) + (200 - w) by omega]
    exact (cn_ext (fun k h1 h2 => N.2.2.2.1 k h1 (by omega))).symm
  have hl : ∀ t, t < 201 → l t = ech2 t := fun t ht => by
    by_cases h : t ≤ w
    · rw [l2 t h, N.2.2.1 t ht]
    · rw [l3 t (by omega) ht, N.2.2.2.1 t (by omega) ht]
  obtain ⟨m', c1, c2, c3⟩ := copies_l 230 (by omega) ech2 (fun r mm => some (r, c32 n, c32 q, left, dr, mgg, dc, (0 : Int32), (0 : Int64), mm, ml, mf, mt, me, far, near, ech2)) (fun f mm x2 x3 => F_X6_copies_8 f (c32 n) (c32 q) left dr mgg dc 0 0 mm ml mf mt me far near ech2 (c32 230) x2 x3) (fun f mm x2 x3 => by
    show B_X6_copies_8 _ _ _ _ _ _ _ _ _ _ _ _ _ _ _ _ _ _ _ _ = _
    unfold B_X6_copies_8
    rfl) 201 0 gFU m rfl (by show 201 < 5000; omega)
  obtain ⟨j, j1, j2⟩ := cn_nn (f := ech2) 201
  refine ⟨cn (w + 1) ech, br, left, dr, aw, mgg, dc, fn, ff, ech, l, m', c32 n, c32 q, left, dr, mgg, dc, 0, 0, (ml, mf, mt, me, far, near, ech2), ?_, ?_, ?_, ?_⟩
  · unfold F_X2_observe
    rw [e1]
    simp only [bd9, Option.bind_some]
    rw [l1, countE ech hw]
    rfl
  · unfold F_X6_copies
    rw [e2, hcn]
    rw [bd15_s]
    exact c1
  · rw [hcn, j2]
    exact c32_ge0 j (by omega)
  · exact pgR_obs R (fun t ht => by rw [hl t ht]; exact c2 t (by omega) ht) (fun k hk => c3 k (by omega))
end PG
section CMD
variable {vn vq vf vl vw : Int32} {lens fracs tms ens : Nat → Int32} {snd obs m ms : Nat → Int64} {dp : Nat} {Bs : Nat → gBt} {saved : Nat → Option Nat}
theorem pc_keepSound (a1 : Nat) (R : pgB (vn, vq, vf, vl, vw, lens, fracs, tms, ens, snd, obs) m) (S : savR dp Bs saved ms) (fn0 ff0 ec0 : Nat → Int64) (gl gf gt : Nat → Int32) (ge gfar gnear gech : Nat → Int64) :
    ∃ r br left dr aw mgg dc fn ff ec n' q' f' l' w' a b c d x z1 z2 z3 z4 z5 z6 z7 z8 m' ms' y, F_X1_keepSound a1 (c32 dp) saved fn0 ff0 ec0 vn vq vf vl vw lens fracs tms ens = some (r, c32 (dpS dp), bSh dp saved (some a1), br, left, dr, aw, mgg, dc, fn, ff, ec, n', q', f', l', w', a, b, c, d, x) ∧ F_X6_keepSound (c32 dp) m ms gl gf gt ge gfar gnear gech = some (r, c32 (dpS dp), 0, z1, z2, z3, z4, z5, z6, z7, z8, m', ms', (y : (Nat → Int32) × (Nat → Int32) × (Nat → Int32) × (Nat → Int64) × (Nat → Int64) × (Nat → Int64) × (Nat → Int64))) ∧ pgB (n', q', f', l', w', a, b, c, d, x, obs) m' ∧ savR (dpS dp) (bSh dp Bs (vn, vq, vf, vl, vw, lens, fracs, tms, ens, snd, obs)) (bSh dp saved (some a1)) ms' := by
  obtain ⟨ms', k1, k2⟩ := savR_keep S a1 R
  have hd := S.1
  obtain ⟨n, q, w, len, rfl, rfl, rfl, R⟩ := R
  obtain ⟨l, f, t, e, hc, R2⟩ := pgR_copy R
  obtain ⟨r, br, left, dr, aw, mgg, dc, fn, ff, ech, x, m', z1, z2, z3, z4, z5, z6, z7, z8, y, h1, h2, -, h3⟩ := keepSound_b R2 fn0 ff0 ec0 gl gf gt ge gfar gnear gech
  refine ⟨r, br, left, dr, aw, mgg, dc, fn, ff, ech, c32 n, c32 q, vf, vl, c32 w, l, f, t, e, x, z1, z2, z3, z4, z5, z6, z7, z8, m', ms', y, ?_, ?_, ⟨_, _, _, _, rfl, rfl, rfl, h3⟩, k2⟩
  · unfold F_X1_keepSound
    rw [hc]
    simp only [bd9, Option.bind_some]
    rw [h1]
    simp only [bd11, Option.bind_some]
    rw [becomeF a1 hd]
    rfl
  · unfold F_X6_keepSound
    rw [k1]
    simp only [bd2, Option.bind_some]
    rw [h2]
    rfl
theorem pc_observe (a1 : Nat) (R : pgB (vn, vq, vf, vl, vw, lens, fracs, tms, ens, snd, obs) m) (S : savR dp Bs saved ms) (fn0 ff0 ec0 : Nat → Int64) (gl gf gt : Nat → Int32) (ge gfar gnear gech : Nat → Int64) :
    ∃ r br left dr aw mgg dc fn ff ec n' q' f' l' w' a b c d x z1 z2 z3 z4 z5 z6 z7 z8 m' ms' y, F_X1_observe a1 (c32 dp) saved fn0 ff0 ec0 vn vq vf vl vw lens fracs tms ens = some (r, c32 (dpS dp), bSh dp saved (some a1), br, left, dr, aw, mgg, dc, fn, ff, ec, n', q', f', l', w', a, b, c, d, x) ∧ F_X6_observe (c32 dp) m ms gl gf gt ge gfar gnear gech = some (r, c32 (dpS dp), 0, z1, z2, z3, z4, z5, z6, z7, z8, m', ms', (y : (Nat → Int32) × (Nat → Int32) × (Nat → Int32) × (Nat → Int64) × (Nat → Int64) × (Nat → Int64) × (Nat → Int64))) ∧ pgB (n', q', f', l', w', a, b, c, d, snd, x) m' ∧ savR (dpS dp) (bSh dp Bs (vn, vq, vf, vl, vw, lens, fracs, tms, ens, snd, obs)) (bSh dp saved (some a1)) ms' := by
  obtain ⟨ms', k1, k2⟩ := savR_keep S a1 R
  have hd := S.1
  obtain ⟨n, q, w, len, rfl, rfl, rfl, R⟩ := R
  obtain ⟨l, f, t, e, hc, R2⟩ := pgR_copy R
  obtain ⟨r, br, left, dr, aw, mgg, dc, fn, ff, ech, x, m', z1, z2, z3, z4, z5, z6, z7, z8, y, h1, h2, -, h3⟩ := observe_b R2 fn0 ff0 ec0 gl gf gt ge gfar gnear gech
  refine ⟨r, br, left, dr, aw, mgg, dc, fn, ff, ech, c32 n, c32 q, vf, vl, c32 w, l, f, t, e, x, z1, z2, z3, z4, z5, z6, z7, z8, m', ms', y, ?_, ?_, ⟨_, _, _, _, rfl, rfl, rfl, h3⟩, k2⟩
  · unfold F_X1_observe
    rw [hc]
    simp only [bd9, Option.bind_some]
    rw [h1]
    simp only [bd11, Option.bind_some]
    rw [becomeF a1 hd]
    rfl
  · unfold F_X6_observe
    rw [k1]
    simp only [bd2, Option.bind_some]
    rw [h2]
    rfl
end CMD
