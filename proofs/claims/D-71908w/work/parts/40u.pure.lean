/-! the pure law, text U -/
set_option maxRecDepth 100000
/-! P17: what is asked without a run; the script's bytes -/
section CMD
variable {vn vq vf vl vw : Int32} {lens fracs tms ens : Nat → Int32} {snd obs m ms : Nat → Int64} {dp : Nat} {Bs : Nat → gBt} {saved : Nat → Option Nat}
theorem pc_part (R : pgB (vn, vq, vf, vl, vw, lens, fracs, tms, ens, snd, obs) m) (out : Nat → Int64) (x1 x2 : Int32) :
    (∃ r out', F_L_part out vn lens fracs x1 x2 = some (0, out') ∧ F_X6_part m x1 x2 = some (r, 0) ∧ out' (Int32.toNatClampNeg 0) = r.toInt64) ∨
    (∃ kr r, ¬ kr = 0 ∧ F_LX_part vn lens fracs x1 x2 = some kr ∧ F_X6_part m x1 x2 = some (r, kr)) := by
  obtain ⟨n, q, w, len, rfl, -, -, R⟩ := R
  obtain ⟨hn, hq1, hq, hw1, hw, hl, hen, htm, h0, h17, h18, h19, h20, hL, hF, hT, hE, hS, hO, hfr⟩ := R
  dsimp only at hl hL hF hn ⊢
  rcases isPart (p := x1) hn h0 with ⟨e1, e2⟩ | ⟨e1, e2, p, hp, rfl⟩
  · refine Or.inr ⟨1, 0, by decide, ?_, ?_⟩
    · unfold F_LX_part F_X1_part
      rw [e1]
      rfl
    · unfold F_X6_part F_X6_part_30
      rw [e2]
      rfl
  · have hC : F_X1_part (c32 n) lens fracs (c32 p) x2 = if rgn x2.toInt64 (c64 0) (c64 2) = 0 then some (.inr 1) else bd1 (F_X1_partValue lens fracs (c32 p) x2) fun r => some (.inl r) := by
      unfold F_X1_part
      rw [e1]
      simp only [bc0_l, inC, bd1_some]
      rcases rgn_c x2 0 2 (by omega) (by omega) with ⟨h1, -⟩ | ⟨h1, -⟩
      · rw [if_pos h1, show rgn x2.toInt64 0 2 = 0 from h1]; rfl
      · rw [if_neg (show ¬ rgn x2.toInt64 (c64 0) (c64 2) = 0 by rw [h1]; decide), show rgn x2.toInt64 0 2 = 1 from h1]; rfl
    have hM : F_X6_part m (c32 p) x2 = F_X6_part_30 m (c32 p) x2 (if rgn x2.toInt64 (c64 0) (c64 2) = 0 then 2 else 0) := by
      unfold F_X6_part
      rw [e2]
      simp only [bd1_some, inM]
      rfl
    rcases rgn_c x2 0 2 (by omega) (by omega) with ⟨h1, -⟩ | ⟨h1, x, rfl, -, hx⟩
    · rw [if_pos h1] at hC hM
      refine Or.inr ⟨2, 0, by decide, ?_, hM⟩
      unfold F_LX_part
      rw [hC]
      rfl
    · rw [if_neg (by rw [h1]; decide)] at hC hM
      have key : ∃ r, F_X1_partValue lens fracs (c32 p) (c32 x) = some r ∧ F_X6_part_30 m (c32 p) (c32 x) 0 = some (r, 0) := by
        unfold F_X1_partValue F_X1_partValue_42 F_X6_part_30 F_X6_part_73
        rw [gin_c (by omega) (by omega), gin_c (by omega) (by omega), c32_nat (by omega)]
        rcases (show x = 0 ∨ x = 1 ∨ x = 2 by omega) with rfl | rfl | rfl
        · refine ⟨lens p, rfl, ?_⟩
          rw [if_pos (by decide), if_neg (by decide), if_pos (by decide), c32_of 1, c32_add, gin_c (by omega) (by omega), c32_nat (by omega), hL p hp, i64_32]
        · refine ⟨fracs p, rfl, ?_⟩
          rw [if_pos (by decide), if_neg (by decide), if_neg (by decide), c32_of 9, c32_add, gin_c (by omega) (by omega), c32_nat (by omega), hF p hp, i64_32]
        · refine ⟨c32 (ls (p + 1) len), ?_, ?_⟩
          · rw [if_neg (by decide), if_neg (by decide), c32_of 1, c32_add, sumF (len := len) (by omega) (fun i hi => (hl i (by omega)).1)]
            rfl
          · rw [if_pos (by decide), if_pos (by decide), upToF (len := len) (by omega) (fun i hi => by rw [hL i (by omega), (hl i (by omega)).1, c32_64 (by have := (hl i (by omega)).2.2; omega)])]
            rfl
      obtain ⟨r, f1, f2⟩ := key
      rw [f1] at hC
      refine Or.inl ⟨r, vp_updL out (Int32.toNatClampNeg 0) r.toInt64, ?_, hM.trans f2, out0 _ _⟩
      unfold F_L_part
      rw [hC]
      rfl
theorem value_ok {n q w : Nat} {len : Nat → Nat} (R : pgR n q w len lens fracs tms ens vf vl snd obs m) {x : Nat} (hx : x ≤ 5) : ∃ r, F_X3_value (c32 n) (c32 q) vf vl (c32 w) lens (c32 x) = some r ∧ F_X6_benchOf m (c32 x) = some r := by
  obtain ⟨hn, hq1, hq, hw1, hw, hl, hen, htm, h0, h17, h18, h19, h20, hL, hF, hT, hE, hS, hO, hfr⟩ := R
  unfold F_X3_value F_X6_benchOf
  rw [partsM h0, sumOfLengths (len := len) hn h0 (fun i hi => by rw [hL i hi, (hl i hi).1, c32_64 (by have := (hl i hi).2.2; omega)]), sumF (len := len) hn (fun i hi => (hl i hi).1), c32_of 20, gin_c (by omega) (by omega), c32_nat (by omega), h20, c64_32]
  rcases (show x = 0 ∨ x = 1 ∨ x = 2 ∨ x = 3 ∨ x = 4 ∨ x = 5 by omega) with rfl | rfl | rfl | rfl | rfl | rfl
  · exact ⟨c32 n, rfl, rfl⟩
  · exact ⟨c32 q, rfl, rfl⟩
  · refine ⟨vf, rfl, ?_⟩
    rw [if_neg (by decide), if_neg (by decide), if_neg (by decide), show (17 + c32 2 - 2 : Int32) = c32 17 from rfl, gin_c (by omega) (by omega), c32_nat (by omega), h17, i64_32]
  · refine ⟨vl, rfl, ?_⟩
    rw [if_neg (by decide), if_neg (by decide), if_neg (by decide), show (17 + c32 3 - 2 : Int32) = c32 18 from rfl, gin_c (by omega) (by omega), c32_nat (by omega), h18, i64_32]
  · refine ⟨c32 w, rfl, ?_⟩
    rw [if_neg (by decide), if_neg (by decide), if_neg (by decide), show (17 + c32 4 - 2 : Int32) = c32 19 from rfl, gin_c (by omega) (by omega), c32_nat (by omega), h19, c64_32]
  · exact ⟨c32 (ls n len), rfl, rfl⟩
theorem pc_bench (R : pgB (vn, vq, vf, vl, vw, lens, fracs, tms, ens, snd, obs) m) (out : Nat → Int64) (x1 : Int32) :
    (∃ r out', F_L_bench out vn vq vf vl vw lens x1 = some (0, out') ∧ F_X6_bench m x1 = some (r, 0) ∧ out' (Int32.toNatClampNeg 0) = r.toInt64) ∨
    (∃ kr r, ¬ kr = 0 ∧ F_LX_bench vn vq vf vl vw lens x1 = some kr ∧ F_X6_bench m x1 = some (r, kr)) := by
  obtain ⟨n, q, w, len, rfl, rfl, rfl, R⟩ := R
  unfold F_L_bench F_LX_bench F_X1_bench F_X6_bench F_X6_bench_37
  simp only [inC, inM, bd1_some]
  rcases rgn_c x1 0 5 (by omega) (by omega) with ⟨h1, -⟩ | ⟨h1, x, rfl, -, hx⟩
  · rw [show rgn x1.toInt64 0 5 = 0 from h1]
    exact Or.inr ⟨1, 0, by decide, rfl, rfl⟩
  · rw [show rgn (c32 x).toInt64 0 5 = 1 from h1]
    obtain ⟨r, e1, e2⟩ := value_ok R hx
    dsimp only at e1
    refine Or.inl ⟨r, vp_updL out (Int32.toNatClampNeg 0) r.toInt64, ?_, ?_, out0 _ _⟩
    · rw [e1]; rfl
    · rw [e2]; rfl
theorem reqObs (x1 : Int32) : (F_X1_requireObserved x1 = some (.inr 1) ∧ rgn x1.toInt64 0 200 = 0) ∨ (F_X1_requireObserved x1 = some (.inl ()) ∧ rgn x1.toInt64 0 200 = 1 ∧ ∃ t, t ≤ 200 ∧ x1 = c32 t) := by
  unfold F_X1_requireObserved
  simp only [inC, bd1_some]
  rcases rgn_c x1 0 200 (by omega) (by omega) with ⟨h1, -⟩ | ⟨h1, x, rfl, -, hx⟩
  · rw [show rgn x1.toInt64 0 200 = 0 from h1]
    exact Or.inl ⟨rfl, rfl⟩
  · rw [show rgn (c32 x).toInt64 0 200 = 1 from h1]
    exact Or.inr ⟨rfl, rfl, x, hx, rfl⟩
theorem pc_observed (R : pgB (vn, vq, vf, vl, vw, lens, fracs, tms, ens, snd, obs) m) (out : Nat → Int64) (x1 : Int32) :
    (∃ r out', F_L_observed out obs x1 = some (0, out') ∧ F_X6_observed m x1 = some (r, 0) ∧ out' (Int32.toNatClampNeg 0) = r) ∨
    (∃ kr r, ¬ kr = 0 ∧ F_LX_observed obs x1 = some kr ∧ F_X6_observed m x1 = some (r, kr)) := by
  obtain ⟨n, q, w, len, -, -, -, R⟩ := R
  obtain ⟨hn, hq1, hq, hw1, hw, hl, hen, htm, h0, h17, h18, h19, h20, hL, hF, hT, hE, hS, hO, hfr⟩ := R
  unfold F_L_observed F_LX_observed F_X1_observed F_X6_observed F_X6_observed_42
  simp only [inM, bd1_some]
  rcases reqObs x1 with ⟨e1, e2⟩ | ⟨e1, e2, t, ht, rfl⟩
  · rw [e1, e2]
    exact Or.inr ⟨1, 0, by decide, rfl, rfl⟩
  · rw [e1, e2]
    refine Or.inl ⟨obs t, vp_updL out (Int32.toNatClampNeg 0) (obs t), ?_, ?_, out0 _ _⟩
    · simp only [bc0_l]
      rw [atK (by omega)]
      rfl
    · rw [if_pos (by decide), c32_of 230, c32_add, gin_c (by omega) (by omega), c32_nat (by omega)]
      rw [show m (230 + t) = obs t from hO t (by omega)]
      rfl
theorem pc_setObserved (a1 : Nat) (R : pgB (vn, vq, vf, vl, vw, lens, fracs, tms, ens, snd, obs) m) (S : savR dp Bs saved ms) (out : Nat → Int64) (x1 : Int32) (x2 : Int64) :
    (∃ r out' n' q' f' l' w' a b c d obs' m' ms', F_L_setObserved a1 (c32 dp) saved out vn vq vf vl vw lens fracs tms ens obs x1 x2 = some (0, c32 (dpS dp), bSh dp saved (some a1), out', n', q', f', l', w', a, b, c, d, obs') ∧ F_X6_setObserved (c32 dp) m ms x1 x2 = some (r, c32 (dpS dp), 0, m', ms') ∧ out' (Int32.toNatClampNeg 0) = r ∧ pgB (n', q', f', l', w', a, b, c, d, snd, obs') m' ∧ savR (dpS dp) (bSh dp Bs (vn, vq, vf, vl, vw, lens, fracs, tms, ens, snd, obs)) (bSh dp saved (some a1)) ms') ∨
    (∃ kr r, ¬ kr = 0 ∧ F_LX_setObserved a1 (c32 dp) saved vn vq vf vl vw lens fracs tms ens obs x1 x2 = some (kr, c32 dp, saved) ∧ F_X6_setObserved (c32 dp) m ms x1 x2 = some (r, c32 dp, kr, m, ms)) := by
  obtain ⟨ms', k1, k2⟩ := savR_keep S a1 R
  have hd := S.1
  obtain ⟨n, q, w, len, rfl, rfl, rfl, R⟩ := R
  obtain ⟨l, f, t, e, hc, R2⟩ := pgR_copy R
  have bad : F_X1_setObserved a1 (c32 dp) saved (c32 n) (c32 q) vf vl (c32 w) lens fracs tms ens obs x1 x2 = some (.inr 1) → F_X6_setObserved (c32 dp) m ms x1 x2 = some (0, c32 dp, 1, m, ms) → (∃ kr r, ¬ kr = 0 ∧ F_LX_setObserved a1 (c32 dp) saved (c32 n) (c32 q) vf vl (c32 w) lens fracs tms ens obs x1 x2 = some (kr, c32 dp, saved) ∧ F_X6_setObserved (c32 dp) m ms x1 x2 = some (r, c32 dp, kr, m, ms)) := by
    intro h1 h2
    refine ⟨1, 0, by decide, ?_, h2⟩
    unfold F_LX_setObserved
    rw [h1]
    rfl
  rcases reqObs x1 with ⟨e1, e2⟩ | ⟨e1, e2, u, hu, rfl⟩
  · refine Or.inr (bad ?_ ?_)
    · unfold F_X1_setObserved
      rw [e1]
      rfl
    · unfold F_X6_setObserved F_X6_setObserved_28 F_X6_setObserved_29
      simp only [inM, bd1_some]
      rw [e2]
      rfl
  · by_cases hr : rgn x2 0 4000000 = 0
    · refine Or.inr (bad ?_ ?_)
      · unfold F_X1_setObserved
        rw [e1]
        simp only [bc0_l, inC, bd1_some]
        rw [hr]
        rfl
      · unfold F_X6_setObserved F_X6_setObserved_28 F_X6_setObserved_29
        simp only [inM, bd1_some]
        rw [e2, hr]
        rfl
    · have hr1 : rgn x2 0 4000000 = 1 := by
        unfold rgn at hr ⊢
        split
        · rename_i h; rw [if_pos h] at hr; exact absurd rfl hr
        · split
          · rename_i h h2; rw [if_neg h, if_pos h2] at hr; exact absurd rfl hr
          · rfl
      obtain ⟨ob, o1, o2⟩ := withK obs (t := u) (by omega) x2
      have hO : ∀ t, t < 201 → m (230 + t) = obs t := R.2.2.2.2.2.2.2.2.2.2.2.2.2.2.2.2.2.2.1
      have hg := pgR_obs R2 (obs' := ob) (mm := vp_updL m (230 + u) x2) (fun t ht => by
        rw [o2 t ht]
        by_cases e : t = u
        · rw [if_pos e, e, updL_eq]
        · rw [if_neg e, updL_ne (by omega)]; exact hO t ht) (fun k hk => updL_ne (by omega))
      refine Or.inl ⟨obs u, vp_updL out (Int32.toNatClampNeg 0) (obs u), c32 n, c32 q, vf, vl, c32 w, l, f, t, e, ob, _, ms', ?_, ?_, out0 _ _, ⟨_, _, _, _, rfl, rfl, rfl, hg⟩, k2⟩
      · unfold F_L_setObserved F_X1_setObserved
        rw [e1]
        simp only [bc0_l, inC, bd1_some]
        rw [hr1, show F_X1_requireArgument 1 = some (.inl ()) from rfl]
        simp only [bc0_l]
        rw [atK (by omega)]
        simp only [bd1_some]
        rw [hc]
        simp only [bd9, Option.bind_some]
        rw [o1]
        simp only [bd1_some]
        rw [becomeF a1 hd]
        rfl
      · unfold F_X6_setObserved F_X6_setObserved_29
        simp only [inM, bd1_some]
        rw [e2, hr1, if_neg (by decide), if_neg (by decide), if_pos (by decide), k1]
        simp only [bd2, Option.bind_some]
        rw [c32_of 230, c32_add, gin_c (by omega) (by omega), gin_c (by omega) (by omega), c32_nat (by omega), hO u (by omega)]
/-- the script of both sides -/
def scrR (sl : Nat) (scr mscr : Nat → Int32) : Prop := sl ≤ 120 ∧ ∀ k, k < sl → mscr k = scr k ∧ ∃ a, a ≤ 127 ∧ scr k = c32 a
theorem nar_byte {a : Nat} (h : a ≤ 127) (nar : Int32 → Int32) (hn : ∀ x : Int32, nar x = x.toInt8.toInt32) : nar (c32 a).toInt8.toInt32 = c32 a := by
  rw [hn]
  have : ∀ a, a < 128 → ((c32 a).toInt8.toInt32).toInt8.toInt32 = c32 a := by decide
  exact this a (by omega)
theorem pc_type (hnar : ∀ x : Int32, vp_nar .byte x = x.toInt8.toInt32) {sl : Nat} {scr mscr : Nat → Int32} (S : scrR sl scr mscr) (out : Nat → Int64) (x1 : Int32) :
    (∃ r out' scr' mscr', sl < 120 ∧ F_L_type (c32 sl) scr out x1 = some (0, c32 (sl + 1), scr', out') ∧ F_X6_type (c32 sl) mscr x1 = some (r, c32 (sl + 1), 0, mscr') ∧ out' (Int32.toNatClampNeg 0) = r.toInt64 ∧ scrR (sl + 1) scr' mscr') ∨
    (∃ kr r, ¬ kr = 0 ∧ F_LX_type (c32 sl) scr x1 = some (kr, c32 sl, scr) ∧ F_X6_type (c32 sl) mscr x1 = some (r, c32 sl, kr, mscr)) := by
  obtain ⟨hs, hk⟩ := S
  unfold F_L_type F_LX_type F_X1_type F_X6_type F_X6_type_31
  simp only [inC, inM, bd1_some]
  rcases rgn_c x1 0 127 (by omega) (by omega) with ⟨h1, -⟩ | ⟨h1, x, rfl, -, hx⟩
  · rw [show rgn x1.toInt64 0 127 = 0 from h1]
    exact Or.inr ⟨1, 0, by decide, rfl, rfl⟩
  · rw [show rgn (c32 x).toInt64 0 127 = 1 from h1]
    rw [show F_X1_requireArgument 1 = some (.inl ()) from rfl]
    simp only [bc0_l]
    rw [if_neg (show ¬ (1 : Int32) = 0 by decide)]
    by_cases h2 : sl = 120
    · subst h2
      exact Or.inr ⟨2, 0, by decide, rfl, rfl⟩
    · have e1 : (if (120 : Int32) ≤ c32 sl then (0 : Int32) else 1) = 1 := by rw [c32_of 120, ile_f (by omega) (by omega)]
      have e2 : (if c32 sl = 120 then (2 : Int32) else 0) = 0 := by rw [c32_of 120, ieq_f h2 (by omega) (by omega)]
      rw [e1, e2, show F_X1_requireState 1 = some (.inl ()) from rfl]
      simp only [bc0_l]
      rw [gin_c (by omega) (by omega), gin_c (by omega) (by omega), c32_nat (by omega), show (c32 sl + 1 : Int32) = c32 (sl + 1) from c32_add sl 1, nar_byte hx _ hnar]
      refine Or.inl ⟨c32 (sl + 1), vp_updL out (Int32.toNatClampNeg 0) (c32 (sl + 1)).toInt64, upd scr sl (c32 x), upd mscr sl (c32 x), by omega, rfl, rfl, out0 _ _, by omega, fun k h => ?_⟩
      by_cases e : k = sl
      · rw [e, upd_eq, upd_eq]; exact ⟨rfl, x, hx, rfl⟩
      · rw [upd_ne e, upd_ne e]; exact hk k (by omega)
end CMD
