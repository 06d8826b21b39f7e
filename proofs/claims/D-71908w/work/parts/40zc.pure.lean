/-! the pure law, text ZC -/
set_option maxRecDepth 100000
/-! P24: the checksum -/
def hF : Nat → Nat → (Nat → Int64 → Int64) → Int64 → Int64
  | 0, _, _, h => h
  | d + 1, i, st, h => hF d (i + 1) st (st i h)
theorem hF_double {s1 s2 : Nat → Int64 → Int64} (hs : ∀ i h, s1 (2 * i + 1) (s1 (2 * i) h) = s2 i h) : ∀ (d i : Nat) (h : Int64), hF (2 * d) (2 * i) s1 h = hF d i s2 h
  | 0, _, _ => rfl
  | d + 1, i, h => by
    rw [show 2 * (d + 1) = 2 * d + 1 + 1 by omega, hF, hF, hs, hF, show 2 * i + 1 + 1 = 2 * (i + 1) by omega, hF_double hs d (i + 1)]
theorem hF_congr {s1 s2 : Nat → Int64 → Int64} : ∀ (d i : Nat) (h : Int64), (∀ k, i ≤ k → k < i + d → s1 k = s2 k) → hF d i s1 h = hF d i s2 h
  | 0, _, _, _ => rfl
  | d + 1, i, h, hs => by rw [hF, hF, hs i (by omega) (by omega), hF_congr d (i + 1) _ (fun k h1 h2 => hs k (by omega) (by omega))]
theorem hloop {T : Type} (N : Nat) (st : Nat → Int64 → Int64) (F : Int64 → Option T) (K : Nat → Int64 → Int32 → Option T) (hE : ∀ f h, K (f + 1) h (c32 N) = F h) (hS : ∀ f h i, i < N → K (f + 1) h (c32 i) = K f (st i h) (c32 (i + 1))) : ∀ (d i f : Nat) (h : Int64), i + d = N → d < f → K f h (c32 i) = F (hF d i st h) := by
  intro d
  induction d with
  | zero =>
    intro i f h h1 hf
    obtain ⟨f, rfl⟩ : ∃ z, f = z + 1 := ⟨f - 1, by omega⟩
    rw [show i = N by omega, hE]
    rfl
  | succ d ih =>
    intro i f h h1 hf
    obtain ⟨f, rfl⟩ : ∃ z, f = z + 1 := ⟨f - 1, by omega⟩
    rw [hS f h i (by omega), ih (i + 1) f _ (by omega) (by omega)]
    rfl
section PG
variable {n q w : Nat} {len : Nat → Nat} {lens fracs tms ens : Nat → Int32} {front least : Int32} {snd obs m : Nat → Int64}
theorem present2 (R : pgR n q w len lens fracs tms ens front least snd obs m) (far0 near0 ech0 : Nat → Int64) (ml0 mf0 mt0 : Nat → Int32) (me0 : Nat → Int64) : ∃ ml mf mt me left dr mgg dc far near ech2,
    F_X6_runPresent m ml0 mf0 mt0 me0 far0 near0 ech0 = some (c32 n, c32 q, left, dr, mgg, dc, 0, 0, ml, mf, mt, me, far, near, ech2) ∧
    ∀ fn0 ff0 ec0, ∃ br aw fn ff ech, F_X5_run fn0 ff0 ec0 (c32 n) (c32 q) front least (c32 w) lens fracs tms ens = some (br, left, dr, aw, mgg, dc, fn, ff, ech) ∧ ranR n q w len lens fracs tms ens front least m ml mf mt me br aw fn ff ech far near ech2 := by
  have R0 := R
  obtain ⟨hn, hq1, hq, hw1, hw, hl, hen, htm, h0, h17, h18, h19, h20, hL, hF, hT, hE, hS, hO, hfr⟩ := R0
  obtain ⟨ml, mf, a1, a2, a3, a4⟩ := present_n R far0 near0 ech0 mt0 me0 n 0 gFU ml0 (upd mf0 0 front) (by omega) (by show n < 5000; omega) (fun k hk => absurd hk (by omega)) upd_eq (fun k hk => absurd hk (by omega))
  obtain ⟨mt, me, b1, b2, b3⟩ := present_q R far0 near0 ech0 ml mf q 0 gFU mt0 me0 (by omega) (by show q < 5000; omega) (fun k hk => absurd hk (by omega)) (fun k hk => absurd hk (by omega))
  have L : lnR n q w len lens fracs tms ens front least m ml mf mt me := ⟨hn, hq, hw, hl, a1, a2, a3, b1, b2, hen, h18, h19⟩
  obtain ⟨-, left, dr, -, mgg, dc, -, -, -, far, near, ech2, -, e2, -⟩ := run_ok L (fun _ => 0) (fun _ => 0) (fun _ => 0) far0 near0 ech0
  refine ⟨ml, mf, mt, me, left, dr, mgg, dc, far, near, ech2, ?_, fun fn0 ff0 ec0 => ?_⟩
  · unfold F_X6_runPresent
    rw [partsM h0]
    simp only [bd1_some, nm]
    rw [c32_of 17, gin_c (by omega) (by omega), c32_nat (by omega), h17, i64_32, c32_of 0, gin_c (by omega) (by omega), c32_nat (by omega), a4, b3, e2]
    rfl
  · obtain ⟨br, left', dr', aw, mgg', dc', fn, ff, ech, far', near', ech2', u1, u2, u3, u4, u5, u6⟩ := run_ok L fn0 ff0 ec0 far0 near0 ech0
    have e5 := e2.symm.trans u2
    obtain ⟨rfl, rfl, rfl, rfl, -, -, rfl, rfl, rfl⟩ : left = left' ∧ dr = dr' ∧ mgg = mgg' ∧ dc = dc' ∧ (0 : Int32) = 0 ∧ (0 : Int64) = 0 ∧ far = far' ∧ near = near' ∧ ech2 = ech2' := by
      simpa using e5
    exact ⟨br, aw, fn, ff, ech, u1, L, u3, u4, u5, u6⟩
def s1 (v : Nat → Int64) : Nat → Int64 → Int64 := fun i h => 31 * h + v i
def s2 (v u : Nat → Int64) : Nat → Int64 → Int64 := fun i h => 31 * (31 * h + v i) + u i
def hashLn (n q w : Nat) (lens fracs tms ens : Nat → Int32) (vl : Nat → Int64) (tot ech : Nat → Int64) (h : Int64) : Int64 :=
  hF (w + 1) 0 (s1 ech) (hF 9 0 (s1 tot) (hF q 0 (s2 (fun k => (tms k).toInt64) (fun k => (ens k).toInt64)) (hF n 0 (s2 (fun k => (lens k).toInt64) (fun k => (fracs k).toInt64)) (hF 6 0 (s1 vl) h))))
theorem hashLineF (R : pgR n q w len lens fracs tms ens front least snd obs m) (fn0 ff0 ec0 : Nat → Int64) {br left dr aw : Int64} {mgg dc : Int32} {fn ff ech : Nat → Int64} (hr : F_X5_run fn0 ff0 ec0 (c32 n) (c32 q) front least (c32 w) lens fracs tms ens = some (br, left, dr, aw, mgg, dc, fn, ff, ech)) {vl : Nat → Int32} (hv : ∀ x, x ≤ 5 → F_X3_value (c32 n) (c32 q) front least (c32 w) lens (c32 x) = some (vl x)) {tot : Nat → Int64} (ht : ∀ x, x ≤ 8 → F_X5_total br left dr aw mgg dc ech (c32 w) (c32 x) = some (tot x)) (h : Int64) :
    F_X1_hashLine fn0 ff0 ec0 (c32 n) (c32 q) front least (c32 w) lens fracs tms ens h = some (hashLn n q w lens fracs tms ens (fun x => (vl x).toInt64) tot ech h, br, left, dr, aw, mgg, dc, fn, ff, ech) := by
  have hn := R.1
  have hq := R.2.2.1
  have hw := R.2.2.2.2.1
  unfold F_X1_hashLine
  rw [c32_of 0, hloop 6 (s1 (fun x => (vl x).toInt64)) (fun h => F_X1_hashLine_44 gFU fn0 ff0 ec0 h (c32 0) (c32 n) (c32 q) front least (c32 w) lens fracs tms ens) (fun f h i => F_X1_hashLine_14 f fn0 ff0 ec0 h i (c32 n) (c32 q) front least (c32 w) lens fracs tms ens) (fun f h => by
    show B_X1_hashLine_14 _ _ _ _ _ _ _ _ _ _ _ _ _ _ _ = _
    unfold B_X1_hashLine_14
    rw [if_pos (by decide), c32_of 0]) (fun f h i hi => by
    show B_X1_hashLine_14 _ _ _ _ _ _ _ _ _ _ _ _ _ _ _ = _
    unfold B_X1_hashLine_14 F_X1_hash
    rw [c32_of 6, ile_f (by omega) (by omega), hv i (by omega), bd1_some, bd1_some, c32_of 1, c32_add]
    rfl) 6 0 gFU h rfl (by show 6 < 5000; omega)]
  rw [hloop n (s2 (fun k => (lens k).toInt64) (fun k => (fracs k).toInt64)) (fun h => F_X1_hashLine_88 gFU fn0 ff0 ec0 h (c32 0) (c32 n) (c32 q) front least (c32 w) lens fracs tms ens) (fun f h i => F_X1_hashLine_44 f fn0 ff0 ec0 h i (c32 n) (c32 q) front least (c32 w) lens fracs tms ens) (fun f h => by
    show B_X1_hashLine_44 _ _ _ _ _ _ _ _ _ _ _ _ _ _ _ = _
    unfold B_X1_hashLine_44
    rw [ile_t (by omega) (by omega), c32_of 0]) (fun f h i hi => by
    show B_X1_hashLine_44 _ _ _ _ _ _ _ _ _ _ _ _ _ _ _ = _
    unfold B_X1_hashLine_44 F_X1_hash
    rw [ile_f (by omega) (by omega), gin_c (by omega) (by omega), bd1_some, gin_c (by omega) (by omega), bd1_some, c32_nat (by omega), c32_of 1, c32_add]
    rfl) n 0 gFU _ (by omega) (by show n < 5000; omega)]
  rw [hloop q (s2 (fun k => (tms k).toInt64) (fun k => (ens k).toInt64)) (fun h => F_X1_hashLine_140 gFU br left dr aw mgg dc fn ff ech h (c32 0) (c32 w)) (fun f h i => F_X1_hashLine_88 f fn0 ff0 ec0 h i (c32 n) (c32 q) front least (c32 w) lens fracs tms ens) (fun f h => by
    show B_X1_hashLine_88 _ _ _ _ _ _ _ _ _ _ _ _ _ _ _ = _
    unfold B_X1_hashLine_88
    rw [ile_t (by omega) (by omega), hr, bd9_s, c32_of 0]) (fun f h i hi => by
    show B_X1_hashLine_88 _ _ _ _ _ _ _ _ _ _ _ _ _ _ _ = _
    unfold B_X1_hashLine_88 F_X1_hash
    rw [ile_f (by omega) (by omega), gin_c (by omega) (by omega), bd1_some, gin_c (by omega) (by omega), bd1_some, c32_nat (by omega), c32_of 1, c32_add]
    rfl) q 0 gFU _ (by omega) (by show q < 5000; omega)]
  rw [hloop 9 (s1 tot) (fun h => F_X1_hashLine_172 gFU br left dr aw mgg dc fn ff ech h (c32 0) (c32 w)) (fun f h i => F_X1_hashLine_140 f br left dr aw mgg dc fn ff ech h i (c32 w)) (fun f h => by
    show B_X1_hashLine_140 _ _ _ _ _ _ _ _ _ _ _ _ _ = _
    unfold B_X1_hashLine_140
    rw [if_pos (by decide), c32_of 0]) (fun f h i hi => by
    show B_X1_hashLine_140 _ _ _ _ _ _ _ _ _ _ _ _ _ = _
    unfold B_X1_hashLine_140 F_X1_hash
    rw [c32_of 9, ile_f (by omega) (by omega), ht i (by omega), bd1_some, bd1_some, c32_of 1, c32_add]
    rfl) 9 0 gFU _ rfl (by show 9 < 5000; omega)]
  rw [hloop (w + 1) (s1 ech) (fun h => some (h, br, left, dr, aw, mgg, dc, fn, ff, ech)) (fun f h i => F_X1_hashLine_172 f br left dr aw mgg dc fn ff ech h i (c32 w)) (fun f h => by
    show B_X1_hashLine_172 _ _ _ _ _ _ _ _ _ _ _ _ _ = _
    unfold B_X1_hashLine_172
    rw [ilt_t (by omega) (by omega)]) (fun f h i hi => by
    show B_X1_hashLine_172 _ _ _ _ _ _ _ _ _ _ _ _ _ = _
    unfold B_X1_hashLine_172 F_X1_hash
    rw [ilt_f (by omega) (by omega), atE (by omega), bd1_some, bd1_some, c32_of 1, c32_add]
    rfl) (w + 1) 0 gFU _ (by omega) (by show w + 1 < 5000; omega)]
  rfl
end PG
