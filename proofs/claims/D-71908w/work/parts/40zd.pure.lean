/-! the pure law, text ZD -/
set_option maxRecDepth 100000
/-! P25: the checksum, both sides -/
theorem getD_both {α : Type} {A B : Option α} (d : α) (h : ∃ r, A = some r ∧ B = some r) : A = some (A.getD d) ∧ B = some (A.getD d) := by
  obtain ⟨r, h1, h2⟩ := h
  rw [h1, h2]
  exact ⟨rfl, rfl⟩
section PG
variable {n q w : Nat} {len : Nat → Nat} {lens fracs tms ens : Nat → Int32} {front least : Int32} {snd obs m : Nat → Int64}
/-- the reference's echoes -/
theorem mixEchoesF (R : pgR n q w len lens fracs tms ens front least snd obs m) {gl gf gt : Nat → Int32} {ge gfar gnear gech : Nat → Int64} {ml mf mt : Nat → Int32} {me : Nat → Int64} {left dr : Int64} {mgg dc : Int32} {far near ech2 : Nat → Int64} (hp : F_X6_runPresent m gl gf gt ge gfar gnear gech = some (c32 n, c32 q, left, dr, mgg, dc, 0, 0, ml, mf, mt, me, far, near, ech2)) {tot : Nat → Int64} (ht : ∀ x, x ≤ 8 → F_X6_totalOf (c32 n) (c32 q) left dr mgg dc m ml mt me far near ech2 (c32 x) = some (tot x)) {fv : Nat → Int32} (hf : ∀ x, x ≤ 3 → F_X6_faultOf (c32 q) m mt ech2 (c32 x) = some (fv x)) (h : Int64) :
    F_X6_mixEchoes h m gl gf gt ge gfar gnear gech = some (c32 n, c32 q, left, dr, mgg, dc, 0, 0, hF 4 0 (s1 (fun x => (fv x).toInt64)) (31 * hF (w + 1) 0 (s1 ech2) (hF 9 0 (s1 tot) h) + (dn (w + 1) ech2 snd).toInt64), ml, mf, mt, me, far, near, ech2) := by
  have hw := R.2.2.2.2.1
  have h19 : m 19 = c64 w := R.2.2.2.2.2.2.2.2.2.2.2.1
  have hS : ∀ t, t < 201 → m (29 + t) = snd t := R.2.2.2.2.2.2.2.2.2.2.2.2.2.2.2.2.2.1
  have hd := differencesNow hw h19 hS ech2
  unfold F_X6_mixEchoes
  rw [hp, bd15_s, c32_of 0, ← c32_of 0]
  rw [show F_X6_mixEchoes_6 gFU (c32 n) (c32 q) left dr mgg dc 0 0 h m ml mf mt me far near ech2 0 = _ from hloop 9 (s1 tot) (fun h => F_X6_mixEchoes_29 gFU (c32 n) (c32 q) left dr mgg dc 0 0 h m ml mf mt me far near ech2 (c32 0)) (fun f h i => F_X6_mixEchoes_6 f (c32 n) (c32 q) left dr mgg dc 0 0 h m ml mf mt me far near ech2 i) (fun f h => by
    show B_X6_mixEchoes_6 _ _ _ _ _ _ _ _ _ _ _ _ _ _ _ _ _ _ _ = _
    unfold B_X6_mixEchoes_6
    rw [if_pos (by decide), c32_of 0]) (fun f h i hi => by
    show B_X6_mixEchoes_6 _ _ _ _ _ _ _ _ _ _ _ _ _ _ _ _ _ _ _ = _
    unfold B_X6_mixEchoes_6 F_X6_mix
    rw [c32_of 9, ile_f (by omega) (by omega), ht i (by omega), bd1_some, bd1_some, c32_of 1, c32_add]
    rfl) 9 0 gFU h rfl (by show 9 < 5000; omega)]
  rw [hloop (w + 1) (s1 ech2) (fun h => F_X6_mixEchoes_64 gFU (c32 n) (c32 q) left dr mgg dc 0 0 (31 * h + (dn (w + 1) ech2 snd).toInt64) m ml mf mt me far near ech2 (c32 0)) (fun f h i => F_X6_mixEchoes_29 f (c32 n) (c32 q) left dr mgg dc 0 0 h m ml mf mt me far near ech2 i) (fun f h => by
    show B_X6_mixEchoes_29 _ _ _ _ _ _ _ _ _ _ _ _ _ _ _ _ _ _ _ = _
    unfold B_X6_mixEchoes_29 F_X6_mix
    rw [windowM h19, bd1_some, ilt_t (by omega) (by omega), hd, bd1_some, bd1_some, c32_of 0]) (fun f h i hi => by
    show B_X6_mixEchoes_29 _ _ _ _ _ _ _ _ _ _ _ _ _ _ _ _ _ _ _ = _
    unfold B_X6_mixEchoes_29 F_X6_mix
    rw [windowM h19, bd1_some, ilt_f (by omega) (by omega), gin_c (by omega) (by omega), c32_nat (by omega), bd1_some, c32_of 1, c32_add]
    rfl) (w + 1) 0 gFU _ (by omega) (by show w + 1 < 5000; omega)]
  rw [hloop 4 (s1 (fun x => (fv x).toInt64)) (fun h => some (c32 n, c32 q, left, dr, mgg, dc, 0, 0, h, ml, mf, mt, me, far, near, ech2)) (fun f h i => F_X6_mixEchoes_64 f (c32 n) (c32 q) left dr mgg dc 0 0 h m ml mf mt me far near ech2 i) (fun f h => by
    show B_X6_mixEchoes_64 _ _ _ _ _ _ _ _ _ _ _ _ _ _ _ _ _ _ _ = _
    unfold B_X6_mixEchoes_64
    rw [if_pos (by decide)]) (fun f h i hi => by
    show B_X6_mixEchoes_64 _ _ _ _ _ _ _ _ _ _ _ _ _ _ _ _ _ _ _ = _
    unfold B_X6_mixEchoes_64 F_X6_mix
    rw [c32_of 4, ile_f (by omega) (by omega), hf i (by omega), bd1_some, bd1_some, c32_of 1, c32_add]
    rfl) 4 0 gFU _ rfl (by show 4 < 5000; omega)]
/-- faults, the runner's rows changing from one to the next -/
theorem faults_l (R : pgR n q w len lens fracs tms ens front least snd obs m) {ml mf mt : Nat → Int32} {me : Nat → Int64} {left dr : Int64} {mgg dc : Int32} {far near ech2 : Nat → Int64} (hr : ∀ fn0 ff0 ec0, ∃ br aw fn ff ech, F_X5_run fn0 ff0 ec0 (c32 n) (c32 q) front least (c32 w) lens fracs tms ens = some (br, left, dr, aw, mgg, dc, fn, ff, ech) ∧ ranR n q w len lens fracs tms ens front least m ml mf mt me br aw fn ff ech far near ech2) {fv : Nat → Int32} (hf : ∀ x, x ≤ 3 → F_X6_faultOf (c32 q) m mt ech2 (c32 x) = some (fv x)) : ∀ (d i f : Nat) (br0 l0 d0 aw0 : Int64) (mg0 dc0 : Int32) (fn0 ff0 ec0 : Nat → Int64) (h : Int64), i + d = 4 → d < f → ∃ br l d1 aw mg1 dc1 fn ff ec, F_X1_digest_43 f br0 l0 d0 aw0 mg0 dc0 fn0 ff0 ec0 h (c32 i) (c32 n) (c32 q) front least (c32 w) lens fracs tms ens snd obs = F_X1_digest_74 gFU br l d1 aw mg1 dc1 fn ff ec (hF d i (s1 (fun x => (fv x).toInt64)) h) (c32 0) front least (c32 w) ens obs := by
  intro d
  induction d with
  | zero =>
    intro i f br0 l0 d0 aw0 mg0 dc0 fn0 ff0 ec0 h hi hf2
    obtain ⟨f, rfl⟩ : ∃ z, f = z + 1 := ⟨f - 1, by omega⟩
    refine ⟨br0, l0, d0, aw0, mg0, dc0, fn0, ff0, ec0, ?_⟩
    show B_X1_digest_43 _ _ _ _ _ _ _ _ _ _ _ _ _ _ _ _ _ _ _ _ _ _ _ = _
    unfold B_X1_digest_43
    rw [c32_of 4, ile_t (by omega) (by omega), c32_of 0]
    rfl
  | succ d ih =>
    intro i f br0 l0 d0 aw0 mg0 dc0 fn0 ff0 ec0 h hi hf2
    obtain ⟨f, rfl⟩ : ∃ z, f = z + 1 := ⟨f - 1, by omega⟩
    obtain ⟨br, aw, fn, ff, ech, e1, N⟩ := hr fn0 ff0 ec0
    obtain ⟨v, g1, g2⟩ := fault_ok R N left dr mgg dc (show i ≤ 3 by omega)
    have hv : v = fv i := Option.some.inj (g2.symm.trans (hf i (by omega)))
    obtain ⟨b1, b2, b3, b4, b5, b6, b7, b8, b9, k⟩ := ih (i + 1) f br left dr aw mgg dc fn ff ech (31 * h + (fv i).toInt64) (by omega) (by omega)
    refine ⟨b1, b2, b3, b4, b5, b6, b7, b8, b9, ?_⟩
    show B_X1_digest_43 _ _ _ _ _ _ _ _ _ _ _ _ _ _ _ _ _ _ _ _ _ _ _ = _
    unfold B_X1_digest_43 F_X1_hash
    rw [c32_of 4, ile_f (by omega) (by omega), g1 _ _ _ e1, bd10_s, bd1_some, c32_of 1, c32_add, hv, k]
    rfl
end PG
section CMD
variable {vn vq vf vl vw : Int32} {lens fracs tms ens : Nat → Int32} {snd obs m ms : Nat → Int64} {dp : Nat} {Bs : Nat → gBt} {saved : Nat → Option Nat}
theorem pc_digest (R : pgB (vn, vq, vf, vl, vw, lens, fracs, tms, ens, snd, obs) m) (vd vs : Int32) (fn0 ff0 ec0 : Nat → Int64) (gpr gpt : Int32) (gl gf gt : Nat → Int32) (ge gfar gnear gech : Nat → Int64) :
    ∃ r br l d1 aw mg1 dc1 fn ff ec z1 z2 z3 z4 z5 z6 z7 z8 z9 z10 z11 hh y, F_X1_digest fn0 ff0 ec0 vd vs vn vq vf vl vw lens fracs tms ens snd obs = some (r, br, l, d1, aw, mg1, dc1, fn, ff, ec) ∧ F_X6_digest vd vs gpr gpt m gl gf gt ge gfar gnear gech = some (r, 0, z1, z2, z3, z4, z5, z6, z7, z8, z9, z10, z11, hh, (y : (Nat → Int32) × (Nat → Int32) × (Nat → Int32) × (Nat → Int64) × (Nat → Int64) × (Nat → Int64) × (Nat → Int64))) := by
  obtain ⟨n, q, w, len, rfl, rfl, rfl, R⟩ := R
  dsimp only at R
  have R0 := R
  obtain ⟨hn, hq1, hq, hw1, hw, hl, hen, htm, h0, h17, h18, h19, h20, hL, hFr, hT, hE, hS, hO, hfr⟩ := R0
  obtain ⟨ml, mf, mt, me, left, dr, mgg, dc, far, near, ech2, hp, hr⟩ := present2 R gfar gnear gech gl gf gt ge
  obtain ⟨br, aw, fn, ff, ech, e1, N⟩ := hr fn0 ff0 ec0
  -- values
  obtain ⟨vlf, hvl⟩ : ∃ f : Nat → Int32, ∀ x, x ≤ 5 → F_X3_value (c32 n) (c32 q) vf vl (c32 w) lens (c32 x) = some (f x) ∧ F_X6_benchOf m (c32 x) = some (f x) := ⟨_, fun x hx => getD_both 0 (value_ok R hx)⟩
  obtain ⟨tot, htt⟩ : ∃ f : Nat → Int64, ∀ x, F_X5_total br left dr aw mgg dc ech (c32 w) (c32 x) = some (f x) ∧ F_X6_totalOf (c32 n) (c32 q) left dr mgg dc m ml mt me far near ech2 (c32 x) = some (f x) := ⟨_, fun x => getD_both 0 (total_ok N htm left dr mgg dc (c32 x))⟩
  obtain ⟨fv, hfau2⟩ : ∃ f : Nat → Int32, ∀ x, x ≤ 3 → F_X6_faultOf (c32 q) m mt ech2 (c32 x) = some (f x) := ⟨fun x => (F_X6_faultOf (c32 q) m mt ech2 (c32 x)).getD 0, fun x hx => by
    obtain ⟨v, -, g2⟩ := fault_ok R N left dr mgg dc hx
    exact (getD_both 0 ⟨v, g2, g2⟩).1⟩
  have hlin := hashLineF R fn0 ff0 ec0 e1 (fun x hx => (hvl x hx).1) (fun x _ => (htt x).1)
  have hval2 : ∀ x, x ≤ 5 → F_X6_benchOf m (c32 x) = some (vlf x) := fun x hx => (hvl x hx).2
  have htot2 : ∀ x, x ≤ 8 → F_X6_totalOf (c32 n) (c32 q) left dr mgg dc m ml mt me far near ech2 (c32 x) = some (tot x) := fun x _ => (htt x).2
  -- differences
  obtain ⟨brd, awd, fnd, ffd, ecd, e2, Nd⟩ := hr fn ff ech
  have hdc := diffC hw snd brd left dr awd mgg dc fnd ffd ecd (w + 1) 0 gFU (by omega) (by show w + 1 < 5000; omega)
  have hdif : F_X2_differences fn ff ech (c32 n) (c32 q) vf vl (c32 w) lens fracs tms ens snd = some (dn (w + 1) ech2 snd, brd, left, dr, awd, mgg, dc, fnd, ffd, ecd) := by
    unfold F_X2_differences
    rw [e2, bd9_s]
    rw [show F_X2_differences_12 gFU brd left dr awd mgg dc fnd ffd ecd 0 0 (c32 w) snd = _ from hdc, dn_congr (f := ecd) (f2 := ech2) (g := snd) (g2 := snd) (fun i hi => Nd.2.2.1 i (by omega)) (fun _ _ => rfl)]
  generalize hh0 : (31 * (31 * 11908 + vd.toInt64) + vs.toInt64 : Int64) = H0
  generalize hH1 : 31 * hashLn n q w lens fracs tms ens (fun x => (vlf x).toInt64) tot ech H0 + (dn (w + 1) ech2 snd).toInt64 = H1
  obtain ⟨b1, b2, b3, b4, b5, b6, b7, b8, b9, k43⟩ := faults_l R hr hfau2 4 0 gFU brd left dr awd mgg dc fnd ffd ecd H1 rfl (by show 4 < 5000; omega)
  -- peeling
  obtain ⟨n', len', lens', fracs', ml', mf', tms', ens', mt', me', br', left', dr', aw', mgg', dc', fn', ff', ec', res, en, left2, dr2, mg2, dc2, co2, pa2, far2, near2, ech3, h1, h2, P⟩ := peel_ok R b1 b2 b3 b4 b5 b6 b7 b8 b9 gpr gpt ml mf mt me far near ech2
  have hn' := P.1
  obtain ⟨pv, hpv⟩ : ∃ f : Nat → Int32, ∀ x, x ≤ 3 → F_X8_value res en (c32 n') lens' (c32 x) = some (f x) ∧ F_X6_peelOf (c32 n') res en (c32 (ls n' len')) (c32 x) = some (f x) := ⟨_, fun x hx => getD_both 0 (pvalue_ok P res en hx)⟩
  have hpv1 : ∀ x, x ≤ 3 → F_X8_value res en (c32 n') lens' (c32 x) = some (pv x) := fun x hx => (hpv x hx).1
  have hpv2 : ∀ x, x ≤ 3 → F_X6_peelOf (c32 n') res en (c32 (ls n' len')) (c32 x) = some (pv x) := fun x hx => (hpv x hx).2
  generalize hH2 : hF 4 0 (s1 (fun x => (fv x).toInt64)) H1 = H2
  generalize hH3 : hF 201 0 (s1 obs) H2 = H3
  generalize hH4 : hF 4 0 (s1 (fun x => (pv x).toInt64)) H3 = H4
  refine ⟨hF n' 0 (s2 (fun k => (lens' k).toInt64) (fun k => (fracs' k).toInt64)) H4, br', left', dr', aw', mgg', dc', fn', ff', ec', c32 n', c32 1, left2, dr2, mg2, dc2, co2, pa2, res, en, c32 (ls n' len'), hF n' 0 (s2 (fun k => (lens' k).toInt64) (fun k => (fracs' k).toInt64)) H4, (ml', mf', mt', me', far2, near2, ech3), ?_, ?_⟩
  · unfold F_X1_digest F_X1_hash
    rw [bd1_some, bd1_some, hh0, hlin, bd10_s, hdif, bd10_s, bd1_some, hH1]
    rw [c32_of 0, k43, hH2]
    rw [hloop 201 (s1 obs) (fun h => F_X1_digest_111 gFU br' left' dr' aw' mgg' dc' fn' ff' ec' res en (c32 n') lens' fracs' h (c32 0)) (fun f h i => F_X1_digest_74 f b1 b2 b3 b4 b5 b6 b7 b8 b9 h i vf vl (c32 w) ens obs) (fun f h => by
      show B_X1_digest_74 _ _ _ _ _ _ _ _ _ _ _ _ _ _ _ _ _ = _
      unfold B_X1_digest_74 F_X1_peeling
      rw [if_pos (by decide), h1, bd20_s, bd20_s, c32_of 0]) (fun f h i hi => by
      show B_X1_digest_74 _ _ _ _ _ _ _ _ _ _ _ _ _ _ _ _ _ = _
      unfold B_X1_digest_74 F_X1_hash
      rw [c32_of 200, ilt_f (by omega) (by omega), atK (by omega), bd1_some, bd1_some, c32_of 1, c32_add]
      rfl) 201 0 gFU H2 rfl (by show 201 < 5000; omega), hH3]
    rw [hloop 4 (s1 (fun x => (pv x).toInt64)) (fun h => F_X1_digest_138 gFU br' left' dr' aw' mgg' dc' fn' ff' ec' (c32 n') lens' fracs' h (c32 0)) (fun f h i => F_X1_digest_111 f br' left' dr' aw' mgg' dc' fn' ff' ec' res en (c32 n') lens' fracs' h i) (fun f h => by
      show B_X1_digest_111 _ _ _ _ _ _ _ _ _ _ _ _ _ _ _ _ _ = _
      unfold B_X1_digest_111
      rw [if_pos (by decide), c32_of 0]) (fun f h i hi => by
      show B_X1_digest_111 _ _ _ _ _ _ _ _ _ _ _ _ _ _ _ _ _ = _
      unfold B_X1_digest_111 F_X1_hash
      rw [c32_of 4, ile_f (by omega) (by omega), hpv1 i (by omega), bd1_some, bd1_some, c32_of 1, c32_add]
      rfl) 4 0 gFU H3 rfl (by show 4 < 5000; omega), hH4]
    rw [hloop n' (s2 (fun k => (lens' k).toInt64) (fun k => (fracs' k).toInt64)) (fun h => some (h, br', left', dr', aw', mgg', dc', fn', ff', ec')) (fun f h i => F_X1_digest_138 f br' left' dr' aw' mgg' dc' fn' ff' ec' (c32 n') lens' fracs' h i) (fun f h => by
      show B_X1_digest_138 _ _ _ _ _ _ _ _ _ _ _ _ _ _ _ = _
      unfold B_X1_digest_138
      rw [ile_t (by omega) (by omega)]) (fun f h i hi => by
      show B_X1_digest_138 _ _ _ _ _ _ _ _ _ _ _ _ _ _ _ = _
      unfold B_X1_digest_138 F_X1_hash F_X1_foundValue F_X1_foundValue_31
      rw [ile_f (by omega) (by omega), ilt_t hi (by omega), ilt_t hi (by omega), gin_c (by omega) (by omega), gin_c (by omega) (by omega), c32_nat (by omega), if_pos (by decide), if_neg (by decide), bd1_some, bd1_some, bd1_some, bd1_some, c32_of 1, c32_add]
      rfl) n' 0 gFU H4 (by omega) (by show n' < 5000; omega)]
  · unfold F_X6_digest F_X6_mix
    rw [bd1_some, bd1_some, hh0]
    rw [c32_of 0, ← c32_of 0, show F_X6_digest_32 gFU 0 gpr gpt H0 m gl gf gt ge gfar gnear gech 0 = _ from hloop 6 (s1 (fun x => (vlf x).toInt64)) (fun h => F_X6_digest_56 gFU 0 gpr gpt h m gl gf gt ge gfar gnear gech (c32 0)) (fun f h i => F_X6_digest_32 f 0 gpr gpt h m gl gf gt ge gfar gnear gech i) (fun f h => by
      show B_X6_digest_32 _ _ _ _ _ _ _ _ _ _ _ _ _ _ = _
      unfold B_X6_digest_32
      rw [if_pos (by decide), c32_of 0]) (fun f h i hi => by
      show B_X6_digest_32 _ _ _ _ _ _ _ _ _ _ _ _ _ _ = _
      unfold B_X6_digest_32 F_X6_mix
      rw [c32_of 6, ile_f (by omega) (by omega), hval2 i (by omega), bd1_some, bd1_some, c32_of 1, c32_add]
      rfl) 6 0 gFU H0 rfl (by show 6 < 5000; omega)]
    rw [hloop n (s2 (fun k => (lens k).toInt64) (fun k => (fracs k).toInt64)) (fun h => F_X6_digest_97 gFU 0 gpr gpt h m gl gf gt ge gfar gnear gech (c32 0)) (fun f h i => F_X6_digest_56 f 0 gpr gpt h m gl gf gt ge gfar gnear gech i) (fun f h => by
      show B_X6_digest_56 _ _ _ _ _ _ _ _ _ _ _ _ _ _ = _
      unfold B_X6_digest_56
      rw [partsM h0, bd1_some, ile_t (by omega) (by omega), c32_of 0]) (fun f h i hi => by
      show B_X6_digest_56 _ _ _ _ _ _ _ _ _ _ _ _ _ _ = _
      unfold B_X6_digest_56 F_X6_mix
      rw [partsM h0, bd1_some, ile_f (by omega) (by omega), c32_of 1, c32_add, gin_c (by omega) (by omega), c32_nat (by omega), bd1_some, c32_of 9, c32_add, gin_c (by omega) (by omega), c32_nat (by omega), bd1_some, c32_add, hL i hi, hFr i hi]
      rfl) n 0 gFU _ (by omega) (by show n < 5000; omega)]
    rw [hloop (2 * q) (s1 (fun k => m (21 + k))) (fun h => bd16 (F_X6_mixEchoes h m gl gf gt ge gfar gnear gech) fun w1_lineParts w2_pulseMany w3_left w4_dropped w5_merged w6_drops w7_contributions w8_packet w9_hash w10_lengths w11_fractions w12_times w13_energies w14_far w15_near w16_echoes =>
    F_X6_digest_139 gFU 0 gpr gpt w9_hash m w10_lengths w11_fractions w12_times w13_energies w14_far w15_near w16_echoes (c32 0)) (fun f h i => F_X6_digest_97 f 0 gpr gpt h m gl gf gt ge gfar gnear gech i) (fun f h => by
      show B_X6_digest_97 _ _ _ _ _ _ _ _ _ _ _ _ _ _ = _
      unfold B_X6_digest_97
      rw [c32_of 20, gin_c (by omega) (by omega), c32_nat (by omega), h20, c64_of 2, c64_mul, c32_64 (by omega), if_pos (by rw [c64_le (by omega) (by omega)]; omega), c32_of 0]) (fun f h i hi => by
      show B_X6_digest_97 _ _ _ _ _ _ _ _ _ _ _ _ _ _ = _
      unfold B_X6_digest_97 F_X6_mix
      rw [c32_of 20, gin_c (by omega) (by omega), c32_nat (by omega), h20, c64_of 2, c64_mul, c32_64 (by omega), if_neg (by rw [c64_le (by omega) (by omega)]; omega), c32_of 21, c32_add, gin_c (by omega) (by omega), c32_nat (by omega), bd1_some, c32_of 1, c32_add]
      rfl) (2 * q) 0 gFU _ (by omega) (by show 2 * q < 5000; omega)]
    rw [show hF (2 * q) 0 (s1 (fun k => m (21 + k))) = hF (2 * q) (2 * 0) (s1 (fun k => m (21 + k))) from rfl, hF_double (s2 := s2 (fun k => m (21 + 2 * k)) (fun k => m (21 + 2 * k + 1))) (fun i h => by unfold s1 s2; dsimp only; rw [show 21 + (2 * i + 1) = 21 + 2 * i + 1 by omega]), hF_congr (s2 := s2 (fun k => (tms k).toInt64) (fun k => (ens k).toInt64)) q 0 _ (fun k _ hk => by unfold s2; funext h; dsimp only; rw [hT k (by omega), hE k (by omega)])]
    rw [mixEchoesF R hp htot2 hfau2, bd16_s]
    rw [hF_congr (s1 := s1 ech2) (s2 := s1 ech) (w + 1) 0 _ (fun k _ hk => by unfold s1; funext h; rw [N.2.2.1 k (by omega)])]
    rw [show 31 * hF (w + 1) 0 (s1 ech) (hF 9 0 (s1 tot) (hF q 0 (s2 (fun k => (tms k).toInt64) fun k => (ens k).toInt64) (hF n 0 (s2 (fun k => (lens k).toInt64) fun k => (fracs k).toInt64) (hF 6 0 (s1 fun x => (vlf x).toInt64) H0)))) + (dn (w + 1) ech2 snd).toInt64 = H1 from hH1, hH2]
    rw [hloop 201 (s1 obs) (fun h => F_X6_digest_172 gFU 0 (c32 n') (c32 1) left2 dr2 mg2 dc2 co2 pa2 res en (c32 (ls n' len')) h ml' mf' mt' me' far2 near2 ech3 (c32 0)) (fun f h i => F_X6_digest_139 f 0 gpr gpt h m ml mf mt me far near ech2 i) (fun f h => by
      show B_X6_digest_139 _ _ _ _ _ _ _ _ _ _ _ _ _ _ = _
      unfold B_X6_digest_139
      rw [if_pos (by decide), h2, bd18_s, c32_of 0]) (fun f h i hi => by
      show B_X6_digest_139 _ _ _ _ _ _ _ _ _ _ _ _ _ _ = _
      unfold B_X6_digest_139 F_X6_mix
      rw [c32_of 201, ile_f (by omega) (by omega), c32_of 230, c32_add, gin_c (by omega) (by omega), c32_nat (by omega), bd1_some, c32_of 1, c32_add, hO i hi]
      rfl) 201 0 gFU H2 rfl (by show 201 < 5000; omega), hH3]
    rw [hloop 4 (s1 (fun x => (pv x).toInt64)) (fun h => F_X6_digest_195 gFU 0 (c32 n') (c32 1) left2 dr2 mg2 dc2 co2 pa2 res en (c32 (ls n' len')) h ml' mf' mt' me' far2 near2 ech3 (c32 0)) (fun f h i => F_X6_digest_172 f 0 (c32 n') (c32 1) left2 dr2 mg2 dc2 co2 pa2 res en (c32 (ls n' len')) h ml' mf' mt' me' far2 near2 ech3 i) (fun f h => by
      show B_X6_digest_172 _ _ _ _ _ _ _ _ _ _ _ _ _ _ _ _ _ _ _ _ _ _ = _
      unfold B_X6_digest_172
      rw [if_pos (by decide), c32_of 0]) (fun f h i hi => by
      show B_X6_digest_172 _ _ _ _ _ _ _ _ _ _ _ _ _ _ _ _ _ _ _ _ _ _ = _
      unfold B_X6_digest_172 F_X6_mix
      rw [c32_of 4, ile_f (by omega) (by omega), hpv2 i (by omega), bd1_some, bd1_some, c32_of 1, c32_add]
      rfl) 4 0 gFU H3 rfl (by show 4 < 5000; omega), hH4]
    rw [hloop n' (s2 (fun k => (lens' k).toInt64) (fun k => (fracs' k).toInt64)) (fun h => some (h, 0, c32 n', c32 1, left2, dr2, mg2, dc2, co2, pa2, res, en, c32 (ls n' len'), h, ml', mf', mt', me', far2, near2, ech3)) (fun f h i => F_X6_digest_195 f 0 (c32 n') (c32 1) left2 dr2 mg2 dc2 co2 pa2 res en (c32 (ls n' len')) h ml' mf' mt' me' far2 near2 ech3 i) (fun f h => by
      show B_X6_digest_195 _ _ _ _ _ _ _ _ _ _ _ _ _ _ _ _ _ _ _ _ _ _ = _
      unfold B_X6_digest_195
      rw [ile_t (by omega) (by omega)]) (fun f h i hi => by
      show B_X6_digest_195 _ _ _ _ _ _ _ _ _ _ _ _ _ _ _ _ _ _ _ _ _ _ = _
      unfold B_X6_digest_195 F_X6_mix
      rw [ile_f (by omega) (by omega), gin_c (by omega) (by omega), c32_nat (by omega), bd1_some, c32_of 1, c32_add, gin_c (by omega) (by omega), c32_nat (by omega), bd1_some, (P.2 i hi).2.1, (P.2 i hi).2.2.1]
      rfl) n' 0 gFU H4 (by omega) (by show n' < 5000; omega)]
end CMD
