/-! the pure law, text H -/
set_option maxRecDepth 100000
/-! P7: what is asked of a run -/
def cn : Nat → (Nat → Int64) → Int32
  | 0, _ => 0
  | k + 1, f => cn k f + ps (f k)
def gr : Nat → (Nat → Int64) → Int64
  | 0, _ => 0
  | k + 1, f => if f k < gr k f then gr k f else f k
theorem cn_congr {f g : Nat → Int64} : ∀ {n : Nat}, (∀ i, i < n → f i = g i) → cn n f = cn n g
  | 0, _ => rfl
  | n + 1, h => by rw [cn, cn, cn_congr (fun i hi => h i (by omega)), h n (by omega)]
theorem gr_congr {f g : Nat → Int64} : ∀ {n : Nat}, (∀ i, i < n → f i = g i) → gr n f = gr n g
  | 0, _ => rfl
  | n + 1, h => by rw [gr, gr, gr_congr (fun i hi => h i (by omega)), h n (by omega)]
theorem gr_nn {f : Nat → Int64} : ∀ {n : Nat}, ¬ gr n f < 0
  | 0 => by rw [gr]; decide
  | n + 1 => by
    rw [gr]
    split
    · exact gr_nn
    · rename_i h
      intro h2
      have h3 := gr_nn (f := f) (n := n)
      rw [Int64.lt_iff_toInt_lt] at h h2 h3
      omega
theorem cn_ext {f : Nat → Int64} {a : Nat} : ∀ {d : Nat}, (∀ k, a ≤ k → k < a + d → f k = 0) → cn (a + d) f = cn a f
  | 0, _ => rfl
  | d + 1, h => by
    rw [show a + (d + 1) = (a + d) + 1 by omega, cn, cn_ext (fun k h1 h2 => h k h1 (by omega)), h (a + d) (by omega) (by omega), show ps 0 = 0 from rfl, Int32.add_zero]
theorem gr_ext {f : Nat → Int64} {a : Nat} : ∀ {d : Nat}, (∀ k, a ≤ k → k < a + d → f k = 0) → gr (a + d) f = gr a f
  | 0, _ => rfl
  | d + 1, h => by
    rw [show a + (d + 1) = (a + d) + 1 by omega, gr, gr_ext (fun k h1 h2 => h k h1 (by omega)), h (a + d) (by omega) (by omega)]
    split
    · rfl
    · rename_i h1
      have h2 := gr_nn (f := f) (n := a)
      apply Int64.toInt_inj.mp
      rw [Int64.lt_iff_toInt_lt] at h1 h2
      have : (0 : Int64).toInt = 0 := rfl
      omega
theorem sg_ext {f : Nat → Int64} {a : Nat} : ∀ {d : Nat}, (∀ k, a ≤ k → k < a + d → f k = 0) → sg (a + d) f = sg a f
  | 0, _ => rfl
  | d + 1, h => by
    rw [show a + (d + 1) = (a + d) + 1 by omega, sg, sg_ext (fun k h1 h2 => h k h1 (by omega)), h (a + d) (by omega) (by omega), Int64.add_zero]
theorem atE {ech : Nat → Int64} {t : Nat} (h : t < 201) : F_X5_at ech (c32 t) = some (ech t) := by
  unfold F_X5_at
  rw [gin_c h (by omega), c32_nat (by omega)]
theorem atK {ech : Nat → Int64} {t : Nat} (h : t < 201) : F_X4_at ech (c32 t) = some (ech t) := by
  unfold F_X4_at
  rw [gin_c h (by omega), c32_nat (by omega)]
theorem sumE_l (ech : Nat → Int64) : ∀ (d i f : Nat), i + d = 201 → d < f → F_X5_sumOfEchoes_14 f (sg i ech) (c32 201) (c32 i) ech = some (sg 201 ech) := by
  intro d
  induction d with
  | zero =>
    intro i f h hf
    obtain ⟨f, rfl⟩ : ∃ z, f = z + 1 := ⟨f - 1, by omega⟩
    show B_X5_sumOfEchoes_14 _ _ _ _ _ = _
    unfold B_X5_sumOfEchoes_14
    rw [ile_t (by omega) (by omega), show i = 201 by omega]
  | succ d ih =>
    intro i f h hf
    obtain ⟨f, rfl⟩ : ∃ z, f = z + 1 := ⟨f - 1, by omega⟩
    show B_X5_sumOfEchoes_14 _ _ _ _ _ = _
    unfold B_X5_sumOfEchoes_14
    simp only [nm]
    rw [ile_f (by omega) (by omega), gin_c (by omega) (by omega), c32_nat (by omega), c32_of 1, c32_add]
    exact ih (i + 1) f (by omega) (by omega)
theorem sumE (ech : Nat → Int64) : F_X5_sumOfEchoes ech = some (sg 201 ech) := sumE_l ech 201 0 gFU rfl (by decide)
theorem countE_l (ech : Nat → Int64) {w : Nat} (hw : w ≤ 200) : ∀ (d i f : Nat), i + d = w + 1 → d < f → F_X7_count_4 f (c32 w) (cn i ech) (c32 i) ech = some (cn (w + 1) ech) := by
  intro d
  induction d with
  | zero =>
    intro i f h hf
    obtain ⟨f, rfl⟩ : ∃ z, f = z + 1 := ⟨f - 1, by omega⟩
    show B_X7_count_4 _ _ _ _ _ = _
    unfold B_X7_count_4
    rw [ilt_t (by omega) (by omega), show i = w + 1 by omega]
  | succ d ih =>
    intro i f h hf
    obtain ⟨f, rfl⟩ : ∃ z, f = z + 1 := ⟨f - 1, by omega⟩
    show B_X7_count_4 _ _ _ _ _ = _
    unfold B_X7_count_4
    rw [ilt_f (by omega) (by omega), atE (by omega)]
    simp only [nm, bd1_some]
    rw [c32_of 1, c32_add]
    exact ih (i + 1) f (by omega) (by omega)
theorem countE (ech : Nat → Int64) {w : Nat} (hw : w ≤ 200) : F_X7_count ech (c32 w) = some (cn (w + 1) ech) := countE_l ech hw (w + 1) 0 gFU (by omega) (by show w + 1 < 5000; omega)
theorem greatE_l (ech : Nat → Int64) {w : Nat} (hw : w ≤ 200) : ∀ (d i f : Nat), i + d = w + 1 → d < f → F_X7_greatest_5 f (c32 w) (gr i ech) (c32 i) ech = some (gr (w + 1) ech) := by
  intro d
  induction d with
  | zero =>
    intro i f h hf
    obtain ⟨f, rfl⟩ : ∃ z, f = z + 1 := ⟨f - 1, by omega⟩
    show B_X7_greatest_5 _ _ _ _ _ = _
    unfold B_X7_greatest_5
    rw [ilt_t (by omega) (by omega), show i = w + 1 by omega]
  | succ d ih =>
    intro i f h hf
    obtain ⟨f, rfl⟩ : ∃ z, f = z + 1 := ⟨f - 1, by omega⟩
    show B_X7_greatest_5 _ _ _ _ _ = _
    unfold B_X7_greatest_5
    rw [ilt_f (by omega) (by omega), atE (by omega)]
    simp only [bd1_some]
    rw [c32_of 1, c32_add]
    exact ih (i + 1) f (by omega) (by omega)
theorem greatE (ech : Nat → Int64) {w : Nat} (hw : w ≤ 200) : F_X7_greatest ech (c32 w) = some (gr (w + 1) ech) := greatE_l ech hw (w + 1) 0 gFU (by omega) (by show w + 1 < 5000; omega)
theorem tot11 (n q : Int32) (left dr : Int64) (mgg dc : Int32) (m : Nat → Int64) (ml mt : Nat → Int32) (me far near ech : Nat → Int64) (x1 : Int32) : ∀ (d i f : Nat), i + d = 201 → d < f → F_X6_totalOf_11 f n q left dr mgg dc m ml mt me far near ech x1 (sg i ech) (gr i ech) (cn i ech) (c32 i) = F_X6_totalOf_90 gFU n q left dr mgg dc m ml mt me far near x1 (sg 201 ech) (gr 201 ech) (cn 201 ech) 0 0 := by
  intro d
  induction d with
  | zero =>
    intro i f h hf
    obtain ⟨f, rfl⟩ : ∃ z, f = z + 1 := ⟨f - 1, by omega⟩
    show B_X6_totalOf_11 _ _ _ _ _ _ _ _ _ _ _ _ _ _ _ _ _ _ _ = _
    unfold B_X6_totalOf_11
    rw [c32_of 201, ile_t (by omega) (by omega), show i = 201 by omega]
  | succ d ih =>
    intro i f h hf
    obtain ⟨f, rfl⟩ : ∃ z, f = z + 1 := ⟨f - 1, by omega⟩
    show B_X6_totalOf_11 _ _ _ _ _ _ _ _ _ _ _ _ _ _ _ _ _ _ _ = _
    unfold B_X6_totalOf_11 F_X6_totalOf_54
    simp only [nm]
    rw [c32_of 201, ile_f (by omega) (by omega), gin_c (by omega) (by omega), gin_c (by omega) (by omega), gin_c (by omega) (by omega), gin_c (by omega) (by omega), c32_nat (by omega), c32_of 1, c32_add]
    have h2 := ih (i + 1) f (by omega) (by omega)
    rw [sg, gr, cn] at h2
    rw [← h2]
    by_cases hc : ech i ≤ gr i ech
    · rw [if_pos hc]
      by_cases hd : ech i < gr i ech
      · rw [if_pos hd]; rfl
      · rw [if_neg hd]
        have : ech i = gr i ech := by
          apply Int64.toInt_inj.mp
          rw [Int64.lt_iff_toInt_lt] at hd
          rw [Int64.le_iff_toInt_le] at hc
          omega
        rw [← this]; rfl
    · have hd : ¬ ech i < gr i ech := by
        intro hd
        rw [Int64.le_iff_toInt_le] at hc
        rw [Int64.lt_iff_toInt_lt] at hd
        omega
      rw [if_neg hc, if_neg hd, gin_c (by omega) (by omega)]
      rfl
section PG
variable {n q w : Nat} {len : Nat → Nat} {lens fracs tms ens : Nat → Int32} {front least : Int32} {snd obs m : Nat → Int64} {ml mf mt : Nat → Int32} {me : Nat → Int64} {br aw : Int64} {fn ff ech far near ech2 : Nat → Int64}
/-- energy under way -/
theorem under15 (hw : w ≤ 200) (h19 : m 19 = c64 w) {p lp : Nat} (hp : p < 8) (hl : ml p = c32 lp) (hb : lp ≤ 20) (nn : Int32) (x : Int64) (K : Int32 → (Nat → Int64) → (Nat → Int32) → (Nat → Int64) → (Nat → Int64) → Int64 → Int32 → Option Int64) : ∀ (d i f : Nat), i + d = w + 1 → d < f → F_X6_underWay_15 K f nn m ml far near (x + sg i (fun τ => if w < τ + lp then far (201 * p + τ) + near (201 * (p + 1) + τ) else 0)) (c32 p) (c32 i) = K nn m ml far near (x + sg (w + 1) (fun τ => if w < τ + lp then far (201 * p + τ) + near (201 * (p + 1) + τ) else 0)) (c32 (p + 1)) := by
  intro d
  induction d with
  | zero =>
    intro i f h hf
    obtain ⟨f, rfl⟩ : ∃ z, f = z + 1 := ⟨f - 1, by omega⟩
    show B_X6_underWay_15 _ _ _ _ _ _ _ _ _ _ = _
    unfold B_X6_underWay_15
    rw [windowM h19]
    simp only [bd1_some]
    rw [ilt_t (by omega) (by omega), show i = w + 1 by omega, c32_of 1, c32_add]
  | succ d ih =>
    intro i f h hf
    obtain ⟨f, rfl⟩ : ∃ z, f = z + 1 := ⟨f - 1, by omega⟩
    show B_X6_underWay_15 _ _ _ _ _ _ _ _ _ _ = _
    unfold B_X6_underWay_15 F_X6_underWay_86
    have h2 := ih (i + 1) f (by omega) (by omega)
    rw [sg] at h2
    rw [windowM h19]
    simp only [bd1_some]
    rw [ilt_f (by omega) (by omega), gin_c (by omega) (by omega), c32_nat (by omega), hl, c32_add]
    by_cases hc : i + lp ≤ w
    · rw [ile_t hc (by omega), if_pos rfl, c32_of 1, c32_add, Int64.add_zero]
      rw [if_neg (by omega), Int64.add_zero] at h2
      exact h2
    · rw [ile_f (by omega) (by omega), if_neg (by decide), c32_of 201, c32_mul, c32_add, gin_c (by omega) (by omega), c32_of 1, c32_add, c32_mul, c32_add, gin_c (by omega) (by omega), c32_nat (by omega), c32_nat (by omega), c32_add]
      rw [if_pos (by omega), ← Int64.add_assoc] at h2
      exact h2
theorem under4 (L : lnR n q w len lens fracs tms ens front least m ml mf mt me) : ∀ (d i f : Nat), i + d = n → d < f → F_X6_underWay_4 f (c32 n) m ml far near (sg i (fun p => sg (w + 1) (fun τ => if w < τ + len p then far (201 * p + τ) + near (201 * (p + 1) + τ) else 0))) (c32 i) = some (sg n (fun p => sg (w + 1) (fun τ => if w < τ + len p then far (201 * p + τ) + near (201 * (p + 1) + τ) else 0))) := by
  obtain ⟨hn, hq, hw, hl, hml, -, -, -, -, -, -, h19⟩ := L
  intro d
  induction d with
  | zero =>
    intro i f h hf
    obtain ⟨f, rfl⟩ : ∃ z, f = z + 1 := ⟨f - 1, by omega⟩
    show B_X6_underWay_4 _ _ _ _ _ _ _ _ = _
    unfold B_X6_underWay_4
    rw [ile_t (by omega) (by omega), show i = n by omega]
  | succ d ih =>
    intro i f h hf
    obtain ⟨f, rfl⟩ : ∃ z, f = z + 1 := ⟨f - 1, by omega⟩
    show B_X6_underWay_4 _ _ _ _ _ _ _ _ = _
    unfold B_X6_underWay_4
    rw [ile_f (by omega) (by omega)]
    have h3 := under15 (m := m) (far := far) (near := near) hw h19 (show i < 8 by omega) ((hml i (by omega)).trans (hl i (by omega)).1) (hl i (by omega)).2.2 (c32 n) (sg i (fun p => sg (w + 1) (fun τ => if w < τ + len p then far (201 * p + τ) + near (201 * (p + 1) + τ) else 0))) (F_X6_underWay_4 f) (w + 1) 0 gFU (by omega) (by show w + 1 < 5000; omega)
    rw [sg, Int64.add_zero] at h3
    rw [c32_of 0, h3]
    exact ih (i + 1) f (by omega) (by omega)
theorem underWay (R : ranR n q w len lens fracs tms ens front least m ml mf mt me br aw fn ff ech far near ech2) : F_X6_underWay (c32 n) m ml far near = some aw := by
  obtain ⟨L, I, -⟩ := R
  have hn := L.1
  have h := under4 (far := far) (near := near) L n 0 gFU (by omega) (by show n < 5000; omega)
  obtain ⟨-, -, -, -, -, h5⟩ := I
  unfold F_X6_underWay
  rw [c32_of 0, show (0 : Int64) = sg 0 (fun p => sg (w + 1) (fun τ => if w < τ + len p then far (201 * p + τ) + near (201 * (p + 1) + τ) else 0)) from rfl, h, h5]
  congr 1
  refine sg_congr fun p hp => ?_
  rw [← sg_add]
  refine sg_congr fun τ hτ => ?_
  split <;> simp
/-- pulses up to the window -/
theorem sg_comm (f : Nat → Nat → Int64) : ∀ (a b : Nat), sg a (fun i => sg b (fun j => f i j)) = sg b (fun j => sg a (fun i => f i j))
  | 0, b => by rw [sg, sg_zero]; intros; rfl
  | a + 1, b => by
    rw [sg, sg_comm f a b, ← sg_add]
    rfl
theorem sg_one (v : Int64) (a : Nat) : ∀ (n : Nat), sg n (fun t => if c32 a = c32 t then v else 0) = if a < n ∧ (a < 2147483648 → True) then sg n (fun t => if c32 a = c32 t then v else 0) else sg n (fun t => if c32 a = c32 t then v else 0) := by
  intro n; split <;> rfl
theorem sg_hit {v : Int64} {a : Nat} (ha : a ≤ 100) : ∀ {n : Nat}, n ≤ 201 → sg n (fun t => if c32 a = c32 t then v else 0) = if a < n then v else 0
  | 0, _ => by rw [sg, if_neg (by omega)]
  | n + 1, h => by
    rw [sg, sg_hit ha (by omega)]
    by_cases e : a = n
    · rw [if_neg (by omega), ieq_t e, if_pos (by omega), Int64.zero_add]
    · rw [ieq_f e (by omega) (by omega), Int64.add_zero]
      by_cases h2 : a < n
      · rw [if_pos h2, if_pos (by omega)]
      · rw [if_neg h2, if_neg (by omega)]
def pw (q w : Nat) (mt : Nat → Int32) (me : Nat → Int64) : Int64 := sg q (fun k => if c32 w < mt k then 0 else me k)
theorem br_pw (R : ranR n q w len lens fracs tms ens front least m ml mf mt me br aw fn ff ech far near ech2) (ht : ∀ k, k < q → ∃ a, a ≤ 100 ∧ tms k = c32 a) : br = pw q w mt me := by
  obtain ⟨L, -, -, -, hb⟩ := R
  obtain ⟨hn, hq, hw, -, -, -, -, hmt, -⟩ := L
  rw [hb]
  unfold pw pulS
  rw [sg_comm (fun t k => if mt k = c32 t then me k else 0)]
  refine sg_congr fun k hk => ?_
  obtain ⟨a, ha, e⟩ := ht k hk
  rw [hmt k hk, e, sg_hit ha (by omega)]
  by_cases h : a < w + 1
  · rw [if_pos h, ilt_f (by omega) (by omega)]
  · rw [if_neg h, ilt_t (by omega) (by omega)]
theorem tot90 (R : ranR n q w len lens fracs tms ens front least m ml mf mt me br aw fn ff ech far near ech2) (left dr : Int64) (mgg dc : Int32) (x1 : Int32) (a b : Int64) (c : Int32) : ∀ (d i f : Nat), i + d = q → d < f → F_X6_totalOf_90 f (c32 n) (c32 q) left dr mgg dc m ml mt me far near x1 a b c (pw i w mt me) (c32 i) = some (if x1 = 0 then pw q w mt me else if x1 = 1 then a else if x1 = 2 then left else if x1 = 3 then dr else if x1 = 4 then aw else if x1 = 5 then mgg.toInt64 else if x1 = 6 then dc.toInt64 else if x1 = 7 then c.toInt64 else b) := by
  have hU := underWay R
  obtain ⟨⟨hn, hq, hw, hl, hml, -, -, -, -, -, -, h19⟩, -⟩ := R
  intro d
  induction d with
  | zero =>
    intro i f h hf
    obtain ⟨f, rfl⟩ : ∃ z, f = z + 1 := ⟨f - 1, by omega⟩
    show B_X6_totalOf_90 _ _ _ _ _ _ _ _ _ _ _ _ _ _ _ _ _ _ _ = _
    unfold B_X6_totalOf_90
    rw [ile_t (by omega) (by omega), show i = q by omega, hU]
    simp only [bd1_some]
    repeat' (first | rfl | split)
  | succ d ih =>
    intro i f h hf
    obtain ⟨f, rfl⟩ : ∃ z, f = z + 1 := ⟨f - 1, by omega⟩
    show B_X6_totalOf_90 _ _ _ _ _ _ _ _ _ _ _ _ _ _ _ _ _ _ _ = _
    unfold B_X6_totalOf_90 F_X6_totalOf_126
    have h2 := ih (i + 1) f (by omega) (by omega)
    rw [windowM h19]
    simp only [bd1_some]
    rw [ile_f (by omega) (by omega), gin_c (by omega) (by omega), gin_c (by omega) (by omega), c32_nat (by omega), c32_of 1, c32_add]
    unfold pw at h2 ⊢
    rw [sg] at h2
    by_cases hc : c32 w < mt i
    · rw [if_pos hc] at h2 ⊢
      exact h2
    · rw [if_neg hc] at h2 ⊢
      exact h2
theorem total_ok (R : ranR n q w len lens fracs tms ens front least m ml mf mt me br aw fn ff ech far near ech2) (ht : ∀ k, k < q → ∃ a, a ≤ 100 ∧ tms k = c32 a) (left dr : Int64) (mgg dc : Int32) (x1 : Int32) : ∃ v, F_X5_total br left dr aw mgg dc ech (c32 w) x1 = some v ∧ F_X6_totalOf (c32 n) (c32 q) left dr mgg dc m ml mt me far near ech2 x1 = some v := by
  have hb := br_pw R ht
  have hq := R.1.2.1
  have hw := R.1.2.2.1
  have hE := R.2.2.1
  have hZ := R.2.2.2.1
  have e1 : sg 201 ech = sg 201 ech2 := sg_congr hE
  have e2 : cn (w + 1) ech = cn 201 ech2 := by
    rw [cn_congr (fun i hi => hE i (by omega)), show 201 = (w + 1) + (200 - w) by omega]
    exact (cn_ext (fun k h1 h2 => hZ k h1 (by omega))).symm
  have e3 : gr (w + 1) ech = gr 201 ech2 := by
    rw [gr_congr (fun i hi => hE i (by omega)), show 201 = (w + 1) + (200 - w) by omega]
    exact (gr_ext (fun k h1 h2 => hZ k h1 (by omega))).symm
  have h11 := tot11 (c32 n) (c32 q) left dr mgg dc m ml mt me far near ech2 x1 201 0 gFU rfl (by decide)
  rw [sg, gr, cn] at h11
  have h90 := tot90 R left dr mgg dc x1 (sg 201 ech2) (gr 201 ech2) (cn 201 ech2) q 0 gFU (by omega) (by show q < 5000; omega)
  refine ⟨_, ?_, (show F_X6_totalOf (c32 n) (c32 q) left dr mgg dc m ml mt me far near ech2 x1 = _ from h11).trans h90⟩
  unfold F_X5_total
  rw [sumE, countE ech hw, greatE ech hw]
  simp only [bd1_some]
  rw [hb, e1, e2, e3]
  repeat' (first | rfl | split)
theorem arrival_ok (R : ranR n q w len lens fracs tms ens front least m ml mf mt me br aw fn ff ech far near ech2) {j t : Nat} (hj : j ≤ n) (ht : t ≤ w) (z : Int32) (hz : z = 0 ∨ z = 1) : ∃ v, F_X5_arrival fn ff (c32 j) (c32 t) z = some v ∧ F_X6_arrives (c32 n) ml far near (c32 j) (c32 t) z = some v := by
  obtain ⟨⟨hn, hq, hw, hl, hml, -⟩, hI, -⟩ := R
  have hl1 : ∀ k, k < n → 1 ≤ len k := fun k hk => (hl k hk).2.1
  have hl2 : ∀ k, k < n → ml k = c32 (len k) ∧ 1 ≤ len k ∧ len k ≤ 20 := fun k hk => ⟨(hml k hk).trans (hl k hk).1, (hl k hk).2⟩
  unfold F_X5_arrival F_X5_arrival_31
  rcases hz with rfl | rfl
  · refine ⟨_, ?_, arrives0 hn hj (by omega) hl2⟩
    rw [if_pos rfl, c32_of 201, c32_mul, c32_add, gin_c (by omega) (by omega), c32_nat (by omega), arv_near hI hl1 hj ht (fun p _ _ => by omega)]
  · refine ⟨_, ?_, arrives1 hn hj (by omega) hl2⟩
    rw [if_neg (by decide), c32_of 201, c32_mul, c32_add, gin_c (by omega) (by omega), c32_nat (by omega), arv_far hI hl1 hj ht (fun _ => by omega)]
end PG
