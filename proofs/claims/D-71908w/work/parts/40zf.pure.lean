/-! the pure law, text ZF -/
set_option maxRecDepth 100000
/-! P27: decimal text of ints and longs -/
theorem nm_b {α β : Type} (x : α) (f : α → β) : nm x f = f x := rfl
theorem nar_b (x : Int32) : vp_nar .byte x = x.toInt8.toInt32 := rfl
theorem nar_d {d : Nat} (h : d < 128) : vp_nar .byte (c32 d) = c32 d := by
  rw [nar_b]
  have : ∀ a, a < 128 → (c32 a).toInt8.toInt32 = c32 a := by decide
  exact this d h
theorem c64_div {a b : Nat} (ha : a < 9223372036854775808) (hb : 0 < b) (hb2 : b < 9223372036854775808) : c64 a / c64 b = c64 (a / b) := by
  apply Int64.toInt_inj.mp
  have h1 : a / b ≤ a := Nat.div_le_self a b
  rw [Int64.toInt_div, c64_toInt ha, c64_toInt hb2, c64_toInt (by omega)]
  rw [show (a : Int).tdiv (b : Int) = ((a / b : Nat) : Int) from by simp [Int.tdiv_eq_ediv]]
  generalize a / b = c at h1 ⊢
  rw [Int.bmod_eq_of_le] <;> omega
theorem n32 {u : Nat} (h : u < 2147483648) : (-c32 u).toInt = -(u : Int) := by
  rw [Int32.toInt_neg, c32_toInt h]
  rw [Int.bmod_eq_of_le] <;> omega
theorem n64 {u : Nat} (h : u < 9223372036854775808) : (-c64 u).toInt = -(u : Int) := by
  rw [Int64.toInt_neg, c64_toInt h]
  rw [Int.bmod_eq_of_le] <;> omega
theorem n32_div {u : Nat} (h : u < 2147483648) : (-c32 u : Int32) / 100 = -c32 (u / 100) := by
  apply Int32.toInt_inj.mp
  rw [Int32.toInt_div, n32 h, n32 (by omega), show (100 : Int32).toInt = 100 from rfl, Int.neg_tdiv]
  rw [show (u : Int).tdiv 100 = ((u / 100 : Nat) : Int) from by simp [Int.tdiv_eq_ediv]]
  generalize hv : u / 100 = c
  have : c ≤ u := by omega
  rw [Int.bmod_eq_of_le] <;> omega
theorem n64_div {u : Nat} (h : u < 9223372036854775808) : (-c64 u : Int64) / 100 = -c64 (u / 100) := by
  apply Int64.toInt_inj.mp
  rw [Int64.toInt_div, n64 h, n64 (by omega), show (100 : Int64).toInt = 100 from rfl, Int.neg_tdiv]
  rw [show (u : Int).tdiv 100 = ((u / 100 : Nat) : Int) from by simp [Int.tdiv_eq_ediv]]
  generalize hv : u / 100 = c
  have : c ≤ u := by omega
  rw [Int.bmod_eq_of_le] <;> omega
theorem n32_rem {u : Nat} (h : u < 2147483648) : (-c32 u / 100 * 100 - -c32 u : Int32) = c32 (u % 100) := by
  rw [n32_div h, Int32.neg_mul, c32_of 100, c32_mul, Int32.sub_eq_add_neg, Int32.neg_neg, Int32.add_comm, ← Int32.sub_eq_add_neg, c32_sub (by omega)]
  congr 1
  omega
theorem n64_rem {u : Nat} (h : u < 9223372036854775808) : (-c64 u / 100 * 100 - -c64 u : Int64) = c64 (u % 100) := by
  rw [n64_div h, Int64.neg_mul, c64_of 100, c64_mul, Int64.sub_eq_add_neg, Int64.neg_neg, Int64.add_comm, ← Int64.sub_eq_add_neg, c64_sub (by omega)]
  congr 1
  omega
theorem gDO_d (u : Nat) : vp_nar .byte (gDO (u % 100)) = dch u 0 := by
  have : gDO (u % 100) = c32 (48 + u % 100 % 10) := rfl
  rw [this, nar_d (by omega)]
  unfold dch
  congr 1
  rw [Nat.pow_zero, Nat.div_one]
  omega
theorem gDT_d (u : Nat) : vp_nar .byte (gDT (u % 100)) = dch u 1 := by
  have : gDT (u % 100) = c32 (48 + u % 100 / 10) := rfl
  rw [this, nar_d (by omega)]
  unfold dch
  congr 1
  rw [Nat.pow_one]
  omega
theorem lt100 {u : Nat} (h : u < 2147483648) : ((-100 : Int32) < -c32 u) ↔ u < 100 := by
  rw [Int32.lt_iff_toInt_lt, n32 h, show (-100 : Int32).toInt = -100 from rfl]
  omega
theorem le9 {u : Nat} (h : u < 2147483648) : ((-9 : Int32) ≤ -c32 u) ↔ u < 10 := by
  rw [Int32.le_iff_toInt_le, n32 h, show (-9 : Int32).toInt = -9 from rfl]
  omega
theorem dg2 {u : Nat} (h : 10 ≤ u) (h2 : u < 100) : dg u = 2 := by rw [dg, if_neg (by omega), dg, if_pos (by omega)]
theorem dg1 {u : Nat} (h : u < 10) : dg u = 1 := by rw [dg, if_pos h]
theorem dgs {u : Nat} (h : 100 ≤ u) : dg u = dg (u / 100) + 2 := by
  rw [dg, if_neg (by omega), dg, if_neg (by omega), Nat.div_div_eq_div_mul]
theorem gc13 {cap : Nat} (hcap : cap ≤ 12000) : ∀ (d u pos f : Nat) (a : Nat → Int32), u < 100 ^ (d + 1) → u < 2147483648 → d < f → dg u ≤ pos → pos ≤ cap → ∃ b, F_J13_getChars_22 f a (-c32 u) (c32 pos) 0 cap = some (c32 (pos - dg u), b) ∧ wrote a b pos u := by
  have small : ∀ (u pos f : Nat) (a : Nat → Int32), u < 100 → dg u ≤ pos → pos ≤ cap → ∃ b, F_J13_getChars_22 (f + 1) a (-c32 u) (c32 pos) 0 cap = some (c32 (pos - dg u), b) ∧ wrote a b pos u := by
    intro u pos f a hu hp hc
    have hd := dg_pos u
    have hC : F_J13_getChars_22 (f + 1) a (-c32 u) (c32 pos) 0 cap = B_J13_getChars_22 (F_J13_getChars_22 f) a (-c32 u) (c32 pos) 0 cap := rfl
    rw [hC]
    unfold B_J13_getChars_22 F_J13_getChars_104 F_J13_getChars_118
    rw [if_pos ((lt100 (by omega)).mpr hu), Int32.neg_neg, gin_c (by omega) (by omega), c32_of 1, c32_dec (by omega), gin_c (by omega) (by omega), c32_nat (by omega), c32_nat (by omega), show gDO u = gDO (u % 100) by rw [Nat.mod_eq_of_lt hu], gDO_d]
    by_cases h : u < 10
    · rw [if_pos ((le9 (by omega)).mpr h), if_pos rfl, dg1 h]
      exact ⟨_, rfl, wrote_1 h (by omega)⟩
    · have h2 := dg2 (by omega) hu
      rw [if_neg (fun z => h ((le9 (by omega)).mp z)), gin_c (by omega) (by omega), c32_dec (by omega), gin_c (by omega) (by omega), if_pos rfl, c32_nat (by omega), show gDT u = gDT (u % 100) by rw [Nat.mod_eq_of_lt hu], gDT_d, h2]
      exact ⟨_, rfl, wrote_2 (by omega) hu (by omega)⟩
  intro d
  induction d with
  | zero =>
    intro u pos f a hu hu2 hf hp hc
    obtain ⟨f, rfl⟩ : ∃ z, f = z + 1 := ⟨f - 1, by omega⟩
    exact small u pos f a (by simpa using hu) hp hc
  | succ d ih =>
    intro u pos f a hu hu2 hf hp hc
    obtain ⟨f, rfl⟩ : ∃ z, f = z + 1 := ⟨f - 1, by omega⟩
    by_cases h : u < 100
    · exact small u pos f a h hp hc
    · have hd := dgs (show 100 ≤ u by omega)
      have hd1 := dg_pos (u / 100)
      obtain ⟨b, k1, k2⟩ := ih (u / 100) (pos - 2) f (upd (upd a (pos - 1) (dch u 0)) (pos - 2) (dch u 1)) (by rw [Nat.pow_succ] at hu; omega) (by omega) (by omega) (by omega) (by omega)
      refine ⟨b, ?_, wrote_step (by omega) hp k2⟩
      have hC : F_J13_getChars_22 (f + 1) a (-c32 u) (c32 pos) 0 cap = B_J13_getChars_22 (F_J13_getChars_22 f) a (-c32 u) (c32 pos) 0 cap := rfl
      rw [hC]
      unfold B_J13_getChars_22
      rw [if_neg (fun z => h ((lt100 hu2).mp z)), n32_rem hu2, gin_c (by omega) (by omega), nm_b, c32_of 1, c32_dec (by omega), gin_c (by omega) (by omega), gin_c (by omega) (by omega), nm_b, c32_dec (by omega), gin_c (by omega) (by omega), c32_nat (by omega), c32_nat (by omega), c32_nat (by omega), gDO_d, gDT_d, n32_div hu2, show pos - 1 - 1 = pos - 2 by omega, k1]
      congr 3
      omega
theorem gc17i {cap : Nat} (hcap : cap ≤ 12000) : ∀ (d u pos f : Nat) (a : Nat → Int32), u < 100 ^ (d + 1) → u < 2147483648 → d < f → dg u ≤ pos → pos ≤ cap → ∃ b, F_J17_getChars_86 f a (c32 pos) 0 (-c32 u) cap = some (c32 (pos - dg u), b) ∧ wrote a b pos u := by
  have small : ∀ (u pos f : Nat) (a : Nat → Int32), u < 100 → dg u ≤ pos → pos ≤ cap → ∃ b, F_J17_getChars_86 (f + 1) a (c32 pos) 0 (-c32 u) cap = some (c32 (pos - dg u), b) ∧ wrote a b pos u := by
    intro u pos f a hu hp hc
    have hd := dg_pos u
    have hC : F_J17_getChars_86 (f + 1) a (c32 pos) 0 (-c32 u) cap = B_J17_getChars_86 (F_J17_getChars_86 f) a (c32 pos) 0 (-c32 u) cap := rfl
    rw [hC]
    unfold B_J17_getChars_86 F_J17_getChars_178 F_J17_getChars_192
    rw [if_pos ((lt100 (by omega)).mpr hu), Int32.neg_neg, gin_c (by omega) (by omega), c32_of 1, c32_dec (by omega), gin_c (by omega) (by omega), c32_nat (by omega), c32_nat (by omega), show gDO u = gDO (u % 100) by rw [Nat.mod_eq_of_lt hu], gDO_d]
    by_cases h : u < 10
    · rw [if_pos ((le9 (by omega)).mpr h), if_pos rfl, dg1 h]
      exact ⟨_, rfl, wrote_1 h (by omega)⟩
    · have h2 := dg2 (by omega) hu
      rw [if_neg (fun z => h ((le9 (by omega)).mp z)), gin_c (by omega) (by omega), c32_dec (by omega), gin_c (by omega) (by omega), if_pos rfl, c32_nat (by omega), show gDT u = gDT (u % 100) by rw [Nat.mod_eq_of_lt hu], gDT_d, h2]
      exact ⟨_, rfl, wrote_2 (by omega) hu (by omega)⟩
  intro d
  induction d with
  | zero =>
    intro u pos f a hu hu2 hf hp hc
    obtain ⟨f, rfl⟩ : ∃ z, f = z + 1 := ⟨f - 1, by omega⟩
    exact small u pos f a (by simpa using hu) hp hc
  | succ d ih =>
    intro u pos f a hu hu2 hf hp hc
    obtain ⟨f, rfl⟩ : ∃ z, f = z + 1 := ⟨f - 1, by omega⟩
    by_cases h : u < 100
    · exact small u pos f a h hp hc
    · have hd := dgs (show 100 ≤ u by omega)
      have hd1 := dg_pos (u / 100)
      obtain ⟨b, k1, k2⟩ := ih (u / 100) (pos - 2) f (upd (upd a (pos - 1) (dch u 0)) (pos - 2) (dch u 1)) (by rw [Nat.pow_succ] at hu; omega) (by omega) (by omega) (by omega) (by omega)
      refine ⟨b, ?_, wrote_step (by omega) hp k2⟩
      have hC : F_J17_getChars_86 (f + 1) a (c32 pos) 0 (-c32 u) cap = B_J17_getChars_86 (F_J17_getChars_86 f) a (c32 pos) 0 (-c32 u) cap := rfl
      rw [hC]
      unfold B_J17_getChars_86
      rw [if_neg (fun z => h ((lt100 hu2).mp z)), n32_rem hu2, gin_c (by omega) (by omega), nm_b, c32_of 1, c32_dec (by omega), gin_c (by omega) (by omega), gin_c (by omega) (by omega), nm_b, c32_dec (by omega), gin_c (by omega) (by omega), c32_nat (by omega), c32_nat (by omega), c32_nat (by omega), gDO_d, gDT_d, n32_div hu2, show pos - 1 - 1 = pos - 2 by omega, k1]
      congr 3
      omega
theorem gc17 {cap : Nat} (hcap : cap ≤ 12000) : ∀ (d u pos f : Nat) (a : Nat → Int32), u < 2147483648 * 100 ^ d → u < 9223372036854775808 → d < f → dg u ≤ pos → pos ≤ cap → ∃ b, F_J17_getChars_24 f a (-c64 u) (c32 pos) 0 cap = some (c32 (pos - dg u), b) ∧ wrote a b pos u := by
  have small : ∀ (u pos f : Nat) (a : Nat → Int32), u < 2147483648 → dg u ≤ pos → pos ≤ cap → ∃ b, F_J17_getChars_24 (f + 1) a (-c64 u) (c32 pos) 0 cap = some (c32 (pos - dg u), b) ∧ wrote a b pos u := by
    intro u pos f a hu hp hc
    have hC : F_J17_getChars_24 (f + 1) a (-c64 u) (c32 pos) 0 cap = B_J17_getChars_24 (F_J17_getChars_24 f) a (-c64 u) (c32 pos) 0 cap := rfl
    rw [hC]
    unfold B_J17_getChars_24
    rw [if_pos (show (-2147483648 : Int64) < -c64 u by rw [Int64.lt_iff_toInt_lt, n64 (by omega), show (-2147483648 : Int64).toInt = -2147483648 from rfl]; omega), show (-c64 u).toInt32 = -c32 u by rw [Int64.toInt32_neg, c64_32]]
    exact gc17i hcap 4 u pos gFU a (by omega) hu (by show 4 < 5000; omega) hp hc
  intro d
  induction d with
  | zero =>
    intro u pos f a hu hu2 hf hp hc
    obtain ⟨f, rfl⟩ : ∃ z, f = z + 1 := ⟨f - 1, by omega⟩
    exact small u pos f a (by simpa using hu) hp hc
  | succ d ih =>
    intro u pos f a hu hu2 hf hp hc
    obtain ⟨f, rfl⟩ : ∃ z, f = z + 1 := ⟨f - 1, by omega⟩
    by_cases h : u < 2147483648
    · exact small u pos f a h hp hc
    · have hd := dgs (show 100 ≤ u by omega)
      have hd1 := dg_pos (u / 100)
      obtain ⟨b, k1, k2⟩ := ih (u / 100) (pos - 2) f (upd (upd a (pos - 1) (dch u 0)) (pos - 2) (dch u 1)) (by rw [Nat.pow_succ] at hu; omega) (by omega) (by omega) (by omega) (by omega)
      refine ⟨b, ?_, wrote_step (by omega) hp k2⟩
      have hC : F_J17_getChars_24 (f + 1) a (-c64 u) (c32 pos) 0 cap = B_J17_getChars_24 (F_J17_getChars_24 f) a (-c64 u) (c32 pos) 0 cap := rfl
      rw [hC]
      unfold B_J17_getChars_24
      rw [if_neg (show ¬ (-2147483648 : Int64) < -c64 u by rw [Int64.lt_iff_toInt_lt, n64 hu2, show (-2147483648 : Int64).toInt = -2147483648 from rfl]; omega), n64_rem hu2, c64_32, nm_b, gin_c (by omega) (by omega), c32_of 1, c32_dec (by omega), gin_c (by omega) (by omega), gin_c (by omega) (by omega), c32_dec (by omega), gin_c (by omega) (by omega), c32_nat (by omega), c32_nat (by omega), c32_nat (by omega), gDO_d, gDT_d, n64_div hu2, show pos - 1 - 1 = pos - 2 by omega, k1]
      congr 3
      omega
theorem getInt {cap u pos : Nat} (hcap : cap ≤ 12000) (hu : u < 2147483648) (hp : dg u ≤ pos) (hc : pos ≤ cap) (a : Nat → Int32) : ∃ b, F_J13_getChars a cap (c32 u) (c32 pos) = some (c32 (pos - dg u), b) ∧ wrote a b pos u := by
  obtain ⟨b, h1, h2⟩ := gc13 hcap 4 u pos gFU a (by omega) hu (by show 4 < 5000; omega) hp hc
  refine ⟨b, ?_, h2⟩
  unfold F_J13_getChars
  rw [show (if (0 : Int32) ≤ c32 u then (0 : Int32) else 1) = 0 by rw [c32_of 0, ile_t (by omega) hu], if_pos rfl]
  exact h1
theorem getLong {cap u pos : Nat} (hcap : cap ≤ 12000) (hu : u < 9223372036854775808) (hp : dg u ≤ pos) (hc : pos ≤ cap) (a : Nat → Int32) : ∃ b, F_J17_getChars a cap (c64 u) (c32 pos) = some (c32 (pos - dg u), b) ∧ wrote a b pos u := by
  obtain ⟨b, h1, h2⟩ := gc17 hcap 5 u pos gFU a (by omega) hu (by show 5 < 5000; omega) hp hc
  refine ⟨b, ?_, h2⟩
  unfold F_J17_getChars
  rw [show (if (0 : Int64) ≤ c64 u then (0 : Int32) else 1) = 0 by rw [if_pos]; rw [c64_of 0, c64_le (by omega) hu]; omega, if_pos rfl]
  exact h1
theorem dg_eq {u i : Nat} (h1 : u < 10 ^ (i + 1)) (h2 : i = 0 ∨ 10 ^ i ≤ u) : dg u = i + 1 := by
  have a := dg_lt (i + 1) u (by omega) h1
  rcases h2 with rfl | h
  · have := dg_pos u; omega
  · have := dg_ge i u h; omega
theorem sizeInt_l {u : Nat} (hu : u < 1000000) : ∀ (d i f : Nat), i + d = 6 → d + 1 < f → (i = 0 ∨ 10 ^ i ≤ u) → F_J13_stringSize_16 f (-c32 u) 0 (-c32 (10 ^ (i + 1))) (c32 (i + 1)) = some (c32 (dg u)) := by
  intro d
  induction d with
  | zero =>
    intro i f h hf hi
    rw [show i = 6 by omega] at hi
    exact absurd hi (by omega)
  | succ d ih =>
    intro i f h hf hi
    obtain ⟨f, rfl⟩ : ∃ z, f = z + 1 := ⟨f - 1, by omega⟩
    have h10 : 10 ^ (i + 1) ≤ 10 ^ 6 := Nat.pow_le_pow_right (by omega) (by omega)
    show B_J13_stringSize_16 _ _ _ _ _ = _
    unfold B_J13_stringSize_16
    rw [c32_of 10, ile_f (by omega) (by omega)]
    by_cases hc : 10 ^ (i + 1) ≤ u
    · rw [if_pos (show -c32 u ≤ -c32 (10 ^ (i + 1)) by rw [Int32.le_iff_toInt_le, n32 (by omega), n32 (by omega)]; omega), Int32.mul_neg, c32_mul, ← Nat.pow_succ', c32_of 1, c32_add]
      exact ih (i + 1) f (by omega) (by omega) (Or.inr hc)
    · rw [if_neg (show ¬ -c32 u ≤ -c32 (10 ^ (i + 1)) by rw [Int32.le_iff_toInt_le, n32 (by omega), n32 (by omega)]; omega), Int32.add_zero, dg_eq (by omega) hi]
theorem sizeInt {u : Nat} (hu : u < 1000000) : F_J13_stringSize (c32 u) = some (c32 (dg u)) := by
  unfold F_J13_stringSize F_J13_stringSize_11
  rw [if_neg (c32_ge0 u (by omega))]
  exact sizeInt_l hu 6 0 gFU (by omega) (by show 6 + 1 < 5000; omega) (Or.inl rfl)
theorem sizeLong_l {u : Nat} (hu : u < 9223372036854775808) : ∀ (d i f : Nat), i + d = 18 → d + 1 < f → (i = 0 ∨ 10 ^ i ≤ u) → F_J17_stringSize_20 f (-c64 u) 0 (-c64 (10 ^ (i + 1))) (c32 (i + 1)) = some (c32 (dg u)) := by
  intro d
  induction d with
  | zero =>
    intro i f h hf hi
    obtain ⟨f, rfl⟩ : ∃ z, f = z + 1 := ⟨f - 1, by omega⟩
    have e : i = 18 := by omega
    subst e
    show B_J17_stringSize_20 _ _ _ _ _ = _
    unfold B_J17_stringSize_20
    rw [c32_of 19, ile_t (by omega) (by omega), Int32.add_zero, dg_eq (i := 18) (by omega) hi]
  | succ d ih =>
    intro i f h hf hi
    obtain ⟨f, rfl⟩ : ∃ z, f = z + 1 := ⟨f - 1, by omega⟩
    have h10 : 10 ^ (i + 1) ≤ 10 ^ 18 := Nat.pow_le_pow_right (by omega) (by omega)
    show B_J17_stringSize_20 _ _ _ _ _ = _
    unfold B_J17_stringSize_20
    rw [c32_of 19, ile_f (by omega) (by omega)]
    by_cases hc : 10 ^ (i + 1) ≤ u
    · rw [if_pos (show -c64 u ≤ -c64 (10 ^ (i + 1)) by rw [Int64.le_iff_toInt_le, n64 hu, n64 (by omega)]; omega), Int64.mul_neg, c64_of 10, c64_mul, ← Nat.pow_succ', c32_of 1, c32_add]
      exact ih (i + 1) f (by omega) (by omega) (Or.inr hc)
    · rw [if_neg (show ¬ -c64 u ≤ -c64 (10 ^ (i + 1)) by rw [Int64.le_iff_toInt_le, n64 hu, n64 (by omega)]; omega), Int32.add_zero, dg_eq (by omega) hi]
theorem sizeLong {u : Nat} (hu : u < 9223372036854775808) : F_J17_stringSize (c64 u) = some (c32 (dg u)) := by
  unfold F_J17_stringSize F_J17_stringSize_13
  rw [if_neg (show ¬ c64 u < 0 by rw [c64_of 0, c64_lt hu (by omega)]; omega)]
  exact sizeLong_l hu 18 0 gFU (by omega) (by show 18 + 1 < 5000; omega) (Or.inl rfl)
/-- the reference's digits -/
theorem digits_l : ∀ (d n r f : Nat), r < 10 ^ d → r < 9223372036854775808 → d < f → F_X6_digits_8 f (c32 n) (c64 r) = some (c32 (n + if r = 0 then 0 else dg r)) := by
  intro d
  induction d with
  | zero =>
    intro n r f h hr hf
    obtain ⟨f, rfl⟩ : ∃ z, f = z + 1 := ⟨f - 1, by omega⟩
    have : r = 0 := by simpa using h
    subst this
    rfl
  | succ d ih =>
    intro n r f h hr hf
    obtain ⟨f, rfl⟩ : ∃ z, f = z + 1 := ⟨f - 1, by omega⟩
    show B_X6_digits_8 _ _ _ = _
    unfold B_X6_digits_8
    by_cases h0 : r = 0
    · subst h0; rfl
    · rw [if_neg (show ¬ c64 r ≤ 0 by rw [c64_of 0, c64_le hr (by omega)]; omega), c64_of 10, c64_div hr (by omega) (by omega), c32_of 1, c32_add, ih (n + 1) (r / 10) f (by rw [Nat.pow_succ] at h; omega) (by omega) (by omega), if_neg h0]
      congr 2
      rw [dg.eq_1 r]
      by_cases h1 : r < 10
      · rw [if_pos (by omega), if_pos h1]
      · rw [if_neg (by omega), if_neg h1]; omega
theorem digits {u : Nat} (hu : u < 9223372036854775808) : F_X6_digits (c64 u) = some (c32 (dg u)) := by
  unfold F_X6_digits
  rw [c64_of 10, c64_div hu (by omega) (by omega), c32_of 1, digits_l 19 1 (u / 10) gFU (by omega) (by omega) (by show 19 < 5000; omega)]
  congr 2
  rw [dg.eq_1 u]
  by_cases h1 : u < 10
  · rw [if_pos (by omega), if_pos h1]
  · rw [if_neg (by omega), if_neg h1]; omega
theorem digitOf_l {ix : Nat} (hix : ix < 100) : ∀ (d r f : Nat), r < 9223372036854775808 → ix + d < 100 → d < f → F_X6_digitOf_10 f (c32 ix) (c64 r) (c32 (ix + d)) = some (dch r d) := by
  intro d
  induction d with
  | zero =>
    intro r f hr hi hf
    obtain ⟨f, rfl⟩ : ∃ z, f = z + 1 := ⟨f - 1, by omega⟩
    show B_X6_digitOf_10 _ _ _ _ = _
    unfold B_X6_digitOf_10
    rw [ile_t (by omega) (by omega), c64_of 10, c64_div hr (by omega) (by omega), c64_mul, c64_sub (by omega), c64_32, c32_of 48, c32_add]
    unfold dch
    congr 2
    rw [Nat.pow_zero, Nat.div_one]
    omega
  | succ d ih =>
    intro r f hr hi hf
    obtain ⟨f, rfl⟩ : ∃ z, f = z + 1 := ⟨f - 1, by omega⟩
    show B_X6_digitOf_10 _ _ _ _ = _
    unfold B_X6_digitOf_10
    rw [ile_f (by omega) (by omega), c64_of 10, c64_div hr (by omega) (by omega), c32_of 1, c32_dec (by omega), show ix + (d + 1) - 1 = ix + d by omega, ih (r / 10) f (by omega) (by omega) (by omega), dch_div]
theorem digitOf {u ix : Nat} (hu : u < 9223372036854775808) (hix : ix < dg u) : F_X6_digitOf (c64 u) (c32 ix) = some (dch u (dg u - 1 - ix)) := by
  have h19 := dg_19 hu
  unfold F_X6_digitOf
  have h := digitOf_l (ix := ix) (by omega) (dg u - 1 - ix) u gFU hu (by omega) (by show dg u - 1 - ix < 5000; omega)
  rw [show ix + (dg u - 1 - ix) = dg u - 1 by omega] at h
  rw [digits hu, bd1_some, c32_of 1, c32_sub (by omega)]
  exact h
