/-! the pure law, text A -/
set_option maxRecDepth 100000
/-! P0 -/
def c32 (k : Nat) : Int32 := Int32.ofNat k
def c64 (k : Nat) : Int64 := Int64.ofNat k
theorem c32_lit (k : Nat) : (OfNat.ofNat k : Int32) = c32 (OfNat.ofNat k) := by
  have h : (OfNat.ofNat k : Int32) = c32 (OfNat.ofNat k) := rfl
  exact h
theorem c64_lit (k : Nat) : (OfNat.ofNat k : Int64) = c64 (OfNat.ofNat k) := by
  have h : (OfNat.ofNat k : Int64) = c64 (OfNat.ofNat k) := rfl
  exact h
theorem c32_add (a b : Nat) : c32 a + c32 b = c32 (a + b) := (Int32.ofNat_add a b).symm
theorem c32_mul (a b : Nat) : c32 a * c32 b = c32 (a * b) := (Int32.ofNat_mul a b).symm
theorem c64_add (a b : Nat) : c64 a + c64 b = c64 (a + b) := (Int64.ofNat_add a b).symm
theorem c64_mul (a b : Nat) : c64 a * c64 b = c64 (a * b) := (Int64.ofNat_mul a b).symm
theorem c32_sub {a b : Nat} (h : b ≤ a) : c32 a - c32 b = c32 (a - b) := by
  have : c32 a = c32 (a - b) + c32 b := by rw [c32_add]; congr 1; omega
  rw [this, Int32.add_sub_cancel]
theorem c64_sub {a b : Nat} (h : b ≤ a) : c64 a - c64 b = c64 (a - b) := by
  have : c64 a = c64 (a - b) + c64 b := by rw [c64_add]; congr 1; omega
  rw [this, Int64.add_sub_cancel]
theorem c32_toInt {a : Nat} (h : a < 2147483648) : (c32 a).toInt = a := Int32.toInt_ofNat_of_lt h
theorem c64_toInt {a : Nat} (h : a < 9223372036854775808) : (c64 a).toInt = a := Int64.toInt_ofNat_of_lt h
theorem c32_nat {a : Nat} (h : a < 2147483648) : (c32 a).toNatClampNeg = a := by
  have := c32_toInt h
  show (c32 a).toInt.toNat = a
  rw [this]; rfl
theorem c32_lt {a b : Nat} (h : a < 2147483648) (h2 : b < 2147483648) : (c32 a < c32 b) = (a < b) := by
  rw [Int32.lt_iff_toInt_lt, c32_toInt h, c32_toInt h2]; exact propext Int.ofNat_lt
theorem c32_le {a b : Nat} (h : a < 2147483648) (h2 : b < 2147483648) : (c32 a ≤ c32 b) = (a ≤ b) := by
  rw [Int32.le_iff_toInt_le, c32_toInt h, c32_toInt h2]; exact propext Int.ofNat_le
theorem c32_eq {a b : Nat} (h : a < 2147483648) (h2 : b < 2147483648) : (c32 a = c32 b) = (a = b) := by
  refine propext ⟨fun e => ?_, fun e => by rw [e]⟩
  have := congrArg Int32.toInt e
  rw [c32_toInt h, c32_toInt h2] at this
  omega
theorem c64_lt {a b : Nat} (h : a < 9223372036854775808) (h2 : b < 9223372036854775808) : (c64 a < c64 b) = (a < b) := by
  rw [Int64.lt_iff_toInt_lt, c64_toInt h, c64_toInt h2]; exact propext Int.ofNat_lt
theorem c64_le {a b : Nat} (h : a < 9223372036854775808) (h2 : b < 9223372036854775808) : (c64 a ≤ c64 b) = (a ≤ b) := by
  rw [Int64.le_iff_toInt_le, c64_toInt h, c64_toInt h2]; exact propext Int.ofNat_le
theorem c64_eq {a b : Nat} (h : a < 9223372036854775808) (h2 : b < 9223372036854775808) : (c64 a = c64 b) = (a = b) := by
  refine propext ⟨fun e => ?_, fun e => by rw [e]⟩
  have := congrArg Int64.toInt e
  rw [c64_toInt h, c64_toInt h2] at this
  omega
theorem c32_64 {a : Nat} (h : a < 2147483648) : (c32 a).toInt64 = c64 a := by
  apply Int64.toInt_inj.mp
  rw [Int32.toInt_toInt64, c32_toInt h, c64_toInt (by omega)]
theorem c64_32 (a : Nat) : (c64 a).toInt32 = c32 a := Int64.toInt32_ofNat
theorem c32_neg {a : Nat} (h : a < 2147483648) : ¬ c32 a < c32 0 := by rw [c32_lt h (by omega)]; omega
theorem i64_32 (x : Int32) : x.toInt64.toInt32 = x := Int32.toInt32_toInt64 x
theorem c32_ex {x : Int32} (h : ¬ x < 0) : ∃ a, a < 2147483648 ∧ x = c32 a := by
  have h1 : 0 ≤ x.toInt := by
    have := Int32.not_lt.mp h
    exact Int32.le_iff_toInt_le.mp this
  have h2 := x.toInt_lt
  refine ⟨x.toInt.toNat, by omega, Int32.toInt_inj.mp ?_⟩
  rw [c32_toInt (by omega)]; omega
theorem gin_c {β : Type} {a n : Nat} (h : a < n) (hn : n ≤ 2147483648) (x : Option β) : gin (c32 a) n x = x := by
  unfold gin
  rw [if_neg]
  rw [c32_nat (by omega)]
  intro h9
  rcases h9 with h9 | h9
  · exact c32_neg (by omega) h9
  · omega
theorem gcp_c {β : Type} {a b w n0 n1 : Nat} (h : a + w ≤ n0) (h1 : b + w ≤ n1) (h2 : n0 < 2147483648) (h3 : n1 < 2147483648) (x : Option β) : gcp (c32 a) (c32 b) (c32 w) n0 n1 x = x := by
  unfold gcp
  rw [if_pos]
  rw [c32_nat (by omega), c32_nat (by omega), c32_nat (by omega)]
  exact ⟨c32_neg (by omega), c32_neg (by omega), c32_neg (by omega), h, h1⟩
theorem c32_of (k : Nat) : (OfNat.ofNat k : Int32) = c32 k := rfl
theorem c64_of (k : Nat) : (OfNat.ofNat k : Int64) = c64 k := rfl
section IFS
variable {β : Sort _} {a b : Nat} {x y : β}
theorem ile_t [Decidable (c32 a ≤ c32 b)] (h : a ≤ b) (hb : b < 2147483648) : (if c32 a ≤ c32 b then x else y) = x := if_pos (by rw [c32_le (by omega) hb]; exact h)
theorem ile_f [Decidable (c32 a ≤ c32 b)] (h : b < a) (hb : a < 2147483648) : (if c32 a ≤ c32 b then x else y) = y := if_neg (by rw [c32_le hb (by omega)]; omega)
theorem ilt_t [Decidable (c32 a < c32 b)] (h : a < b) (hb : b < 2147483648) : (if c32 a < c32 b then x else y) = x := if_pos (by rw [c32_lt (by omega) hb]; exact h)
theorem ilt_f [Decidable (c32 a < c32 b)] (h : b ≤ a) (hb : a < 2147483648) : (if c32 a < c32 b then x else y) = y := if_neg (by rw [c32_lt hb (by omega)]; omega)
theorem ieq_t [Decidable (c32 a = c32 b)] (h : a = b) : (if c32 a = c32 b then x else y) = x := if_pos (by rw [h])
theorem ieq_f [Decidable (c32 a = c32 b)] (h : a ≠ b) (ha : a < 2147483648) (hb : b < 2147483648) : (if c32 a = c32 b then x else y) = y := if_neg (by rw [c32_eq ha hb]; exact h)
end IFS
theorem c32_dec {i : Nat} (h : 1 ≤ i) : c32 i + -c32 1 = c32 (i - 1) := by
  rw [← c32_sub h, Int32.sub_eq_add_neg]
theorem bd2_s {T1 T2 β : Type} (x1 : T1) (x2 : T2) (f : T1 → T2 → Option β) : bd2 (some (x1, x2)) f = f x1 x2 := rfl
theorem bd3_s {T1 T2 T3 β : Type} (x1 : T1) (x2 : T2) (x3 : T3) (f : T1 → T2 → T3 → Option β) : bd3 (some (x1, x2, x3)) f = f x1 x2 x3 := rfl
theorem bd4_s {T1 T2 T3 T4 β : Type} (x1 : T1) (x2 : T2) (x3 : T3) (x4 : T4) (f : T1 → T2 → T3 → T4 → Option β) : bd4 (some (x1, x2, x3, x4)) f = f x1 x2 x3 x4 := rfl
theorem bd5_s {T1 T2 T3 T4 T5 β : Type} (x1 : T1) (x2 : T2) (x3 : T3) (x4 : T4) (x5 : T5) (f : T1 → T2 → T3 → T4 → T5 → Option β) : bd5 (some (x1, x2, x3, x4, x5)) f = f x1 x2 x3 x4 x5 := rfl
theorem bd6_s {T1 T2 T3 T4 T5 T6 β : Type} (x1 : T1) (x2 : T2) (x3 : T3) (x4 : T4) (x5 : T5) (x6 : T6) (f : T1 → T2 → T3 → T4 → T5 → T6 → Option β) : bd6 (some (x1, x2, x3, x4, x5, x6)) f = f x1 x2 x3 x4 x5 x6 := rfl
theorem bd7_s {T1 T2 T3 T4 T5 T6 T7 β : Type} (x1 : T1) (x2 : T2) (x3 : T3) (x4 : T4) (x5 : T5) (x6 : T6) (x7 : T7) (f : T1 → T2 → T3 → T4 → T5 → T6 → T7 → Option β) : bd7 (some (x1, x2, x3, x4, x5, x6, x7)) f = f x1 x2 x3 x4 x5 x6 x7 := rfl
theorem bd8_s {T1 T2 T3 T4 T5 T6 T7 T8 β : Type} (x1 : T1) (x2 : T2) (x3 : T3) (x4 : T4) (x5 : T5) (x6 : T6) (x7 : T7) (x8 : T8) (f : T1 → T2 → T3 → T4 → T5 → T6 → T7 → T8 → Option β) : bd8 (some (x1, x2, x3, x4, x5, x6, x7, x8)) f = f x1 x2 x3 x4 x5 x6 x7 x8 := rfl
theorem bd9_s {T1 T2 T3 T4 T5 T6 T7 T8 T9 β : Type} (x1 : T1) (x2 : T2) (x3 : T3) (x4 : T4) (x5 : T5) (x6 : T6) (x7 : T7) (x8 : T8) (x9 : T9) (f : T1 → T2 → T3 → T4 → T5 → T6 → T7 → T8 → T9 → Option β) : bd9 (some (x1, x2, x3, x4, x5, x6, x7, x8, x9)) f = f x1 x2 x3 x4 x5 x6 x7 x8 x9 := rfl
theorem bd10_s {T1 T2 T3 T4 T5 T6 T7 T8 T9 T10 β : Type} (x1 : T1) (x2 : T2) (x3 : T3) (x4 : T4) (x5 : T5) (x6 : T6) (x7 : T7) (x8 : T8) (x9 : T9) (x10 : T10) (f : T1 → T2 → T3 → T4 → T5 → T6 → T7 → T8 → T9 → T10 → Option β) : bd10 (some (x1, x2, x3, x4, x5, x6, x7, x8, x9, x10)) f = f x1 x2 x3 x4 x5 x6 x7 x8 x9 x10 := rfl
theorem bd11_s {T1 T2 T3 T4 T5 T6 T7 T8 T9 T10 T11 β : Type} (x1 : T1) (x2 : T2) (x3 : T3) (x4 : T4) (x5 : T5) (x6 : T6) (x7 : T7) (x8 : T8) (x9 : T9) (x10 : T10) (x11 : T11) (f : T1 → T2 → T3 → T4 → T5 → T6 → T7 → T8 → T9 → T10 → T11 → Option β) : bd11 (some (x1, x2, x3, x4, x5, x6, x7, x8, x9, x10, x11)) f = f x1 x2 x3 x4 x5 x6 x7 x8 x9 x10 x11 := rfl
theorem bd12_s {T1 T2 T3 T4 T5 T6 T7 T8 T9 T10 T11 T12 β : Type} (x1 : T1) (x2 : T2) (x3 : T3) (x4 : T4) (x5 : T5) (x6 : T6) (x7 : T7) (x8 : T8) (x9 : T9) (x10 : T10) (x11 : T11) (x12 : T12) (f : T1 → T2 → T3 → T4 → T5 → T6 → T7 → T8 → T9 → T10 → T11 → T12 → Option β) : bd12 (some (x1, x2, x3, x4, x5, x6, x7, x8, x9, x10, x11, x12)) f = f x1 x2 x3 x4 x5 x6 x7 x8 x9 x10 x11 x12 := rfl
theorem bd13_s {T1 T2 T3 T4 T5 T6 T7 T8 T9 T10 T11 T12 T13 β : Type} (x1 : T1) (x2 : T2) (x3 : T3) (x4 : T4) (x5 : T5) (x6 : T6) (x7 : T7) (x8 : T8) (x9 : T9) (x10 : T10) (x11 : T11) (x12 : T12) (x13 : T13) (f : T1 → T2 → T3 → T4 → T5 → T6 → T7 → T8 → T9 → T10 → T11 → T12 → T13 → Option β) : bd13 (some (x1, x2, x3, x4, x5, x6, x7, x8, x9, x10, x11, x12, x13)) f = f x1 x2 x3 x4 x5 x6 x7 x8 x9 x10 x11 x12 x13 := rfl
theorem bd14_s {T1 T2 T3 T4 T5 T6 T7 T8 T9 T10 T11 T12 T13 T14 β : Type} (x1 : T1) (x2 : T2) (x3 : T3) (x4 : T4) (x5 : T5) (x6 : T6) (x7 : T7) (x8 : T8) (x9 : T9) (x10 : T10) (x11 : T11) (x12 : T12) (x13 : T13) (x14 : T14) (f : T1 → T2 → T3 → T4 → T5 → T6 → T7 → T8 → T9 → T10 → T11 → T12 → T13 → T14 → Option β) : bd14 (some (x1, x2, x3, x4, x5, x6, x7, x8, x9, x10, x11, x12, x13, x14)) f = f x1 x2 x3 x4 x5 x6 x7 x8 x9 x10 x11 x12 x13 x14 := rfl
theorem bd15_s {T1 T2 T3 T4 T5 T6 T7 T8 T9 T10 T11 T12 T13 T14 T15 β : Type} (x1 : T1) (x2 : T2) (x3 : T3) (x4 : T4) (x5 : T5) (x6 : T6) (x7 : T7) (x8 : T8) (x9 : T9) (x10 : T10) (x11 : T11) (x12 : T12) (x13 : T13) (x14 : T14) (x15 : T15) (f : T1 → T2 → T3 → T4 → T5 → T6 → T7 → T8 → T9 → T10 → T11 → T12 → T13 → T14 → T15 → Option β) : bd15 (some (x1, x2, x3, x4, x5, x6, x7, x8, x9, x10, x11, x12, x13, x14, x15)) f = f x1 x2 x3 x4 x5 x6 x7 x8 x9 x10 x11 x12 x13 x14 x15 := rfl
theorem bd16_s {T1 T2 T3 T4 T5 T6 T7 T8 T9 T10 T11 T12 T13 T14 T15 T16 β : Type} (x1 : T1) (x2 : T2) (x3 : T3) (x4 : T4) (x5 : T5) (x6 : T6) (x7 : T7) (x8 : T8) (x9 : T9) (x10 : T10) (x11 : T11) (x12 : T12) (x13 : T13) (x14 : T14) (x15 : T15) (x16 : T16) (f : T1 → T2 → T3 → T4 → T5 → T6 → T7 → T8 → T9 → T10 → T11 → T12 → T13 → T14 → T15 → T16 → Option β) : bd16 (some (x1, x2, x3, x4, x5, x6, x7, x8, x9, x10, x11, x12, x13, x14, x15, x16)) f = f x1 x2 x3 x4 x5 x6 x7 x8 x9 x10 x11 x12 x13 x14 x15 x16 := rfl
theorem bd17_s {T1 T2 T3 T4 T5 T6 T7 T8 T9 T10 T11 T12 T13 T14 T15 T16 T17 β : Type} (x1 : T1) (x2 : T2) (x3 : T3) (x4 : T4) (x5 : T5) (x6 : T6) (x7 : T7) (x8 : T8) (x9 : T9) (x10 : T10) (x11 : T11) (x12 : T12) (x13 : T13) (x14 : T14) (x15 : T15) (x16 : T16) (x17 : T17) (f : T1 → T2 → T3 → T4 → T5 → T6 → T7 → T8 → T9 → T10 → T11 → T12 → T13 → T14 → T15 → T16 → T17 → Option β) : bd17 (some (x1, x2, x3, x4, x5, x6, x7, x8, x9, x10, x11, x12, x13, x14, x15, x16, x17)) f = f x1 x2 x3 x4 x5 x6 x7 x8 x9 x10 x11 x12 x13 x14 x15 x16 x17 := rfl
theorem bd18_s {T1 T2 T3 T4 T5 T6 T7 T8 T9 T10 T11 T12 T13 T14 T15 T16 T17 T18 β : Type} (x1 : T1) (x2 : T2) (x3 : T3) (x4 : T4) (x5 : T5) (x6 : T6) (x7 : T7) (x8 : T8) (x9 : T9) (x10 : T10) (x11 : T11) (x12 : T12) (x13 : T13) (x14 : T14) (x15 : T15) (x16 : T16) (x17 : T17) (x18 : T18) (f : T1 → T2 → T3 → T4 → T5 → T6 → T7 → T8 → T9 → T10 → T11 → T12 → T13 → T14 → T15 → T16 → T17 → T18 → Option β) : bd18 (some (x1, x2, x3, x4, x5, x6, x7, x8, x9, x10, x11, x12, x13, x14, x15, x16, x17, x18)) f = f x1 x2 x3 x4 x5 x6 x7 x8 x9 x10 x11 x12 x13 x14 x15 x16 x17 x18 := rfl
theorem bd19_s {T1 T2 T3 T4 T5 T6 T7 T8 T9 T10 T11 T12 T13 T14 T15 T16 T17 T18 T19 β : Type} (x1 : T1) (x2 : T2) (x3 : T3) (x4 : T4) (x5 : T5) (x6 : T6) (x7 : T7) (x8 : T8) (x9 : T9) (x10 : T10) (x11 : T11) (x12 : T12) (x13 : T13) (x14 : T14) (x15 : T15) (x16 : T16) (x17 : T17) (x18 : T18) (x19 : T19) (f : T1 → T2 → T3 → T4 → T5 → T6 → T7 → T8 → T9 → T10 → T11 → T12 → T13 → T14 → T15 → T16 → T17 → T18 → T19 → Option β) : bd19 (some (x1, x2, x3, x4, x5, x6, x7, x8, x9, x10, x11, x12, x13, x14, x15, x16, x17, x18, x19)) f = f x1 x2 x3 x4 x5 x6 x7 x8 x9 x10 x11 x12 x13 x14 x15 x16 x17 x18 x19 := rfl
theorem bd20_s {T1 T2 T3 T4 T5 T6 T7 T8 T9 T10 T11 T12 T13 T14 T15 T16 T17 T18 T19 T20 β : Type} (x1 : T1) (x2 : T2) (x3 : T3) (x4 : T4) (x5 : T5) (x6 : T6) (x7 : T7) (x8 : T8) (x9 : T9) (x10 : T10) (x11 : T11) (x12 : T12) (x13 : T13) (x14 : T14) (x15 : T15) (x16 : T16) (x17 : T17) (x18 : T18) (x19 : T19) (x20 : T20) (f : T1 → T2 → T3 → T4 → T5 → T6 → T7 → T8 → T9 → T10 → T11 → T12 → T13 → T14 → T15 → T16 → T17 → T18 → T19 → T20 → Option β) : bd20 (some (x1, x2, x3, x4, x5, x6, x7, x8, x9, x10, x11, x12, x13, x14, x15, x16, x17, x18, x19, x20)) f = f x1 x2 x3 x4 x5 x6 x7 x8 x9 x10 x11 x12 x13 x14 x15 x16 x17 x18 x19 x20 := rfl
theorem bd21_s {T1 T2 T3 T4 T5 T6 T7 T8 T9 T10 T11 T12 T13 T14 T15 T16 T17 T18 T19 T20 T21 β : Type} (x1 : T1) (x2 : T2) (x3 : T3) (x4 : T4) (x5 : T5) (x6 : T6) (x7 : T7) (x8 : T8) (x9 : T9) (x10 : T10) (x11 : T11) (x12 : T12) (x13 : T13) (x14 : T14) (x15 : T15) (x16 : T16) (x17 : T17) (x18 : T18) (x19 : T19) (x20 : T20) (x21 : T21) (f : T1 → T2 → T3 → T4 → T5 → T6 → T7 → T8 → T9 → T10 → T11 → T12 → T13 → T14 → T15 → T16 → T17 → T18 → T19 → T20 → T21 → Option β) : bd21 (some (x1, x2, x3, x4, x5, x6, x7, x8, x9, x10, x11, x12, x13, x14, x15, x16, x17, x18, x19, x20, x21)) f = f x1 x2 x3 x4 x5 x6 x7 x8 x9 x10 x11 x12 x13 x14 x15 x16 x17 x18 x19 x20 x21 := rfl
theorem bd22_s {T1 T2 T3 T4 T5 T6 T7 T8 T9 T10 T11 T12 T13 T14 T15 T16 T17 T18 T19 T20 T21 T22 β : Type} (x1 : T1) (x2 : T2) (x3 : T3) (x4 : T4) (x5 : T5) (x6 : T6) (x7 : T7) (x8 : T8) (x9 : T9) (x10 : T10) (x11 : T11) (x12 : T12) (x13 : T13) (x14 : T14) (x15 : T15) (x16 : T16) (x17 : T17) (x18 : T18) (x19 : T19) (x20 : T20) (x21 : T21) (x22 : T22) (f : T1 → T2 → T3 → T4 → T5 → T6 → T7 → T8 → T9 → T10 → T11 → T12 → T13 → T14 → T15 → T16 → T17 → T18 → T19 → T20 → T21 → T22 → Option β) : bd22 (some (x1, x2, x3, x4, x5, x6, x7, x8, x9, x10, x11, x12, x13, x14, x15, x16, x17, x18, x19, x20, x21, x22)) f = f x1 x2 x3 x4 x5 x6 x7 x8 x9 x10 x11 x12 x13 x14 x15 x16 x17 x18 x19 x20 x21 x22 := rfl
