/-! the pure law, text A -/
set_option maxRecDepth 100000
/-! P0 -/
def c32 (k : Nat) : Int32 := Int32.ofNat k
def c64 (k : Nat) : Int64 := Int64.ofNat k
theorem c32_lit (k : Nat) : (OfNat.ofNat k : Int32) = c32 (OfNat.ofNat k) := by
  have h : (OfNat.ofNat k : Int32) = c32 (OfNat.ofNat k) := rfl
  exact h
theorem c64_lit (k : Nat) : (OfNat.ofNat k : Int64) = c64 (OfNat.ofNat k) := by
  have h : (OfNat.ofNat k : Int64) = c64 (OfNat.ofNat k) := rfl
  exact h
theorem c32_add (a b : Nat) : c32 a + c32 b = c32 (a + b) := (Int32.ofNat_add a b).symm
theorem c32_mul (a b : Nat) : c32 a * c32 b = c32 (a * b) := (Int32.ofNat_mul a b).symm
theorem c64_add (a b : Nat) : c64 a + c64 b = c64 (a + b) := (Int64.ofNat_add a b).symm
theorem c64_mul (a b : Nat) : c64 a * c64 b = c64 (a * b) := (Int64.ofNat_mul a b).symm
theorem c32_sub {a b : Nat} (h : b ≤ a) : c32 a - c32 b = c32 (a - b) := by
  have : c32 a = c32 (a - b) + c32 b := by rw [c32_add]; congr 1; omega
  rw [this, Int32.add_sub_cancel]
theorem c64_sub {a b : Nat} (h : b ≤ a) : c64 a - c64 b = c64 (a - b) := by
  have : c64 a = c64 (a - b) + c64 b := by rw [c64_add]; congr 1; omega
  rw [this, Int64.add_sub_cancel]
theorem c32_toInt {a : Nat} (h : a < 2147483648) : (c32 a).toInt = a := Int32.toInt_ofNat_of_lt h
theorem c64_toInt {a : Nat} (h : a < 9223372036854775808) : (c64 a).toInt = a := Int64.toInt_ofNat_of_lt h
theorem c32_nat {a : Nat} (h : a < 2147483648) : (c32 a).toNatClampNeg = a := by
  have := c32_toInt h
  show (c32 a).toInt.toNat = a
  rw [this]; rfl
theorem c32_lt {a b : Nat} (h : a < 2147483648) (h2 : b < 2147483648) : (c32 a < c32 b) = (a < b) := by
  rw [Int32.lt_iff_toInt_lt, c32_toInt h, c32_toInt h2]; exact propext Int.ofNat_lt
theorem c32_le {a b : Nat} (h : a < 2147483648) (h2 : b < 2147483648) : (c32 a ≤ c32 b) = (a ≤ b) := by
  rw [Int32.le_iff_toInt_le, c32_toInt h, c32_toInt h2]; exact propext Int.ofNat_le
theorem c32_eq {a b : Nat} (h : a < 2147483648) (h2 : b < 2147483648) : (c32 a = c32 b) = (a = b) := by
  refine propext ⟨fun e => ?_, fun e => by rw [e]⟩
  have := congrArg Int32.toInt e
  rw [c32_toInt h, c32_toInt h2] at this
  omega
theorem c64_lt {a b : Nat} (h : a < 9223372036854775808) (h2 : b < 9223372036854775808) : (c64 a < c64 b) = (a < b) := by
  rw [Int64.lt_iff_toInt_lt, c64_toInt h, c64_toInt h2]; exact propext Int.ofNat_lt
theorem c64_le {a b : Nat} (h : a < 9223372036854775808) (h2 : b < 9223372036854775808) : (c64 a ≤ c64 b) = (a ≤ b) := by
  rw [Int64.le_iff_toInt_le, c64_toInt h, c64_toInt h2]; exact propext Int.ofNat_le
theorem c64_eq {a b : Nat} (h : a < 9223372036854775808) (h2 : b < 9223372036854775808) : (c64 a = c64 b) = (a = b) := by
  refine propext ⟨fun e => ?_, fun e => by rw [e]⟩
  have := congrArg Int64.toInt e
  rw [c64_toInt h, c64_toInt h2] at this
  omega
theorem c32_64 {a : Nat} (h : a < 2147483648) : (c32 a).toInt64 = c64 a := by
  apply Int64.toInt_inj.mp
  rw [Int32.toInt_toInt64, c32_toInt h, c64_toInt (by omega)]
theorem c64_32 (a : Nat) : (c64 a).toInt32 = c32 a := Int64.toInt32_ofNat
theorem c32_neg {a : Nat} (h : a < 2147483648) : ¬ c32 a < c32 0 := by rw [c32_lt h (by omega)]; omega
theorem i64_32 (x : Int32) : x.toInt64.toInt32 = x := Int32.toInt32_toInt64 x
theorem c32_ex {x : Int32} (h : ¬ x < 0) : ∃ a, a < 2147483648 ∧ x = c32 a := by
  have h1 : 0 ≤ x.toInt := by
    have := Int32.not_lt.mp h
    exact Int32.le_iff_toInt_le.mp this
  have h2 := x.toInt_lt
  refine ⟨x.toInt.toNat, by omega, Int32.toInt_inj.mp ?_⟩
  rw [c32_toInt (by omega)]; omega
theorem gin_c {β : Type} {a n : Nat} (h : a < n) (hn : n ≤ 2147483648) (x : Option β) : gin (c32 a) n x = x := by
  unfold gin
  rw [if_neg]
  rw [c32_nat (by omega)]
  intro h9
  rcases h9 with h9 | h9
  · exact c32_neg (by omega) h9
  · omega
theorem gcp_c {β : Type} {a b w n0 n1 : Nat} (h : a + w ≤ n0) (h1 : b + w ≤ n1) (h2 : n0 < 2147483648) (h3 : n1 < 2147483648) (x : Option β) : gcp (c32 a) (c32 b) (c32 w) n0 n1 x = x := by
  unfold gcp
  rw [if_pos]
  rw [c32_nat (by omega), c32_nat (by omega), c32_nat (by omega)]
  exact ⟨c32_neg (by omega), c32_neg (by omega), c32_neg (by omega), h, h1⟩
theorem c32_of (k : Nat) : (OfNat.ofNat k : Int32) = c32 k := rfl
theorem c64_of (k : Nat) : (OfNat.ofNat k : Int64) = c64 k := rfl
section IFS
variable {β : Sort _} {a b : Nat} {x y : β}
theorem ile_t [Decidable (c32 a ≤ c32 b)] (h : a ≤ b) (hb : b < 2147483648) : (if c32 a ≤ c32 b then x else y) = x := if_pos (by rw [c32_le (by omega) hb]; exact h)
theorem ile_f [Decidable (c32 a ≤ c32 b)] (h : b < a) (hb : a < 2147483648) : (if c32 a ≤ c32 b then x else y) = y := if_neg (by rw [c32_le hb (by omega)]; omega)
theorem ilt_t [Decidable (c32 a < c32 b)] (h : a < b) (hb : b < 2147483648) : (if c32 a < c32 b then x else y) = x := if_pos (by rw [c32_lt (by omega) hb]; exact h)
theorem ilt_f [Decidable (c32 a < c32 b)] (h : b ≤ a) (hb : a < 2147483648) : (if c32 a < c32 b then x else y) = y := if_neg (by rw [c32_lt hb (by omega)]; omega)
theorem ieq_t [Decidable (c32 a = c32 b)] (h : a = b) : (if c32 a = c32 b then x else y) = x := if_pos (by rw [h])
theorem ieq_f [Decidable (c32 a = c32 b)] (h : a ≠ b) (ha : a < 2147483648) (hb : b < 2147483648) : (if c32 a = c32 b then x else y) = y := if_neg (by rw [c32_eq ha hb]; exact h)
end IFS
