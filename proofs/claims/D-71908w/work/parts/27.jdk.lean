/-! 27.jdk (printed by gen/system.py) -/
set_option maxRecDepth 100000
theorem kB_m100 : (Int8.ofInt (-100)).toInt32 = (-100) := by decide
theorem kB_m9 : (Int8.ofInt (-9)).toInt32 = (-9) := by decide
theorem kB_16 : (Int8.ofInt 16).toInt32 = 16 := by decide
theorem kB_31 : (Int8.ofInt 31).toInt32 = 31 := by decide
theorem kB_45 : (Int8.ofInt 45).toInt32 = 45 := by decide
theorem kS_255 : (Int16.ofInt 255).toInt32 = 255 := by decide
theorem md_J10_append : gMd yJ10_append 1 := by unfold gMd; decide +kernel
theorem md_J10_append_2 : gMd yJ10_append_2 1 := by unfold gMd; decide +kernel
theorem md_J10_append_4 : gMd yJ10_append_4 1 := by unfold gMd; decide +kernel
theorem md_J10_ensureCapacityInternal : gMd yJ10_ensureCapacityInternal 1 := by unfold gMd; decide +kernel
theorem md_J10_getValue : gMd yJ10_getValue 0 := by unfold gMd; decide +kernel
theorem md_J10_init : gMd yJ10_init 1 := by unfold gMd; decide +kernel
theorem md_J10_isLatin1 : gMd yJ10_isLatin1 0 := by unfold gMd; decide +kernel
theorem md_J10_length : gMd yJ10_length 0 := by unfold gMd; decide +kernel
theorem md_J10_newCapacity : gMd yJ10_newCapacity 1 := by unfold gMd; decide +kernel
theorem md_J13_getChars : gMd yJ13_getChars 3 := by unfold gMd; decide +kernel
theorem md_J13_stringSize : gMd yJ13_stringSize 1 := by unfold gMd; decide +kernel
theorem md_J14_newLength : gMd yJ14_newLength 3 := by unfold gMd; decide +kernel
theorem md_J14_signedHashCode : gMd yJ14_signedHashCode 4 := by unfold gMd; decide +kernel
theorem md_J14_vectorizedHashCode : gMd yJ14_vectorizedHashCode 5 := by unfold gMd; decide +kernel
theorem md_J15_checkIndex : gMd yJ15_checkIndex 3 := by unfold gMd; decide +kernel
theorem md_J16_canEncode : gMd yJ16_canEncode 1 := by unfold gMd; decide +kernel
theorem md_J16_charAt : gMd yJ16_charAt 2 := by unfold gMd; decide +kernel
theorem md_J16_equals : gMd yJ16_equals 2 := by unfold gMd; decide +kernel
theorem md_J16_hashCode : gMd yJ16_hashCode 1 := by unfold gMd; decide +kernel
theorem md_J17_getChars : gMd yJ17_getChars 3 := by unfold gMd; decide +kernel
theorem md_J17_stringSize : gMd yJ17_stringSize 1 := by unfold gMd; decide +kernel
theorem md_J7_checkIndex : gMd yJ7_checkIndex 2 := by unfold gMd; decide +kernel
theorem md_J7_coder : gMd yJ7_coder 0 := by unfold gMd; decide +kernel
theorem md_J7_init : gMd yJ7_init 1 := by unfold gMd; decide +kernel
theorem md_J7_init_2 : gMd yJ7_init_2 2 := by unfold gMd; decide +kernel
theorem md_J7_isLatin1 : gMd yJ7_isLatin1 0 := by unfold gMd; decide +kernel
theorem md_J8_checkLength : gMd yJ8_checkLength 2 := by unfold gMd; decide +kernel
theorem md_J8_copyOf : gMd yJ8_copyOf 2 := by unfold gMd; decide +kernel
theorem md_J8_copyOfRange : gMd yJ8_copyOfRange 3 := by unfold gMd; decide +kernel
theorem md_J8_copyOfRangeByte : gMd yJ8_copyOfRangeByte 3 := by unfold gMd; decide +kernel
theorem gD8 : ∀ j, j < 4 → defaultValue (tyJ7 j) = vp_V [.null, .int 0, .int 0, .int 0] j := fun j hj => match j, hj with | 0, _ => rfl | 1, _ => rfl | 2, _ => rfl | 3, _ => rfl | n + 4, hj => absurd hj (by omega)
/-! java/lang/AbstractStringBuilder.<init>(I)V -/
abbrev rm_J10_init : Room := { frames := 1, cells := 1, slots := 16, locals := 40 }
def F_J10_init_38 (n_b1 : Nat → Int32) : Option ((Nat → Int32)) :=
  some n_b1
def F_J10_init : Option ((Nat → Int32)) :=
  F_J10_init_38 (fun _ => 0)
theorem w_J10_init_38 {p : Program} {l : Launch} {e : Env} {s : State} {m : MethodId} {args : Array Value} {below : List Frame} {meth : Method} {c : Code} {Z : gZt} {A : Nat → Prop} (a0 : Nat) (X : gX p s m args meth c Z A cJ10_init "java/lang/AbstractStringBuilder" 2 none []) (hin : True → meth.name = "<init>") (b1 : Nat) (o0 : Nat → Int32)  (n_b1 : Nat → Int32) (h : F_J10_init_38 n_b1 = some o0) : G p l e rm_J10_init s m args below meth c Z A 2 (MQ below (gPost Z A (fun b0 : Nat => (none : Option Value)) (fun b0 : Nat => ([(a0, .inr (9, [.ref b0, .int 0, .int 0, .int 0])), (b0, .inl (Z.2 2, 16, .inl o0))] : va_W))) args s 1 16 A) [(a0, .inr (9, [.ref b1, .int 0, .int 0, .int 0])), (b1, .inl (Z.2 2, 16, .inl n_b1))] 1 16 38 [none, none] [] := by
  unfold F_J10_init_38 at h
  cases h
  exact g_vret X dJ10_init_38 b1 rfl rfl (Nat.le_of_ble_eq_true rfl) (Nat.le_of_ble_eq_true rfl)
theorem met_J10_init (l : Launch) (Z : gZt) (a0 : Nat) (o0 : Nat → Int32) (h : F_J10_init = some o0) : Ct l yJ10_init (ws_ yJ10_init cJ10_init 2 none) rm_J10_init Z [.ref a0, .int 16] [(a0, .inr (9, [.null, .int 0, .int 0, .int 0]))] [] (fun b0 : Nat => (none : Option Value)) (fun b0 : Nat => ([(a0, .inr (9, [.ref b0, .int 0, .int 0, .int 0])), (b0, .inl (Z.2 2, 16, .inl o0))] : va_W)) := by
  refine Ct.of cJ10_init 2 none "java/lang/AbstractStringBuilder" [some (.ref a0), some (.int 16)] 0 (by decide) rfl (Nat.le_of_ble_eq_true rfl) rfl (fun p e s m args below meth c A X hin => ?_)
  replace hin : True → meth.name = "<init>" := fun _ => hin rfl
  unfold F_J10_init at h
  refine g_aload_n X rfl dJ10_init_0 1 rfl ?_
  refine g_objInit X q502 q104 q105 dJ10_init_1 4 rfl (Nat.le_of_ble_eq_true rfl) (Nat.le_of_ble_eq_true rfl) ?_
  refine g_getsC X q503 dJ10_init_4 7 rfl ?_
  refine g_if_eq X dJ10_init_7 25 (by decide) 10 rfl (fun h9 => absurd h9 (by decide)) (fun _ => ?_)
  refine g_aload_n X rfl dJ10_init_10 11 rfl ?_
  refine g_iload_n X rfl dJ10_init_11 12 rfl ?_
  refine g_newa2 X q240 16 (by decide) rfl (Nat.le_of_ble_eq_true rfl) dJ10_init_12 14 rfl 1 16 rfl rfl (Nat.le_of_ble_eq_true rfl) (Nat.le_of_ble_eq_true rfl) (fun b1 => ?_)
  refine g_put X gC9 0 rfl 0 (by decide) q512 (fun _ h9 => h9) rfl rfl rfl (Nat.le_of_ble_eq_true rfl) dJ10_init_14 17 rfl ?_
  refine g_aload_n X rfl dJ10_init_17 18 rfl ?_
  refine g_iconst X 0 dJ10_init_18 19 rfl kI_0 ?_
  refine g_put X gC9 0 rfl 1 (by decide) q513 (fun _ h9 => h9) rfl (by decide) (by decide) (Nat.le_of_ble_eq_true rfl) dJ10_init_19 22 rfl ?_
  refine g_goto X dJ10_init_22 38 (by decide) ?_
  refine g_kill (j := 0) [none, some (.int 16)] rfl ?_
  refine g_kill (j := 1) [none, none] rfl ?_
  exact w_J10_init_38 a0  X hin b1 o0    (fun _ => 0) h
/-! java/lang/StringBuilder.<init>()V -/
abbrev rm_J11_init : Room := { frames := 2, cells := 1, slots := 16, locals := 61 }
def F_J11_init : Option ((Nat → Int32)) :=
  bd1 (F_J10_init) fun w1_o0 =>
  some w1_o0
theorem met_J11_init (l : Launch) (Z : gZt) (a0 : Nat) (o0 : Nat → Int32) (h : F_J11_init = some o0) : Ct l yJ11_init (ws_ yJ11_init cJ11_init 1 none) rm_J11_init Z [.ref a0] [(a0, .inr (9, [.null, .int 0, .int 0, .int 0]))] [] (fun b0 : Nat => (none : Option Value)) (fun b0 : Nat => ([(a0, .inr (9, [.ref b0, .int 0, .int 0, .int 0])), (b0, .inl (Z.2 2, 16, .inl o0))] : va_W)) := by
  refine Ct.of cJ11_init 1 none "java/lang/StringBuilder" [some (.ref a0)] 0 (by decide) rfl (Nat.le_of_ble_eq_true rfl) rfl (fun p e s m args below meth c A X hin => ?_)
  replace hin : True → meth.name = "<init>" := fun _ => hin rfl
  unfold F_J11_init at h
  refine g_aload_n X rfl dJ11_init_0 1 rfl ?_
  refine g_bipush X 16 dJ11_init_1 3 rfl kB_16 ?_
  obtain ⟨w1_o0, hcl, h⟩ := bd1_e h
  refine g_callI0W X (met_J10_init l Z a0   w1_o0 hcl) rfl q501 q87 q499 q500 rfl md_J10_init ⟨(Nat.le_of_ble_eq_true rfl), (Nat.le_of_ble_eq_true rfl)⟩ rfl dJ11_init_3 6 rfl 1 16 rfl rfl (Nat.le_of_ble_eq_true rfl) (Nat.le_of_ble_eq_true rfl) (st := []) rfl (Nat.le_of_ble_eq_true rfl) (fun _ => rfl) (fun b2 => ?_)
  cases h
  exact g_vret X dJ11_init_6 b2 rfl rfl (Nat.le_of_ble_eq_true rfl) (Nat.le_of_ble_eq_true rfl)
/-! java/lang/Integer.stringSize(I)I -/
abbrev rm_J13_stringSize : Room := { frames := 0, cells := 0, slots := 0, locals := 0 }
def B_J13_stringSize_16 (K16 : (Int32) → (Int32) → (Int32) → (Int32) → Option (Int32)) (x0 : Int32) (x1 : Int32) (x2 : Int32) (x3 : Int32) : Option (Int32) :=
  if 10 ≤ x3 then
    (some (10 + x1))
  else
    (if x0 ≤ x2 then
      (K16 x0 x1 (10 * x2) (x3 + 1))
    else
      (some (x3 + x1)))
def F_J13_stringSize_16 : Nat → (Int32) → (Int32) → (Int32) → (Int32) → Option (Int32)
  | 0 => fun _ _ _ _ => none
  | n + 1 => B_J13_stringSize_16 (F_J13_stringSize_16 n)
def F_J13_stringSize_11 (x0 : Int32) (x1 : Int32) : Option (Int32) :=
  F_J13_stringSize_16 gFU x0 x1 (-10) 1
def F_J13_stringSize (x0 : Int32) : Option (Int32) :=
  if x0 < 0 then
    (F_J13_stringSize_11 x0 1)
  else
    (F_J13_stringSize_11 (-x0) 0)
theorem w_J13_stringSize_16 {p : Program} {l : Launch} {e : Env} {s : State} {m : MethodId} {args : Array Value} {below : List Frame} {meth : Method} {c : Code} {Z : gZt} {A : Nat → Prop} (X : gX p s m args meth c Z A cJ13_stringSize "java/lang/Integer" 4 (some .int) []) (r : Int32)  : ∀ (n : Nat) (x0 : Int32) (x1 : Int32) (x2 : Int32) (x3 : Int32), F_J13_stringSize_16 n x0 x1 x2 x3 = some r → G p l e rm_J13_stringSize s m args below meth c Z A 4 (MQ below (gPost Z A (fun _ : Unit => (some (.int r) : Option Value)) (fun _ : Unit => ([] : va_W))) args s 0 0 A) [] 0 0 16 [some (.int x0), some (.int x1), some (.int x2), some (.int x3)] [] := by
  intro n
  induction n with
  | zero =>
    intro x0 x1 x2 x3 h
    cases h
  | succ n hK16 =>
    intro x0 x1 x2 x3 h
    replace h : B_J13_stringSize_16 (F_J13_stringSize_16 n) x0 x1 x2 x3 = some r := h
    unfold B_J13_stringSize_16 at h
    refine g_iload_n X rfl dJ13_stringSize_16 17 rfl ?_
    refine g_bipush X 10 dJ13_stringSize_17 19 rfl kB_10 ?_
    refine g_icmp_ge X dJ13_stringSize_19 42 (by decide) 22 rfl (fun hc => ?_) (fun hc => ?_)
    · replace h := if_t hc h
      refine g_bipush X 10 dJ13_stringSize_42 44 rfl kB_10 ?_
      refine g_iload_n X rfl dJ13_stringSize_44 45 rfl ?_
      refine g_iadd X dJ13_stringSize_45 46 rfl ?_
      cases h
      exact g_iret X dJ13_stringSize_46 () rfl rfl (Nat.le_of_ble_eq_true rfl) (Nat.le_of_ble_eq_true rfl)
    · replace h := if_f hc h
      refine g_iload_n X rfl dJ13_stringSize_22 23 rfl ?_
      refine g_iload_n X rfl dJ13_stringSize_23 24 rfl ?_
      refine g_icmp_le X dJ13_stringSize_24 31 (by decide) 27 rfl (fun hc => ?_) (fun hc => ?_)
      · replace h := if_t hc h
        refine g_bipush X 10 dJ13_stringSize_31 33 rfl kB_10 ?_
        refine g_iload_n X rfl dJ13_stringSize_33 34 rfl ?_
        refine g_imul X dJ13_stringSize_34 35 rfl ?_
        refine g_istore_n X dJ13_stringSize_35 36 rfl (Nat.le_of_ble_eq_true rfl) rfl [some (.int x0), some (.int x1), some (.int (10 * x2)), some (.int x3)] rfl ?_
        refine g_iinc X 1 rfl dJ13_stringSize_36 39 rfl kI_1 (Nat.le_of_ble_eq_true rfl) rfl [some (.int x0), some (.int x1), some (.int (10 * x2)), some (.int (x3 + 1))] rfl ?_
        refine g_goto X dJ13_stringSize_39 16 (by decide) ?_
        exact hK16 x0 x1 (10 * x2) (x3 + 1) h
      · replace h := if_f hc h
        refine g_iload_n X rfl dJ13_stringSize_27 28 rfl ?_
        refine g_iload_n X rfl dJ13_stringSize_28 29 rfl ?_
        refine g_iadd X dJ13_stringSize_29 30 rfl ?_
        cases h
        exact g_iret X dJ13_stringSize_30 () rfl rfl (Nat.le_of_ble_eq_true rfl) (Nat.le_of_ble_eq_true rfl)
theorem w_J13_stringSize_11 {p : Program} {l : Launch} {e : Env} {s : State} {m : MethodId} {args : Array Value} {below : List Frame} {meth : Method} {c : Code} {Z : gZt} {A : Nat → Prop} (X : gX p s m args meth c Z A cJ13_stringSize "java/lang/Integer" 4 (some .int) []) (r : Int32)  (x0 : Int32) (x1 : Int32) (h : F_J13_stringSize_11 x0 x1 = some r) : G p l e rm_J13_stringSize s m args below meth c Z A 4 (MQ below (gPost Z A (fun _ : Unit => (some (.int r) : Option Value)) (fun _ : Unit => ([] : va_W))) args s 0 0 A) [] 0 0 11 [some (.int x0), some (.int x1), none, none] [] := by
  unfold F_J13_stringSize_11 at h
  refine g_bipush X (-10) dJ13_stringSize_11 13 rfl kB_m10 ?_
  refine g_istore_n X dJ13_stringSize_13 14 rfl (Nat.le_of_ble_eq_true rfl) rfl [some (.int x0), some (.int x1), some (.int (-10)), none] rfl ?_
  refine g_iconst X 1 dJ13_stringSize_14 15 rfl kI_1 ?_
  refine g_istore_n X dJ13_stringSize_15 16 rfl (Nat.le_of_ble_eq_true rfl) rfl [some (.int x0), some (.int x1), some (.int (-10)), some (.int 1)] rfl ?_
  exact w_J13_stringSize_16   X  r    gFU x0 x1 (-10) 1 h
theorem met_J13_stringSize (l : Launch) (Z : gZt) (x0 : Int32) (r : Int32) (h : F_J13_stringSize x0 = some r) : Ct l yJ13_stringSize (ws_ yJ13_stringSize cJ13_stringSize 4 (some .int)) rm_J13_stringSize Z [.int x0] [] [] (fun _ : Unit => (some (.int r) : Option Value)) (fun _ : Unit => ([] : va_W)) := by
  refine Ct.of cJ13_stringSize 4 (some .int) "java/lang/Integer" [some (.int x0), none, none, none] 3 (by decide) rfl (Nat.le_of_ble_eq_true rfl) rfl (fun p e s m args below meth c A X hin => ?_)
  unfold F_J13_stringSize at h
  refine g_iconst X 1 dJ13_stringSize_0 1 rfl kI_1 ?_
  refine g_istore_n X dJ13_stringSize_1 2 rfl (Nat.le_of_ble_eq_true rfl) rfl [some (.int x0), some (.int 1), none, none] rfl ?_
  refine g_iload_n X rfl dJ13_stringSize_2 3 rfl ?_
  refine g_if_lt X dJ13_stringSize_3 11 (by decide) 6 rfl (fun hc => ?_) (fun hc => ?_)
  · replace h := if_t hc h
    exact w_J13_stringSize_11   X  r    x0 1 h
  · replace h := if_f hc h
    refine g_iconst X 0 dJ13_stringSize_6 7 rfl kI_0 ?_
    refine g_istore_n X dJ13_stringSize_7 8 rfl (Nat.le_of_ble_eq_true rfl) rfl [some (.int x0), some (.int 0), none, none] rfl ?_
    refine g_iload_n X rfl dJ13_stringSize_8 9 rfl ?_
    refine g_ineg X dJ13_stringSize_9 10 rfl ?_
    refine g_istore_n X dJ13_stringSize_10 11 rfl (Nat.le_of_ble_eq_true rfl) rfl [some (.int (-x0)), some (.int 0), none, none] rfl ?_
    exact w_J13_stringSize_11   X  r    (-x0) 0 h
/-! java/lang/Long.stringSize(J)I -/
abbrev rm_J17_stringSize : Room := { frames := 0, cells := 0, slots := 0, locals := 0 }
def B_J17_stringSize_20 (K20 : (Int64) → (Int32) → (Int64) → (Int32) → Option (Int32)) (x0 : Int64) (x2 : Int32) (x3 : Int64) (x5 : Int32) : Option (Int32) :=
  if 19 ≤ x5 then
    (some (19 + x2))
  else
    (if x0 ≤ x3 then
      (K20 x0 x2 (10 * x3) (x5 + 1))
    else
      (some (x5 + x2)))
def F_J17_stringSize_20 : Nat → (Int64) → (Int32) → (Int64) → (Int32) → Option (Int32)
  | 0 => fun _ _ _ _ => none
  | n + 1 => B_J17_stringSize_20 (F_J17_stringSize_20 n)
def F_J17_stringSize_13 (x0 : Int64) (x2 : Int32) : Option (Int32) :=
  F_J17_stringSize_20 gFU x0 x2 (-10) 1
def F_J17_stringSize (x0 : Int64) : Option (Int32) :=
  if x0 < 0 then
    (F_J17_stringSize_13 x0 1)
  else
    (F_J17_stringSize_13 (-x0) 0)
theorem w_J17_stringSize_20 {p : Program} {l : Launch} {e : Env} {s : State} {m : MethodId} {args : Array Value} {below : List Frame} {meth : Method} {c : Code} {Z : gZt} {A : Nat → Prop} (X : gX p s m args meth c Z A cJ17_stringSize "java/lang/Long" 6 (some .int) []) (r : Int32)  : ∀ (n : Nat) (x0 : Int64) (x2 : Int32) (x3 : Int64) (x5 : Int32), F_J17_stringSize_20 n x0 x2 x3 x5 = some r → G p l e rm_J17_stringSize s m args below meth c Z A 6 (MQ below (gPost Z A (fun _ : Unit => (some (.int r) : Option Value)) (fun _ : Unit => ([] : va_W))) args s 0 0 A) [] 0 0 20 [some (.long x0), none, some (.int x2), some (.long x3), none, some (.int x5)] [] := by
  intro n
  induction n with
  | zero =>
    intro x0 x2 x3 x5 h
    cases h
  | succ n hK20 =>
    intro x0 x2 x3 x5 h
    replace h : B_J17_stringSize_20 (F_J17_stringSize_20 n) x0 x2 x3 x5 = some r := h
    unfold B_J17_stringSize_20 at h
    refine g_iload X rfl dJ17_stringSize_20 22 rfl ?_
    refine g_bipush X 19 dJ17_stringSize_22 24 rfl kB_19 ?_
    refine g_icmp_ge X dJ17_stringSize_24 50 (by decide) 27 rfl (fun hc => ?_) (fun hc => ?_)
    · replace h := if_t hc h
      refine g_bipush X 19 dJ17_stringSize_50 52 rfl kB_19 ?_
      refine g_iload_n X rfl dJ17_stringSize_52 53 rfl ?_
      refine g_iadd X dJ17_stringSize_53 54 rfl ?_
      cases h
      exact g_iret X dJ17_stringSize_54 () rfl rfl (Nat.le_of_ble_eq_true rfl) (Nat.le_of_ble_eq_true rfl)
    · replace h := if_f hc h
      refine g_lload_n X rfl dJ17_stringSize_27 28 rfl ?_
      refine g_lload_n X rfl dJ17_stringSize_28 29 rfl ?_
      refine g_lcmp_le X dJ17_stringSize_29 30 rfl dJ17_stringSize_30 38 (by decide) 33 rfl (fun hc => ?_) (fun hc => ?_)
      · replace h := if_t hc h
        refine g_ldc2 X q1240 dJ17_stringSize_38 41 rfl ?_
        refine g_lload_n X rfl dJ17_stringSize_41 42 rfl ?_
        refine g_lmul X dJ17_stringSize_42 43 rfl ?_
        refine g_lstore_n X dJ17_stringSize_43 44 rfl (Nat.le_of_ble_eq_true rfl) rfl [some (.long x0), none, some (.int x2), some (.long (10 * x3)), none, some (.int x5)] rfl ?_
        refine g_iinc X 1 rfl dJ17_stringSize_44 47 rfl kI_1 (Nat.le_of_ble_eq_true rfl) rfl [some (.long x0), none, some (.int x2), some (.long (10 * x3)), none, some (.int (x5 + 1))] rfl ?_
        refine g_goto X dJ17_stringSize_47 20 (by decide) ?_
        exact hK20 x0 x2 (10 * x3) (x5 + 1) h
      · replace h := if_f hc h
        refine g_iload X rfl dJ17_stringSize_33 35 rfl ?_
        refine g_iload_n X rfl dJ17_stringSize_35 36 rfl ?_
        refine g_iadd X dJ17_stringSize_36 37 rfl ?_
        cases h
        exact g_iret X dJ17_stringSize_37 () rfl rfl (Nat.le_of_ble_eq_true rfl) (Nat.le_of_ble_eq_true rfl)
theorem w_J17_stringSize_13 {p : Program} {l : Launch} {e : Env} {s : State} {m : MethodId} {args : Array Value} {below : List Frame} {meth : Method} {c : Code} {Z : gZt} {A : Nat → Prop} (X : gX p s m args meth c Z A cJ17_stringSize "java/lang/Long" 6 (some .int) []) (r : Int32)  (x0 : Int64) (x2 : Int32) (h : F_J17_stringSize_13 x0 x2 = some r) : G p l e rm_J17_stringSize s m args below meth c Z A 6 (MQ below (gPost Z A (fun _ : Unit => (some (.int r) : Option Value)) (fun _ : Unit => ([] : va_W))) args s 0 0 A) [] 0 0 13 [some (.long x0), none, some (.int x2), none, none, none] [] := by
  unfold F_J17_stringSize_13 at h
  refine g_ldc2 X q1239 dJ17_stringSize_13 16 rfl ?_
  refine g_lstore_n X dJ17_stringSize_16 17 rfl (Nat.le_of_ble_eq_true rfl) rfl [some (.long x0), none, some (.int x2), some (.long (-10)), none, none] rfl ?_
  refine g_iconst X 1 dJ17_stringSize_17 18 rfl kI_1 ?_
  refine g_istore X dJ17_stringSize_18 20 rfl (Nat.le_of_ble_eq_true rfl) rfl [some (.long x0), none, some (.int x2), some (.long (-10)), none, some (.int 1)] rfl ?_
  exact w_J17_stringSize_20   X  r    gFU x0 x2 (-10) 1 h
theorem met_J17_stringSize (l : Launch) (Z : gZt) (x0 : Int64) (r : Int32) (h : F_J17_stringSize x0 = some r) : Ct l yJ17_stringSize (ws_ yJ17_stringSize cJ17_stringSize 6 (some .int)) rm_J17_stringSize Z [.long x0] [] [] (fun _ : Unit => (some (.int r) : Option Value)) (fun _ : Unit => ([] : va_W)) := by
  refine Ct.of cJ17_stringSize 6 (some .int) "java/lang/Long" [some (.long x0), none, none, none, none, none] 4 (by decide) rfl (Nat.le_of_ble_eq_true rfl) rfl (fun p e s m args below meth c A X hin => ?_)
  unfold F_J17_stringSize at h
  refine g_iconst X 1 dJ17_stringSize_0 1 rfl kI_1 ?_
  refine g_istore_n X dJ17_stringSize_1 2 rfl (Nat.le_of_ble_eq_true rfl) rfl [some (.long x0), none, some (.int 1), none, none, none] rfl ?_
  refine g_lload_n X rfl dJ17_stringSize_2 3 rfl ?_
  refine g_lconst X 0 dJ17_stringSize_3 4 rfl rfl ?_
  refine g_lcmp_lt X dJ17_stringSize_4 5 rfl dJ17_stringSize_5 13 (by decide) 8 rfl (fun hc => ?_) (fun hc => ?_)
  · replace h := if_t hc h
    exact w_J17_stringSize_13   X  r    x0 1 h
  · replace h := if_f hc h
    refine g_iconst X 0 dJ17_stringSize_8 9 rfl kI_0 ?_
    refine g_istore_n X dJ17_stringSize_9 10 rfl (Nat.le_of_ble_eq_true rfl) rfl [some (.long x0), none, some (.int 0), none, none, none] rfl ?_
    refine g_lload_n X rfl dJ17_stringSize_10 11 rfl ?_
    refine g_lneg X dJ17_stringSize_11 12 rfl ?_
    refine g_lstore_n X dJ17_stringSize_12 13 rfl (Nat.le_of_ble_eq_true rfl) rfl [some (.long (-x0)), none, some (.int 0), none, none, none] rfl ?_
    exact w_J17_stringSize_13   X  r    (-x0) 0 h
/-! java/lang/Integer.getChars(II[B)I -/
abbrev rm_J13_getChars : Room := { frames := 0, cells := 0, slots := 0, locals := 0 }
def F_J13_getChars_118 (v_value : Nat → Int32) (x5 : Int32) : Option (Int32 × (Nat → Int32)) :=
  some (x5, v_value)
def F_J13_getChars_104 (v_value : Nat → Int32) (x5 : Int32) (x6 : Int32) (v_cap : Nat) : Option (Int32 × (Nat → Int32)) :=
  if x6 = 0 then
    (F_J13_getChars_118 v_value x5)
  else
    (gin (x5 + (-1)) v_cap <|
    F_J13_getChars_118 (upd v_value (x5 + (-1)).toNatClampNeg (vp_nar .byte 45)) (x5 + (-1)))
def B_J13_getChars_22 (K22 : (Nat → Int32) → (Int32) → (Int32) → (Int32) → (Nat) → Option (Int32 × (Nat → Int32))) (v_value : Nat → Int32) (x0 : Int32) (x5 : Int32) (x6 : Int32) (v_cap : Nat) : Option (Int32 × (Nat → Int32)) :=
  if (-100) < x0 then
    (gin (-x0) 100 <|
    gin (x5 + (-1)) v_cap <|
    if (-9) ≤ x0 then
      (F_J13_getChars_104 (upd v_value (x5 + (-1)).toNatClampNeg (vp_nar .byte (gDO (-x0).toNatClampNeg))) (x5 + (-1)) x6 v_cap)
    else
      (gin (-x0) 100 <|
      gin ((x5 + (-1)) + (-1)) v_cap <|
      F_J13_getChars_104 (upd (upd v_value (x5 + (-1)).toNatClampNeg (vp_nar .byte (gDO (-x0).toNatClampNeg))) ((x5 + (-1)) + (-1)).toNatClampNeg (vp_nar .byte (gDT (-x0).toNatClampNeg))) ((x5 + (-1)) + (-1)) x6 v_cap))
  else
    (gin (((x0 / 100) * 100) - x0) 100 <|
    nm (gDO (((x0 / 100) * 100) - x0).toNatClampNeg) fun t1 =>
    gin (x5 + (-1)) v_cap <|
    gin (((x0 / 100) * 100) - x0) 100 <|
    nm (gDT (((x0 / 100) * 100) - x0).toNatClampNeg) fun t2 =>
    gin ((x5 + (-1)) + (-1)) v_cap <|
    K22 (upd (upd v_value (x5 + (-1)).toNatClampNeg (vp_nar .byte t1)) ((x5 + (-1)) + (-1)).toNatClampNeg (vp_nar .byte t2)) (x0 / 100) ((x5 + (-1)) + (-1)) x6 v_cap)
def F_J13_getChars_22 : Nat → (Nat → Int32) → (Int32) → (Int32) → (Int32) → (Nat) → Option (Int32 × (Nat → Int32))
  | 0 => fun _ _ _ _ _ => none
  | n + 1 => B_J13_getChars_22 (F_J13_getChars_22 n)
def F_J13_getChars (v_value : Nat → Int32) (v_cap : Nat) (x0 : Int32) (x1 : Int32) : Option (Int32 × (Nat → Int32)) :=
  if (if 0 ≤ x0 then (0 : Int32) else 1) = 0 then
    (F_J13_getChars_22 gFU v_value (-x0) x1 (if 0 ≤ x0 then (0 : Int32) else 1) v_cap)
  else
    (F_J13_getChars_22 gFU v_value x0 x1 (if 0 ≤ x0 then (0 : Int32) else 1) v_cap)
theorem w_J13_getChars_118 {p : Program} {l : Launch} {e : Env} {s : State} {m : MethodId} {args : Array Value} {below : List Frame} {meth : Method} {c : Code} {Z : gZt} {A : Nat → Prop} (a0 : Nat) (v_cap : Nat) (X : gX p s m args meth c Z A cJ13_getChars "java/lang/Integer" 7 (some .int) []) (r : Int32) (r_value : Nat → Int32)  (v_value : Nat → Int32) (x5 : Int32) (h : F_J13_getChars_118 v_value x5 = some (r, r_value)) : G p l e rm_J13_getChars s m args below meth c Z A 7 (MQ below (gPost Z A (fun _ : Unit => (some (.int r) : Option Value)) (fun _ : Unit => ([(a0, .inl (Z.2 2, v_cap, .inl r_value))] : va_W))) args s 0 0 A) [(a0, .inl (Z.2 2, v_cap, .inl v_value))] 0 0 118 [none, none, none, none, none, some (.int x5), none] [] := by
  unfold F_J13_getChars_118 at h
  refine g_iload X rfl dJ13_getChars_118 120 rfl ?_
  cases h
  exact g_iret X dJ13_getChars_120 () rfl rfl (Nat.le_of_ble_eq_true rfl) (Nat.le_of_ble_eq_true rfl)
theorem w_J13_getChars_104 {p : Program} {l : Launch} {e : Env} {s : State} {m : MethodId} {args : Array Value} {below : List Frame} {meth : Method} {c : Code} {Z : gZt} {A : Nat → Prop} (a0 : Nat) (v_cap : Nat) (X : gX p s m args meth c Z A cJ13_getChars "java/lang/Integer" 7 (some .int) []) (r : Int32) (r_value : Nat → Int32)  (v_value : Nat → Int32) (x5 : Int32) (x6 : Int32) (h : F_J13_getChars_104 v_value x5 x6 v_cap = some (r, r_value)) : G p l e rm_J13_getChars s m args below meth c Z A 7 (MQ below (gPost Z A (fun _ : Unit => (some (.int r) : Option Value)) (fun _ : Unit => ([(a0, .inl (Z.2 2, v_cap, .inl r_value))] : va_W))) args s 0 0 A) [(a0, .inl (Z.2 2, v_cap, .inl v_value))] 0 0 104 [none, none, some (.ref a0), none, none, some (.int x5), some (.int x6)] [] := by
  unfold F_J13_getChars_104 at h
  refine g_iload X rfl dJ13_getChars_104 106 rfl ?_
  refine g_if_eq X dJ13_getChars_106 118 (by decide) 109 rfl (fun hc => ?_) (fun hc => ?_)
  · replace h := if_t hc h
    refine g_kill (j := 2) [none, none, none, none, none, some (.int x5), some (.int x6)] rfl ?_
    refine g_kill (j := 6) [none, none, none, none, none, some (.int x5), none] rfl ?_
    exact w_J13_getChars_118 a0 v_cap X  r r_value    v_value x5 h
  · replace h := if_f hc h
    refine g_aload_n X rfl dJ13_getChars_109 110 rfl ?_
    refine g_iinc X (-1) rfl dJ13_getChars_110 113 rfl kI_m1 (Nat.le_of_ble_eq_true rfl) rfl [none, none, some (.ref a0), none, none, some (.int (x5 + (-1))), some (.int x6)] rfl ?_
    refine g_iload X rfl dJ13_getChars_113 115 rfl ?_
    refine g_bipush X 45 dJ13_getChars_115 117 rfl kB_45 ?_
    obtain ⟨hi, h⟩ := gin_e h
    refine g_bast X 0 rfl hi dJ13_getChars_117 118 rfl ?_
    refine g_kill (j := 2) [none, none, none, none, none, some (.int (x5 + (-1))), some (.int x6)] rfl ?_
    refine g_kill (j := 6) [none, none, none, none, none, some (.int (x5 + (-1))), none] rfl ?_
    exact w_J13_getChars_118 a0 v_cap X  r r_value    (upd v_value (x5 + (-1)).toNatClampNeg (vp_nar .byte 45)) (x5 + (-1)) h
theorem w_J13_getChars_22 {p : Program} {l : Launch} {e : Env} {s : State} {m : MethodId} {args : Array Value} {below : List Frame} {meth : Method} {c : Code} {Z : gZt} {A : Nat → Prop} (a0 : Nat) (v_cap : Nat) (X : gX p s m args meth c Z A cJ13_getChars "java/lang/Integer" 7 (some .int) []) (r : Int32) (r_value : Nat → Int32)  : ∀ (n : Nat) (v_value : Nat → Int32) (x0 : Int32) (x5 : Int32) (x6 : Int32), F_J13_getChars_22 n v_value x0 x5 x6 v_cap = some (r, r_value) → G p l e rm_J13_getChars s m args below meth c Z A 7 (MQ below (gPost Z A (fun _ : Unit => (some (.int r) : Option Value)) (fun _ : Unit => ([(a0, .inl (Z.2 2, v_cap, .inl r_value))] : va_W))) args s 0 0 A) [(a0, .inl (Z.2 2, v_cap, .inl v_value))] 0 0 22 [some (.int x0), none, some (.ref a0), none, none, some (.int x5), some (.int x6)] [] := by
  intro n
  induction n with
  | zero =>
    intro v_value x0 x5 x6 h
    cases h
  | succ n hK22 =>
    intro v_value x0 x5 x6 h
    replace h : B_J13_getChars_22 (F_J13_getChars_22 n) v_value x0 x5 x6 v_cap = some (r, r_value) := h
    unfold B_J13_getChars_22 at h
    refine g_iload_n X rfl dJ13_getChars_22 23 rfl ?_
    refine g_bipush X (-100) dJ13_getChars_23 25 rfl kB_m100 ?_
    refine g_icmp_gt X dJ13_getChars_25 72 (by decide) 28 rfl (fun hc => ?_) (fun hc => ?_)
    · replace h := if_t hc h
      refine g_aload_n X rfl dJ13_getChars_72 73 rfl ?_
      refine g_iinc X (-1) rfl dJ13_getChars_73 76 rfl kI_m1 (Nat.le_of_ble_eq_true rfl) rfl [some (.int x0), none, some (.ref a0), none, none, some (.int (x5 + (-1))), some (.int x6)] rfl ?_
      refine g_iload X rfl dJ13_getChars_76 78 rfl ?_
      refine g_getsO X q711 dJ13_getChars_78 81 rfl ?_
      refine g_iload_n X rfl dJ13_getChars_81 82 rfl ?_
      refine g_ineg X dJ13_getChars_82 83 rfl ?_
      obtain ⟨hi, h⟩ := gin_e h
      refine g_baldO X hi dJ13_getChars_83 84 rfl ?_
      obtain ⟨hi, h⟩ := gin_e h
      refine g_bast X 0 rfl hi dJ13_getChars_84 85 rfl ?_
      refine g_iload_n X rfl dJ13_getChars_85 86 rfl ?_
      refine g_bipush X (-9) dJ13_getChars_86 88 rfl kB_m9 ?_
      refine g_icmp_ge X dJ13_getChars_88 104 (by decide) 91 rfl (fun hc => ?_) (fun hc => ?_)
      · replace h := if_t hc h
        refine g_kill (j := 0) [none, none, some (.ref a0), none, none, some (.int (x5 + (-1))), some (.int x6)] rfl ?_
        exact w_J13_getChars_104 a0 v_cap X  r r_value    (upd v_value (x5 + (-1)).toNatClampNeg (vp_nar .byte (gDO (-x0).toNatClampNeg))) (x5 + (-1)) x6 h
      · replace h := if_f hc h
        refine g_aload_n X rfl dJ13_getChars_91 92 rfl ?_
        refine g_iinc X (-1) rfl dJ13_getChars_92 95 rfl kI_m1 (Nat.le_of_ble_eq_true rfl) rfl [some (.int x0), none, some (.ref a0), none, none, some (.int ((x5 + (-1)) + (-1))), some (.int x6)] rfl ?_
        refine g_iload X rfl dJ13_getChars_95 97 rfl ?_
        refine g_getsT X q713 dJ13_getChars_97 100 rfl ?_
        refine g_iload_n X rfl dJ13_getChars_100 101 rfl ?_
        refine g_ineg X dJ13_getChars_101 102 rfl ?_
        obtain ⟨hi, h⟩ := gin_e h
        refine g_baldT X hi dJ13_getChars_102 103 rfl ?_
        obtain ⟨hi, h⟩ := gin_e h
        refine g_bast X 0 rfl hi dJ13_getChars_103 104 rfl ?_
        refine g_kill (j := 0) [none, none, some (.ref a0), none, none, some (.int ((x5 + (-1)) + (-1))), some (.int x6)] rfl ?_
        exact w_J13_getChars_104 a0 v_cap X  r r_value    (upd (upd v_value (x5 + (-1)).toNatClampNeg (vp_nar .byte (gDO (-x0).toNatClampNeg))) ((x5 + (-1)) + (-1)).toNatClampNeg (vp_nar .byte (gDT (-x0).toNatClampNeg))) ((x5 + (-1)) + (-1)) x6 h
    · replace h := if_f hc h
      refine g_iload_n X rfl dJ13_getChars_28 29 rfl ?_
      refine g_bipush X 100 dJ13_getChars_29 31 rfl kB_100 ?_
      refine g_idiv X (by decide) dJ13_getChars_31 32 rfl ?_
      refine g_istore_n X dJ13_getChars_32 33 rfl (Nat.le_of_ble_eq_true rfl) rfl [some (.int x0), none, some (.ref a0), some (.int (x0 / 100)), none, some (.int x5), some (.int x6)] rfl ?_
      refine g_iload_n X rfl dJ13_getChars_33 34 rfl ?_
      refine g_bipush X 100 dJ13_getChars_34 36 rfl kB_100 ?_
      refine g_imul X dJ13_getChars_36 37 rfl ?_
      refine g_iload_n X rfl dJ13_getChars_37 38 rfl ?_
      refine g_isub X dJ13_getChars_38 39 rfl ?_
      refine g_istore X dJ13_getChars_39 41 rfl (Nat.le_of_ble_eq_true rfl) rfl [some (.int x0), none, some (.ref a0), some (.int (x0 / 100)), some (.int (((x0 / 100) * 100) - x0)), some (.int x5), some (.int x6)] rfl ?_
      refine g_iload_n X rfl dJ13_getChars_41 42 rfl ?_
      refine g_istore_n X dJ13_getChars_42 43 rfl (Nat.le_of_ble_eq_true rfl) rfl [some (.int (x0 / 100)), none, some (.ref a0), some (.int (x0 / 100)), some (.int (((x0 / 100) * 100) - x0)), some (.int x5), some (.int x6)] rfl ?_
      refine g_aload_n X rfl dJ13_getChars_43 44 rfl ?_
      refine g_iinc X (-1) rfl dJ13_getChars_44 47 rfl kI_m1 (Nat.le_of_ble_eq_true rfl) rfl [some (.int (x0 / 100)), none, some (.ref a0), some (.int (x0 / 100)), some (.int (((x0 / 100) * 100) - x0)), some (.int (x5 + (-1))), some (.int x6)] rfl ?_
      refine g_iload X rfl dJ13_getChars_47 49 rfl ?_
      refine g_getsO X q711 dJ13_getChars_49 52 rfl ?_
      refine g_iload X rfl dJ13_getChars_52 54 rfl ?_
      obtain ⟨hi, h⟩ := gin_e h
      refine g_baldO X hi dJ13_getChars_54 55 rfl ?_
      refine g_topi (fun t1 et1 => ?_)
      replace h := nm_at et1 h
      obtain ⟨hi, h⟩ := gin_e h
      refine g_bast X 0 rfl hi dJ13_getChars_55 56 rfl ?_
      refine g_aload_n X rfl dJ13_getChars_56 57 rfl ?_
      refine g_iinc X (-1) rfl dJ13_getChars_57 60 rfl kI_m1 (Nat.le_of_ble_eq_true rfl) rfl [some (.int (x0 / 100)), none, some (.ref a0), some (.int (x0 / 100)), some (.int (((x0 / 100) * 100) - x0)), some (.int ((x5 + (-1)) + (-1))), some (.int x6)] rfl ?_
      refine g_iload X rfl dJ13_getChars_60 62 rfl ?_
      refine g_getsT X q713 dJ13_getChars_62 65 rfl ?_
      refine g_iload X rfl dJ13_getChars_65 67 rfl ?_
      obtain ⟨hi, h⟩ := gin_e h
      refine g_baldT X hi dJ13_getChars_67 68 rfl ?_
      refine g_topi (fun t2 et2 => ?_)
      replace h := nm_at et2 h
      obtain ⟨hi, h⟩ := gin_e h
      refine g_bast X 0 rfl hi dJ13_getChars_68 69 rfl ?_
      refine g_goto X dJ13_getChars_69 22 (by decide) ?_
      refine g_kill (j := 3) [some (.int (x0 / 100)), none, some (.ref a0), none, some (.int (((x0 / 100) * 100) - x0)), some (.int ((x5 + (-1)) + (-1))), some (.int x6)] rfl ?_
      refine g_kill (j := 4) [some (.int (x0 / 100)), none, some (.ref a0), none, none, some (.int ((x5 + (-1)) + (-1))), some (.int x6)] rfl ?_
      exact hK22 (upd (upd v_value (x5 + (-1)).toNatClampNeg (vp_nar .byte t1)) ((x5 + (-1)) + (-1)).toNatClampNeg (vp_nar .byte t2)) (x0 / 100) ((x5 + (-1)) + (-1)) x6 h
theorem met_J13_getChars (l : Launch) (Z : gZt) (a0 : Nat) (v_value : Nat → Int32) (v_cap : Nat) (x0 : Int32) (x1 : Int32) (r : Int32) (r_value : Nat → Int32) (h : F_J13_getChars v_value v_cap x0 x1 = some (r, r_value)) : Ct l yJ13_getChars (ws_ yJ13_getChars cJ13_getChars 7 (some .int)) rm_J13_getChars Z [.int x0, .int x1, .ref a0] [(a0, .inl (Z.2 2, v_cap, .inl v_value))] [] (fun _ : Unit => (some (.int r) : Option Value)) (fun _ : Unit => ([(a0, .inl (Z.2 2, v_cap, .inl r_value))] : va_W)) := by
  refine Ct.of cJ13_getChars 7 (some .int) "java/lang/Integer" [some (.int x0), some (.int x1), some (.ref a0), none, none, none, none] 4 (by decide) rfl (Nat.le_of_ble_eq_true rfl) rfl (fun p e s m args below meth c A X hin => ?_)
  unfold F_J13_getChars at h
  refine g_iload_n X rfl dJ13_getChars_0 1 rfl ?_
  refine g_istore X dJ13_getChars_1 3 rfl (Nat.le_of_ble_eq_true rfl) rfl [some (.int x0), some (.int x1), some (.ref a0), none, none, some (.int x1), none] rfl ?_
  refine g_iload_n X rfl dJ13_getChars_3 4 rfl ?_
  refine g_seli 12 [] (b := 0 ≤ x0) 0 1 ?_ (fun hc K => ?_) (fun hc K => ?_)
  · refine g_istore X dJ13_getChars_12 14 rfl (Nat.le_of_ble_eq_true rfl) rfl [some (.int x0), some (.int x1), some (.ref a0), none, none, some (.int x1), some (.int (if 0 ≤ x0 then (0 : Int32) else 1))] rfl ?_
    refine g_iload X rfl dJ13_getChars_14 16 rfl ?_
    refine g_if_ne X dJ13_getChars_16 22 (by decide) 19 rfl (fun hc => ?_) (fun hc => ?_)
    · replace h := if_f hc h
      refine g_kill (j := 1) [some (.int x0), none, some (.ref a0), none, none, some (.int x1), some (.int (if 0 ≤ x0 then (0 : Int32) else 1))] rfl ?_
      exact w_J13_getChars_22 a0 v_cap X  r r_value    gFU v_value x0 x1 (if 0 ≤ x0 then (0 : Int32) else 1) h
    · replace h := if_t hc h
      refine g_iload_n X rfl dJ13_getChars_19 20 rfl ?_
      refine g_ineg X dJ13_getChars_20 21 rfl ?_
      refine g_istore_n X dJ13_getChars_21 22 rfl (Nat.le_of_ble_eq_true rfl) rfl [some (.int (-x0)), some (.int x1), some (.ref a0), none, none, some (.int x1), some (.int (if 0 ≤ x0 then (0 : Int32) else 1))] rfl ?_
      refine g_kill (j := 1) [some (.int (-x0)), none, some (.ref a0), none, none, some (.int x1), some (.int (if 0 ≤ x0 then (0 : Int32) else 1))] rfl ?_
      exact w_J13_getChars_22 a0 v_cap X  r r_value    gFU v_value (-x0) x1 (if 0 ≤ x0 then (0 : Int32) else 1) h
  · refine g_if_ge X dJ13_getChars_4 11 (by decide) 7 rfl (fun _ => ?_) (fun hn => absurd hc hn)
    refine g_iconst X 0 dJ13_getChars_11 12 rfl kI_0 ?_
    exact K
  · refine g_if_ge X dJ13_getChars_4 11 (by decide) 7 rfl (fun hn => absurd hn hc) (fun _ => ?_)
    refine g_iconst X 1 dJ13_getChars_7 8 rfl kI_1 ?_
    refine g_goto X dJ13_getChars_8 12 (by decide) ?_
    exact K
/-! java/lang/Long.getChars(JI[B)I -/
abbrev rm_J17_getChars : Room := { frames := 0, cells := 0, slots := 0, locals := 0 }
def F_J17_getChars_192 (v_value : Nat → Int32) (x7 : Int32) : Option (Int32 × (Nat → Int32)) :=
  some (x7, v_value)
def F_J17_getChars_178 (v_value : Nat → Int32) (x7 : Int32) (x8 : Int32) (v_cap : Nat) : Option (Int32 × (Nat → Int32)) :=
  if x8 = 0 then
    (F_J17_getChars_192 v_value x7)
  else
    (gin (x7 + (-1)) v_cap <|
    F_J17_getChars_192 (upd v_value (x7 + (-1)).toNatClampNeg (vp_nar .byte 45)) (x7 + (-1)))
def B_J17_getChars_86 (K86 : (Nat → Int32) → (Int32) → (Int32) → (Int32) → (Nat) → Option (Int32 × (Nat → Int32))) (v_value : Nat → Int32) (x7 : Int32) (x8 : Int32) (x10 : Int32) (v_cap : Nat) : Option (Int32 × (Nat → Int32)) :=
  if (-100) < x10 then
    (gin (-x10) 100 <|
    gin (x7 + (-1)) v_cap <|
    if (-9) ≤ x10 then
      (F_J17_getChars_178 (upd v_value (x7 + (-1)).toNatClampNeg (vp_nar .byte (gDO (-x10).toNatClampNeg))) (x7 + (-1)) x8 v_cap)
    else
      (gin (-x10) 100 <|
      gin ((x7 + (-1)) + (-1)) v_cap <|
      F_J17_getChars_178 (upd (upd v_value (x7 + (-1)).toNatClampNeg (vp_nar .byte (gDO (-x10).toNatClampNeg))) ((x7 + (-1)) + (-1)).toNatClampNeg (vp_nar .byte (gDT (-x10).toNatClampNeg))) ((x7 + (-1)) + (-1)) x8 v_cap))
  else
    (gin (((x10 / 100) * 100) - x10) 100 <|
    nm (gDO (((x10 / 100) * 100) - x10).toNatClampNeg) fun t1 =>
    gin (x7 + (-1)) v_cap <|
    gin (((x10 / 100) * 100) - x10) 100 <|
    nm (gDT (((x10 / 100) * 100) - x10).toNatClampNeg) fun t2 =>
    gin ((x7 + (-1)) + (-1)) v_cap <|
    K86 (upd (upd v_value (x7 + (-1)).toNatClampNeg (vp_nar .byte t1)) ((x7 + (-1)) + (-1)).toNatClampNeg (vp_nar .byte t2)) ((x7 + (-1)) + (-1)) x8 (x10 / 100) v_cap)
def F_J17_getChars_86 : Nat → (Nat → Int32) → (Int32) → (Int32) → (Int32) → (Nat) → Option (Int32 × (Nat → Int32))
  | 0 => fun _ _ _ _ _ => none
  | n + 1 => B_J17_getChars_86 (F_J17_getChars_86 n)
def B_J17_getChars_24 (K24 : (Nat → Int32) → (Int64) → (Int32) → (Int32) → (Nat) → Option (Int32 × (Nat → Int32))) (v_value : Nat → Int32) (x0 : Int64) (x7 : Int32) (x8 : Int32) (v_cap : Nat) : Option (Int32 × (Nat → Int32)) :=
  if (-2147483648) < x0 then
    (F_J17_getChars_86 gFU v_value x7 x8 x0.toInt32 v_cap)
  else
    (nm ((((x0 / 100) * 100) - x0).toInt32) fun t1 =>
    gin t1 100 <|
    gin (x7 + (-1)) v_cap <|
    gin t1 100 <|
    gin ((x7 + (-1)) + (-1)) v_cap <|
    K24 (upd (upd v_value (x7 + (-1)).toNatClampNeg (vp_nar .byte (gDO t1.toNatClampNeg))) ((x7 + (-1)) + (-1)).toNatClampNeg (vp_nar .byte (gDT t1.toNatClampNeg))) (x0 / 100) ((x7 + (-1)) + (-1)) x8 v_cap)
def F_J17_getChars_24 : Nat → (Nat → Int32) → (Int64) → (Int32) → (Int32) → (Nat) → Option (Int32 × (Nat → Int32))
  | 0 => fun _ _ _ _ _ => none
  | n + 1 => B_J17_getChars_24 (F_J17_getChars_24 n)
def F_J17_getChars (v_value : Nat → Int32) (v_cap : Nat) (x0 : Int64) (x2 : Int32) : Option (Int32 × (Nat → Int32)) :=
  if (if 0 ≤ x0 then (0 : Int32) else 1) = 0 then
    (F_J17_getChars_24 gFU v_value (-x0) x2 (if 0 ≤ x0 then (0 : Int32) else 1) v_cap)
  else
    (F_J17_getChars_24 gFU v_value x0 x2 (if 0 ≤ x0 then (0 : Int32) else 1) v_cap)
theorem w_J17_getChars_192 {p : Program} {l : Launch} {e : Env} {s : State} {m : MethodId} {args : Array Value} {below : List Frame} {meth : Method} {c : Code} {Z : gZt} {A : Nat → Prop} (a0 : Nat) (v_cap : Nat) (X : gX p s m args meth c Z A cJ17_getChars "java/lang/Long" 11 (some .int) []) (r : Int32) (r_value : Nat → Int32)  (v_value : Nat → Int32) (x7 : Int32) (h : F_J17_getChars_192 v_value x7 = some (r, r_value)) : G p l e rm_J17_getChars s m args below meth c Z A 11 (MQ below (gPost Z A (fun _ : Unit => (some (.int r) : Option Value)) (fun _ : Unit => ([(a0, .inl (Z.2 2, v_cap, .inl r_value))] : va_W))) args s 0 0 A) [(a0, .inl (Z.2 2, v_cap, .inl v_value))] 0 0 192 [none, none, none, none, none, none, none, some (.int x7), none, none, none] [] := by
  unfold F_J17_getChars_192 at h
  refine g_iload X rfl dJ17_getChars_192 194 rfl ?_
  cases h
  exact g_iret X dJ17_getChars_194 () rfl rfl (Nat.le_of_ble_eq_true rfl) (Nat.le_of_ble_eq_true rfl)
theorem w_J17_getChars_178 {p : Program} {l : Launch} {e : Env} {s : State} {m : MethodId} {args : Array Value} {below : List Frame} {meth : Method} {c : Code} {Z : gZt} {A : Nat → Prop} (a0 : Nat) (v_cap : Nat) (X : gX p s m args meth c Z A cJ17_getChars "java/lang/Long" 11 (some .int) []) (r : Int32) (r_value : Nat → Int32)  (v_value : Nat → Int32) (x7 : Int32) (x8 : Int32) (h : F_J17_getChars_178 v_value x7 x8 v_cap = some (r, r_value)) : G p l e rm_J17_getChars s m args below meth c Z A 11 (MQ below (gPost Z A (fun _ : Unit => (some (.int r) : Option Value)) (fun _ : Unit => ([(a0, .inl (Z.2 2, v_cap, .inl r_value))] : va_W))) args s 0 0 A) [(a0, .inl (Z.2 2, v_cap, .inl v_value))] 0 0 178 [none, none, none, some (.ref a0), none, none, none, some (.int x7), some (.int x8), none, none] [] := by
  unfold F_J17_getChars_178 at h
  refine g_iload X rfl dJ17_getChars_178 180 rfl ?_
  refine g_if_eq X dJ17_getChars_180 192 (by decide) 183 rfl (fun hc => ?_) (fun hc => ?_)
  · replace h := if_t hc h
    refine g_kill (j := 3) [none, none, none, none, none, none, none, some (.int x7), some (.int x8), none, none] rfl ?_
    refine g_kill (j := 8) [none, none, none, none, none, none, none, some (.int x7), none, none, none] rfl ?_
    exact w_J17_getChars_192 a0 v_cap X  r r_value    v_value x7 h
  · replace h := if_f hc h
    refine g_aload_n X rfl dJ17_getChars_183 184 rfl ?_
    refine g_iinc X (-1) rfl dJ17_getChars_184 187 rfl kI_m1 (Nat.le_of_ble_eq_true rfl) rfl [none, none, none, some (.ref a0), none, none, none, some (.int (x7 + (-1))), some (.int x8), none, none] rfl ?_
    refine g_iload X rfl dJ17_getChars_187 189 rfl ?_
    refine g_bipush X 45 dJ17_getChars_189 191 rfl kB_45 ?_
    obtain ⟨hi, h⟩ := gin_e h
    refine g_bast X 0 rfl hi dJ17_getChars_191 192 rfl ?_
    refine g_kill (j := 3) [none, none, none, none, none, none, none, some (.int (x7 + (-1))), some (.int x8), none, none] rfl ?_
    refine g_kill (j := 8) [none, none, none, none, none, none, none, some (.int (x7 + (-1))), none, none, none] rfl ?_
    exact w_J17_getChars_192 a0 v_cap X  r r_value    (upd v_value (x7 + (-1)).toNatClampNeg (vp_nar .byte 45)) (x7 + (-1)) h
theorem w_J17_getChars_86 {p : Program} {l : Launch} {e : Env} {s : State} {m : MethodId} {args : Array Value} {below : List Frame} {meth : Method} {c : Code} {Z : gZt} {A : Nat → Prop} (a0 : Nat) (v_cap : Nat) (X : gX p s m args meth c Z A cJ17_getChars "java/lang/Long" 11 (some .int) []) (r : Int32) (r_value : Nat → Int32)  : ∀ (n : Nat) (v_value : Nat → Int32) (x7 : Int32) (x8 : Int32) (x10 : Int32), F_J17_getChars_86 n v_value x7 x8 x10 v_cap = some (r, r_value) → G p l e rm_J17_getChars s m args below meth c Z A 11 (MQ below (gPost Z A (fun _ : Unit => (some (.int r) : Option Value)) (fun _ : Unit => ([(a0, .inl (Z.2 2, v_cap, .inl r_value))] : va_W))) args s 0 0 A) [(a0, .inl (Z.2 2, v_cap, .inl v_value))] 0 0 86 [none, none, none, some (.ref a0), none, none, none, some (.int x7), some (.int x8), none, some (.int x10)] [] := by
  intro n
  induction n with
  | zero =>
    intro v_value x7 x8 x10 h
    cases h
  | succ n hK86 =>
    intro v_value x7 x8 x10 h
    replace h : B_J17_getChars_86 (F_J17_getChars_86 n) v_value x7 x8 x10 v_cap = some (r, r_value) := h
    unfold B_J17_getChars_86 at h
    refine g_iload X rfl dJ17_getChars_86 88 rfl ?_
    refine g_bipush X (-100) dJ17_getChars_88 90 rfl kB_m100 ?_
    refine g_icmp_gt X dJ17_getChars_90 143 (by decide) 93 rfl (fun hc => ?_) (fun hc => ?_)
    · replace h := if_t hc h
      refine g_aload_n X rfl dJ17_getChars_143 144 rfl ?_
      refine g_iinc X (-1) rfl dJ17_getChars_144 147 rfl kI_m1 (Nat.le_of_ble_eq_true rfl) rfl [none, none, none, some (.ref a0), none, none, none, some (.int (x7 + (-1))), some (.int x8), none, some (.int x10)] rfl ?_
      refine g_iload X rfl dJ17_getChars_147 149 rfl ?_
      refine g_getsO X q1246 dJ17_getChars_149 152 rfl ?_
      refine g_iload X rfl dJ17_getChars_152 154 rfl ?_
      refine g_ineg X dJ17_getChars_154 155 rfl ?_
      obtain ⟨hi, h⟩ := gin_e h
      refine g_baldO X hi dJ17_getChars_155 156 rfl ?_
      obtain ⟨hi, h⟩ := gin_e h
      refine g_bast X 0 rfl hi dJ17_getChars_156 157 rfl ?_
      refine g_iload X rfl dJ17_getChars_157 159 rfl ?_
      refine g_bipush X (-9) dJ17_getChars_159 161 rfl kB_m9 ?_
      refine g_icmp_ge X dJ17_getChars_161 178 (by decide) 164 rfl (fun hc => ?_) (fun hc => ?_)
      · replace h := if_t hc h
        refine g_kill (j := 10) [none, none, none, some (.ref a0), none, none, none, some (.int (x7 + (-1))), some (.int x8), none, none] rfl ?_
        exact w_J17_getChars_178 a0 v_cap X  r r_value    (upd v_value (x7 + (-1)).toNatClampNeg (vp_nar .byte (gDO (-x10).toNatClampNeg))) (x7 + (-1)) x8 h
      · replace h := if_f hc h
        refine g_aload_n X rfl dJ17_getChars_164 165 rfl ?_
        refine g_iinc X (-1) rfl dJ17_getChars_165 168 rfl kI_m1 (Nat.le_of_ble_eq_true rfl) rfl [none, none, none, some (.ref a0), none, none, none, some (.int ((x7 + (-1)) + (-1))), some (.int x8), none, some (.int x10)] rfl ?_
        refine g_iload X rfl dJ17_getChars_168 170 rfl ?_
        refine g_getsT X q1247 dJ17_getChars_170 173 rfl ?_
        refine g_iload X rfl dJ17_getChars_173 175 rfl ?_
        refine g_ineg X dJ17_getChars_175 176 rfl ?_
        obtain ⟨hi, h⟩ := gin_e h
        refine g_baldT X hi dJ17_getChars_176 177 rfl ?_
        obtain ⟨hi, h⟩ := gin_e h
        refine g_bast X 0 rfl hi dJ17_getChars_177 178 rfl ?_
        refine g_kill (j := 10) [none, none, none, some (.ref a0), none, none, none, some (.int ((x7 + (-1)) + (-1))), some (.int x8), none, none] rfl ?_
        exact w_J17_getChars_178 a0 v_cap X  r r_value    (upd (upd v_value (x7 + (-1)).toNatClampNeg (vp_nar .byte (gDO (-x10).toNatClampNeg))) ((x7 + (-1)) + (-1)).toNatClampNeg (vp_nar .byte (gDT (-x10).toNatClampNeg))) ((x7 + (-1)) + (-1)) x8 h
    · replace h := if_f hc h
      refine g_iload X rfl dJ17_getChars_93 95 rfl ?_
      refine g_bipush X 100 dJ17_getChars_95 97 rfl kB_100 ?_
      refine g_idiv X (by decide) dJ17_getChars_97 98 rfl ?_
      refine g_istore X dJ17_getChars_98 100 rfl (Nat.le_of_ble_eq_true rfl) rfl [none, none, none, some (.ref a0), none, none, none, some (.int x7), some (.int x8), some (.int (x10 / 100)), some (.int x10)] rfl ?_
      refine g_iload X rfl dJ17_getChars_100 102 rfl ?_
      refine g_bipush X 100 dJ17_getChars_102 104 rfl kB_100 ?_
      refine g_imul X dJ17_getChars_104 105 rfl ?_
      refine g_iload X rfl dJ17_getChars_105 107 rfl ?_
      refine g_isub X dJ17_getChars_107 108 rfl ?_
      refine g_istore X dJ17_getChars_108 110 rfl (Nat.le_of_ble_eq_true rfl) rfl [none, none, none, some (.ref a0), none, none, some (.int (((x10 / 100) * 100) - x10)), some (.int x7), some (.int x8), some (.int (x10 / 100)), some (.int x10)] rfl ?_
      refine g_iload X rfl dJ17_getChars_110 112 rfl ?_
      refine g_istore X dJ17_getChars_112 114 rfl (Nat.le_of_ble_eq_true rfl) rfl [none, none, none, some (.ref a0), none, none, some (.int (((x10 / 100) * 100) - x10)), some (.int x7), some (.int x8), some (.int (x10 / 100)), some (.int (x10 / 100))] rfl ?_
      refine g_aload_n X rfl dJ17_getChars_114 115 rfl ?_
      refine g_iinc X (-1) rfl dJ17_getChars_115 118 rfl kI_m1 (Nat.le_of_ble_eq_true rfl) rfl [none, none, none, some (.ref a0), none, none, some (.int (((x10 / 100) * 100) - x10)), some (.int (x7 + (-1))), some (.int x8), some (.int (x10 / 100)), some (.int (x10 / 100))] rfl ?_
      refine g_iload X rfl dJ17_getChars_118 120 rfl ?_
      refine g_getsO X q1246 dJ17_getChars_120 123 rfl ?_
      refine g_iload X rfl dJ17_getChars_123 125 rfl ?_
      obtain ⟨hi, h⟩ := gin_e h
      refine g_baldO X hi dJ17_getChars_125 126 rfl ?_
      refine g_topi (fun t1 et1 => ?_)
      replace h := nm_at et1 h
      obtain ⟨hi, h⟩ := gin_e h
      refine g_bast X 0 rfl hi dJ17_getChars_126 127 rfl ?_
      refine g_aload_n X rfl dJ17_getChars_127 128 rfl ?_
      refine g_iinc X (-1) rfl dJ17_getChars_128 131 rfl kI_m1 (Nat.le_of_ble_eq_true rfl) rfl [none, none, none, some (.ref a0), none, none, some (.int (((x10 / 100) * 100) - x10)), some (.int ((x7 + (-1)) + (-1))), some (.int x8), some (.int (x10 / 100)), some (.int (x10 / 100))] rfl ?_
      refine g_iload X rfl dJ17_getChars_131 133 rfl ?_
      refine g_getsT X q1247 dJ17_getChars_133 136 rfl ?_
      refine g_iload X rfl dJ17_getChars_136 138 rfl ?_
      obtain ⟨hi, h⟩ := gin_e h
      refine g_baldT X hi dJ17_getChars_138 139 rfl ?_
      refine g_topi (fun t2 et2 => ?_)
      replace h := nm_at et2 h
      obtain ⟨hi, h⟩ := gin_e h
      refine g_bast X 0 rfl hi dJ17_getChars_139 140 rfl ?_
      refine g_goto X dJ17_getChars_140 86 (by decide) ?_
      refine g_kill (j := 6) [none, none, none, some (.ref a0), none, none, none, some (.int ((x7 + (-1)) + (-1))), some (.int x8), some (.int (x10 / 100)), some (.int (x10 / 100))] rfl ?_
      refine g_kill (j := 9) [none, none, none, some (.ref a0), none, none, none, some (.int ((x7 + (-1)) + (-1))), some (.int x8), none, some (.int (x10 / 100))] rfl ?_
      exact hK86 (upd (upd v_value (x7 + (-1)).toNatClampNeg (vp_nar .byte t1)) ((x7 + (-1)) + (-1)).toNatClampNeg (vp_nar .byte t2)) ((x7 + (-1)) + (-1)) x8 (x10 / 100) h
theorem w_J17_getChars_24 {p : Program} {l : Launch} {e : Env} {s : State} {m : MethodId} {args : Array Value} {below : List Frame} {meth : Method} {c : Code} {Z : gZt} {A : Nat → Prop} (a0 : Nat) (v_cap : Nat) (X : gX p s m args meth c Z A cJ17_getChars "java/lang/Long" 11 (some .int) []) (r : Int32) (r_value : Nat → Int32)  : ∀ (n : Nat) (v_value : Nat → Int32) (x0 : Int64) (x7 : Int32) (x8 : Int32), F_J17_getChars_24 n v_value x0 x7 x8 v_cap = some (r, r_value) → G p l e rm_J17_getChars s m args below meth c Z A 11 (MQ below (gPost Z A (fun _ : Unit => (some (.int r) : Option Value)) (fun _ : Unit => ([(a0, .inl (Z.2 2, v_cap, .inl r_value))] : va_W))) args s 0 0 A) [(a0, .inl (Z.2 2, v_cap, .inl v_value))] 0 0 24 [some (.long x0), none, none, some (.ref a0), none, none, none, some (.int x7), some (.int x8), none, none] [] := by
  intro n
  induction n with
  | zero =>
    intro v_value x0 x7 x8 h
    cases h
  | succ n hK24 =>
    intro v_value x0 x7 x8 h
    replace h : B_J17_getChars_24 (F_J17_getChars_24 n) v_value x0 x7 x8 v_cap = some (r, r_value) := h
    unfold B_J17_getChars_24 at h
    refine g_lload_n X rfl dJ17_getChars_24 25 rfl ?_
    refine g_ldc2 X q1244 dJ17_getChars_25 28 rfl ?_
    refine g_lcmp_gt X dJ17_getChars_28 29 rfl dJ17_getChars_29 82 (by decide) 32 rfl (fun hc => ?_) (fun hc => ?_)
    · replace h := if_t hc h
      refine g_lload_n X rfl dJ17_getChars_82 83 rfl ?_
      refine g_l2i X dJ17_getChars_83 84 rfl ?_
      refine g_istore X dJ17_getChars_84 86 rfl (Nat.le_of_ble_eq_true rfl) rfl [some (.long x0), none, none, some (.ref a0), none, none, none, some (.int x7), some (.int x8), none, some (.int x0.toInt32)] rfl ?_
      refine g_kill (j := 0) [none, none, none, some (.ref a0), none, none, none, some (.int x7), some (.int x8), none, some (.int x0.toInt32)] rfl ?_
      exact w_J17_getChars_86 a0 v_cap X  r r_value    gFU v_value x7 x8 x0.toInt32 h
    · replace h := if_f hc h
      refine g_lload_n X rfl dJ17_getChars_32 33 rfl ?_
      refine g_ldc2 X q1245 dJ17_getChars_33 36 rfl ?_
      refine g_ldiv X (by decide) dJ17_getChars_36 37 rfl ?_
      refine g_lstore X dJ17_getChars_37 39 rfl (Nat.le_of_ble_eq_true rfl) rfl [some (.long x0), none, none, some (.ref a0), some (.long (x0 / 100)), none, none, some (.int x7), some (.int x8), none, none] rfl ?_
      refine g_lload X rfl dJ17_getChars_39 41 rfl ?_
      refine g_ldc2 X q1245 dJ17_getChars_41 44 rfl ?_
      refine g_lmul X dJ17_getChars_44 45 rfl ?_
      refine g_lload_n X rfl dJ17_getChars_45 46 rfl ?_
      refine g_lsub X dJ17_getChars_46 47 rfl ?_
      refine g_l2i X dJ17_getChars_47 48 rfl ?_
      refine g_topi (fun t1 et1 => ?_)
      replace h := nm_at et1 h
      refine g_istore X dJ17_getChars_48 50 rfl (Nat.le_of_ble_eq_true rfl) rfl [some (.long x0), none, none, some (.ref a0), some (.long (x0 / 100)), none, some (.int t1), some (.int x7), some (.int x8), none, none] rfl ?_
      refine g_lload X rfl dJ17_getChars_50 52 rfl ?_
      refine g_lstore_n X dJ17_getChars_52 53 rfl (Nat.le_of_ble_eq_true rfl) rfl [some (.long (x0 / 100)), none, none, some (.ref a0), some (.long (x0 / 100)), none, some (.int t1), some (.int x7), some (.int x8), none, none] rfl ?_
      refine g_aload_n X rfl dJ17_getChars_53 54 rfl ?_
      refine g_iinc X (-1) rfl dJ17_getChars_54 57 rfl kI_m1 (Nat.le_of_ble_eq_true rfl) rfl [some (.long (x0 / 100)), none, none, some (.ref a0), some (.long (x0 / 100)), none, some (.int t1), some (.int (x7 + (-1))), some (.int x8), none, none] rfl ?_
      refine g_iload X rfl dJ17_getChars_57 59 rfl ?_
      refine g_getsO X q1246 dJ17_getChars_59 62 rfl ?_
      refine g_iload X rfl dJ17_getChars_62 64 rfl ?_
      obtain ⟨hi, h⟩ := gin_e h
      refine g_baldO X hi dJ17_getChars_64 65 rfl ?_
      obtain ⟨hi, h⟩ := gin_e h
      refine g_bast X 0 rfl hi dJ17_getChars_65 66 rfl ?_
      refine g_aload_n X rfl dJ17_getChars_66 67 rfl ?_
      refine g_iinc X (-1) rfl dJ17_getChars_67 70 rfl kI_m1 (Nat.le_of_ble_eq_true rfl) rfl [some (.long (x0 / 100)), none, none, some (.ref a0), some (.long (x0 / 100)), none, some (.int t1), some (.int ((x7 + (-1)) + (-1))), some (.int x8), none, none] rfl ?_
      refine g_iload X rfl dJ17_getChars_70 72 rfl ?_
      refine g_getsT X q1247 dJ17_getChars_72 75 rfl ?_
      refine g_iload X rfl dJ17_getChars_75 77 rfl ?_
      obtain ⟨hi, h⟩ := gin_e h
      refine g_baldT X hi dJ17_getChars_77 78 rfl ?_
      obtain ⟨hi, h⟩ := gin_e h
      refine g_bast X 0 rfl hi dJ17_getChars_78 79 rfl ?_
      refine g_goto X dJ17_getChars_79 24 (by decide) ?_
      refine g_kill (j := 4) [some (.long (x0 / 100)), none, none, some (.ref a0), none, none, some (.int t1), some (.int ((x7 + (-1)) + (-1))), some (.int x8), none, none] rfl ?_
      refine g_kill (j := 6) [some (.long (x0 / 100)), none, none, some (.ref a0), none, none, none, some (.int ((x7 + (-1)) + (-1))), some (.int x8), none, none] rfl ?_
      exact hK24 (upd (upd v_value (x7 + (-1)).toNatClampNeg (vp_nar .byte (gDO t1.toNatClampNeg))) ((x7 + (-1)) + (-1)).toNatClampNeg (vp_nar .byte (gDT t1.toNatClampNeg))) (x0 / 100) ((x7 + (-1)) + (-1)) x8 h
theorem met_J17_getChars (l : Launch) (Z : gZt) (a0 : Nat) (v_value : Nat → Int32) (v_cap : Nat) (x0 : Int64) (x2 : Int32) (r : Int32) (r_value : Nat → Int32) (h : F_J17_getChars v_value v_cap x0 x2 = some (r, r_value)) : Ct l yJ17_getChars (ws_ yJ17_getChars cJ17_getChars 11 (some .int)) rm_J17_getChars Z [.long x0, .int x2, .ref a0] [(a0, .inl (Z.2 2, v_cap, .inl v_value))] [] (fun _ : Unit => (some (.int r) : Option Value)) (fun _ : Unit => ([(a0, .inl (Z.2 2, v_cap, .inl r_value))] : va_W)) := by
  refine Ct.of cJ17_getChars 11 (some .int) "java/lang/Long" [some (.long x0), none, some (.int x2), some (.ref a0), none, none, none, none, none, none, none] 7 (by decide) rfl (Nat.le_of_ble_eq_true rfl) rfl (fun p e s m args below meth c A X hin => ?_)
  unfold F_J17_getChars at h
  refine g_iload_n X rfl dJ17_getChars_0 1 rfl ?_
  refine g_istore X dJ17_getChars_1 3 rfl (Nat.le_of_ble_eq_true rfl) rfl [some (.long x0), none, some (.int x2), some (.ref a0), none, none, none, some (.int x2), none, none, none] rfl ?_
  refine g_lload_n X rfl dJ17_getChars_3 4 rfl ?_
  refine g_lconst X 0 dJ17_getChars_4 5 rfl rfl ?_
  refine g_seli 14 [] (b := 0 ≤ x0) 0 1 ?_ (fun hc K => ?_) (fun hc K => ?_)
  · refine g_istore X dJ17_getChars_14 16 rfl (Nat.le_of_ble_eq_true rfl) rfl [some (.long x0), none, some (.int x2), some (.ref a0), none, none, none, some (.int x2), some (.int (if 0 ≤ x0 then (0 : Int32) else 1)), none, none] rfl ?_
    refine g_iload X rfl dJ17_getChars_16 18 rfl ?_
    refine g_if_ne X dJ17_getChars_18 24 (by decide) 21 rfl (fun hc => ?_) (fun hc => ?_)
    · replace h := if_f hc h
      refine g_kill (j := 2) [some (.long x0), none, none, some (.ref a0), none, none, none, some (.int x2), some (.int (if 0 ≤ x0 then (0 : Int32) else 1)), none, none] rfl ?_
      exact w_J17_getChars_24 a0 v_cap X  r r_value    gFU v_value x0 x2 (if 0 ≤ x0 then (0 : Int32) else 1) h
    · replace h := if_t hc h
      refine g_lload_n X rfl dJ17_getChars_21 22 rfl ?_
      refine g_lneg X dJ17_getChars_22 23 rfl ?_
      refine g_lstore_n X dJ17_getChars_23 24 rfl (Nat.le_of_ble_eq_true rfl) rfl [some (.long (-x0)), none, some (.int x2), some (.ref a0), none, none, none, some (.int x2), some (.int (if 0 ≤ x0 then (0 : Int32) else 1)), none, none] rfl ?_
      refine g_kill (j := 2) [some (.long (-x0)), none, none, some (.ref a0), none, none, none, some (.int x2), some (.int (if 0 ≤ x0 then (0 : Int32) else 1)), none, none] rfl ?_
      exact w_J17_getChars_24 a0 v_cap X  r r_value    gFU v_value (-x0) x2 (if 0 ≤ x0 then (0 : Int32) else 1) h
  · refine g_lcmp_ge X dJ17_getChars_5 6 rfl dJ17_getChars_6 13 (by decide) 9 rfl (fun _ => ?_) (fun hn => absurd hc hn)
    refine g_iconst X 0 dJ17_getChars_13 14 rfl kI_0 ?_
    exact K
  · refine g_lcmp_ge X dJ17_getChars_5 6 rfl dJ17_getChars_6 13 (by decide) 9 rfl (fun hn => absurd hn hc) (fun _ => ?_)
    refine g_iconst X 1 dJ17_getChars_9 10 rfl kI_1 ?_
    refine g_goto X dJ17_getChars_10 14 (by decide) ?_
    exact K
/-! jdk/internal/util/ArraysSupport.newLength(III)I -/
abbrev rm_J14_newLength : Room := { frames := 1, cells := 0, slots := 0, locals := 30 }
def F_J14_newLength (x0 : Int32) (x1 : Int32) (x2 : Int32) : Option (Int32) :=
  nm (x0 + (if x1 < x2 then x2 else x1)) fun t1 =>
  if t1 ≤ (0 : Int32) then
    (none)
  else
    (if 2147483639 < t1 then
      (none)
    else
      (some t1))
theorem met_J14_newLength (l : Launch) (Z : gZt) (x0 : Int32) (x1 : Int32) (x2 : Int32) (r : Int32) (h : F_J14_newLength x0 x1 x2 = some r) : Ct l yJ14_newLength (ws_ yJ14_newLength cJ14_newLength 4 (some .int)) rm_J14_newLength Z [.int x0, .int x1, .int x2] [] [] (fun _ : Unit => (some (.int r) : Option Value)) (fun _ : Unit => ([] : va_W)) := by
  refine Ct.of cJ14_newLength 4 (some .int) "jdk/internal/util/ArraysSupport" [some (.int x0), some (.int x1), some (.int x2), none] 1 (by decide) rfl (Nat.le_of_ble_eq_true rfl) rfl (fun p e s m args below meth c A X hin => ?_)
  unfold F_J14_newLength at h
  refine g_iload_n X rfl dJ14_newLength_0 1 rfl ?_
  refine g_iload_n X rfl dJ14_newLength_1 2 rfl ?_
  refine g_iload_n X rfl dJ14_newLength_2 3 rfl ?_
  refine g_mmax X q543 q544 q86 q545 dJ14_newLength_3 6 rfl (Nat.le_of_ble_eq_true rfl) (Nat.le_of_ble_eq_true rfl) (Nat.le_of_ble_eq_true rfl) (Nat.le_of_ble_eq_true rfl) ?_
  refine g_iadd X dJ14_newLength_6 7 rfl ?_
  refine g_topi (fun t1 et1 => ?_)
  replace h := nm_at et1 h
  refine g_istore_n X dJ14_newLength_7 8 rfl (Nat.le_of_ble_eq_true rfl) rfl [some (.int x0), some (.int x1), some (.int x2), some (.int t1)] rfl ?_
  refine g_iconst X 0 dJ14_newLength_8 9 rfl kI_0 ?_
  refine g_iload_n X rfl dJ14_newLength_9 10 rfl ?_
  refine g_icmp_ge X dJ14_newLength_10 21 (by decide) 13 rfl (fun hc => ?_) (fun hc => ?_)
  · replace h := if_t hc h
    cases h
  · replace h := if_f hc h
    refine g_iload_n X rfl dJ14_newLength_13 14 rfl ?_
    refine g_ldc X q546 dJ14_newLength_14 16 rfl ?_
    refine g_icmp_gt X dJ14_newLength_16 21 (by decide) 19 rfl (fun hc => ?_) (fun hc => ?_)
    · replace h := if_t hc h
      cases h
    · replace h := if_f hc h
      refine g_iload_n X rfl dJ14_newLength_19 20 rfl ?_
      cases h
      exact g_iret X dJ14_newLength_20 () rfl rfl (Nat.le_of_ble_eq_true rfl) (Nat.le_of_ble_eq_true rfl)
/-! java/lang/AbstractStringBuilder.newCapacity(I)I -/
abbrev rm_J10_newCapacity : Room := { frames := 2, cells := 0, slots := 0, locals := 53 }
def F_J10_newCapacity (v_cap : Nat) (x1 : Int32) : Option (Int32) :=
  nm ((x1 <<< (0 &&& 31)) - (Int32.ofNat v_cap)) fun t1 =>
  bd1 (F_J14_newLength (Int32.ofNat v_cap) t1 ((Int32.ofNat v_cap) + ((2 : Int32) <<< (0 &&& 31)))) fun r2 =>
  if r2 = 2147483647 then
    (none)
  else
    (some (r2 >>> (0 &&& 31)))
theorem met_J10_newCapacity (l : Launch) (Z : gZt) (a0 : Nat) (a1 : Nat) (v_ml : Int32) (v_count : Int32) (v_value : Nat → Int32) (v_cap : Nat) (x1 : Int32) (r : Int32) (h : F_J10_newCapacity v_cap x1 = some r) : Ct l yJ10_newCapacity (ws_ yJ10_newCapacity cJ10_newCapacity 6 (some .int)) rm_J10_newCapacity Z [.ref a0, .int x1] [] [(a0, .inr (9, [.ref a1, .int 0, .int v_ml, .int v_count])), (a1, .inl (Z.2 2, v_cap, .inl v_value))] (fun _ : Unit => (some (.int r) : Option Value)) (fun _ : Unit => ([] : va_W)) := by
  refine Ct.of cJ10_newCapacity 6 (some .int) "java/lang/AbstractStringBuilder" [some (.ref a0), some (.int x1), none, none, none, none] 4 (by decide) rfl (Nat.le_of_ble_eq_true rfl) rfl (fun p e s m args below meth c A X hin => ?_)
  unfold F_J10_newCapacity at h
  refine g_aload_n X rfl dJ10_newCapacity_0 1 rfl ?_
  refine g_getR X gC9 0 rfl 0 (by decide) q512 (fun _ h9 => h9) rfl dJ10_newCapacity_1 4 rfl ?_
  refine g_alen2R X 1 rfl (Int32.ofNat v_cap) rfl dJ10_newCapacity_4 5 rfl ?_
  refine g_istore_n X dJ10_newCapacity_5 6 rfl (Nat.le_of_ble_eq_true rfl) rfl [some (.ref a0), some (.int x1), some (.int (Int32.ofNat v_cap)), none, none, none] rfl ?_
  refine g_iload_n X rfl dJ10_newCapacity_6 7 rfl ?_
  refine g_aload_n X rfl dJ10_newCapacity_7 8 rfl ?_
  refine g_getR X gC9 0 rfl 1 (by decide) q513 (fun _ h9 => h9) rfl dJ10_newCapacity_8 11 rfl ?_
  refine g_ishl X dJ10_newCapacity_11 12 rfl ?_
  refine g_istore_n X dJ10_newCapacity_12 13 rfl (Nat.le_of_ble_eq_true rfl) rfl [some (.ref a0), some (.int x1), some (.int (Int32.ofNat v_cap)), some (.int (x1 <<< (0 &&& 31))), none, none] rfl ?_
  refine g_iload_n X rfl dJ10_newCapacity_13 14 rfl ?_
  refine g_iload_n X rfl dJ10_newCapacity_14 15 rfl ?_
  refine g_isub X dJ10_newCapacity_15 16 rfl ?_
  refine g_topi (fun t1 et1 => ?_)
  replace h := nm_at et1 h
  refine g_istore X dJ10_newCapacity_16 18 rfl (Nat.le_of_ble_eq_true rfl) rfl [some (.ref a0), some (.int x1), some (.int (Int32.ofNat v_cap)), some (.int (x1 <<< (0 &&& 31))), some (.int t1), none] rfl ?_
  refine g_iload_n X rfl dJ10_newCapacity_18 19 rfl ?_
  refine g_iload X rfl dJ10_newCapacity_19 21 rfl ?_
  refine g_iload_n X rfl dJ10_newCapacity_21 22 rfl ?_
  refine g_iconst X 2 dJ10_newCapacity_22 23 rfl kI_2 ?_
  refine g_aload_n X rfl dJ10_newCapacity_23 24 rfl ?_
  refine g_getR X gC9 0 rfl 1 (by decide) q513 (fun _ h9 => h9) rfl dJ10_newCapacity_24 27 rfl ?_
  refine g_ishl X dJ10_newCapacity_27 28 rfl ?_
  refine g_iadd X dJ10_newCapacity_28 29 rfl ?_
  obtain ⟨r2, hcl, h⟩ := bd1_e h
  refine g_callS1Z X (met_J14_newLength l Z   (Int32.ofNat v_cap) t1 ((Int32.ofNat v_cap) + ((2 : Int32) <<< (0 &&& 31))) r2 hcl) (lw_S q540 q541 q92 q542) md_J14_newLength ⟨(Nat.le_of_ble_eq_true rfl), (Nat.le_of_ble_eq_true rfl)⟩ rfl dJ10_newCapacity_29 32 rfl 0 0 rfl rfl (Nat.le_of_ble_eq_true rfl) (Nat.le_of_ble_eq_true rfl) (st := []) rfl (Nat.le_of_ble_eq_true rfl) (fun _ => rfl) (fun _ => ?_)
  refine g_istore X dJ10_newCapacity_32 34 rfl (Nat.le_of_ble_eq_true rfl) rfl [some (.ref a0), some (.int x1), some (.int (Int32.ofNat v_cap)), some (.int (x1 <<< (0 &&& 31))), some (.int t1), some (.int r2)] rfl ?_
  refine g_iload X rfl dJ10_newCapacity_34 36 rfl ?_
  refine g_ldc X q550 dJ10_newCapacity_36 38 rfl ?_
  refine g_icmp_ne X dJ10_newCapacity_38 51 (by decide) 41 rfl (fun hc => ?_) (fun hc => ?_)
  · replace h := if_f hc h
    refine g_iload X rfl dJ10_newCapacity_51 53 rfl ?_
    refine g_aload_n X rfl dJ10_newCapacity_53 54 rfl ?_
    refine g_getR X gC9 0 rfl 1 (by decide) q513 (fun _ h9 => h9) rfl dJ10_newCapacity_54 57 rfl ?_
    refine g_ishr X dJ10_newCapacity_57 58 rfl ?_
    cases h
    exact g_iret X dJ10_newCapacity_58 () rfl rfl (Nat.le_of_ble_eq_true rfl) (Nat.le_of_ble_eq_true rfl)
  · replace h := if_t hc h
    cases h
/-! java/util/Arrays.copyOf([BI)[B -/
abbrev rm_J8_copyOf (rc rs : Nat) : Room := { frames := 1, cells := rc, slots := rs, locals := 60 }
def F_J8_copyOf (v_value : Nat → Int32) (v_cap : Nat) (x1 : Int32) (rc : Nat) (rs : Nat) : Option ((Nat → Int32) × Nat) :=
  if x1 = (Int32.ofNat v_cap) then
    (none)
  else
    (gch (¬ (x1 < 0) ∧ x1.toNatClampNeg ≤ 65536 ∧ 0 + 1 ≤ rc ∧ 0 + x1.toNatClampNeg ≤ rs) <|
    gcp 0 0 (if x1 < (Int32.ofNat v_cap) then x1 else (Int32.ofNat v_cap)) v_cap x1.toNatClampNeg <|
    gch (gFA v_value (Int32.toNatClampNeg 0) (if x1 < (Int32.ofNat v_cap) then x1 else (Int32.ofNat v_cap)).toNatClampNeg) <|
    some (va_cpy v_value (fun _ => 0) (Int32.toNatClampNeg 0) (Int32.toNatClampNeg 0) (if x1 < (Int32.ofNat v_cap) then x1 else (Int32.ofNat v_cap)).toNatClampNeg, x1.toNatClampNeg))
theorem met_J8_copyOf (l : Launch) (Z : gZt) (a0 : Nat) (v_value : Nat → Int32) (v_cap : Nat) (x1 : Int32) (rc rs : Nat) (o0 : Nat → Int32) (o0_N : Nat) (h : F_J8_copyOf v_value v_cap x1 rc rs = some (o0, o0_N)) : Ct l yJ8_copyOf (ws_ yJ8_copyOf cJ8_copyOf 3 (some (.array .byte))) (rm_J8_copyOf rc rs) Z [.ref a0, .int x1] [(a0, .inl (Z.2 2, v_cap, .inl v_value))] [] (fun b0 : Nat => (some (.ref b0) : Option Value)) (fun b0 : Nat => ([(a0, .inl (Z.2 2, v_cap, .inl v_value)), (b0, .inl (Z.2 2, o0_N, .inl o0))] : va_W)) := by
  refine Ct.of cJ8_copyOf 3 (some (.array .byte)) "java/util/Arrays" [some (.ref a0), some (.int x1), none] 1 (by decide) rfl (Nat.le_of_ble_eq_true rfl) rfl (fun p e s m args below meth c A X hin => ?_)
  unfold F_J8_copyOf at h
  refine g_iload_n X rfl dJ8_copyOf_0 1 rfl ?_
  refine g_aload_n X rfl dJ8_copyOf_1 2 rfl ?_
  refine g_alen2 X 0 rfl (Int32.ofNat v_cap) rfl dJ8_copyOf_2 3 rfl ?_
  refine g_icmp_ne X dJ8_copyOf_3 14 (by decide) 6 rfl (fun hc => ?_) (fun hc => ?_)
  · replace h := if_f hc h
    refine g_iload_n X rfl dJ8_copyOf_14 15 rfl ?_
    obtain ⟨hna, h⟩ := gch_e h
    refine g_newa2 X q240 x1.toNatClampNeg hna.1 rfl (by have := hna.2.1; omega) dJ8_copyOf_15 17 rfl (0 + 1) (0 + x1.toNatClampNeg) rfl rfl hna.2.2.1 hna.2.2.2 (fun b1 => ?_)
    refine g_astore_n X dJ8_copyOf_17 18 rfl (Nat.le_of_ble_eq_true rfl) rfl [some (.ref a0), some (.int x1), some (.ref b1)] rfl ?_
    refine g_aload_n X rfl dJ8_copyOf_18 19 rfl ?_
    refine g_iconst X 0 dJ8_copyOf_19 20 rfl kI_0 ?_
    refine g_aload_n X rfl dJ8_copyOf_20 21 rfl ?_
    refine g_iconst X 0 dJ8_copyOf_21 22 rfl kI_0 ?_
    refine g_aload_n X rfl dJ8_copyOf_22 23 rfl ?_
    refine g_alen2 X 0 rfl (Int32.ofNat v_cap) rfl dJ8_copyOf_23 24 rfl ?_
    refine g_iload_n X rfl dJ8_copyOf_24 25 rfl ?_
    refine g_mmin X q561 q562 q86 q563 dJ8_copyOf_25 28 rfl (Nat.le_of_ble_eq_true rfl) (Nat.le_of_ble_eq_true rfl) (show 0 + 1 ≤ rc by omega) (show 0 + x1.toNatClampNeg ≤ rs by omega) ?_
    obtain ⟨hcp, h⟩ := gcp_e h
    obtain ⟨hfa, h⟩ := gch_e h
    refine g_copyb X q564 0 1 rfl rfl hcp hfa dJ8_copyOf_28 31 rfl (Nat.le_of_ble_eq_true rfl) (Nat.le_of_ble_eq_true rfl) ?_
    refine g_aload_n X rfl dJ8_copyOf_31 32 rfl ?_
    cases h
    exact g_aret X dJ8_copyOf_32 (Or.inr ⟨_, rfl⟩) b1 rfl rfl (show 0 + 1 ≤ rc by omega) (show 0 + x1.toNatClampNeg ≤ rs by omega)
  · replace h := if_t hc h
    cases h
/-! java/lang/AbstractStringBuilder.ensureCapacityInternal(I)V -/
abbrev rm_J10_ensureCapacityInternal (rc rs : Nat) : Room := { frames := 3, cells := rc, slots := rs, locals := 82 }
def F_J10_ensureCapacityInternal (v_value : Nat → Int32) (v_cap : Nat) (x1 : Int32) (rc : Nat) (rs : Nat) : Option ((Nat → Int32) × Nat) :=
  nm ((Int32.ofNat v_cap) >>> (0 &&& 31)) fun t1 =>
  if (x1 - t1) ≤ 0 then
    (some (v_value, v_cap))
  else
    (bd1 (F_J10_newCapacity v_cap x1) fun r2 =>
    bd2 (F_J8_copyOf v_value v_cap (r2 <<< (0 &&& 31)) rc rs) fun w3_o0 w4_o0_N =>
    some (w3_o0, w4_o0_N))
theorem met_J10_ensureCapacityInternal (l : Launch) (Z : gZt) (a0 : Nat) (a1 : Nat) (v_ml : Int32) (v_count : Int32) (v_value : Nat → Int32) (v_cap : Nat) (x1 : Int32) (rc rs : Nat) (o0 : Nat → Int32) (o0_N : Nat) (h : F_J10_ensureCapacityInternal v_value v_cap x1 rc rs = some (o0, o0_N)) : Ct l yJ10_ensureCapacityInternal (ws_ yJ10_ensureCapacityInternal cJ10_ensureCapacityInternal 3 none) (rm_J10_ensureCapacityInternal rc rs) Z [.ref a0, .int x1] [(a0, .inr (9, [.ref a1, .int 0, .int v_ml, .int v_count])), (a1, .inl (Z.2 2, v_cap, .inl v_value))] [] (fun b0 : Nat => (none : Option Value)) (fun b0 : Nat => ([(a0, .inr (9, [.ref b0, .int 0, .int v_ml, .int v_count])), (b0, .inl (Z.2 2, o0_N, .inl o0))] : va_W)) := by
  refine Ct.of cJ10_ensureCapacityInternal 3 none "java/lang/AbstractStringBuilder" [some (.ref a0), some (.int x1), none] 1 (by decide) rfl (Nat.le_of_ble_eq_true rfl) rfl (fun p e s m args below meth c A X hin => ?_)
  unfold F_J10_ensureCapacityInternal at h
  refine g_aload_n X rfl dJ10_ensureCapacityInternal_0 1 rfl ?_
  refine g_get X gC9 0 rfl 0 (by decide) q512 (fun _ h9 => h9) rfl dJ10_ensureCapacityInternal_1 4 rfl ?_
  refine g_alen2 X 1 rfl (Int32.ofNat v_cap) rfl dJ10_ensureCapacityInternal_4 5 rfl ?_
  refine g_aload_n X rfl dJ10_ensureCapacityInternal_5 6 rfl ?_
  refine g_get X gC9 0 rfl 1 (by decide) q513 (fun _ h9 => h9) rfl dJ10_ensureCapacityInternal_6 9 rfl ?_
  refine g_ishr X dJ10_ensureCapacityInternal_9 10 rfl ?_
  refine g_topi (fun t1 et1 => ?_)
  replace h := nm_at et1 h
  refine g_istore_n X dJ10_ensureCapacityInternal_10 11 rfl (Nat.le_of_ble_eq_true rfl) rfl [some (.ref a0), some (.int x1), some (.int t1)] rfl ?_
  refine g_iload_n X rfl dJ10_ensureCapacityInternal_11 12 rfl ?_
  refine g_iload_n X rfl dJ10_ensureCapacityInternal_12 13 rfl ?_
  refine g_isub X dJ10_ensureCapacityInternal_13 14 rfl ?_
  refine g_if_le X dJ10_ensureCapacityInternal_14 38 (by decide) 17 rfl (fun hc => ?_) (fun hc => ?_)
  · replace h := if_t hc h
    cases h
    exact g_vret X dJ10_ensureCapacityInternal_38 a1 rfl rfl (Nat.le_of_ble_eq_true rfl) (Nat.le_of_ble_eq_true rfl)
  · replace h := if_f hc h
    refine g_aload_n X rfl dJ10_ensureCapacityInternal_17 18 rfl ?_
    refine g_aload_n X rfl dJ10_ensureCapacityInternal_18 19 rfl ?_
    refine g_get X gC9 0 rfl 0 (by decide) q512 (fun _ h9 => h9) rfl dJ10_ensureCapacityInternal_19 22 rfl ?_
    refine g_aload_n X rfl dJ10_ensureCapacityInternal_22 23 rfl ?_
    refine g_iload_n X rfl dJ10_ensureCapacityInternal_23 24 rfl ?_
    obtain ⟨r2, hcl, h⟩ := bd1_e h
    refine g_callU1 X (met_J10_newCapacity l Z a0 a1 v_ml v_count v_value v_cap x1 r2 hcl) [] [0, 1] [0, 1] (wr := [(a0, .inr (9, [.ref a1, .int 0, .int v_ml, .int v_count])), (a1, .inl (Z.2 2, v_cap, .inl v_value))]) ⟨rfl, rfl, rfl, rfl, rfl, by decide, by decide⟩ 0 gC9 rfl q536 q1785 (Or.inl (List.mem_of_getElem? (i := 1) rfl)) q538 q87 q539 q538 q539 (by decide) md_J10_newCapacity ⟨(Nat.le_of_ble_eq_true rfl), (Nat.le_of_ble_eq_true rfl)⟩ rfl dJ10_ensureCapacityInternal_24 27 rfl 0 0 rfl rfl (Nat.le_of_ble_eq_true rfl) (Nat.le_of_ble_eq_true rfl) (st := [.ref a1, .ref a0]) rfl (Nat.le_of_ble_eq_true rfl) (fun _ => rfl) (fun _ => ?_)
    refine g_aload_n X rfl dJ10_ensureCapacityInternal_27 28 rfl ?_
    refine g_get X gC9 0 rfl 1 (by decide) q513 (fun _ h9 => h9) rfl dJ10_ensureCapacityInternal_28 31 rfl ?_
    refine g_ishl X dJ10_ensureCapacityInternal_31 32 rfl ?_
    obtain ⟨w3_o0, w4_o0_N, hcl, h⟩ := bd2_e h
    refine g_callS1 X (met_J8_copyOf l Z a1 v_value v_cap (r2 <<< (0 &&& 31)) rc rs w3_o0 w4_o0_N hcl) [1] [0] [] (wr := [(a0, .inr (9, [.ref a1, .int 0, .int v_ml, .int v_count]))]) ⟨rfl, rfl, rfl, rfl, rfl, by decide, by decide⟩ (lw_S q551 q552 q84 q553) md_J8_copyOf ⟨(Nat.le_of_ble_eq_true rfl), (Nat.le_of_ble_eq_true rfl)⟩ rfl dJ10_ensureCapacityInternal_32 35 rfl (0 + rc) (0 + rs) rfl rfl (show 0 + rc ≤ rc by omega) (show 0 + rs ≤ rs by omega) (st := [.ref a0]) rfl (Nat.le_of_ble_eq_true rfl) (fun _ => rfl) (fun b5 => ?_)
    refine g_put X gC9 0 rfl 0 (by decide) q512 (fun _ h9 => h9) rfl rfl rfl (Nat.le_of_ble_eq_true rfl) dJ10_ensureCapacityInternal_35 38 rfl ?_
    refine g_wd [(a0, .inr (9, [.ref b5, .int 0, .int v_ml, .int v_count])), (a1, .inl (Z.2 2, v_cap, .inl v_value)), (b5, .inl (Z.2 2, w4_o0_N, .inl w3_o0))] rfl ?_
    refine g_keep [0, 2] [(a0, .inr (9, [.ref b5, .int 0, .int v_ml, .int v_count])), (b5, .inl (Z.2 2, w4_o0_N, .inl w3_o0))] rfl rfl ?_
    cases h
    exact g_vret X dJ10_ensureCapacityInternal_38 b5 rfl rfl (show 0 + rc ≤ rc by omega) (show 0 + rs ≤ rs by omega)
/-! java/lang/AbstractStringBuilder.isLatin1()Z -/
abbrev rm_J10_isLatin1 : Room := { frames := 0, cells := 0, slots := 0, locals := 0 }
def F_J10_isLatin1 : Option (Int32) :=
  some 1
theorem met_J10_isLatin1 (l : Launch) (Z : gZt) (a0 : Nat) (a1 : Nat) (v_ml : Int32) (v_count : Int32) (v_value : Nat → Int32) (v_cap : Nat) (r : Int32) (h : F_J10_isLatin1 = some r) : Ct l yJ10_isLatin1 (ws_ yJ10_isLatin1 cJ10_isLatin1 1 (some .boolean)) rm_J10_isLatin1 Z [.ref a0] [] [(a0, .inr (9, [.ref a1, .int 0, .int v_ml, .int v_count])), (a1, .inl (Z.2 2, v_cap, .inl v_value))] (fun _ : Unit => (some (.int r) : Option Value)) (fun _ : Unit => ([] : va_W)) := by
  refine Ct.of cJ10_isLatin1 1 (some .boolean) "java/lang/AbstractStringBuilder" [some (.ref a0)] 0 (by decide) rfl (Nat.le_of_ble_eq_true rfl) rfl (fun p e s m args below meth c A X hin => ?_)
  unfold F_J10_isLatin1 at h
  refine g_getsC X q503 dJ10_isLatin1_0 3 rfl ?_
  refine g_if_eq X dJ10_isLatin1_3 17 (by decide) 6 rfl (fun h9 => absurd h9 (by decide)) (fun _ => ?_)
  refine g_aload_n X rfl dJ10_isLatin1_6 7 rfl ?_
  refine g_getR X gC9 0 rfl 1 (by decide) q513 (fun _ h9 => h9) rfl dJ10_isLatin1_7 10 rfl ?_
  refine g_if_ne X dJ10_isLatin1_10 17 (by decide) 13 rfl (fun h9 => absurd h9 (by decide)) (fun _ => ?_)
  refine g_iconst X 1 dJ10_isLatin1_13 14 rfl kI_1 ?_
  refine g_goto X dJ10_isLatin1_14 18 (by decide) ?_
  cases h
  exact g_zret X dJ10_isLatin1_18 (by decide) () rfl rfl (Nat.le_of_ble_eq_true rfl) (Nat.le_of_ble_eq_true rfl)
/-! java/lang/StringLatin1.canEncode(C)Z -/
abbrev rm_J16_canEncode : Room := { frames := 0, cells := 0, slots := 0, locals := 0 }
def F_J16_canEncode (x0 : Int32) : Option (Int32) :=
  some (if 255 < x0 then (0 : Int32) else 1)
theorem met_J16_canEncode (l : Launch) (Z : gZt) (x0 : Int32) (r : Int32) (h : F_J16_canEncode x0 = some r) : Ct l yJ16_canEncode (ws_ yJ16_canEncode cJ16_canEncode 1 (some .boolean)) rm_J16_canEncode Z [.int x0] [] [] (fun _ : Unit => (some (.int r) : Option Value)) (fun _ : Unit => ([] : va_W)) := by
  refine Ct.of cJ16_canEncode 1 (some .boolean) "java/lang/StringLatin1" [some (.int x0)] 0 (by decide) rfl (Nat.le_of_ble_eq_true rfl) rfl (fun p e s m args below meth c A X hin => ?_)
  unfold F_J16_canEncode at h
  refine g_iload_n X rfl dJ16_canEncode_0 1 rfl ?_
  refine g_sipush X 255 dJ16_canEncode_1 4 rfl kS_255 ?_
  refine g_seli 12 [] (b := 255 < x0) 0 1 ?_ (fun hc K => ?_) (fun hc K => ?_)
  · cases h
    exact g_zret X dJ16_canEncode_12 (gb_if gb_0 gb_1) () rfl rfl (Nat.le_of_ble_eq_true rfl) (Nat.le_of_ble_eq_true rfl)
  · refine g_icmp_gt X dJ16_canEncode_4 11 (by decide) 7 rfl (fun _ => ?_) (fun hn => absurd hc hn)
    refine g_iconst X 0 dJ16_canEncode_11 12 rfl kI_0 ?_
    exact K
  · refine g_icmp_gt X dJ16_canEncode_4 11 (by decide) 7 rfl (fun hn => absurd hn hc) (fun _ => ?_)
    refine g_iconst X 1 dJ16_canEncode_7 8 rfl kI_1 ?_
    refine g_goto X dJ16_canEncode_8 12 (by decide) ?_
    exact K
/-! java/lang/AbstractStringBuilder.append(C)Ljava/lang/AbstractStringBuilder; -/
abbrev rm_J10_append (rc rs : Nat) : Room := { frames := 4, cells := rc, slots := rs, locals := 104 }
def F_J10_append (v_count : Int32) (v_value : Nat → Int32) (v_cap : Nat) (x1 : Int32) (rc : Nat) (rs : Nat) : Option (Int32 × (Nat → Int32) × Nat) :=
  bd2 (F_J10_ensureCapacityInternal v_value v_cap (v_count + 1) rc rs) fun w1_o0 w2_o0_N =>
  bd1 (F_J16_canEncode x1) fun r5 =>
  if r5 = 0 then
    (none)
  else
    (gin v_count w2_o0_N <|
    some (v_count + 1, upd w1_o0 v_count.toNatClampNeg (vp_nar .byte x1.toInt8.toInt32), w2_o0_N))
theorem met_J10_append (l : Launch) (Z : gZt) (a0 : Nat) (a1 : Nat) (v_ml : Int32) (v_count : Int32) (v_value : Nat → Int32) (v_cap : Nat) (x1 : Int32) (rc rs : Nat) (r_count : Int32) (o0 : Nat → Int32) (o0_N : Nat) (h : F_J10_append v_count v_value v_cap x1 rc rs = some (r_count, o0, o0_N)) : Ct l yJ10_append (ws_ yJ10_append cJ10_append 2 (some (.object "java/lang/AbstractStringBuilder"))) (rm_J10_append rc rs) Z [.ref a0, .int x1] [(a0, .inr (9, [.ref a1, .int 0, .int v_ml, .int v_count])), (a1, .inl (Z.2 2, v_cap, .inl v_value))] [] (fun b0 : Nat => (some (.ref a0) : Option Value)) (fun b0 : Nat => ([(a0, .inr (9, [.ref b0, .int 0, .int v_ml, .int r_count])), (b0, .inl (Z.2 2, o0_N, .inl o0))] : va_W)) := by
  refine Ct.of cJ10_append 2 (some (.object "java/lang/AbstractStringBuilder")) "java/lang/AbstractStringBuilder" [some (.ref a0), some (.int x1)] 0 (by decide) rfl (Nat.le_of_ble_eq_true rfl) rfl (fun p e s m args below meth c A X hin => ?_)
  unfold F_J10_append at h
  refine g_aload_n X rfl dJ10_append_0 1 rfl ?_
  refine g_aload_n X rfl dJ10_append_1 2 rfl ?_
  refine g_get X gC9 0 rfl 3 (by decide) q515 (fun _ h9 => h9) rfl dJ10_append_2 5 rfl ?_
  refine g_iconst X 1 dJ10_append_5 6 rfl kI_1 ?_
  refine g_iadd X dJ10_append_6 7 rfl ?_
  obtain ⟨w1_o0, w2_o0_N, hcl, h⟩ := bd2_e h
  refine g_callU0 X (met_J10_ensureCapacityInternal l Z a0 a1 v_ml v_count v_value v_cap (v_count + 1) rc rs w1_o0 w2_o0_N hcl) [0, 1] [] [] (wr := []) ⟨rfl, rfl, rfl, rfl, rfl, by decide, by decide⟩ 0 gC9 rfl q532 q1784 (Or.inl (List.mem_of_getElem? (i := 0) rfl)) q534 q87 q535 q534 q535 (by decide) md_J10_ensureCapacityInternal ⟨(Nat.le_of_ble_eq_true rfl), (Nat.le_of_ble_eq_true rfl)⟩ rfl dJ10_append_7 10 rfl (0 + rc) (0 + rs) rfl rfl (show 0 + rc ≤ rc by omega) (show 0 + rs ≤ rs by omega) (st := []) rfl (Nat.le_of_ble_eq_true rfl) (fun _ => rfl) (fun b3 => ?_)
  refine g_aload_n X rfl dJ10_append_10 11 rfl ?_
  refine g_callU1 X (met_J10_isLatin1 l Z a0 b3 v_ml v_count w1_o0 w2_o0_N  1 rfl) [] [0, 1] [0, 1] (wr := [(a0, .inr (9, [.ref b3, .int 0, .int v_ml, .int v_count])), (b3, .inl (Z.2 2, w2_o0_N, .inl w1_o0))]) ⟨rfl, rfl, rfl, rfl, rfl, by decide, by decide⟩ 0 gC9 rfl q565 q567 (Or.inr q568) q566 q87 q569 q566 q569 (by decide) md_J10_isLatin1 ⟨(Nat.le_of_ble_eq_true rfl), (Nat.le_of_ble_eq_true rfl)⟩ rfl dJ10_append_11 14 rfl (0 + rc + 0) (0 + rs + 0) rfl rfl (show 0 + rc + 0 ≤ rc by omega) (show 0 + rs + 0 ≤ rs by omega) (st := []) rfl (Nat.le_of_ble_eq_true rfl) (fun _ => rfl) (fun _ => ?_)
  refine g_if_eq X dJ10_append_14 45 (by decide) 17 rfl (fun h9 => absurd h9 (by decide)) (fun _ => ?_)
  refine g_iload_n X rfl dJ10_append_17 18 rfl ?_
  obtain ⟨r5, hcl, h⟩ := bd1_e h
  refine g_callS1Z X (met_J16_canEncode l Z   x1 r5 hcl) (lw_S q570 q571 q94 q572) md_J16_canEncode ⟨(Nat.le_of_ble_eq_true rfl), (Nat.le_of_ble_eq_true rfl)⟩ rfl dJ10_append_18 21 rfl (0 + rc + 0 + 0) (0 + rs + 0 + 0) rfl rfl (show 0 + rc + 0 + 0 ≤ rc by omega) (show 0 + rs + 0 + 0 ≤ rs by omega) (st := []) rfl (Nat.le_of_ble_eq_true rfl) (fun _ => rfl) (fun _ => ?_)
  refine g_if_eq X dJ10_append_21 45 (by decide) 24 rfl (fun hc => ?_) (fun hc => ?_)
  · replace h := if_t hc h
    cases h
  · replace h := if_f hc h
    refine g_aload_n X rfl dJ10_append_24 25 rfl ?_
    refine g_get X gC9 0 rfl 0 (by decide) q512 (fun _ h9 => h9) rfl dJ10_append_25 28 rfl ?_
    refine g_aload_n X rfl dJ10_append_28 29 rfl ?_
    refine g_dup X dJ10_append_29 30 rfl rfl ?_
    refine g_get X gC9 0 rfl 3 (by decide) q515 (fun _ h9 => h9) rfl dJ10_append_30 33 rfl ?_
    refine g_dupx1 X dJ10_append_33 34 rfl rfl rfl ?_
    refine g_iconst X 1 dJ10_append_34 35 rfl kI_1 ?_
    refine g_iadd X dJ10_append_35 36 rfl ?_
    refine g_put X gC9 0 rfl 3 (by decide) q515 (fun _ h9 => h9) rfl rfl rfl (Nat.le_of_ble_eq_true rfl) dJ10_append_36 39 rfl ?_
    refine g_wd [(a0, .inr (9, [.ref b3, .int 0, .int v_ml, .int (v_count + 1)])), (b3, .inl (Z.2 2, w2_o0_N, .inl w1_o0))] rfl ?_
    refine g_iload_n X rfl dJ10_append_39 40 rfl ?_
    refine g_i2b X dJ10_append_40 41 rfl ?_
    obtain ⟨hi, h⟩ := gin_e h
    refine g_bast X 1 rfl hi dJ10_append_41 42 rfl ?_
    refine g_goto X dJ10_append_42 75 (by decide) ?_
    refine g_aload_n X rfl dJ10_append_75 76 rfl ?_
    cases h
    exact g_aret X dJ10_append_76 (Or.inl ⟨_, rfl⟩) b3 rfl rfl (show 0 + rc + 0 + 0 ≤ rc by omega) (show 0 + rs + 0 + 0 ≤ rs by omega)
/-! java/lang/StringBuilder.append(C)Ljava/lang/StringBuilder; -/
abbrev rm_J11_append (rc rs : Nat) : Room := { frames := 5, cells := rc, slots := rs, locals := 125 }
def F_J11_append (v_count : Int32) (v_value : Nat → Int32) (v_cap : Nat) (x1 : Int32) (rc : Nat) (rs : Nat) : Option (Int32 × (Nat → Int32) × Nat) :=
  bd3 (F_J10_append v_count v_value v_cap x1 rc rs) fun w1_count w2_o0 w3_o0_N =>
  some (w1_count, w2_o0, w3_o0_N)
theorem met_J11_append (l : Launch) (Z : gZt) (a0 : Nat) (a1 : Nat) (v_ml : Int32) (v_count : Int32) (v_value : Nat → Int32) (v_cap : Nat) (x1 : Int32) (rc rs : Nat) (r_count : Int32) (o0 : Nat → Int32) (o0_N : Nat) (h : F_J11_append v_count v_value v_cap x1 rc rs = some (r_count, o0, o0_N)) : Ct l yJ11_append (ws_ yJ11_append cJ11_append 2 (some (.object "java/lang/StringBuilder"))) (rm_J11_append rc rs) Z [.ref a0, .int x1] [(a0, .inr (9, [.ref a1, .int 0, .int v_ml, .int v_count])), (a1, .inl (Z.2 2, v_cap, .inl v_value))] [] (fun b0 : Nat => (some (.ref a0) : Option Value)) (fun b0 : Nat => ([(a0, .inr (9, [.ref b0, .int 0, .int v_ml, .int r_count])), (b0, .inl (Z.2 2, o0_N, .inl o0))] : va_W)) := by
  refine Ct.of cJ11_append 2 (some (.object "java/lang/StringBuilder")) "java/lang/StringBuilder" [some (.ref a0), some (.int x1)] 0 (by decide) rfl (Nat.le_of_ble_eq_true rfl) rfl (fun p e s m args below meth c A X hin => ?_)
  unfold F_J11_append at h
  refine g_aload_n X rfl dJ11_append_0 1 rfl ?_
  refine g_iload_n X rfl dJ11_append_1 2 rfl ?_
  obtain ⟨w1_count, w2_o0, w3_o0_N, hcl, h⟩ := bd3_e h
  refine g_callP1 X (met_J10_append l Z a0 a1 v_ml v_count v_value v_cap x1 rc rs w1_count w2_o0 w3_o0_N hcl) [0, 1] [] [] (wr := []) ⟨rfl, rfl, rfl, rfl, rfl, by decide, by decide⟩ 0 gC9 rfl q529 q1783 q524 q530 q87 q531 (by decide) md_J10_append ⟨(Nat.le_of_ble_eq_true rfl), (Nat.le_of_ble_eq_true rfl)⟩ rfl dJ11_append_2 5 rfl (0 + rc) (0 + rs) rfl rfl (show 0 + rc ≤ rc by omega) (show 0 + rs ≤ rs by omega) (st := []) rfl (Nat.le_of_ble_eq_true rfl) (fun _ => rfl) (fun b4 => ?_)
  refine g_pop X dJ11_append_5 6 rfl rfl ?_
  refine g_aload_n X rfl dJ11_append_6 7 rfl ?_
  cases h
  exact g_aret X dJ11_append_7 (Or.inl ⟨_, rfl⟩) b4 rfl rfl (show 0 + rc ≤ rc by omega) (show 0 + rs ≤ rs by omega)
/-! java/lang/AbstractStringBuilder.append(I)Ljava/lang/AbstractStringBuilder; -/
abbrev rm_J10_append_2 (rc rs : Nat) : Room := { frames := 4, cells := rc, slots := rs, locals := 104 }
def F_J10_append_2 (v_count : Int32) (v_value : Nat → Int32) (v_cap : Nat) (x1 : Int32) (rc : Nat) (rs : Nat) : Option (Int32 × (Nat → Int32) × Nat) :=
  bd1 (F_J13_stringSize x1) fun r1 =>
  bd2 (F_J10_ensureCapacityInternal v_value v_cap (v_count + r1) rc rs) fun w2_o0 w3_o0_N =>
  bd2 (F_J13_getChars w2_o0 w3_o0_N x1 (v_count + r1)) fun r6 w7_value =>
  some (v_count + r1, w7_value, w3_o0_N)
theorem met_J10_append_2 (l : Launch) (Z : gZt) (a0 : Nat) (a1 : Nat) (v_ml : Int32) (v_count : Int32) (v_value : Nat → Int32) (v_cap : Nat) (x1 : Int32) (rc rs : Nat) (r_count : Int32) (o0 : Nat → Int32) (o0_N : Nat) (h : F_J10_append_2 v_count v_value v_cap x1 rc rs = some (r_count, o0, o0_N)) : Ct l yJ10_append_2 (ws_ yJ10_append_2 cJ10_append_2 4 (some (.object "java/lang/AbstractStringBuilder"))) (rm_J10_append_2 rc rs) Z [.ref a0, .int x1] [(a0, .inr (9, [.ref a1, .int 0, .int v_ml, .int v_count])), (a1, .inl (Z.2 2, v_cap, .inl v_value))] [] (fun b0 : Nat => (some (.ref a0) : Option Value)) (fun b0 : Nat => ([(a0, .inr (9, [.ref b0, .int 0, .int v_ml, .int r_count])), (b0, .inl (Z.2 2, o0_N, .inl o0))] : va_W)) := by
  refine Ct.of cJ10_append_2 4 (some (.object "java/lang/AbstractStringBuilder")) "java/lang/AbstractStringBuilder" [some (.ref a0), some (.int x1), none, none] 2 (by decide) rfl (Nat.le_of_ble_eq_true rfl) rfl (fun p e s m args below meth c A X hin => ?_)
  unfold F_J10_append_2 at h
  refine g_aload_n X rfl dJ10_append_2_0 1 rfl ?_
  refine g_get X gC9 0 rfl 3 (by decide) q515 (fun _ h9 => h9) rfl dJ10_append_2_1 4 rfl ?_
  refine g_istore_n X dJ10_append_2_4 5 rfl (Nat.le_of_ble_eq_true rfl) rfl [some (.ref a0), some (.int x1), some (.int v_count), none] rfl ?_
  refine g_iload_n X rfl dJ10_append_2_5 6 rfl ?_
  refine g_iload_n X rfl dJ10_append_2_6 7 rfl ?_
  obtain ⟨r1, hcl, h⟩ := bd1_e h
  refine g_callS1Z X (met_J13_stringSize l Z   x1 r1 hcl) (lw_S q705 q706 q91 q707) md_J13_stringSize ⟨(Nat.le_of_ble_eq_true rfl), (Nat.le_of_ble_eq_true rfl)⟩ rfl dJ10_append_2_7 10 rfl 0 0 rfl rfl (Nat.le_of_ble_eq_true rfl) (Nat.le_of_ble_eq_true rfl) (st := [.int v_count]) rfl (Nat.le_of_ble_eq_true rfl) (fun _ => rfl) (fun _ => ?_)
  refine g_iadd X dJ10_append_2_10 11 rfl ?_
  refine g_istore_n X dJ10_append_2_11 12 rfl (Nat.le_of_ble_eq_true rfl) rfl [some (.ref a0), some (.int x1), some (.int v_count), some (.int (v_count + r1))] rfl ?_
  refine g_aload_n X rfl dJ10_append_2_12 13 rfl ?_
  refine g_iload_n X rfl dJ10_append_2_13 14 rfl ?_
  obtain ⟨w2_o0, w3_o0_N, hcl, h⟩ := bd2_e h
  refine g_callU0 X (met_J10_ensureCapacityInternal l Z a0 a1 v_ml v_count v_value v_cap (v_count + r1) rc rs w2_o0 w3_o0_N hcl) [0, 1] [] [] (wr := []) ⟨rfl, rfl, rfl, rfl, rfl, by decide, by decide⟩ 0 gC9 rfl q532 q1784 (Or.inl (List.mem_of_getElem? (i := 0) rfl)) q534 q87 q535 q534 q535 (by decide) md_J10_ensureCapacityInternal ⟨(Nat.le_of_ble_eq_true rfl), (Nat.le_of_ble_eq_true rfl)⟩ rfl dJ10_append_2_14 17 rfl (0 + rc) (0 + rs) rfl rfl (show 0 + rc ≤ rc by omega) (show 0 + rs ≤ rs by omega) (st := []) rfl (Nat.le_of_ble_eq_true rfl) (fun _ => rfl) (fun b4 => ?_)
  refine g_aload_n X rfl dJ10_append_2_17 18 rfl ?_
  refine g_callU1 X (met_J10_isLatin1 l Z a0 b4 v_ml v_count w2_o0 w3_o0_N  1 rfl) [] [0, 1] [0, 1] (wr := [(a0, .inr (9, [.ref b4, .int 0, .int v_ml, .int v_count])), (b4, .inl (Z.2 2, w3_o0_N, .inl w2_o0))]) ⟨rfl, rfl, rfl, rfl, rfl, by decide, by decide⟩ 0 gC9 rfl q565 q567 (Or.inr q568) q566 q87 q569 q566 q569 (by decide) md_J10_isLatin1 ⟨(Nat.le_of_ble_eq_true rfl), (Nat.le_of_ble_eq_true rfl)⟩ rfl dJ10_append_2_18 21 rfl (0 + rc + 0) (0 + rs + 0) rfl rfl (show 0 + rc + 0 ≤ rc by omega) (show 0 + rs + 0 ≤ rs by omega) (st := []) rfl (Nat.le_of_ble_eq_true rfl) (fun _ => rfl) (fun _ => ?_)
  refine g_if_eq X dJ10_append_2_21 37 (by decide) 24 rfl (fun h9 => absurd h9 (by decide)) (fun _ => ?_)
  refine g_iload_n X rfl dJ10_append_2_24 25 rfl ?_
  refine g_iload_n X rfl dJ10_append_2_25 26 rfl ?_
  refine g_aload_n X rfl dJ10_append_2_26 27 rfl ?_
  refine g_get X gC9 0 rfl 0 (by decide) q512 (fun _ h9 => h9) rfl dJ10_append_2_27 30 rfl ?_
  obtain ⟨r6, w7_value, hcl, h⟩ := bd2_e h
  refine g_callS1 X (met_J13_getChars l Z b4 w2_o0 w3_o0_N x1 (v_count + r1) r6 w7_value hcl) [1] [0] [] (wr := [(a0, .inr (9, [.ref b4, .int 0, .int v_ml, .int v_count]))]) ⟨rfl, rfl, rfl, rfl, rfl, by decide, by decide⟩ (lw_S q708 q709 q91 q710) md_J13_getChars ⟨(Nat.le_of_ble_eq_true rfl), (Nat.le_of_ble_eq_true rfl)⟩ rfl dJ10_append_2_30 33 rfl (0 + rc + 0 + 0) (0 + rs + 0 + 0) rfl rfl (show 0 + rc + 0 + 0 ≤ rc by omega) (show 0 + rs + 0 + 0 ≤ rs by omega) (st := []) rfl (Nat.le_of_ble_eq_true rfl) (fun _ => rfl) (fun _ => ?_)
  refine g_wd [(a0, .inr (9, [.ref b4, .int 0, .int v_ml, .int v_count])), (b4, .inl (Z.2 2, w3_o0_N, .inl w7_value))] rfl ?_
  refine g_pop X dJ10_append_2_33 34 rfl rfl ?_
  refine g_goto X dJ10_append_2_34 48 (by decide) ?_
  refine g_aload_n X rfl dJ10_append_2_48 49 rfl ?_
  refine g_iload_n X rfl dJ10_append_2_49 50 rfl ?_
  refine g_put X gC9 0 rfl 3 (by decide) q515 (fun _ h9 => h9) rfl rfl rfl (Nat.le_of_ble_eq_true rfl) dJ10_append_2_50 53 rfl ?_
  refine g_aload_n X rfl dJ10_append_2_53 54 rfl ?_
  cases h
  exact g_aret X dJ10_append_2_54 (Or.inl ⟨_, rfl⟩) b4 rfl rfl (show 0 + rc + 0 + 0 ≤ rc by omega) (show 0 + rs + 0 + 0 ≤ rs by omega)
/-! java/lang/StringBuilder.append(I)Ljava/lang/StringBuilder; -/
abbrev rm_J11_append_2 (rc rs : Nat) : Room := { frames := 5, cells := rc, slots := rs, locals := 127 }
def F_J11_append_2 (v_count : Int32) (v_value : Nat → Int32) (v_cap : Nat) (x1 : Int32) (rc : Nat) (rs : Nat) : Option (Int32 × (Nat → Int32) × Nat) :=
  bd3 (F_J10_append_2 v_count v_value v_cap x1 rc rs) fun w1_count w2_o0 w3_o0_N =>
  some (w1_count, w2_o0, w3_o0_N)
theorem met_J11_append_2 (l : Launch) (Z : gZt) (a0 : Nat) (a1 : Nat) (v_ml : Int32) (v_count : Int32) (v_value : Nat → Int32) (v_cap : Nat) (x1 : Int32) (rc rs : Nat) (r_count : Int32) (o0 : Nat → Int32) (o0_N : Nat) (h : F_J11_append_2 v_count v_value v_cap x1 rc rs = some (r_count, o0, o0_N)) : Ct l yJ11_append_2 (ws_ yJ11_append_2 cJ11_append_2 2 (some (.object "java/lang/StringBuilder"))) (rm_J11_append_2 rc rs) Z [.ref a0, .int x1] [(a0, .inr (9, [.ref a1, .int 0, .int v_ml, .int v_count])), (a1, .inl (Z.2 2, v_cap, .inl v_value))] [] (fun b0 : Nat => (some (.ref a0) : Option Value)) (fun b0 : Nat => ([(a0, .inr (9, [.ref b0, .int 0, .int v_ml, .int r_count])), (b0, .inl (Z.2 2, o0_N, .inl o0))] : va_W)) := by
  refine Ct.of cJ11_append_2 2 (some (.object "java/lang/StringBuilder")) "java/lang/StringBuilder" [some (.ref a0), some (.int x1)] 0 (by decide) rfl (Nat.le_of_ble_eq_true rfl) rfl (fun p e s m args below meth c A X hin => ?_)
  unfold F_J11_append_2 at h
  refine g_aload_n X rfl dJ11_append_2_0 1 rfl ?_
  refine g_iload_n X rfl dJ11_append_2_1 2 rfl ?_
  obtain ⟨w1_count, w2_o0, w3_o0_N, hcl, h⟩ := bd3_e h
  refine g_callP1 X (met_J10_append_2 l Z a0 a1 v_ml v_count v_value v_cap x1 rc rs w1_count w2_o0 w3_o0_N hcl) [0, 1] [] [] (wr := []) ⟨rfl, rfl, rfl, rfl, rfl, by decide, by decide⟩ 0 gC9 rfl q702 q1788 q524 q703 q87 q704 (by decide) md_J10_append_2 ⟨(Nat.le_of_ble_eq_true rfl), (Nat.le_of_ble_eq_true rfl)⟩ rfl dJ11_append_2_2 5 rfl (0 + rc) (0 + rs) rfl rfl (show 0 + rc ≤ rc by omega) (show 0 + rs ≤ rs by omega) (st := []) rfl (Nat.le_of_ble_eq_true rfl) (fun _ => rfl) (fun b4 => ?_)
  refine g_pop X dJ11_append_2_5 6 rfl rfl ?_
  refine g_aload_n X rfl dJ11_append_2_6 7 rfl ?_
  cases h
  exact g_aret X dJ11_append_2_7 (Or.inl ⟨_, rfl⟩) b4 rfl rfl (show 0 + rc ≤ rc by omega) (show 0 + rs ≤ rs by omega)
/-! java/lang/AbstractStringBuilder.append(J)Ljava/lang/AbstractStringBuilder; -/
abbrev rm_J10_append_4 (rc rs : Nat) : Room := { frames := 4, cells := rc, slots := rs, locals := 104 }
def F_J10_append_4 (v_count : Int32) (v_value : Nat → Int32) (v_cap : Nat) (x1 : Int64) (rc : Nat) (rs : Nat) : Option (Int32 × (Nat → Int32) × Nat) :=
  bd1 (F_J17_stringSize x1) fun r1 =>
  bd2 (F_J10_ensureCapacityInternal v_value v_cap (v_count + r1) rc rs) fun w2_o0 w3_o0_N =>
  bd2 (F_J17_getChars w2_o0 w3_o0_N x1 (v_count + r1)) fun r6 w7_value =>
  some (v_count + r1, w7_value, w3_o0_N)
theorem met_J10_append_4 (l : Launch) (Z : gZt) (a0 : Nat) (a1 : Nat) (v_ml : Int32) (v_count : Int32) (v_value : Nat → Int32) (v_cap : Nat) (x1 : Int64) (rc rs : Nat) (r_count : Int32) (o0 : Nat → Int32) (o0_N : Nat) (h : F_J10_append_4 v_count v_value v_cap x1 rc rs = some (r_count, o0, o0_N)) : Ct l yJ10_append_4 (ws_ yJ10_append_4 cJ10_append_4 5 (some (.object "java/lang/AbstractStringBuilder"))) (rm_J10_append_4 rc rs) Z [.ref a0, .long x1] [(a0, .inr (9, [.ref a1, .int 0, .int v_ml, .int v_count])), (a1, .inl (Z.2 2, v_cap, .inl v_value))] [] (fun b0 : Nat => (some (.ref a0) : Option Value)) (fun b0 : Nat => ([(a0, .inr (9, [.ref b0, .int 0, .int v_ml, .int r_count])), (b0, .inl (Z.2 2, o0_N, .inl o0))] : va_W)) := by
  refine Ct.of cJ10_append_4 5 (some (.object "java/lang/AbstractStringBuilder")) "java/lang/AbstractStringBuilder" [some (.ref a0), some (.long x1), none, none, none] 2 (by decide) rfl (Nat.le_of_ble_eq_true rfl) rfl (fun p e s m args below meth c A X hin => ?_)
  unfold F_J10_append_4 at h
  refine g_aload_n X rfl dJ10_append_4_0 1 rfl ?_
  refine g_get X gC9 0 rfl 3 (by decide) q515 (fun _ h9 => h9) rfl dJ10_append_4_1 4 rfl ?_
  refine g_istore_n X dJ10_append_4_4 5 rfl (Nat.le_of_ble_eq_true rfl) rfl [some (.ref a0), some (.long x1), none, some (.int v_count), none] rfl ?_
  refine g_iload_n X rfl dJ10_append_4_5 6 rfl ?_
  refine g_lload_n X rfl dJ10_append_4_6 7 rfl ?_
  obtain ⟨r1, hcl, h⟩ := bd1_e h
  refine g_callS1Z X (met_J17_stringSize l Z   x1 r1 hcl) (lw_S q1236 q1237 q95 q1238) md_J17_stringSize ⟨(Nat.le_of_ble_eq_true rfl), (Nat.le_of_ble_eq_true rfl)⟩ rfl dJ10_append_4_7 10 rfl 0 0 rfl rfl (Nat.le_of_ble_eq_true rfl) (Nat.le_of_ble_eq_true rfl) (st := [.int v_count]) rfl (Nat.le_of_ble_eq_true rfl) (fun _ => rfl) (fun _ => ?_)
  refine g_iadd X dJ10_append_4_10 11 rfl ?_
  refine g_istore X dJ10_append_4_11 13 rfl (Nat.le_of_ble_eq_true rfl) rfl [some (.ref a0), some (.long x1), none, some (.int v_count), some (.int (v_count + r1))] rfl ?_
  refine g_aload_n X rfl dJ10_append_4_13 14 rfl ?_
  refine g_iload X rfl dJ10_append_4_14 16 rfl ?_
  obtain ⟨w2_o0, w3_o0_N, hcl, h⟩ := bd2_e h
  refine g_callU0 X (met_J10_ensureCapacityInternal l Z a0 a1 v_ml v_count v_value v_cap (v_count + r1) rc rs w2_o0 w3_o0_N hcl) [0, 1] [] [] (wr := []) ⟨rfl, rfl, rfl, rfl, rfl, by decide, by decide⟩ 0 gC9 rfl q532 q1784 (Or.inl (List.mem_of_getElem? (i := 0) rfl)) q534 q87 q535 q534 q535 (by decide) md_J10_ensureCapacityInternal ⟨(Nat.le_of_ble_eq_true rfl), (Nat.le_of_ble_eq_true rfl)⟩ rfl dJ10_append_4_16 19 rfl (0 + rc) (0 + rs) rfl rfl (show 0 + rc ≤ rc by omega) (show 0 + rs ≤ rs by omega) (st := []) rfl (Nat.le_of_ble_eq_true rfl) (fun _ => rfl) (fun b4 => ?_)
  refine g_aload_n X rfl dJ10_append_4_19 20 rfl ?_
  refine g_callU1 X (met_J10_isLatin1 l Z a0 b4 v_ml v_count w2_o0 w3_o0_N  1 rfl) [] [0, 1] [0, 1] (wr := [(a0, .inr (9, [.ref b4, .int 0, .int v_ml, .int v_count])), (b4, .inl (Z.2 2, w3_o0_N, .inl w2_o0))]) ⟨rfl, rfl, rfl, rfl, rfl, by decide, by decide⟩ 0 gC9 rfl q565 q567 (Or.inr q568) q566 q87 q569 q566 q569 (by decide) md_J10_isLatin1 ⟨(Nat.le_of_ble_eq_true rfl), (Nat.le_of_ble_eq_true rfl)⟩ rfl dJ10_append_4_20 23 rfl (0 + rc + 0) (0 + rs + 0) rfl rfl (show 0 + rc + 0 ≤ rc by omega) (show 0 + rs + 0 ≤ rs by omega) (st := []) rfl (Nat.le_of_ble_eq_true rfl) (fun _ => rfl) (fun _ => ?_)
  refine g_if_eq X dJ10_append_4_23 40 (by decide) 26 rfl (fun h9 => absurd h9 (by decide)) (fun _ => ?_)
  refine g_lload_n X rfl dJ10_append_4_26 27 rfl ?_
  refine g_iload X rfl dJ10_append_4_27 29 rfl ?_
  refine g_aload_n X rfl dJ10_append_4_29 30 rfl ?_
  refine g_get X gC9 0 rfl 0 (by decide) q512 (fun _ h9 => h9) rfl dJ10_append_4_30 33 rfl ?_
  obtain ⟨r6, w7_value, hcl, h⟩ := bd2_e h
  refine g_callS1 X (met_J17_getChars l Z b4 w2_o0 w3_o0_N x1 (v_count + r1) r6 w7_value hcl) [1] [0] [] (wr := [(a0, .inr (9, [.ref b4, .int 0, .int v_ml, .int v_count]))]) ⟨rfl, rfl, rfl, rfl, rfl, by decide, by decide⟩ (lw_S q1241 q1242 q95 q1243) md_J17_getChars ⟨(Nat.le_of_ble_eq_true rfl), (Nat.le_of_ble_eq_true rfl)⟩ rfl dJ10_append_4_33 36 rfl (0 + rc + 0 + 0) (0 + rs + 0 + 0) rfl rfl (show 0 + rc + 0 + 0 ≤ rc by omega) (show 0 + rs + 0 + 0 ≤ rs by omega) (st := []) rfl (Nat.le_of_ble_eq_true rfl) (fun _ => rfl) (fun _ => ?_)
  refine g_wd [(a0, .inr (9, [.ref b4, .int 0, .int v_ml, .int v_count])), (b4, .inl (Z.2 2, w3_o0_N, .inl w7_value))] rfl ?_
  refine g_pop X dJ10_append_4_36 37 rfl rfl ?_
  refine g_goto X dJ10_append_4_37 52 (by decide) ?_
  refine g_aload_n X rfl dJ10_append_4_52 53 rfl ?_
  refine g_iload X rfl dJ10_append_4_53 55 rfl ?_
  refine g_put X gC9 0 rfl 3 (by decide) q515 (fun _ h9 => h9) rfl rfl rfl (Nat.le_of_ble_eq_true rfl) dJ10_append_4_55 58 rfl ?_
  refine g_aload_n X rfl dJ10_append_4_58 59 rfl ?_
  cases h
  exact g_aret X dJ10_append_4_59 (Or.inl ⟨_, rfl⟩) b4 rfl rfl (show 0 + rc + 0 + 0 ≤ rc by omega) (show 0 + rs + 0 + 0 ≤ rs by omega)
/-! java/lang/StringBuilder.append(J)Ljava/lang/StringBuilder; -/
abbrev rm_J11_append_4 (rc rs : Nat) : Room := { frames := 5, cells := rc, slots := rs, locals := 128 }
def F_J11_append_4 (v_count : Int32) (v_value : Nat → Int32) (v_cap : Nat) (x1 : Int64) (rc : Nat) (rs : Nat) : Option (Int32 × (Nat → Int32) × Nat) :=
  bd3 (F_J10_append_4 v_count v_value v_cap x1 rc rs) fun w1_count w2_o0 w3_o0_N =>
  some (w1_count, w2_o0, w3_o0_N)
theorem met_J11_append_4 (l : Launch) (Z : gZt) (a0 : Nat) (a1 : Nat) (v_ml : Int32) (v_count : Int32) (v_value : Nat → Int32) (v_cap : Nat) (x1 : Int64) (rc rs : Nat) (r_count : Int32) (o0 : Nat → Int32) (o0_N : Nat) (h : F_J11_append_4 v_count v_value v_cap x1 rc rs = some (r_count, o0, o0_N)) : Ct l yJ11_append_4 (ws_ yJ11_append_4 cJ11_append_4 3 (some (.object "java/lang/StringBuilder"))) (rm_J11_append_4 rc rs) Z [.ref a0, .long x1] [(a0, .inr (9, [.ref a1, .int 0, .int v_ml, .int v_count])), (a1, .inl (Z.2 2, v_cap, .inl v_value))] [] (fun b0 : Nat => (some (.ref a0) : Option Value)) (fun b0 : Nat => ([(a0, .inr (9, [.ref b0, .int 0, .int v_ml, .int r_count])), (b0, .inl (Z.2 2, o0_N, .inl o0))] : va_W)) := by
  refine Ct.of cJ11_append_4 3 (some (.object "java/lang/StringBuilder")) "java/lang/StringBuilder" [some (.ref a0), some (.long x1), none] 0 (by decide) rfl (Nat.le_of_ble_eq_true rfl) rfl (fun p e s m args below meth c A X hin => ?_)
  unfold F_J11_append_4 at h
  refine g_aload_n X rfl dJ11_append_4_0 1 rfl ?_
  refine g_lload_n X rfl dJ11_append_4_1 2 rfl ?_
  obtain ⟨w1_count, w2_o0, w3_o0_N, hcl, h⟩ := bd3_e h
  refine g_callP1 X (met_J10_append_4 l Z a0 a1 v_ml v_count v_value v_cap x1 rc rs w1_count w2_o0 w3_o0_N hcl) [0, 1] [] [] (wr := []) ⟨rfl, rfl, rfl, rfl, rfl, by decide, by decide⟩ 0 gC9 rfl q1233 q1793 q524 q1234 q87 q1235 (by decide) md_J10_append_4 ⟨(Nat.le_of_ble_eq_true rfl), (Nat.le_of_ble_eq_true rfl)⟩ rfl dJ11_append_4_2 5 rfl (0 + rc) (0 + rs) rfl rfl (show 0 + rc ≤ rc by omega) (show 0 + rs ≤ rs by omega) (st := []) rfl (Nat.le_of_ble_eq_true rfl) (fun _ => rfl) (fun b4 => ?_)
  refine g_pop X dJ11_append_4_5 6 rfl rfl ?_
  refine g_aload_n X rfl dJ11_append_4_6 7 rfl ?_
  cases h
  exact g_aret X dJ11_append_4_7 (Or.inl ⟨_, rfl⟩) b4 rfl rfl (show 0 + rc ≤ rc by omega) (show 0 + rs ≤ rs by omega)
/-! java/lang/AbstractStringBuilder.getValue()[B -/
abbrev rm_J10_getValue : Room := { frames := 0, cells := 0, slots := 0, locals := 0 }
def F_J10_getValue : Option (Unit) :=
  some ()
theorem met_J10_getValue (l : Launch) (Z : gZt) (a0 : Nat) (a1 : Nat) (v_ml : Int32) (v_count : Int32) (v_value : Nat → Int32) (v_cap : Nat) (h : F_J10_getValue = some ()) : Ct l yJ10_getValue (ws_ yJ10_getValue cJ10_getValue 1 (some (.array .byte))) rm_J10_getValue Z [.ref a0] [] [(a0, .inr (9, [.ref a1, .int 0, .int v_ml, .int v_count])), (a1, .inl (Z.2 2, v_cap, .inl v_value))] (fun _ : Unit => (some (.ref a1) : Option Value)) (fun _ : Unit => ([] : va_W)) := by
  refine Ct.of cJ10_getValue 1 (some (.array .byte)) "java/lang/AbstractStringBuilder" [some (.ref a0)] 0 (by decide) rfl (Nat.le_of_ble_eq_true rfl) rfl (fun p e s m args below meth c A X hin => ?_)
  unfold F_J10_getValue at h
  refine g_aload_n X rfl dJ10_getValue_0 1 rfl ?_
  refine g_getR X gC9 0 rfl 0 (by decide) q512 (fun _ h9 => h9) rfl dJ10_getValue_1 4 rfl ?_
  exact g_aret X dJ10_getValue_4 (Or.inr ⟨_, rfl⟩) () rfl rfl (Nat.le_of_ble_eq_true rfl) (Nat.le_of_ble_eq_true rfl)
/-! java/lang/AbstractStringBuilder.length()I -/
abbrev rm_J10_length : Room := { frames := 0, cells := 0, slots := 0, locals := 0 }
def F_J10_length (v_count : Int32) : Option (Int32) :=
  some v_count
theorem met_J10_length (l : Launch) (Z : gZt) (a0 : Nat) (a1 : Nat) (v_ml : Int32) (v_count : Int32) (v_value : Nat → Int32) (v_cap : Nat) (r : Int32) (h : F_J10_length v_count = some r) : Ct l yJ10_length (ws_ yJ10_length cJ10_length 1 (some .int)) rm_J10_length Z [.ref a0] [] [(a0, .inr (9, [.ref a1, .int 0, .int v_ml, .int v_count])), (a1, .inl (Z.2 2, v_cap, .inl v_value))] (fun _ : Unit => (some (.int r) : Option Value)) (fun _ : Unit => ([] : va_W)) := by
  refine Ct.of cJ10_length 1 (some .int) "java/lang/AbstractStringBuilder" [some (.ref a0)] 0 (by decide) rfl (Nat.le_of_ble_eq_true rfl) rfl (fun p e s m args below meth c A X hin => ?_)
  unfold F_J10_length at h
  refine g_aload_n X rfl dJ10_length_0 1 rfl ?_
  refine g_getR X gC9 0 rfl 3 (by decide) q515 (fun _ h9 => h9) rfl dJ10_length_1 4 rfl ?_
  cases h
  exact g_iret X dJ10_length_4 () rfl rfl (Nat.le_of_ble_eq_true rfl) (Nat.le_of_ble_eq_true rfl)
/-! java/lang/StringBuilder.length()I -/
abbrev rm_J11_length : Room := { frames := 1, cells := 0, slots := 0, locals := 20 }
def F_J11_length (v_count : Int32) : Option (Int32) :=
  bd1 (F_J10_length v_count) fun r1 =>
  some r1
theorem met_J11_length (l : Launch) (Z : gZt) (a0 : Nat) (a1 : Nat) (v_ml : Int32) (v_count : Int32) (v_value : Nat → Int32) (v_cap : Nat) (r : Int32) (h : F_J11_length v_count = some r) : Ct l yJ11_length (ws_ yJ11_length cJ11_length 1 (some .int)) rm_J11_length Z [.ref a0] [] [(a0, .inr (9, [.ref a1, .int 0, .int v_ml, .int v_count])), (a1, .inl (Z.2 2, v_cap, .inl v_value))] (fun _ : Unit => (some (.int r) : Option Value)) (fun _ : Unit => ([] : va_W)) := by
  refine Ct.of cJ11_length 1 (some .int) "java/lang/StringBuilder" [some (.ref a0)] 0 (by decide) rfl (Nat.le_of_ble_eq_true rfl) rfl (fun p e s m args below meth c A X hin => ?_)
  unfold F_J11_length at h
  refine g_aload_n X rfl dJ11_length_0 1 rfl ?_
  obtain ⟨r1, hcl, h⟩ := bd1_e h
  refine g_callP1 X (met_J10_length l Z a0 a1 v_ml v_count v_value v_cap  r1 hcl) [] [] [0, 1] (wr := []) ⟨rfl, rfl, rfl, rfl, rfl, by decide, by decide⟩ 0 gC9 rfl q642 q638 q524 q637 q87 q643 (by decide) md_J10_length ⟨(Nat.le_of_ble_eq_true rfl), (Nat.le_of_ble_eq_true rfl)⟩ rfl dJ11_length_1 4 rfl 0 0 rfl rfl (Nat.le_of_ble_eq_true rfl) (Nat.le_of_ble_eq_true rfl) (st := []) rfl (Nat.le_of_ble_eq_true rfl) (fun _ => rfl) (fun _ => ?_)
  cases h
  exact g_iret X dJ11_length_4 () rfl rfl (Nat.le_of_ble_eq_true rfl) (Nat.le_of_ble_eq_true rfl)
/-! java/util/Arrays.checkLength(II)V -/
abbrev rm_J8_checkLength : Room := { frames := 0, cells := 0, slots := 0, locals := 0 }
def F_J8_checkLength (x0 : Int32) (x1 : Int32) : Option (Unit) :=
  if x0 ≤ x1 then
    (some ())
  else
    (none)
theorem met_J8_checkLength (l : Launch) (Z : gZt) (x0 : Int32) (x1 : Int32) (h : F_J8_checkLength x0 x1 = some ()) : Ct l yJ8_checkLength (ws_ yJ8_checkLength cJ8_checkLength 2 none) rm_J8_checkLength Z [.int x0, .int x1] [] [] (fun _ : Unit => (none : Option Value)) (fun _ : Unit => ([] : va_W)) := by
  refine Ct.of cJ8_checkLength 2 none "java/util/Arrays" [some (.int x0), some (.int x1)] 0 (by decide) rfl (Nat.le_of_ble_eq_true rfl) rfl (fun p e s m args below meth c A X hin => ?_)
  unfold F_J8_checkLength at h
  refine g_iload_n X rfl dJ8_checkLength_0 1 rfl ?_
  refine g_iload_n X rfl dJ8_checkLength_1 2 rfl ?_
  refine g_icmp_ge X dJ8_checkLength_2 37 (by decide) 5 rfl (fun hc => ?_) (fun hc => ?_)
  · replace h := if_t hc h
    exact g_vret X dJ8_checkLength_37 () rfl rfl (Nat.le_of_ble_eq_true rfl) (Nat.le_of_ble_eq_true rfl)
  · replace h := if_f hc h
    cases h
/-! java/util/Arrays.copyOfRangeByte([BII)[B -/
abbrev rm_J8_copyOfRangeByte (rc rs : Nat) : Room := { frames := 1, cells := rc, slots := rs, locals := 60 }
def F_J8_copyOfRangeByte (v_value : Nat → Int32) (v_cap : Nat) (x1 : Int32) (x2 : Int32) (rc : Nat) (rs : Nat) : Option ((Nat → Int32) × Nat) :=
  bd0 (F_J8_checkLength x1 x2) <|
  gch (¬ (x2 - x1 < 0) ∧ (x2 - x1).toNatClampNeg ≤ 65536 ∧ 0 + 1 ≤ rc ∧ 0 + (x2 - x1).toNatClampNeg ≤ rs) <|
  gcp x1 0 (if (x2 - x1) < ((Int32.ofNat v_cap) - x1) then x2 - x1 else (Int32.ofNat v_cap) - x1) v_cap ((x2 - x1).toNatClampNeg) <|
  gch (gFA v_value x1.toNatClampNeg (if (x2 - x1) < ((Int32.ofNat v_cap) - x1) then x2 - x1 else (Int32.ofNat v_cap) - x1).toNatClampNeg) <|
  some (va_cpy v_value (fun _ => 0) x1.toNatClampNeg (Int32.toNatClampNeg 0) (if (x2 - x1) < ((Int32.ofNat v_cap) - x1) then x2 - x1 else (Int32.ofNat v_cap) - x1).toNatClampNeg, (x2 - x1).toNatClampNeg)
theorem met_J8_copyOfRangeByte (l : Launch) (Z : gZt) (a0 : Nat) (v_value : Nat → Int32) (v_cap : Nat) (x1 : Int32) (x2 : Int32) (rc rs : Nat) (o0 : Nat → Int32) (o0_N : Nat) (h : F_J8_copyOfRangeByte v_value v_cap x1 x2 rc rs = some (o0, o0_N)) : Ct l yJ8_copyOfRangeByte (ws_ yJ8_copyOfRangeByte cJ8_copyOfRangeByte 5 (some (.array .byte))) (rm_J8_copyOfRangeByte rc rs) Z [.ref a0, .int x1, .int x2] [(a0, .inl (Z.2 2, v_cap, .inl v_value))] [] (fun b0 : Nat => (some (.ref b0) : Option Value)) (fun b0 : Nat => ([(a0, .inl (Z.2 2, v_cap, .inl v_value)), (b0, .inl (Z.2 2, o0_N, .inl o0))] : va_W)) := by
  refine Ct.of cJ8_copyOfRangeByte 5 (some (.array .byte)) "java/util/Arrays" [some (.ref a0), some (.int x1), some (.int x2), none, none] 2 (by decide) rfl (Nat.le_of_ble_eq_true rfl) rfl (fun p e s m args below meth c A X hin => ?_)
  unfold F_J8_copyOfRangeByte at h
  refine g_iload_n X rfl dJ8_copyOfRangeByte_0 1 rfl ?_
  refine g_iload_n X rfl dJ8_copyOfRangeByte_1 2 rfl ?_
  obtain ⟨hcl, h⟩ := bd0_e h
  refine g_callS0Z X (met_J8_checkLength l Z   x1 x2  hcl) (lw_S q651 q652 q84 q653) md_J8_checkLength ⟨(Nat.le_of_ble_eq_true rfl), (Nat.le_of_ble_eq_true rfl)⟩ rfl dJ8_copyOfRangeByte_2 5 rfl 0 0 rfl rfl (Nat.le_of_ble_eq_true rfl) (Nat.le_of_ble_eq_true rfl) (st := []) rfl (Nat.le_of_ble_eq_true rfl) (fun _ => rfl) (fun _ => ?_)
  refine g_iload_n X rfl dJ8_copyOfRangeByte_5 6 rfl ?_
  refine g_iload_n X rfl dJ8_copyOfRangeByte_6 7 rfl ?_
  refine g_isub X dJ8_copyOfRangeByte_7 8 rfl ?_
  refine g_istore_n X dJ8_copyOfRangeByte_8 9 rfl (Nat.le_of_ble_eq_true rfl) rfl [some (.ref a0), some (.int x1), some (.int x2), some (.int (x2 - x1)), none] rfl ?_
  refine g_iload_n X rfl dJ8_copyOfRangeByte_9 10 rfl ?_
  obtain ⟨hna, h⟩ := gch_e h
  refine g_newa2 X q240 (x2 - x1).toNatClampNeg hna.1 rfl (by have := hna.2.1; omega) dJ8_copyOfRangeByte_10 12 rfl (0 + 1) (0 + (x2 - x1).toNatClampNeg) rfl rfl hna.2.2.1 hna.2.2.2 (fun b1 => ?_)
  refine g_astore X dJ8_copyOfRangeByte_12 14 rfl (Nat.le_of_ble_eq_true rfl) rfl [some (.ref a0), some (.int x1), some (.int x2), some (.int (x2 - x1)), some (.ref b1)] rfl ?_
  refine g_aload_n X rfl dJ8_copyOfRangeByte_14 15 rfl ?_
  refine g_iload_n X rfl dJ8_copyOfRangeByte_15 16 rfl ?_
  refine g_aload X rfl dJ8_copyOfRangeByte_16 18 rfl ?_
  refine g_iconst X 0 dJ8_copyOfRangeByte_18 19 rfl kI_0 ?_
  refine g_aload_n X rfl dJ8_copyOfRangeByte_19 20 rfl ?_
  refine g_alen2 X 0 rfl (Int32.ofNat v_cap) rfl dJ8_copyOfRangeByte_20 21 rfl ?_
  refine g_iload_n X rfl dJ8_copyOfRangeByte_21 22 rfl ?_
  refine g_isub X dJ8_copyOfRangeByte_22 23 rfl ?_
  refine g_iload_n X rfl dJ8_copyOfRangeByte_23 24 rfl ?_
  refine g_mmin X q561 q562 q86 q563 dJ8_copyOfRangeByte_24 27 rfl (Nat.le_of_ble_eq_true rfl) (Nat.le_of_ble_eq_true rfl) (show 0 + 1 ≤ rc by omega) (show 0 + (x2 - x1).toNatClampNeg ≤ rs by omega) ?_
  obtain ⟨hcp, h⟩ := gcp_e h
  obtain ⟨hfa, h⟩ := gch_e h
  refine g_copyb X q564 0 1 rfl rfl hcp hfa dJ8_copyOfRangeByte_27 30 rfl (Nat.le_of_ble_eq_true rfl) (Nat.le_of_ble_eq_true rfl) ?_
  refine g_aload X rfl dJ8_copyOfRangeByte_30 32 rfl ?_
  cases h
  exact g_aret X dJ8_copyOfRangeByte_32 (Or.inr ⟨_, rfl⟩) b1 rfl rfl (show 0 + 1 ≤ rc by omega) (show 0 + (x2 - x1).toNatClampNeg ≤ rs by omega)
/-! java/util/Arrays.copyOfRange([BII)[B -/
abbrev rm_J8_copyOfRange (rc rs : Nat) : Room := { frames := 2, cells := rc, slots := rs, locals := 84 }
def F_J8_copyOfRange_10 (v_value : Nat → Int32) (x1 : Int32) (x2 : Int32) (v_cap : Nat) (rc : Nat) (rs : Nat) : Option ((Nat → Int32) × Nat) :=
  bd2 (F_J8_copyOfRangeByte v_value v_cap x1 x2 rc rs) fun w1_o0 w2_o0_N =>
  some (w1_o0, w2_o0_N)
def F_J8_copyOfRange (v_value : Nat → Int32) (v_cap : Nat) (x1 : Int32) (x2 : Int32) (rc : Nat) (rs : Nat) : Option ((Nat → Int32) × Nat) :=
  if x1 = 0 then
    (if x2 = (Int32.ofNat v_cap) then
      (gch (gFA v_value 0 v_cap ∧ 0 + 1 ≤ rc ∧ 0 + v_cap ≤ rs) <|
      some (v_value, v_cap))
    else
      (F_J8_copyOfRange_10 v_value x1 x2 v_cap rc rs))
  else
    (F_J8_copyOfRange_10 v_value x1 x2 v_cap rc rs)
theorem w_J8_copyOfRange_10 {p : Program} {l : Launch} {e : Env} {s : State} {m : MethodId} {args : Array Value} {below : List Frame} {meth : Method} {c : Code} {Z : gZt} {A : Nat → Prop} (a0 : Nat) (v_cap : Nat) (rc : Nat) (rs : Nat) (X : gX p s m args meth c Z A cJ8_copyOfRange "java/util/Arrays" 3 (some (.array .byte)) []) (o0 : Nat → Int32) (o0_N : Nat)  (v_value : Nat → Int32) (x1 : Int32) (x2 : Int32) (h : F_J8_copyOfRange_10 v_value x1 x2 v_cap rc rs = some (o0, o0_N)) : G p l e (rm_J8_copyOfRange rc rs) s m args below meth c Z A 3 (MQ below (gPost Z A (fun b0 : Nat => (some (.ref b0) : Option Value)) (fun b0 : Nat => ([(a0, .inl (Z.2 2, v_cap, .inl v_value)), (b0, .inl (Z.2 2, o0_N, .inl o0))] : va_W))) args s rc rs A) [(a0, .inl (Z.2 2, v_cap, .inl v_value))] 0 0 10 [some (.ref a0), some (.int x1), some (.int x2)] [] := by
  unfold F_J8_copyOfRange_10 at h
  refine g_aload_n X rfl dJ8_copyOfRange_10 11 rfl ?_
  refine g_iload_n X rfl dJ8_copyOfRange_11 12 rfl ?_
  refine g_iload_n X rfl dJ8_copyOfRange_12 13 rfl ?_
  obtain ⟨w1_o0, w2_o0_N, hcl, h⟩ := bd2_e h
  refine g_callS1W X (met_J8_copyOfRangeByte l Z a0 v_value v_cap x1 x2 rc rs w1_o0 w2_o0_N hcl) rfl (lw_S q648 q649 q84 q650) md_J8_copyOfRangeByte ⟨(Nat.le_of_ble_eq_true rfl), (Nat.le_of_ble_eq_true rfl)⟩ rfl dJ8_copyOfRange_13 16 rfl (0 + rc) (0 + rs) rfl rfl (show 0 + rc ≤ rc by omega) (show 0 + rs ≤ rs by omega) (st := []) rfl (Nat.le_of_ble_eq_true rfl) (fun _ => rfl) (fun b3 => ?_)
  cases h
  exact g_aret X dJ8_copyOfRange_16 (Or.inr ⟨_, rfl⟩) b3 rfl rfl (show 0 + rc ≤ rc by omega) (show 0 + rs ≤ rs by omega)
theorem met_J8_copyOfRange (l : Launch) (Z : gZt) (a0 : Nat) (v_value : Nat → Int32) (v_cap : Nat) (x1 : Int32) (x2 : Int32) (rc rs : Nat) (o0 : Nat → Int32) (o0_N : Nat) (h : F_J8_copyOfRange v_value v_cap x1 x2 rc rs = some (o0, o0_N)) : Ct l yJ8_copyOfRange (ws_ yJ8_copyOfRange cJ8_copyOfRange 3 (some (.array .byte))) (rm_J8_copyOfRange rc rs) Z [.ref a0, .int x1, .int x2] [(a0, .inl (Z.2 2, v_cap, .inl v_value))] [] (fun b0 : Nat => (some (.ref b0) : Option Value)) (fun b0 : Nat => ([(a0, .inl (Z.2 2, v_cap, .inl v_value)), (b0, .inl (Z.2 2, o0_N, .inl o0))] : va_W)) := by
  refine Ct.of cJ8_copyOfRange 3 (some (.array .byte)) "java/util/Arrays" [some (.ref a0), some (.int x1), some (.int x2)] 0 (by decide) rfl (Nat.le_of_ble_eq_true rfl) rfl (fun p e s m args below meth c A X hin => ?_)
  unfold F_J8_copyOfRange at h
  refine g_iload_n X rfl dJ8_copyOfRange_0 1 rfl ?_
  refine g_if_ne X dJ8_copyOfRange_1 10 (by decide) 4 rfl (fun hc => ?_) (fun hc => ?_)
  · replace h := if_f hc h
    exact w_J8_copyOfRange_10 a0 v_cap rc rs X  o0 o0_N    v_value x1 x2 h
  · replace h := if_t hc h
    refine g_iload_n X rfl dJ8_copyOfRange_4 5 rfl ?_
    refine g_aload_n X rfl dJ8_copyOfRange_5 6 rfl ?_
    refine g_alen2 X 0 rfl (Int32.ofNat v_cap) rfl dJ8_copyOfRange_6 7 rfl ?_
    refine g_icmp_eq X dJ8_copyOfRange_7 17 (by decide) 10 rfl (fun hc => ?_) (fun hc => ?_)
    · replace h := if_t hc h
      refine g_aload_n X rfl dJ8_copyOfRange_17 18 rfl ?_
      obtain ⟨hna, h⟩ := gch_e h
      refine g_clone X 0 rfl hna.1 q554 dJ8_copyOfRange_18 21 rfl (Nat.le_of_ble_eq_true rfl) (Nat.le_of_ble_eq_true rfl) (0 + 1) (0 + v_cap) rfl rfl hna.2.1 hna.2.2 (fun b1 => ?_)
      refine g_castB X 1 rfl q560 dJ8_copyOfRange_21 24 rfl ?_
      cases h
      exact g_aret X dJ8_copyOfRange_24 (Or.inr ⟨_, rfl⟩) b1 rfl rfl (show 0 + 1 ≤ rc by omega) (show 0 + v_cap ≤ rs by omega)
    · replace h := if_f hc h
      exact w_J8_copyOfRange_10 a0 v_cap rc rs X  o0 o0_N    v_value x1 x2 h
/-! java/lang/String.<init>(Ljava/lang/AbstractStringBuilder;Ljava/lang/Void;)V -/
abbrev rm_J7_init_2 (rc rs : Nat) : Room := { frames := 3, cells := rc, slots := rs, locals := 106 }
def F_J7_init_2 (v_count : Int32) (v_value : Nat → Int32) (v_cap : Nat) (rc : Nat) (rs : Nat) : Option ((Nat → Int32) × Nat) :=
  bd0 (F_J10_getValue) <|
  bd1 (F_J11_length v_count) fun r1 =>
  bd2 (F_J8_copyOfRange v_value v_cap 0 r1 rc rs) fun w3_o0 w4_o0_N =>
  some (w3_o0, w4_o0_N)
theorem met_J7_init_2 (l : Launch) (Z : gZt) (a0 : Nat) (a1 : Nat) (a2 : Nat) (v_ml : Int32) (v_count : Int32) (v_value : Nat → Int32) (v_cap : Nat) (rc rs : Nat) (o0 : Nat → Int32) (o0_N : Nat) (h : F_J7_init_2 v_count v_value v_cap rc rs = some (o0, o0_N)) : Ct l yJ7_init_2 (ws_ yJ7_init_2 cJ7_init_2 5 none) (rm_J7_init_2 rc rs) Z [.ref a0, .ref a1, .null] [(a0, .inr (8, [.null, .int 0, .int 0, .int 0])), (a1, .inr (9, [.ref a2, .int 0, .int v_ml, .int v_count])), (a2, .inl (Z.2 2, v_cap, .inl v_value))] [] (fun b0 : Nat => (none : Option Value)) (fun b0 : Nat => ([(a0, .inr (8, [.ref b0, .int 0, .int 0, .int 0])), (a1, .inr (9, [.ref a2, .int 0, .int v_ml, .int v_count])), (a2, .inl (Z.2 2, v_cap, .inl v_value)), (b0, .inl (Z.2 2, o0_N, .inl o0))] : va_W)) := by
  refine Ct.of cJ7_init_2 5 none "java/lang/String" [some (.ref a0), some (.ref a1), some (.null), none, none] 2 (by decide) rfl (Nat.le_of_ble_eq_true rfl) rfl (fun p e s m args below meth c A X hin => ?_)
  replace hin : True → meth.name = "<init>" := fun _ => hin rfl
  unfold F_J7_init_2 at h
  refine g_aload_n X rfl dJ7_init_2_0 1 rfl ?_
  refine g_objInit X q630 q104 q105 dJ7_init_2_1 4 rfl (Nat.le_of_ble_eq_true rfl) (Nat.le_of_ble_eq_true rfl) ?_
  refine g_aload_n X rfl dJ7_init_2_4 5 rfl ?_
  obtain ⟨hcl, h⟩ := bd0_e h
  refine g_callU1 X (met_J10_getValue l Z a1 a2 v_ml v_count v_value v_cap   hcl) [] [0, 1, 2] [1, 2] (wr := [(a0, .inr (8, [.null, .int 0, .int 0, .int 0])), (a1, .inr (9, [.ref a2, .int 0, .int v_ml, .int v_count])), (a2, .inl (Z.2 2, v_cap, .inl v_value))]) ⟨rfl, rfl, rfl, rfl, rfl, by decide, by decide⟩ 1 gC9 rfl q631 q633 (Or.inr q634) q632 q87 q635 q632 q635 (by decide) md_J10_getValue ⟨(Nat.le_of_ble_eq_true rfl), (Nat.le_of_ble_eq_true rfl)⟩ rfl dJ7_init_2_5 8 rfl 0 0 rfl rfl (Nat.le_of_ble_eq_true rfl) (Nat.le_of_ble_eq_true rfl) (st := []) rfl (Nat.le_of_ble_eq_true rfl) (fun _ => rfl) (fun _ => ?_)
  refine g_astore_n X dJ7_init_2_8 9 rfl (Nat.le_of_ble_eq_true rfl) rfl [some (.ref a0), some (.ref a1), some (.null), some (.ref a2), none] rfl ?_
  refine g_aload_n X rfl dJ7_init_2_9 10 rfl ?_
  obtain ⟨r1, hcl, h⟩ := bd1_e h
  refine g_callU1 X (met_J11_length l Z a1 a2 v_ml v_count v_value v_cap  r1 hcl) [] [0, 1, 2] [1, 2] (wr := [(a0, .inr (8, [.null, .int 0, .int 0, .int 0])), (a1, .inr (9, [.ref a2, .int 0, .int v_ml, .int v_count])), (a2, .inl (Z.2 2, v_cap, .inl v_value))]) ⟨rfl, rfl, rfl, rfl, rfl, by decide, by decide⟩ 1 gC9 rfl q636 q638 (Or.inr q639) q640 q88 q641 q637 q643 (by decide) md_J10_length ⟨(Nat.le_of_ble_eq_true rfl), (Nat.le_of_ble_eq_true rfl)⟩ rfl dJ7_init_2_10 13 rfl 0 0 rfl rfl (Nat.le_of_ble_eq_true rfl) (Nat.le_of_ble_eq_true rfl) (st := []) rfl (Nat.le_of_ble_eq_true rfl) (fun _ => rfl) (fun _ => ?_)
  refine g_istore X dJ7_init_2_13 15 rfl (Nat.le_of_ble_eq_true rfl) rfl [some (.ref a0), some (.ref a1), some (.null), some (.ref a2), some (.int r1)] rfl ?_
  refine g_aload_n X rfl dJ7_init_2_15 16 rfl ?_
  refine g_callU1 X (met_J10_isLatin1 l Z a1 a2 v_ml v_count v_value v_cap  1 rfl) [] [0, 1, 2] [1, 2] (wr := [(a0, .inr (8, [.null, .int 0, .int 0, .int 0])), (a1, .inr (9, [.ref a2, .int 0, .int v_ml, .int v_count])), (a2, .inl (Z.2 2, v_cap, .inl v_value))]) ⟨rfl, rfl, rfl, rfl, rfl, by decide, by decide⟩ 1 gC9 rfl q644 q567 (Or.inr q568) q566 q87 q569 q566 q569 (by decide) md_J10_isLatin1 ⟨(Nat.le_of_ble_eq_true rfl), (Nat.le_of_ble_eq_true rfl)⟩ rfl dJ7_init_2_16 19 rfl 0 0 rfl rfl (Nat.le_of_ble_eq_true rfl) (Nat.le_of_ble_eq_true rfl) (st := []) rfl (Nat.le_of_ble_eq_true rfl) (fun _ => rfl) (fun _ => ?_)
  refine g_wd [(a0, .inr (8, [.null, .int 0, .int 0, .int 0])), (a1, .inr (9, [.ref a2, .int 0, .int v_ml, .int v_count])), (a2, .inl (Z.2 2, v_cap, .inl v_value))] rfl ?_
  refine g_if_eq X dJ7_init_2_19 41 (by decide) 22 rfl (fun h9 => absurd h9 (by decide)) (fun _ => ?_)
  refine g_aload_n X rfl dJ7_init_2_22 23 rfl ?_
  refine g_iconst X 0 dJ7_init_2_23 24 rfl kI_0 ?_
  refine g_putF X gC8 0 rfl 1 (by decide) q811 (fun _ h9 => h9) rfl (hin trivial) rfl (by decide) (by decide) (Nat.le_of_ble_eq_true rfl) dJ7_init_2_24 27 rfl ?_
  refine g_aload_n X rfl dJ7_init_2_27 28 rfl ?_
  refine g_aload_n X rfl dJ7_init_2_28 29 rfl ?_
  refine g_iconst X 0 dJ7_init_2_29 30 rfl kI_0 ?_
  refine g_iload X rfl dJ7_init_2_30 32 rfl ?_
  obtain ⟨w3_o0, w4_o0_N, hcl, h⟩ := bd2_e h
  refine g_callS1 X (met_J8_copyOfRange l Z a2 v_value v_cap 0 r1 rc rs w3_o0 w4_o0_N hcl) [2] [0, 1] [] (wr := [(a0, .inr (8, [.null, .int 0, .int 0, .int 0])), (a1, .inr (9, [.ref a2, .int 0, .int v_ml, .int v_count]))]) ⟨rfl, rfl, rfl, rfl, rfl, by decide, by decide⟩ (lw_S q645 q646 q84 q647) md_J8_copyOfRange ⟨(Nat.le_of_ble_eq_true rfl), (Nat.le_of_ble_eq_true rfl)⟩ rfl dJ7_init_2_32 35 rfl (0 + rc) (0 + rs) rfl rfl (show 0 + rc ≤ rc by omega) (show 0 + rs ≤ rs by omega) (st := [.ref a0]) rfl (Nat.le_of_ble_eq_true rfl) (fun _ => rfl) (fun b5 => ?_)
  refine g_putF X gC8 0 rfl 0 (by decide) q810 (fun _ h9 => h9) rfl (hin trivial) rfl rfl rfl (Nat.le_of_ble_eq_true rfl) dJ7_init_2_35 38 rfl ?_
  refine g_goto X dJ7_init_2_38 97 (by decide) ?_
  cases h
  exact g_vret X dJ7_init_2_97 b5 rfl rfl (show 0 + rc ≤ rc by omega) (show 0 + rs ≤ rs by omega)
/-! java/lang/String.<init>(Ljava/lang/StringBuilder;)V -/
abbrev rm_J7_init (rc rs : Nat) : Room := { frames := 4, cells := rc, slots := rs, locals := 130 }
def F_J7_init (v_count : Int32) (v_value : Nat → Int32) (v_cap : Nat) (rc : Nat) (rs : Nat) : Option ((Nat → Int32) × Nat) :=
  bd2 (F_J7_init_2 v_count v_value v_cap rc rs) fun w1_o0 w2_o0_N =>
  some (w1_o0, w2_o0_N)
theorem met_J7_init (l : Launch) (Z : gZt) (a0 : Nat) (a1 : Nat) (a2 : Nat) (v_ml : Int32) (v_count : Int32) (v_value : Nat → Int32) (v_cap : Nat) (rc rs : Nat) (o0 : Nat → Int32) (o0_N : Nat) (h : F_J7_init v_count v_value v_cap rc rs = some (o0, o0_N)) : Ct l yJ7_init (ws_ yJ7_init cJ7_init 2 none) (rm_J7_init rc rs) Z [.ref a0, .ref a1] [(a0, .inr (8, [.null, .int 0, .int 0, .int 0])), (a1, .inr (9, [.ref a2, .int 0, .int v_ml, .int v_count])), (a2, .inl (Z.2 2, v_cap, .inl v_value))] [] (fun b0 : Nat => (none : Option Value)) (fun b0 : Nat => ([(a0, .inr (8, [.ref b0, .int 0, .int 0, .int 0])), (a1, .inr (9, [.ref a2, .int 0, .int v_ml, .int v_count])), (a2, .inl (Z.2 2, v_cap, .inl v_value)), (b0, .inl (Z.2 2, o0_N, .inl o0))] : va_W)) := by
  refine Ct.of cJ7_init 2 none "java/lang/String" [some (.ref a0), some (.ref a1)] 0 (by decide) rfl (Nat.le_of_ble_eq_true rfl) rfl (fun p e s m args below meth c A X hin => ?_)
  replace hin : True → meth.name = "<init>" := fun _ => hin rfl
  unfold F_J7_init at h
  refine g_aload_n X rfl dJ7_init_0 1 rfl ?_
  refine g_aload_n X rfl dJ7_init_1 2 rfl ?_
  refine g_null X dJ7_init_2 3 rfl ?_
  obtain ⟨w1_o0, w2_o0_N, hcl, h⟩ := bd2_e h
  refine g_callI0W X (met_J7_init_2 l Z a0 a1 a2 v_ml v_count v_value v_cap  rc rs w1_o0 w2_o0_N hcl) rfl q629 q83 q627 q628 rfl md_J7_init_2 ⟨(Nat.le_of_ble_eq_true rfl), (Nat.le_of_ble_eq_true rfl)⟩ rfl dJ7_init_3 6 rfl (0 + rc) (0 + rs) rfl rfl (show 0 + rc ≤ rc by omega) (show 0 + rs ≤ rs by omega) (st := []) rfl (Nat.le_of_ble_eq_true rfl) (fun _ => rfl) (fun b3 => ?_)
  cases h
  exact g_vret X dJ7_init_6 b3 rfl rfl (show 0 + rc ≤ rc by omega) (show 0 + rs ≤ rs by omega)
/-! java/lang/StringBuilder.toString()Ljava/lang/String; -/
abbrev rm_J11_toString (rc rs : Nat) : Room := { frames := 5, cells := rc, slots := rs, locals := 151 }
def F_J11_toString (v_count : Int32) (v_value : Nat → Int32) (v_cap : Nat) (rc : Nat) (rs : Nat) : Option ((Nat → Int32) × Nat) :=
  gch (1 ≤ rc ∧ 4 ≤ rs) <|
  gch (1 ≤ rc ∧ 4 ≤ rs) <|
  bd2 (F_J7_init v_count v_value v_cap (rc - 1) (rs - 4)) fun w2_o0 w3_o0_N =>
  some (w2_o0, w3_o0_N)
theorem met_J11_toString (l : Launch) (Z : gZt) (a0 : Nat) (a1 : Nat) (v_ml : Int32) (v_count : Int32) (v_value : Nat → Int32) (v_cap : Nat) (rc rs : Nat) (o1 : Nat → Int32) (o1_N : Nat) (h : F_J11_toString v_count v_value v_cap rc rs = some (o1, o1_N)) : Ct l yJ11_toString (ws_ yJ11_toString cJ11_toString 1 (some (.object "java/lang/String"))) (rm_J11_toString rc rs) Z [.ref a0] [(a0, .inr (9, [.ref a1, .int 0, .int v_ml, .int v_count])), (a1, .inl (Z.2 2, v_cap, .inl v_value))] [] (fun u : Nat × Nat => (some (.ref u.1) : Option Value)) (fun u : Nat × Nat => ([(a0, .inr (9, [.ref a1, .int 0, .int v_ml, .int v_count])), (a1, .inl (Z.2 2, v_cap, .inl v_value)), (u.1, .inr (8, [.ref u.2, .int 0, .int 0, .int 0])), (u.2, .inl (Z.2 2, o1_N, .inl o1))] : va_W)) := by
  refine Ct.of cJ11_toString 1 (some (.object "java/lang/String")) "java/lang/StringBuilder" [some (.ref a0)] 0 (by decide) rfl (Nat.le_of_ble_eq_true rfl) rfl (fun p e s m args below meth c A X hin => ?_)
  unfold F_J11_toString at h
  obtain ⟨hnn, h⟩ := gch_e h
  refine g_new X gC8 q622 q623 q83 [.null, .int 0, .int 0, .int 0] gD8 dJ11_toString_0 3 rfl 1 4 rfl rfl hnn.1 hnn.2 (fun b1 => ?_)
  refine g_dup X dJ11_toString_3 4 rfl rfl ?_
  refine g_aload_n X rfl dJ11_toString_4 5 rfl ?_
  obtain ⟨hrr, h⟩ := gch_e h
  obtain ⟨w2_o0, w3_o0_N, hcl, h⟩ := bd2_e h
  refine g_callI0 X (met_J7_init l Z b1 a0 a1 v_ml v_count v_value v_cap  (rc - 1) (rs - 4) w2_o0 w3_o0_N hcl) [2, 0, 1] [] [] (wr := []) ⟨rfl, rfl, rfl, rfl, rfl, by decide, by decide⟩ q626 q83 q624 q625 rfl md_J7_init ⟨(Nat.le_of_ble_eq_true rfl), (Nat.le_of_ble_eq_true rfl)⟩ rfl dJ11_toString_5 8 rfl (1 + (rc - 1)) (4 + (rs - 4)) rfl rfl (show 1 + (rc - 1) ≤ rc by omega) (show 4 + (rs - 4) ≤ rs by omega) (st := [.ref b1]) rfl (Nat.le_of_ble_eq_true rfl) (fun _ => rfl) (fun b4 => ?_)
  refine g_keep [1, 2, 0, 3] [(a0, .inr (9, [.ref a1, .int 0, .int v_ml, .int v_count])), (a1, .inl (Z.2 2, v_cap, .inl v_value)), (b1, .inr (8, [.ref b4, .int 0, .int 0, .int 0])), (b4, .inl (Z.2 2, w3_o0_N, .inl w2_o0))] rfl rfl ?_
  cases h
  exact g_aret X dJ11_toString_8 (Or.inl ⟨_, rfl⟩) (b1, b4) rfl rfl (show 1 + (rc - 1) ≤ rc by omega) (show 4 + (rs - 4) ≤ rs by omega)
/-! java/lang/String.coder()B -/
abbrev rm_J7_coder : Room := { frames := 0, cells := 0, slots := 0, locals := 0 }
def F_J7_coder : Option (Int32) :=
  some 0
theorem met_J7_coder (l : Launch) (Z : gZt) (a0 : Nat) (a1 : Nat) (v_hash : Int32) (v_hz : Int32) (v_sb : Nat → Int32) (v_slen : Nat) (r : Int32) (h : F_J7_coder = some r) : Ct l yJ7_coder (ws_ yJ7_coder cJ7_coder 1 (some .byte)) rm_J7_coder Z [.ref a0] [] [(a0, .inr (8, [.ref a1, .int 0, .int v_hash, .int v_hz])), (a1, .inl (Z.2 2, v_slen, .inl v_sb))] (fun _ : Unit => (some (.int r) : Option Value)) (fun _ : Unit => ([] : va_W)) := by
  refine Ct.of cJ7_coder 1 (some .byte) "java/lang/String" [some (.ref a0)] 0 (by decide) rfl (Nat.le_of_ble_eq_true rfl) rfl (fun p e s m args below meth c A X hin => ?_)
  unfold F_J7_coder at h
  refine g_getsC X q755 dJ7_coder_0 3 rfl ?_
  refine g_if_eq X dJ7_coder_3 13 (by decide) 6 rfl (fun h9 => absurd h9 (by decide)) (fun _ => ?_)
  refine g_aload_n X rfl dJ7_coder_6 7 rfl ?_
  refine g_getR X gC8 0 rfl 1 (by decide) q811 (fun _ h9 => h9) rfl dJ7_coder_7 10 rfl ?_
  refine g_goto X dJ7_coder_10 14 (by decide) ?_
  cases h
  exact g_zret X dJ7_coder_14 (by decide) () rfl rfl (Nat.le_of_ble_eq_true rfl) (Nat.le_of_ble_eq_true rfl)
/-! java/lang/String.length()I -/
abbrev rm_J7_length : Room := { frames := 1, cells := 0, slots := 0, locals := 20 }
def F_J7_length (v_slen : Nat) : Option (Int32) :=
  some ((Int32.ofNat v_slen) >>> (0 &&& 31))
theorem met_J7_length (l : Launch) (Z : gZt) (a0 : Nat) (a1 : Nat) (v_hash : Int32) (v_hz : Int32) (v_sb : Nat → Int32) (v_slen : Nat) (r : Int32) (h : F_J7_length v_slen = some r) : Ct l yJ7_length (ws_ yJ7_length cJ7_length 1 (some .int)) rm_J7_length Z [.ref a0] [] [(a0, .inr (8, [.ref a1, .int 0, .int v_hash, .int v_hz])), (a1, .inl (Z.2 2, v_slen, .inl v_sb))] (fun _ : Unit => (some (.int r) : Option Value)) (fun _ : Unit => ([] : va_W)) := by
  refine Ct.of cJ7_length 1 (some .int) "java/lang/String" [some (.ref a0)] 0 (by decide) rfl (Nat.le_of_ble_eq_true rfl) rfl (fun p e s m args below meth c A X hin => ?_)
  unfold F_J7_length at h
  refine g_aload_n X rfl dJ7_length_0 1 rfl ?_
  refine g_getR X gC8 0 rfl 0 (by decide) q810 (fun _ h9 => h9) rfl dJ7_length_1 4 rfl ?_
  refine g_alen2R X 1 rfl (Int32.ofNat v_slen) rfl dJ7_length_4 5 rfl ?_
  refine g_aload_n X rfl dJ7_length_5 6 rfl ?_
  refine g_callV1W X (met_J7_coder l Z a0 a1 v_hash v_hz v_sb v_slen  0 rfl) rfl 0 gC8 rfl rfl (lw_V q751 q752 q753 q83 q754) md_J7_coder ⟨(Nat.le_of_ble_eq_true rfl), (Nat.le_of_ble_eq_true rfl)⟩ rfl dJ7_length_6 9 rfl 0 0 rfl rfl (Nat.le_of_ble_eq_true rfl) (Nat.le_of_ble_eq_true rfl) (st := [.int (Int32.ofNat v_slen)]) rfl (Nat.le_of_ble_eq_true rfl) (fun _ => rfl) (fun _ => ?_)
  refine g_ishr X dJ7_length_9 10 rfl ?_
  cases h
  exact g_iret X dJ7_length_10 () rfl rfl (Nat.le_of_ble_eq_true rfl) (Nat.le_of_ble_eq_true rfl)
/-! java/lang/String.isLatin1()Z -/
abbrev rm_J7_isLatin1 : Room := { frames := 0, cells := 0, slots := 0, locals := 0 }
def F_J7_isLatin1 : Option (Int32) :=
  some 1
theorem met_J7_isLatin1 (l : Launch) (Z : gZt) (a0 : Nat) (a1 : Nat) (v_hash : Int32) (v_hz : Int32) (v_sb : Nat → Int32) (v_slen : Nat) (r : Int32) (h : F_J7_isLatin1 = some r) : Ct l yJ7_isLatin1 (ws_ yJ7_isLatin1 cJ7_isLatin1 1 (some .boolean)) rm_J7_isLatin1 Z [.ref a0] [] [(a0, .inr (8, [.ref a1, .int 0, .int v_hash, .int v_hz])), (a1, .inl (Z.2 2, v_slen, .inl v_sb))] (fun _ : Unit => (some (.int r) : Option Value)) (fun _ : Unit => ([] : va_W)) := by
  refine Ct.of cJ7_isLatin1 1 (some .boolean) "java/lang/String" [some (.ref a0)] 0 (by decide) rfl (Nat.le_of_ble_eq_true rfl) rfl (fun p e s m args below meth c A X hin => ?_)
  unfold F_J7_isLatin1 at h
  refine g_getsC X q755 dJ7_isLatin1_0 3 rfl ?_
  refine g_if_eq X dJ7_isLatin1_3 17 (by decide) 6 rfl (fun h9 => absurd h9 (by decide)) (fun _ => ?_)
  refine g_aload_n X rfl dJ7_isLatin1_6 7 rfl ?_
  refine g_getR X gC8 0 rfl 1 (by decide) q811 (fun _ h9 => h9) rfl dJ7_isLatin1_7 10 rfl ?_
  refine g_if_ne X dJ7_isLatin1_10 17 (by decide) 13 rfl (fun h9 => absurd h9 (by decide)) (fun _ => ?_)
  refine g_iconst X 1 dJ7_isLatin1_13 14 rfl kI_1 ?_
  refine g_goto X dJ7_isLatin1_14 18 (by decide) ?_
  cases h
  exact g_zret X dJ7_isLatin1_18 (by decide) () rfl rfl (Nat.le_of_ble_eq_true rfl) (Nat.le_of_ble_eq_true rfl)
/-! jdk/internal/util/Preconditions.checkIndex(IILjava/util/function/BiFunction;)I -/
abbrev rm_J15_checkIndex : Room := { frames := 0, cells := 0, slots := 0, locals := 0 }
def F_J15_checkIndex (x0 : Int32) (x1 : Int32) : Option (Int32) :=
  if x0 < 0 then
    (none)
  else
    (if x0 < x1 then
      (some x0)
    else
      (none))
theorem met_J15_checkIndex (l : Launch) (Z : gZt) (x0 : Int32) (x1 : Int32) (x2 : Option Nat) (r : Int32) (h : F_J15_checkIndex x0 x1 = some r) : Ct l yJ15_checkIndex (ws_ yJ15_checkIndex cJ15_checkIndex 3 (some .int)) rm_J15_checkIndex Z [.int x0, .int x1, (va_rf x2)] [] [] (fun _ : Unit => (some (.int r) : Option Value)) (fun _ : Unit => ([] : va_W)) := by
  refine Ct.of cJ15_checkIndex 3 (some .int) "jdk/internal/util/Preconditions" [some (.int x0), some (.int x1), some ((va_rf x2))] 0 (by decide) rfl (by cases x2 <;> exact (Nat.le_of_ble_eq_true rfl)) (by cases x2 <;> rfl) (fun p e s m args below meth c A X hin => ?_)
  unfold F_J15_checkIndex at h
  refine g_iload_n X rfl dJ15_checkIndex_0 1 rfl ?_
  refine g_if_lt X dJ15_checkIndex_1 9 (by decide) 4 rfl (fun hc => ?_) (fun hc => ?_)
  · replace h := if_t hc h
    cases h
  · replace h := if_f hc h
    refine g_iload_n X rfl dJ15_checkIndex_4 5 rfl ?_
    refine g_iload_n X rfl dJ15_checkIndex_5 6 rfl ?_
    refine g_icmp_lt X dJ15_checkIndex_6 16 (by decide) 9 rfl (fun hc => ?_) (fun hc => ?_)
    · replace h := if_t hc h
      refine g_iload_n X rfl dJ15_checkIndex_16 17 rfl ?_
      cases h
      exact g_iret X dJ15_checkIndex_17 () rfl rfl (Nat.le_of_ble_eq_true rfl) (Nat.le_of_ble_eq_true rfl)
    · replace h := if_f hc h
      cases h
/-! java/lang/String.checkIndex(II)V -/
abbrev rm_J7_checkIndex : Room := { frames := 1, cells := 0, slots := 0, locals := 22 }
def F_J7_checkIndex (x0 : Int32) (x1 : Int32) : Option (Unit) :=
  bd1 (F_J15_checkIndex x0 x1) fun r2 =>
  some ()
theorem met_J7_checkIndex (l : Launch) (Z : gZt) (x0 : Int32) (x1 : Int32) (h : F_J7_checkIndex x0 x1 = some ()) : Ct l yJ7_checkIndex (ws_ yJ7_checkIndex cJ7_checkIndex 2 none) rm_J7_checkIndex Z [.int x0, .int x1] [] [] (fun _ : Unit => (none : Option Value)) (fun _ : Unit => ([] : va_W)) := by
  refine Ct.of cJ7_checkIndex 2 none "java/lang/String" [some (.int x0), some (.int x1)] 0 (by decide) rfl (Nat.le_of_ble_eq_true rfl) rfl (fun p e s m args below meth c A X hin => ?_)
  unfold F_J7_checkIndex at h
  refine g_iload_n X rfl dJ7_checkIndex_0 1 rfl ?_
  refine g_iload_n X rfl dJ7_checkIndex_1 2 rfl ?_
  refine g_getsF X q592 dJ7_checkIndex_2 5 rfl (fun g1 => ?_)
  obtain ⟨r2, hcl, h⟩ := bd1_e h
  refine g_callS1Z X (met_J15_checkIndex l Z   x0 x1 g1 r2 hcl) (lw_S q615 q616 q93 q617) md_J15_checkIndex ⟨(Nat.le_of_ble_eq_true rfl), (Nat.le_of_ble_eq_true rfl)⟩ rfl dJ7_checkIndex_5 8 rfl 0 0 rfl rfl (Nat.le_of_ble_eq_true rfl) (Nat.le_of_ble_eq_true rfl) (st := []) rfl (Nat.le_of_ble_eq_true rfl) (fun _ => rfl) (fun _ => ?_)
  refine g_pop X dJ7_checkIndex_8 9 rfl rfl ?_
  exact g_vret X dJ7_checkIndex_9 () rfl rfl (Nat.le_of_ble_eq_true rfl) (Nat.le_of_ble_eq_true rfl)
/-! java/lang/StringLatin1.charAt([BI)C -/
abbrev rm_J16_charAt : Room := { frames := 2, cells := 0, slots := 0, locals := 43 }
def F_J16_charAt (v_sb : Nat → Int32) (v_slen : Nat) (x1 : Int32) : Option (Int32) :=
  bd0 (F_J7_checkIndex x1 (Int32.ofNat v_slen)) <|
  gin x1 v_slen <|
  gch (((((v_sb x1.toNatClampNeg) &&& 255).toUInt32 % 65536).toInt32).toUInt32.toUInt16.toUInt32.toInt32 = (((v_sb x1.toNatClampNeg) &&& 255).toUInt32 % 65536).toInt32) <|
  some ((((v_sb x1.toNatClampNeg) &&& 255).toUInt32 % 65536).toInt32)
theorem met_J16_charAt (l : Launch) (Z : gZt) (a0 : Nat) (v_sb : Nat → Int32) (v_slen : Nat) (x1 : Int32) (r : Int32) (h : F_J16_charAt v_sb v_slen x1 = some r) : Ct l yJ16_charAt (ws_ yJ16_charAt cJ16_charAt 2 (some .char)) rm_J16_charAt Z [.ref a0, .int x1] [] [(a0, .inl (Z.2 2, v_slen, .inl v_sb))] (fun _ : Unit => (some (.int r) : Option Value)) (fun _ : Unit => ([] : va_W)) := by
  refine Ct.of cJ16_charAt 2 (some .char) "java/lang/StringLatin1" [some (.ref a0), some (.int x1)] 0 (by decide) rfl (Nat.le_of_ble_eq_true rfl) rfl (fun p e s m args below meth c A X hin => ?_)
  unfold F_J16_charAt at h
  refine g_iload_n X rfl dJ16_charAt_0 1 rfl ?_
  refine g_aload_n X rfl dJ16_charAt_1 2 rfl ?_
  refine g_alen2R X 0 rfl (Int32.ofNat v_slen) rfl dJ16_charAt_2 3 rfl ?_
  obtain ⟨hcl, h⟩ := bd0_e h
  refine g_callS0Z X (met_J7_checkIndex l Z   x1 (Int32.ofNat v_slen)  hcl) (lw_S q1265 q613 q83 q614) md_J7_checkIndex ⟨(Nat.le_of_ble_eq_true rfl), (Nat.le_of_ble_eq_true rfl)⟩ rfl dJ16_charAt_3 6 rfl 0 0 rfl rfl (Nat.le_of_ble_eq_true rfl) (Nat.le_of_ble_eq_true rfl) (st := []) rfl (Nat.le_of_ble_eq_true rfl) (fun _ => rfl) (fun _ => ?_)
  refine g_aload_n X rfl dJ16_charAt_6 7 rfl ?_
  refine g_iload_n X rfl dJ16_charAt_7 8 rfl ?_
  obtain ⟨hi, h⟩ := gin_e h
  refine g_baldR X 0 rfl hi dJ16_charAt_8 9 rfl ?_
  refine g_sipush X 255 dJ16_charAt_9 12 rfl kS_255 ?_
  refine g_iand X dJ16_charAt_12 13 rfl ?_
  refine g_i2c X dJ16_charAt_13 14 rfl ?_
  obtain ⟨hz, h⟩ := gch_e h
  cases h
  exact g_zret X dJ16_charAt_14 (gb_ch hz) () rfl rfl (Nat.le_of_ble_eq_true rfl) (Nat.le_of_ble_eq_true rfl)
/-! java/lang/String.charAt(I)C -/
abbrev rm_J7_charAt : Room := { frames := 3, cells := 0, slots := 0, locals := 64 }
def F_J7_charAt (v_sb : Nat → Int32) (v_slen : Nat) (x1 : Int32) : Option (Int32) :=
  bd1 (F_J16_charAt v_sb v_slen x1) fun r2 =>
  gch (r2.toUInt32.toUInt16.toUInt32.toInt32 = r2) <|
  some r2
theorem met_J7_charAt (l : Launch) (Z : gZt) (a0 : Nat) (a1 : Nat) (v_hash : Int32) (v_hz : Int32) (v_sb : Nat → Int32) (v_slen : Nat) (x1 : Int32) (r : Int32) (h : F_J7_charAt v_sb v_slen x1 = some r) : Ct l yJ7_charAt (ws_ yJ7_charAt cJ7_charAt 2 (some .char)) rm_J7_charAt Z [.ref a0, .int x1] [] [(a0, .inr (8, [.ref a1, .int 0, .int v_hash, .int v_hz])), (a1, .inl (Z.2 2, v_slen, .inl v_sb))] (fun _ : Unit => (some (.int r) : Option Value)) (fun _ : Unit => ([] : va_W)) := by
  refine Ct.of cJ7_charAt 2 (some .char) "java/lang/String" [some (.ref a0), some (.int x1)] 0 (by decide) rfl (Nat.le_of_ble_eq_true rfl) rfl (fun p e s m args below meth c A X hin => ?_)
  unfold F_J7_charAt at h
  refine g_aload_n X rfl dJ7_charAt_0 1 rfl ?_
  refine g_callV1W X (met_J7_isLatin1 l Z a0 a1 v_hash v_hz v_sb v_slen  1 rfl) rfl 0 gC8 rfl rfl (lw_V q830 q831 q832 q83 q833) md_J7_isLatin1 ⟨(Nat.le_of_ble_eq_true rfl), (Nat.le_of_ble_eq_true rfl)⟩ rfl dJ7_charAt_1 4 rfl 0 0 rfl rfl (Nat.le_of_ble_eq_true rfl) (Nat.le_of_ble_eq_true rfl) (st := []) rfl (Nat.le_of_ble_eq_true rfl) (fun _ => rfl) (fun _ => ?_)
  refine g_if_eq X dJ7_charAt_4 16 (by decide) 7 rfl (fun h9 => absurd h9 (by decide)) (fun _ => ?_)
  refine g_aload_n X rfl dJ7_charAt_7 8 rfl ?_
  refine g_getR X gC8 0 rfl 0 (by decide) q810 (fun _ h9 => h9) rfl dJ7_charAt_8 11 rfl ?_
  refine g_iload_n X rfl dJ7_charAt_11 12 rfl ?_
  obtain ⟨r2, hcl, h⟩ := bd1_e h
  refine g_callS1 X (met_J16_charAt l Z a1 v_sb v_slen x1 r2 hcl) [] [] [1] (wr := []) ⟨rfl, rfl, rfl, rfl, rfl, by decide, by decide⟩ (lw_S q1262 q1263 q94 q1264) md_J16_charAt ⟨(Nat.le_of_ble_eq_true rfl), (Nat.le_of_ble_eq_true rfl)⟩ rfl dJ7_charAt_12 15 rfl 0 0 rfl rfl (Nat.le_of_ble_eq_true rfl) (Nat.le_of_ble_eq_true rfl) (st := []) rfl (Nat.le_of_ble_eq_true rfl) (fun _ => rfl) (fun _ => ?_)
  obtain ⟨hz, h⟩ := gch_e h
  cases h
  exact g_zret X dJ7_charAt_15 (gb_ch hz) () rfl rfl (Nat.le_of_ble_eq_true rfl) (Nat.le_of_ble_eq_true rfl)
/-! jdk/internal/util/ArraysSupport.signedHashCode(I[BII)I -/
abbrev rm_J14_signedHashCode : Room := { frames := 0, cells := 0, slots := 0, locals := 0 }
def B_J14_signedHashCode_8 (K8 : (Int32) → (Int32) → (Int32) → (Nat → Int32) → (Nat) → Option (Int32)) (x0 : Int32) (x4 : Int32) (x5 : Int32) (v_sb : Nat → Int32) (v_slen : Nat) : Option (Int32) :=
  if x4 ≤ x5 then
    (some x0)
  else
    (gin x5 v_slen <|
    nm ((31 * x0) + ((v_sb x5.toNatClampNeg) &&& 255)) fun t1 =>
    K8 t1 x4 (x5 + 1) v_sb v_slen)
def F_J14_signedHashCode_8 : Nat → (Int32) → (Int32) → (Int32) → (Nat → Int32) → (Nat) → Option (Int32)
  | 0 => fun _ _ _ _ _ => none
  | n + 1 => B_J14_signedHashCode_8 (F_J14_signedHashCode_8 n)
def F_J14_signedHashCode (v_sb : Nat → Int32) (v_slen : Nat) (x0 : Int32) (x2 : Int32) (x3 : Int32) : Option (Int32) :=
  F_J14_signedHashCode_8 gFU x0 (x2 + x3) x2 v_sb v_slen
theorem w_J14_signedHashCode_8 {p : Program} {l : Launch} {e : Env} {s : State} {m : MethodId} {args : Array Value} {below : List Frame} {meth : Method} {c : Code} {Z : gZt} {A : Nat → Prop} (a1 : Nat) (v_sb : Nat → Int32) (v_slen : Nat) (X : gX p s m args meth c Z A cJ14_signedHashCode "jdk/internal/util/ArraysSupport" 6 (some .int) [(a1, .inl (Z.2 2, v_slen, .inl v_sb))]) (r : Int32)  : ∀ (n : Nat) (x0 : Int32) (x4 : Int32) (x5 : Int32), F_J14_signedHashCode_8 n x0 x4 x5 v_sb v_slen = some r → G p l e rm_J14_signedHashCode s m args below meth c Z A 6 (MQ below (gPost Z A (fun _ : Unit => (some (.int r) : Option Value)) (fun _ : Unit => ([] : va_W))) args s 0 0 A) [] 0 0 8 [some (.int x0), some (.ref a1), none, none, some (.int x4), some (.int x5)] [] := by
  intro n
  induction n with
  | zero =>
    intro x0 x4 x5 h
    cases h
  | succ n hK8 =>
    intro x0 x4 x5 h
    replace h : B_J14_signedHashCode_8 (F_J14_signedHashCode_8 n) x0 x4 x5 v_sb v_slen = some r := h
    unfold B_J14_signedHashCode_8 at h
    refine g_iload X rfl dJ14_signedHashCode_8 10 rfl ?_
    refine g_iload X rfl dJ14_signedHashCode_10 12 rfl ?_
    refine g_icmp_ge X dJ14_signedHashCode_12 35 (by decide) 15 rfl (fun hc => ?_) (fun hc => ?_)
    · replace h := if_t hc h
      refine g_iload_n X rfl dJ14_signedHashCode_35 36 rfl ?_
      cases h
      exact g_iret X dJ14_signedHashCode_36 () rfl rfl (Nat.le_of_ble_eq_true rfl) (Nat.le_of_ble_eq_true rfl)
    · replace h := if_f hc h
      refine g_bipush X 31 dJ14_signedHashCode_15 17 rfl kB_31 ?_
      refine g_iload_n X rfl dJ14_signedHashCode_17 18 rfl ?_
      refine g_imul X dJ14_signedHashCode_18 19 rfl ?_
      refine g_aload_n X rfl dJ14_signedHashCode_19 20 rfl ?_
      refine g_iload X rfl dJ14_signedHashCode_20 22 rfl ?_
      obtain ⟨hi, h⟩ := gin_e h
      refine g_baldR X 0 rfl hi dJ14_signedHashCode_22 23 rfl ?_
      refine g_sipush X 255 dJ14_signedHashCode_23 26 rfl kS_255 ?_
      refine g_iand X dJ14_signedHashCode_26 27 rfl ?_
      refine g_iadd X dJ14_signedHashCode_27 28 rfl ?_
      refine g_topi (fun t1 et1 => ?_)
      replace h := nm_at et1 h
      refine g_istore_n X dJ14_signedHashCode_28 29 rfl (Nat.le_of_ble_eq_true rfl) rfl [some (.int t1), some (.ref a1), none, none, some (.int x4), some (.int x5)] rfl ?_
      refine g_iinc X 1 rfl dJ14_signedHashCode_29 32 rfl kI_1 (Nat.le_of_ble_eq_true rfl) rfl [some (.int t1), some (.ref a1), none, none, some (.int x4), some (.int (x5 + 1))] rfl ?_
      refine g_goto X dJ14_signedHashCode_32 8 (by decide) ?_
      exact hK8 t1 x4 (x5 + 1) h
theorem met_J14_signedHashCode (l : Launch) (Z : gZt) (a1 : Nat) (v_sb : Nat → Int32) (v_slen : Nat) (x0 : Int32) (x2 : Int32) (x3 : Int32) (r : Int32) (h : F_J14_signedHashCode v_sb v_slen x0 x2 x3 = some r) : Ct l yJ14_signedHashCode (ws_ yJ14_signedHashCode cJ14_signedHashCode 6 (some .int)) rm_J14_signedHashCode Z [.int x0, .ref a1, .int x2, .int x3] [] [(a1, .inl (Z.2 2, v_slen, .inl v_sb))] (fun _ : Unit => (some (.int r) : Option Value)) (fun _ : Unit => ([] : va_W)) := by
  refine Ct.of cJ14_signedHashCode 6 (some .int) "jdk/internal/util/ArraysSupport" [some (.int x0), some (.ref a1), some (.int x2), some (.int x3), none, none] 2 (by decide) rfl (Nat.le_of_ble_eq_true rfl) rfl (fun p e s m args below meth c A X hin => ?_)
  unfold F_J14_signedHashCode at h
  refine g_iload_n X rfl dJ14_signedHashCode_0 1 rfl ?_
  refine g_iload_n X rfl dJ14_signedHashCode_1 2 rfl ?_
  refine g_iadd X dJ14_signedHashCode_2 3 rfl ?_
  refine g_istore X dJ14_signedHashCode_3 5 rfl (Nat.le_of_ble_eq_true rfl) rfl [some (.int x0), some (.ref a1), some (.int x2), some (.int x3), some (.int (x2 + x3)), none] rfl ?_
  refine g_iload_n X rfl dJ14_signedHashCode_5 6 rfl ?_
  refine g_istore X dJ14_signedHashCode_6 8 rfl (Nat.le_of_ble_eq_true rfl) rfl [some (.int x0), some (.ref a1), some (.int x2), some (.int x3), some (.int (x2 + x3)), some (.int x2)] rfl ?_
  refine g_kill (j := 2) [some (.int x0), some (.ref a1), none, some (.int x3), some (.int (x2 + x3)), some (.int x2)] rfl ?_
  refine g_kill (j := 3) [some (.int x0), some (.ref a1), none, none, some (.int (x2 + x3)), some (.int x2)] rfl ?_
  exact w_J14_signedHashCode_8 a1 v_sb v_slen X  r    gFU x0 (x2 + x3) x2 h
/-! jdk/internal/util/ArraysSupport.vectorizedHashCode(Ljava/lang/Object;IIII)I -/
abbrev rm_J14_vectorizedHashCode : Room := { frames := 1, cells := 0, slots := 0, locals := 25 }
def F_J14_vectorizedHashCode_157 (s0 : Int32) : Option (Int32) :=
  some s0
def F_J14_vectorizedHashCode (v_sb : Nat → Int32) (v_slen : Nat) (x1 : Int32) (x2 : Int32) (x3 : Int32) : Option (Int32) :=
  bd1 (F_J14_signedHashCode v_sb v_slen x3 x1 x2) fun r1 =>
  F_J14_vectorizedHashCode_157 r1
theorem w_J14_vectorizedHashCode_157 {p : Program} {l : Launch} {e : Env} {s : State} {m : MethodId} {args : Array Value} {below : List Frame} {meth : Method} {c : Code} {Z : gZt} {A : Nat → Prop} (a0 : Nat) (v_sb : Nat → Int32) (v_slen : Nat) (X : gX p s m args meth c Z A cJ14_vectorizedHashCode "jdk/internal/util/ArraysSupport" 5 (some .int) [(a0, .inl (Z.2 2, v_slen, .inl v_sb))]) (r : Int32)  (s0 : Int32) (h : F_J14_vectorizedHashCode_157 s0 = some r) : G p l e rm_J14_vectorizedHashCode s m args below meth c Z A 5 (MQ below (gPost Z A (fun _ : Unit => (some (.int r) : Option Value)) (fun _ : Unit => ([] : va_W))) args s 0 0 A) [] 0 0 157 [none, none, none, none, none] [.int s0] := by
  unfold F_J14_vectorizedHashCode_157 at h
  cases h
  exact g_iret X dJ14_vectorizedHashCode_157 () rfl rfl (Nat.le_of_ble_eq_true rfl) (Nat.le_of_ble_eq_true rfl)
theorem met_J14_vectorizedHashCode (l : Launch) (Z : gZt) (a0 : Nat) (v_sb : Nat → Int32) (v_slen : Nat) (x1 : Int32) (x2 : Int32) (x3 : Int32) (r : Int32) (h : F_J14_vectorizedHashCode v_sb v_slen x1 x2 x3 = some r) : Ct l yJ14_vectorizedHashCode (ws_ yJ14_vectorizedHashCode cJ14_vectorizedHashCode 5 (some .int)) rm_J14_vectorizedHashCode Z [.ref a0, .int x1, .int x2, .int x3, .int 4] [] [(a0, .inl (Z.2 2, v_slen, .inl v_sb))] (fun _ : Unit => (some (.int r) : Option Value)) (fun _ : Unit => ([] : va_W)) := by
  refine Ct.of cJ14_vectorizedHashCode 5 (some .int) "jdk/internal/util/ArraysSupport" [some (.ref a0), some (.int x1), some (.int x2), some (.int x3), some (.int 4)] 0 (by decide) rfl (Nat.le_of_ble_eq_true rfl) rfl (fun p e s m args below meth c A X hin => ?_)
  unfold F_J14_vectorizedHashCode at h
  refine g_iload X rfl dJ14_vectorizedHashCode_0 2 rfl ?_
  refine g_tabIn X dJ14_vectorizedHashCode_2 44 4 rfl (by decide) (by decide) rfl (by decide) ?_
  refine g_iload_n X rfl dJ14_vectorizedHashCode_44 45 rfl ?_
  refine g_aload_n X rfl dJ14_vectorizedHashCode_45 46 rfl ?_
  refine g_castB X 0 rfl q840 dJ14_vectorizedHashCode_46 49 rfl ?_
  refine g_iload_n X rfl dJ14_vectorizedHashCode_49 50 rfl ?_
  refine g_iload_n X rfl dJ14_vectorizedHashCode_50 51 rfl ?_
  obtain ⟨r1, hcl, h⟩ := bd1_e h
  refine g_callS1W X (met_J14_signedHashCode l Z a0 v_sb v_slen x3 x1 x2 r1 hcl) rfl (lw_S q841 q842 q92 q843) md_J14_signedHashCode ⟨(Nat.le_of_ble_eq_true rfl), (Nat.le_of_ble_eq_true rfl)⟩ rfl dJ14_vectorizedHashCode_51 54 rfl 0 0 rfl rfl (Nat.le_of_ble_eq_true rfl) (Nat.le_of_ble_eq_true rfl) (st := []) rfl (Nat.le_of_ble_eq_true rfl) (fun _ => rfl) (fun _ => ?_)
  refine g_goto X dJ14_vectorizedHashCode_54 157 (by decide) ?_
  refine g_kill (j := 0) [none, some (.int x1), some (.int x2), some (.int x3), some (.int 4)] rfl ?_
  refine g_kill (j := 1) [none, none, some (.int x2), some (.int x3), some (.int 4)] rfl ?_
  refine g_kill (j := 2) [none, none, none, some (.int x3), some (.int 4)] rfl ?_
  refine g_kill (j := 3) [none, none, none, none, some (.int 4)] rfl ?_
  refine g_kill (j := 4) [none, none, none, none, none] rfl ?_
  exact w_J14_vectorizedHashCode_157 a0 v_sb v_slen X  r    r1 h
/-! java/lang/StringLatin1.hashCode([B)I -/
abbrev rm_J16_hashCode : Room := { frames := 2, cells := 0, slots := 0, locals := 49 }
def F_J16_hashCode_51 (s0 : Int32) : Option (Int32) :=
  some s0
def F_J16_hashCode (v_sb : Nat → Int32) (v_slen : Nat) : Option (Int32) :=
  if (Int32.ofNat v_slen) = 0 then
    (F_J16_hashCode_51 0)
  else
    (if (Int32.ofNat v_slen) = 1 then
      (gin 0 v_slen <|
      F_J16_hashCode_51 ((v_sb (Int32.toNatClampNeg 0)) &&& 255))
    else
      (bd1 (F_J14_vectorizedHashCode v_sb v_slen 0 (Int32.ofNat v_slen) 0) fun r1 =>
      F_J16_hashCode_51 r1))
theorem w_J16_hashCode_51 {p : Program} {l : Launch} {e : Env} {s : State} {m : MethodId} {args : Array Value} {below : List Frame} {meth : Method} {c : Code} {Z : gZt} {A : Nat → Prop} (a0 : Nat) (v_sb : Nat → Int32) (v_slen : Nat) (X : gX p s m args meth c Z A cJ16_hashCode "java/lang/StringLatin1" 1 (some .int) [(a0, .inl (Z.2 2, v_slen, .inl v_sb))]) (r : Int32)  (s0 : Int32) (h : F_J16_hashCode_51 s0 = some r) : G p l e rm_J16_hashCode s m args below meth c Z A 1 (MQ below (gPost Z A (fun _ : Unit => (some (.int r) : Option Value)) (fun _ : Unit => ([] : va_W))) args s 0 0 A) [] 0 0 51 [none] [.int s0] := by
  unfold F_J16_hashCode_51 at h
  cases h
  exact g_iret X dJ16_hashCode_51 () rfl rfl (Nat.le_of_ble_eq_true rfl) (Nat.le_of_ble_eq_true rfl)
theorem met_J16_hashCode (l : Launch) (Z : gZt) (a0 : Nat) (v_sb : Nat → Int32) (v_slen : Nat) (r : Int32) (h : F_J16_hashCode v_sb v_slen = some r) : Ct l yJ16_hashCode (ws_ yJ16_hashCode cJ16_hashCode 1 (some .int)) rm_J16_hashCode Z [.ref a0] [] [(a0, .inl (Z.2 2, v_slen, .inl v_sb))] (fun _ : Unit => (some (.int r) : Option Value)) (fun _ : Unit => ([] : va_W)) := by
  refine Ct.of cJ16_hashCode 1 (some .int) "java/lang/StringLatin1" [some (.ref a0)] 0 (by decide) rfl (Nat.le_of_ble_eq_true rfl) rfl (fun p e s m args below meth c A X hin => ?_)
  unfold F_J16_hashCode at h
  refine g_aload_n X rfl dJ16_hashCode_0 1 rfl ?_
  refine g_alen2R X 0 rfl (Int32.ofNat v_slen) rfl dJ16_hashCode_1 2 rfl ?_
  by_cases hc0 : (Int32.ofNat v_slen) = 0
  · replace h := if_t hc0 h
    refine g_look (off := 26) X dJ16_hashCode_2 28 (by decide) (by rw [hc0] <;> rfl) (by decide) ?_
    refine g_iconst X 0 dJ16_hashCode_28 29 rfl kI_0 ?_
    refine g_goto X dJ16_hashCode_29 51 (by decide) ?_
    refine g_kill (j := 0) [none] rfl ?_
    exact w_J16_hashCode_51 a0 v_sb v_slen X  r    0 h
  replace h := if_f hc0 h
  by_cases hc1 : (Int32.ofNat v_slen) = 1
  · replace h := if_t hc1 h
    refine g_look (off := 30) X dJ16_hashCode_2 32 (by decide) (by rw [hc1] <;> rfl) (by decide) ?_
    refine g_aload_n X rfl dJ16_hashCode_32 33 rfl ?_
    refine g_iconst X 0 dJ16_hashCode_33 34 rfl kI_0 ?_
    obtain ⟨hi, h⟩ := gin_e h
    refine g_baldR X 0 rfl hi dJ16_hashCode_34 35 rfl ?_
    refine g_sipush X 255 dJ16_hashCode_35 38 rfl kS_255 ?_
    refine g_iand X dJ16_hashCode_38 39 rfl ?_
    refine g_goto X dJ16_hashCode_39 51 (by decide) ?_
    refine g_kill (j := 0) [none] rfl ?_
    exact w_J16_hashCode_51 a0 v_sb v_slen X  r    ((v_sb (Int32.toNatClampNeg 0)) &&& 255) h
  replace h := if_f hc1 h
  refine g_look (off := 40) X dJ16_hashCode_2 42 (by decide) ((lv_osw hc0 (by decide)).trans ((lv_osw hc1 (by decide)).trans rfl)) (by decide) ?_
  refine g_aload_n X rfl dJ16_hashCode_42 43 rfl ?_
  refine g_iconst X 0 dJ16_hashCode_43 44 rfl kI_0 ?_
  refine g_aload_n X rfl dJ16_hashCode_44 45 rfl ?_
  refine g_alen2R X 0 rfl (Int32.ofNat v_slen) rfl dJ16_hashCode_45 46 rfl ?_
  refine g_iconst X 0 dJ16_hashCode_46 47 rfl kI_0 ?_
  refine g_iconst X 4 dJ16_hashCode_47 48 rfl kI_4 ?_
  obtain ⟨r1, hcl, h⟩ := bd1_e h
  refine g_callS1W X (met_J14_vectorizedHashCode l Z a0 v_sb v_slen 0 (Int32.ofNat v_slen) 0 r1 hcl) rfl (lw_S q837 q838 q92 q839) md_J14_vectorizedHashCode ⟨(Nat.le_of_ble_eq_true rfl), (Nat.le_of_ble_eq_true rfl)⟩ rfl dJ16_hashCode_48 51 rfl 0 0 rfl rfl (Nat.le_of_ble_eq_true rfl) (Nat.le_of_ble_eq_true rfl) (st := []) rfl (Nat.le_of_ble_eq_true rfl) (fun _ => rfl) (fun _ => ?_)
  refine g_kill (j := 0) [none] rfl ?_
  exact w_J16_hashCode_51 a0 v_sb v_slen X  r    r1 h
/-! java/lang/String.hashCode()I -/
abbrev rm_J7_hashCode : Room := { frames := 3, cells := 0, slots := 0, locals := 69 }
def F_J7_hashCode_58 (v_hash : Int32) (v_hz : Int32) (x1 : Int32) : Option (Int32 × Int32 × Int32) :=
  some (x1, v_hash, v_hz)
def F_J7_hashCode (v_hash : Int32) (v_hz : Int32) (v_sb : Nat → Int32) (v_slen : Nat) : Option (Int32 × Int32 × Int32) :=
  if v_hash = 0 then
    (if v_hz = 0 then
      (bd1 (F_J16_hashCode v_sb v_slen) fun r2 =>
      if r2 = 0 then
        (gch ((1 : Int32) = 0 ∨ (1 : Int32) = 1) <|
        F_J7_hashCode_58 v_hash 1 r2)
      else
        (F_J7_hashCode_58 r2 v_hz r2))
    else
      (F_J7_hashCode_58 v_hash v_hz v_hash))
  else
    (F_J7_hashCode_58 v_hash v_hz v_hash)
theorem w_J7_hashCode_58 {p : Program} {l : Launch} {e : Env} {s : State} {m : MethodId} {args : Array Value} {below : List Frame} {meth : Method} {c : Code} {Z : gZt} {A : Nat → Prop} (a0 : Nat) (a1 : Nat) (v_sb : Nat → Int32) (v_slen : Nat) (X : gX p s m args meth c Z A cJ7_hashCode "java/lang/String" 2 (some .int) [(a1, .inl (Z.2 2, v_slen, .inl v_sb))]) (r : Int32) (r_hash : Int32) (r_hz : Int32)  (v_hash : Int32) (v_hz : Int32) (x1 : Int32) (h : F_J7_hashCode_58 v_hash v_hz x1 = some (r, r_hash, r_hz)) : G p l e rm_J7_hashCode s m args below meth c Z A 2 (MQ below (gPost Z A (fun _ : Unit => (some (.int r) : Option Value)) (fun _ : Unit => ([(a0, .inr (8, [.ref a1, .int 0, .int r_hash, .int r_hz]))] : va_W))) args s 0 0 A) [(a0, .inr (8, [.ref a1, .int 0, .int v_hash, .int v_hz]))] 0 0 58 [none, some (.int x1)] [] := by
  unfold F_J7_hashCode_58 at h
  refine g_iload_n X rfl dJ7_hashCode_58 59 rfl ?_
  cases h
  exact g_iret X dJ7_hashCode_59 () rfl rfl (Nat.le_of_ble_eq_true rfl) (Nat.le_of_ble_eq_true rfl)
theorem met_J7_hashCode (l : Launch) (Z : gZt) (a0 : Nat) (a1 : Nat) (v_hash : Int32) (v_hz : Int32) (v_sb : Nat → Int32) (v_slen : Nat) (r : Int32) (r_hash : Int32) (r_hz : Int32) (h : F_J7_hashCode v_hash v_hz v_sb v_slen = some (r, r_hash, r_hz)) : Ct l yJ7_hashCode (ws_ yJ7_hashCode cJ7_hashCode 2 (some .int)) rm_J7_hashCode Z [.ref a0] [(a0, .inr (8, [.ref a1, .int 0, .int v_hash, .int v_hz]))] [(a1, .inl (Z.2 2, v_slen, .inl v_sb))] (fun _ : Unit => (some (.int r) : Option Value)) (fun _ : Unit => ([(a0, .inr (8, [.ref a1, .int 0, .int r_hash, .int r_hz]))] : va_W)) := by
  refine Ct.of cJ7_hashCode 2 (some .int) "java/lang/String" [some (.ref a0), none] 1 (by decide) rfl (Nat.le_of_ble_eq_true rfl) rfl (fun p e s m args below meth c A X hin => ?_)
  unfold F_J7_hashCode at h
  refine g_aload_n X rfl dJ7_hashCode_0 1 rfl ?_
  refine g_get X gC8 0 rfl 2 (by decide) q812 (fun _ h9 => h9) rfl dJ7_hashCode_1 4 rfl ?_
  refine g_istore_n X dJ7_hashCode_4 5 rfl (Nat.le_of_ble_eq_true rfl) rfl [some (.ref a0), some (.int v_hash)] rfl ?_
  refine g_iload_n X rfl dJ7_hashCode_5 6 rfl ?_
  refine g_if_ne X dJ7_hashCode_6 58 (by decide) 9 rfl (fun hc => ?_) (fun hc => ?_)
  · replace h := if_f hc h
    refine g_kill (j := 0) [none, some (.int v_hash)] rfl ?_
    exact w_J7_hashCode_58 a0 a1 v_sb v_slen X  r r_hash r_hz    v_hash v_hz v_hash h
  · replace h := if_t hc h
    refine g_aload_n X rfl dJ7_hashCode_9 10 rfl ?_
    refine g_get X gC8 0 rfl 3 (by decide) q813 (fun _ h9 => h9) rfl dJ7_hashCode_10 13 rfl ?_
    refine g_if_ne X dJ7_hashCode_13 58 (by decide) 16 rfl (fun hc => ?_) (fun hc => ?_)
    · replace h := if_f hc h
      refine g_kill (j := 0) [none, some (.int v_hash)] rfl ?_
      exact w_J7_hashCode_58 a0 a1 v_sb v_slen X  r r_hash r_hz    v_hash v_hz v_hash h
    · replace h := if_t hc h
      refine g_aload_n X rfl dJ7_hashCode_16 17 rfl ?_
      refine g_callV1 X (met_J7_isLatin1 l Z a0 a1 v_hash v_hz v_sb v_slen  1 rfl) [] [0] [0, 1] (wr := [(a0, .inr (8, [.ref a1, .int 0, .int v_hash, .int v_hz]))]) ⟨rfl, rfl, rfl, rfl, rfl, by decide, by decide⟩ 0 gC8 rfl rfl (lw_V q830 q831 q832 q83 q833) md_J7_isLatin1 ⟨(Nat.le_of_ble_eq_true rfl), (Nat.le_of_ble_eq_true rfl)⟩ rfl dJ7_hashCode_17 20 rfl 0 0 rfl rfl (Nat.le_of_ble_eq_true rfl) (Nat.le_of_ble_eq_true rfl) (st := []) rfl (Nat.le_of_ble_eq_true rfl) (fun _ => rfl) (fun _ => ?_)
      refine g_if_eq X dJ7_hashCode_20 33 (by decide) 23 rfl (fun h9 => absurd h9 (by decide)) (fun _ => ?_)
      refine g_aload_n X rfl dJ7_hashCode_23 24 rfl ?_
      refine g_get X gC8 0 rfl 0 (by decide) q810 (fun _ h9 => h9) rfl dJ7_hashCode_24 27 rfl ?_
      obtain ⟨r2, hcl, h⟩ := bd1_e h
      refine g_callS1 X (met_J16_hashCode l Z a1 v_sb v_slen  r2 hcl) [] [0] [1] (wr := [(a0, .inr (8, [.ref a1, .int 0, .int v_hash, .int v_hz]))]) ⟨rfl, rfl, rfl, rfl, rfl, by decide, by decide⟩ (lw_S q834 q835 q94 q836) md_J16_hashCode ⟨(Nat.le_of_ble_eq_true rfl), (Nat.le_of_ble_eq_true rfl)⟩ rfl dJ7_hashCode_27 30 rfl 0 0 rfl rfl (Nat.le_of_ble_eq_true rfl) (Nat.le_of_ble_eq_true rfl) (st := []) rfl (Nat.le_of_ble_eq_true rfl) (fun _ => rfl) (fun _ => ?_)
      refine g_goto X dJ7_hashCode_30 40 (by decide) ?_
      refine g_istore_n X dJ7_hashCode_40 41 rfl (Nat.le_of_ble_eq_true rfl) rfl [some (.ref a0), some (.int r2)] rfl ?_
      refine g_iload_n X rfl dJ7_hashCode_41 42 rfl ?_
      refine g_if_ne X dJ7_hashCode_42 53 (by decide) 45 rfl (fun hc => ?_) (fun hc => ?_)
      · replace h := if_f hc h
        refine g_aload_n X rfl dJ7_hashCode_53 54 rfl ?_
        refine g_iload_n X rfl dJ7_hashCode_54 55 rfl ?_
        refine g_put X gC8 0 rfl 2 (by decide) q812 (fun _ h9 => h9) rfl rfl rfl (Nat.le_of_ble_eq_true rfl) dJ7_hashCode_55 58 rfl ?_
        refine g_wd [(a0, .inr (8, [.ref a1, .int 0, .int r2, .int v_hz]))] rfl ?_
        refine g_kill (j := 0) [none, some (.int r2)] rfl ?_
        exact w_J7_hashCode_58 a0 a1 v_sb v_slen X  r r_hash r_hz    r2 v_hz r2 h
      · replace h := if_t hc h
        refine g_aload_n X rfl dJ7_hashCode_45 46 rfl ?_
        refine g_iconst X 1 dJ7_hashCode_46 47 rfl kI_1 ?_
        obtain ⟨hz, h⟩ := gch_e h
        refine g_put X gC8 0 rfl 3 (by decide) q813 (fun _ h9 => h9) rfl (gb_01 hz) rfl (Nat.le_of_ble_eq_true rfl) dJ7_hashCode_47 50 rfl ?_
        refine g_wd [(a0, .inr (8, [.ref a1, .int 0, .int v_hash, .int 1]))] rfl ?_
        refine g_goto X dJ7_hashCode_50 58 (by decide) ?_
        refine g_kill (j := 0) [none, some (.int r2)] rfl ?_
        exact w_J7_hashCode_58 a0 a1 v_sb v_slen X  r r_hash r_hz    v_hash 1 r2 h
/-! java/lang/StringLatin1.equals([B[B)Z -/
abbrev rm_J16_equals : Room := { frames := 0, cells := 0, slots := 0, locals := 0 }
def B_J16_equals_9 (K9 : (Int32) → (Nat → Int32) → (Nat) → (List Int32) → Option (Int32)) (x2 : Int32) (v_sb : Nat → Int32) (v_slen : Nat) (cb : List Int32) : Option (Int32) :=
  if (Int32.ofNat v_slen) ≤ x2 then
    (some 1)
  else
    (gin x2 v_slen <|
    gin x2 cb.length <|
    if (v_sb x2.toNatClampNeg) = (cb.getD x2.toNatClampNeg 0) then
      (K9 (x2 + 1) v_sb v_slen cb)
    else
      (some 0))
def F_J16_equals_9 : Nat → (Int32) → (Nat → Int32) → (Nat) → (List Int32) → Option (Int32)
  | 0 => fun _ _ _ _ => none
  | n + 1 => B_J16_equals_9 (F_J16_equals_9 n)
def F_J16_equals (v_sb : Nat → Int32) (v_slen : Nat) (cb : List Int32) : Option (Int32) :=
  if (Int32.ofNat v_slen) = (Int32.ofNat cb.length) then
    (F_J16_equals_9 gFU 0 v_sb v_slen cb)
  else
    (some 0)
theorem w_J16_equals_9 {p : Program} {l : Launch} {e : Env} {s : State} {m : MethodId} {args : Array Value} {below : List Frame} {meth : Method} {c : Code} {Z : gZt} {A : Nat → Prop} (a0 : Nat) (v_sb : Nat → Int32) (v_slen : Nat) (cb : List Int32) (ci : Nat) (hcb : gSB[ci]? = some cb) (X : gX p s m args meth c Z A cJ16_equals "java/lang/StringLatin1" 3 (some .boolean) [(a0, .inl (Z.2 2, v_slen, .inl v_sb))]) (r : Int32)  : ∀ (n : Nat) (x2 : Int32), F_J16_equals_9 n x2 v_sb v_slen cb = some r → G p l e rm_J16_equals s m args below meth c Z A 3 (MQ below (gPost Z A (fun _ : Unit => (some (.int r) : Option Value)) (fun _ : Unit => ([] : va_W))) args s 0 0 A) [] 0 0 9 [some (.ref a0), some (.ref (gSV Z ci)), some (.int x2)] [] := by
  intro n
  induction n with
  | zero =>
    intro x2 h
    cases h
  | succ n hK9 =>
    intro x2 h
    replace h : B_J16_equals_9 (F_J16_equals_9 n) x2 v_sb v_slen cb = some r := h
    unfold B_J16_equals_9 at h
    refine g_iload_n X rfl dJ16_equals_9 10 rfl ?_
    refine g_aload_n X rfl dJ16_equals_10 11 rfl ?_
    refine g_alen2R X 0 rfl (Int32.ofNat v_slen) rfl dJ16_equals_11 12 rfl ?_
    refine g_icmp_ge X dJ16_equals_12 32 (by decide) 15 rfl (fun hc => ?_) (fun hc => ?_)
    · replace h := if_t hc h
      refine g_iconst X 1 dJ16_equals_32 33 rfl kI_1 ?_
      cases h
      exact g_zret X dJ16_equals_33 (by decide) () rfl rfl (Nat.le_of_ble_eq_true rfl) (Nat.le_of_ble_eq_true rfl)
    · replace h := if_f hc h
      refine g_aload_n X rfl dJ16_equals_15 16 rfl ?_
      refine g_iload_n X rfl dJ16_equals_16 17 rfl ?_
      obtain ⟨hi, h⟩ := gin_e h
      refine g_baldR X 0 rfl hi dJ16_equals_17 18 rfl ?_
      refine g_aload_n X rfl dJ16_equals_18 19 rfl ?_
      refine g_iload_n X rfl dJ16_equals_19 20 rfl ?_
      obtain ⟨hi, h⟩ := gin_e h
      refine g_baldK X hcb hi dJ16_equals_20 21 rfl ?_
      refine g_icmp_eq X dJ16_equals_21 26 (by decide) 24 rfl (fun hc => ?_) (fun hc => ?_)
      · replace h := if_t hc h
        refine g_iinc X 1 rfl dJ16_equals_26 29 rfl kI_1 (Nat.le_of_ble_eq_true rfl) rfl [some (.ref a0), some (.ref (gSV Z ci)), some (.int (x2 + 1))] rfl ?_
        refine g_goto X dJ16_equals_29 9 (by decide) ?_
        exact hK9 (x2 + 1) h
      · replace h := if_f hc h
        refine g_iconst X 0 dJ16_equals_24 25 rfl kI_0 ?_
        cases h
        exact g_zret X dJ16_equals_25 (by decide) () rfl rfl (Nat.le_of_ble_eq_true rfl) (Nat.le_of_ble_eq_true rfl)
theorem met_J16_equals (l : Launch) (Z : gZt) (a0 : Nat) (v_sb : Nat → Int32) (v_slen : Nat) (cb : List Int32) (ci : Nat) (hcb : gSB[ci]? = some cb) (r : Int32) (h : F_J16_equals v_sb v_slen cb = some r) : Ct l yJ16_equals (ws_ yJ16_equals cJ16_equals 3 (some .boolean)) rm_J16_equals Z [.ref a0, .ref (gSV Z ci)] [] [(a0, .inl (Z.2 2, v_slen, .inl v_sb))] (fun _ : Unit => (some (.int r) : Option Value)) (fun _ : Unit => ([] : va_W)) := by
  refine Ct.of cJ16_equals 3 (some .boolean) "java/lang/StringLatin1" [some (.ref a0), some (.ref (gSV Z ci)), none] 1 (by decide) rfl (Nat.le_of_ble_eq_true rfl) rfl (fun p e s m args below meth c A X hin => ?_)
  unfold F_J16_equals at h
  refine g_aload_n X rfl dJ16_equals_0 1 rfl ?_
  refine g_alen2R X 0 rfl (Int32.ofNat v_slen) rfl dJ16_equals_1 2 rfl ?_
  refine g_aload_n X rfl dJ16_equals_2 3 rfl ?_
  refine g_alenK X hcb dJ16_equals_3 4 rfl ?_
  refine g_icmp_ne X dJ16_equals_4 34 (by decide) 7 rfl (fun hc => ?_) (fun hc => ?_)
  · replace h := if_f hc h
    refine g_iconst X 0 dJ16_equals_34 35 rfl kI_0 ?_
    cases h
    exact g_zret X dJ16_equals_35 (by decide) () rfl rfl (Nat.le_of_ble_eq_true rfl) (Nat.le_of_ble_eq_true rfl)
  · replace h := if_t hc h
    refine g_iconst X 0 dJ16_equals_7 8 rfl kI_0 ?_
    refine g_istore_n X dJ16_equals_8 9 rfl (Nat.le_of_ble_eq_true rfl) rfl [some (.ref a0), some (.ref (gSV Z ci)), some (.int 0)] rfl ?_
    exact w_J16_equals_9 a0 v_sb v_slen cb ci hcb X  r    gFU 0 h
/-! java/lang/String.equals(Ljava/lang/Object;)Z -/
abbrev rm_J7_equals : Room := { frames := 1, cells := 0, slots := 0, locals := 22 }
def F_J7_equals_55 (s0 : Int32) : Option (Int32) :=
  gch (s0 = 0 ∨ s0 = 1) <|
  some s0
def F_J7_equals_54 : Option (Int32) :=
  F_J7_equals_55 0
def F_J7_equals_36 (v_sb : Nat → Int32) (v_slen : Nat) (cb : List Int32) : Option (Int32) :=
  bd1 (F_J16_equals v_sb v_slen cb) fun r1 =>
  if r1 = 0 then
    (F_J7_equals_54)
  else
    (F_J7_equals_55 1)
def F_J7_equals (v_sb : Nat → Int32) (v_slen : Nat) (cb : List Int32) : Option (Int32) :=
  F_J7_equals_36 v_sb v_slen cb
theorem w_J7_equals_55 {p : Program} {l : Launch} {e : Env} {s : State} {m : MethodId} {args : Array Value} {below : List Frame} {meth : Method} {c : Code} {Z : gZt} {A : Nat → Prop} (a0 : Nat) (a1 : Nat) (v_hash : Int32) (v_hz : Int32) (v_sb : Nat → Int32) (v_slen : Nat) (cb : List Int32) (ci : Nat) (hcb : gSB[ci]? = some cb) (hne : ¬ (some a0 = some (gSK Z ci))) (X : gX p s m args meth c Z A cJ7_equals "java/lang/String" 3 (some .boolean) [(a0, .inr (8, [.ref a1, .int 0, .int v_hash, .int v_hz])), (a1, .inl (Z.2 2, v_slen, .inl v_sb))]) (r : Int32)  (s0 : Int32) (h : F_J7_equals_55 s0 = some r) : G p l e rm_J7_equals s m args below meth c Z A 3 (MQ below (gPost Z A (fun _ : Unit => (some (.int r) : Option Value)) (fun _ : Unit => ([] : va_W))) args s 0 0 A) [] 0 0 55 [none, none, none] [.int s0] := by
  unfold F_J7_equals_55 at h
  obtain ⟨hz, h⟩ := gch_e h
  cases h
  exact g_zret X dJ7_equals_55 (gb_01 hz) () rfl rfl (Nat.le_of_ble_eq_true rfl) (Nat.le_of_ble_eq_true rfl)
theorem w_J7_equals_54 {p : Program} {l : Launch} {e : Env} {s : State} {m : MethodId} {args : Array Value} {below : List Frame} {meth : Method} {c : Code} {Z : gZt} {A : Nat → Prop} (a0 : Nat) (a1 : Nat) (v_hash : Int32) (v_hz : Int32) (v_sb : Nat → Int32) (v_slen : Nat) (cb : List Int32) (ci : Nat) (hcb : gSB[ci]? = some cb) (hne : ¬ (some a0 = some (gSK Z ci))) (X : gX p s m args meth c Z A cJ7_equals "java/lang/String" 3 (some .boolean) [(a0, .inr (8, [.ref a1, .int 0, .int v_hash, .int v_hz])), (a1, .inl (Z.2 2, v_slen, .inl v_sb))]) (r : Int32)  (h : F_J7_equals_54 = some r) : G p l e rm_J7_equals s m args below meth c Z A 3 (MQ below (gPost Z A (fun _ : Unit => (some (.int r) : Option Value)) (fun _ : Unit => ([] : va_W))) args s 0 0 A) [] 0 0 54 [none, none, none] [] := by
  unfold F_J7_equals_54 at h
  refine g_iconst X 0 dJ7_equals_54 55 rfl kI_0 ?_
  exact w_J7_equals_55 a0 a1 v_hash v_hz v_sb v_slen cb ci hcb hne X  r    0 h
theorem w_J7_equals_36 {p : Program} {l : Launch} {e : Env} {s : State} {m : MethodId} {args : Array Value} {below : List Frame} {meth : Method} {c : Code} {Z : gZt} {A : Nat → Prop} (a0 : Nat) (a1 : Nat) (v_hash : Int32) (v_hz : Int32) (v_sb : Nat → Int32) (v_slen : Nat) (cb : List Int32) (ci : Nat) (hcb : gSB[ci]? = some cb) (hne : ¬ (some a0 = some (gSK Z ci))) (X : gX p s m args meth c Z A cJ7_equals "java/lang/String" 3 (some .boolean) [(a0, .inr (8, [.ref a1, .int 0, .int v_hash, .int v_hz])), (a1, .inl (Z.2 2, v_slen, .inl v_sb))]) (r : Int32)  (h : F_J7_equals_36 v_sb v_slen cb = some r) : G p l e rm_J7_equals s m args below meth c Z A 3 (MQ below (gPost Z A (fun _ : Unit => (some (.int r) : Option Value)) (fun _ : Unit => ([] : va_W))) args s 0 0 A) [] 0 0 36 [some (.ref a0), none, some (.ref (gSK Z ci))] [] := by
  unfold F_J7_equals_36 at h
  refine g_aload_n X rfl dJ7_equals_36 37 rfl ?_
  refine g_getR X gC8 0 rfl 0 (by decide) q810 (fun _ h9 => h9) rfl dJ7_equals_37 40 rfl ?_
  refine g_aload_n X rfl dJ7_equals_40 41 rfl ?_
  refine g_getKv X hcb q810 dJ7_equals_41 44 rfl ?_
  obtain ⟨r1, hcl, h⟩ := bd1_e h
  refine g_callS1 X (met_J16_equals l Z a1 v_sb v_slen  cb ci hcb r1 hcl) [] [] [1] (wr := []) ⟨rfl, rfl, rfl, rfl, rfl, by decide, by decide⟩ (lw_S q893 q894 q94 q895) md_J16_equals ⟨(Nat.le_of_ble_eq_true rfl), (Nat.le_of_ble_eq_true rfl)⟩ rfl dJ7_equals_44 47 rfl 0 0 rfl rfl (Nat.le_of_ble_eq_true rfl) (Nat.le_of_ble_eq_true rfl) (st := []) rfl (Nat.le_of_ble_eq_true rfl) (fun _ => rfl) (fun _ => ?_)
  refine g_if_eq X dJ7_equals_47 54 (by decide) 50 rfl (fun hc => ?_) (fun hc => ?_)
  · replace h := if_t hc h
    refine g_kill (j := 0) [none, none, some (.ref (gSK Z ci))] rfl ?_
    refine g_kill (j := 2) [none, none, none] rfl ?_
    exact w_J7_equals_54 a0 a1 v_hash v_hz v_sb v_slen cb ci hcb hne X  r     h
  · replace h := if_f hc h
    refine g_iconst X 1 dJ7_equals_50 51 rfl kI_1 ?_
    refine g_goto X dJ7_equals_51 55 (by decide) ?_
    refine g_kill (j := 0) [none, none, some (.ref (gSK Z ci))] rfl ?_
    refine g_kill (j := 2) [none, none, none] rfl ?_
    exact w_J7_equals_55 a0 a1 v_hash v_hz v_sb v_slen cb ci hcb hne X  r    1 h
theorem met_J7_equals (l : Launch) (Z : gZt) (a0 : Nat) (a1 : Nat) (v_hash : Int32) (v_hz : Int32) (v_sb : Nat → Int32) (v_slen : Nat) (cb : List Int32) (ci : Nat) (hcb : gSB[ci]? = some cb) (hne : ¬ (some a0 = some (gSK Z ci))) (r : Int32) (h : F_J7_equals v_sb v_slen cb = some r) : Ct l yJ7_equals (ws_ yJ7_equals cJ7_equals 3 (some .boolean)) rm_J7_equals Z [.ref a0, .ref (gSK Z ci)] [] [(a0, .inr (8, [.ref a1, .int 0, .int v_hash, .int v_hz])), (a1, .inl (Z.2 2, v_slen, .inl v_sb))] (fun _ : Unit => (some (.int r) : Option Value)) (fun _ : Unit => ([] : va_W)) := by
  refine Ct.of cJ7_equals 3 (some .boolean) "java/lang/String" [some (.ref a0), some (.ref (gSK Z ci)), none] 1 (by decide) rfl (Nat.le_of_ble_eq_true rfl) rfl (fun p e s m args below meth c A X hin => ?_)
  unfold F_J7_equals at h
  refine g_aload_n X rfl dJ7_equals_0 1 rfl ?_
  refine g_aload_n X rfl dJ7_equals_1 2 rfl ?_
  refine g_acmpNe X hne dJ7_equals_2 7 (by decide) ?_
  refine g_aload_n X rfl dJ7_equals_7 8 rfl ?_
  refine g_instK X hcb q892 dJ7_equals_8 11 rfl ?_
  refine g_if_eq X dJ7_equals_11 54 (by decide) 14 rfl (fun h9 => absurd h9 (by decide)) (fun _ => ?_)
  refine g_aload_n X rfl dJ7_equals_14 15 rfl ?_
  refine g_castK X hcb q892 dJ7_equals_15 18 rfl ?_
  refine g_astore_n X dJ7_equals_18 19 rfl (Nat.le_of_ble_eq_true rfl) rfl [some (.ref a0), some (.ref (gSK Z ci)), some (.ref (gSK Z ci))] rfl ?_
  refine g_getsC X q755 dJ7_equals_19 22 rfl ?_
  refine g_if_eq X dJ7_equals_22 36 (by decide) 25 rfl (fun h9 => absurd h9 (by decide)) (fun _ => ?_)
  refine g_aload_n X rfl dJ7_equals_25 26 rfl ?_
  refine g_getR X gC8 0 rfl 1 (by decide) q811 (fun _ h9 => h9) rfl dJ7_equals_26 29 rfl ?_
  refine g_aload_n X rfl dJ7_equals_29 30 rfl ?_
  refine g_getKc X hcb q811 dJ7_equals_30 33 rfl ?_
  refine g_icmp_ne X dJ7_equals_33 54 (by decide) 36 rfl (fun h9 => absurd h9 (by decide)) (fun _ => ?_)
  refine g_kill (j := 1) [some (.ref a0), none, some (.ref (gSK Z ci))] rfl ?_
  exact w_J7_equals_36 a0 a1 v_hash v_hz v_sb v_slen cb ci hcb hne X  r     h
