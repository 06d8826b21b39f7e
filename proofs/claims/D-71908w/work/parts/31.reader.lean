/-! 31.reader (printed by gen/system.py) -/
set_option maxRecDepth 100000
theorem kB_57 : (Int8.ofInt 57).toInt32 = 57 := by decide
theorem kB_97 : (Int8.ofInt 97).toInt32 = 97 := by decide
theorem kB_122 : (Int8.ofInt 122).toInt32 = 122 := by decide
theorem md_X1_numbersOf : gMd yX1_numbersOf 1 := by unfold gMd; decide +kernel
theorem md_X9_isAt : gMd yX9_isAt 2 := by unfold gMd; decide +kernel
theorem md_X9_readCommand : gMd yX9_readCommand 0 := by unfold gMd; decide +kernel
theorem md_X9_readNumber : gMd yX9_readNumber 1 := by unfold gMd; decide +kernel
theorem md_X9_spaces : gMd yX9_spaces 0 := by unfold gMd; decide +kernel
/-! LineEchoes$Reader.<init>(LLineEchoes;)V -/
abbrev rm_X9_init : Room := { frames := 1, cells := 1, slots := 3, locals := 40 }
def F_X9_init : Option (Int32 × (Nat → Int32)) :=
  some ((-1), fun _ => 0)
theorem met_X9_init (l : Launch) (Z : gZt) (a0 : Nat) (a1 : Nat) (v_at : Int32) (v_fault : Int32) (r_fault : Int32) (o0 : Nat → Int32) (h : F_X9_init = some (r_fault, o0)) : Ct l yX9_init (ws_ yX9_init cX9_init 2 none) rm_X9_init Z [.ref a0, .ref a1] [(a0, .inr (7, [.int v_at, .int v_fault, .null, .null, .null]))] [] (fun b0 : Nat => (none : Option Value)) (fun b0 : Nat => ([(a0, .inr (7, [.int v_at, .int r_fault, .ref (gSK Z 8), .ref b0, .ref a1])), (b0, .inl (Z.2 0, 3, .inl o0))] : va_W)) := by
  refine Ct.of cX9_init 2 none "LineEchoes$Reader" [some (.ref a0), some (.ref a1)] 0 (by decide) rfl (Nat.le_of_ble_eq_true rfl) rfl (fun p e s m args below meth c A X hin => ?_)
  replace hin : True → meth.name = "<init>" := fun _ => hin rfl
  unfold F_X9_init at h
  refine g_aload_n X rfl dX9_init_0 1 rfl ?_
  refine g_aload_n X rfl dX9_init_1 2 rfl ?_
  refine g_putF X gC7 0 rfl 4 (by decide) q463 (fun _ h9 => h9) rfl (hin trivial) rfl rfl rfl (Nat.le_of_ble_eq_true rfl) dX9_init_2 5 rfl ?_
  refine g_aload_n X rfl dX9_init_5 6 rfl ?_
  refine g_objInit X q456 q104 q105 dX9_init_6 9 rfl (Nat.le_of_ble_eq_true rfl) (Nat.le_of_ble_eq_true rfl) ?_
  refine g_aload_n X rfl dX9_init_9 10 rfl ?_
  refine g_iconst X (-1) dX9_init_10 11 rfl kI_m1 ?_
  refine g_put X gC7 0 rfl 1 (by decide) q459 (fun _ h9 => h9) rfl rfl rfl (Nat.le_of_ble_eq_true rfl) dX9_init_11 14 rfl ?_
  refine g_aload_n X rfl dX9_init_14 15 rfl ?_
  refine g_ldcS X 8 rfl dX9_init_15 17 rfl ?_
  refine g_put X gC7 0 rfl 2 (by decide) q461 (fun _ h9 => h9) rfl rfl rfl (Nat.le_of_ble_eq_true rfl) dX9_init_17 20 rfl ?_
  refine g_aload_n X rfl dX9_init_20 21 rfl ?_
  refine g_iconst X 3 dX9_init_21 22 rfl kI_3 ?_
  refine g_newa0 X q173 3 (by decide) rfl (Nat.le_of_ble_eq_true rfl) dX9_init_22 24 rfl 1 3 rfl rfl (Nat.le_of_ble_eq_true rfl) (Nat.le_of_ble_eq_true rfl) (fun b1 => ?_)
  refine g_putF X gC7 0 rfl 3 (by decide) q462 (fun _ h9 => h9) rfl (hin trivial) rfl rfl rfl (Nat.le_of_ble_eq_true rfl) dX9_init_24 27 rfl ?_
  refine g_wd [(a0, .inr (7, [.int v_at, .int (-1), .ref (gSK Z 8), .ref b1, .ref a1])), (b1, .inl (Z.2 0, 3, .inl (fun _ => 0)))] rfl ?_
  cases h
  exact g_vret X dX9_init_27 b1 rfl rfl (Nat.le_of_ble_eq_true rfl) (Nat.le_of_ble_eq_true rfl)
/-! LineEchoes$Reader.isAt(II)Z -/
abbrev rm_X9_isAt : Room := { frames := 1, cells := 0, slots := 0, locals := 25 }
def F_X9_isAt_42 (s0 : Int32) : Option (Int32) :=
  gch (s0 = 0 ∨ s0 = 1) <|
  some s0
def F_X9_isAt_41 : Option (Int32) :=
  F_X9_isAt_42 0
def F_X9_isAt (v_at : Int32) (v_scriptLength : Int32) (v_script : Nat → Int32) (x1 : Int32) (x2 : Int32) : Option (Int32) :=
  if v_scriptLength ≤ v_at then
    (F_X9_isAt_41)
  else
    (gin v_at 120 <|
    bd1 (F_X1_inRange ((v_script v_at.toNatClampNeg).toInt64) x1.toInt64 x2.toInt64) fun r1 =>
    if r1 = 0 then
      (F_X9_isAt_41)
    else
      (F_X9_isAt_42 1))
theorem w_X9_isAt_42 {p : Program} {l : Launch} {e : Env} {s : State} {m : MethodId} {args : Array Value} {below : List Frame} {meth : Method} {c : Code} {Z : gZt} {A : Nat → Prop} (a0 : Nat) (a1 : Nat) (a8 : Nat) (a0_1 : Nat) (a9 : Nat) (a7 : Nat) (a4 : Nat) (v_at : Int32) (v_fault : Int32) (v_word : Option Nat) (v_depth : Int32) (v_scriptLength : Int32) (v_script : Nat → Int32) (X : gX p s m args meth c Z A cX9_isAt "LineEchoes$Reader" 3 (some .boolean) [(a0, .inr (7, [.int v_at, .int v_fault, (va_rf v_word), .ref a0_1, .ref a1])), (a1, .inr (0, [.ref a9, .ref a7, .int v_depth, .ref a8, .int v_scriptLength, .ref a4])), (a8, .inl (Z.2 2, 120, .inl v_script))]) (r : Int32)  (s0 : Int32) (h : F_X9_isAt_42 s0 = some r) : G p l e rm_X9_isAt s m args below meth c Z A 3 (MQ below (gPost Z A (fun _ : Unit => (some (.int r) : Option Value)) (fun _ : Unit => ([] : va_W))) args s 0 0 A) [] 0 0 42 [none, none, none] [.int s0] := by
  unfold F_X9_isAt_42 at h
  obtain ⟨hz, h⟩ := gch_e h
  cases h
  exact g_zret X dX9_isAt_42 (gb_01 hz) () rfl rfl (Nat.le_of_ble_eq_true rfl) (Nat.le_of_ble_eq_true rfl)
theorem w_X9_isAt_41 {p : Program} {l : Launch} {e : Env} {s : State} {m : MethodId} {args : Array Value} {below : List Frame} {meth : Method} {c : Code} {Z : gZt} {A : Nat → Prop} (a0 : Nat) (a1 : Nat) (a8 : Nat) (a0_1 : Nat) (a9 : Nat) (a7 : Nat) (a4 : Nat) (v_at : Int32) (v_fault : Int32) (v_word : Option Nat) (v_depth : Int32) (v_scriptLength : Int32) (v_script : Nat → Int32) (X : gX p s m args meth c Z A cX9_isAt "LineEchoes$Reader" 3 (some .boolean) [(a0, .inr (7, [.int v_at, .int v_fault, (va_rf v_word), .ref a0_1, .ref a1])), (a1, .inr (0, [.ref a9, .ref a7, .int v_depth, .ref a8, .int v_scriptLength, .ref a4])), (a8, .inl (Z.2 2, 120, .inl v_script))]) (r : Int32)  (h : F_X9_isAt_41 = some r) : G p l e rm_X9_isAt s m args below meth c Z A 3 (MQ below (gPost Z A (fun _ : Unit => (some (.int r) : Option Value)) (fun _ : Unit => ([] : va_W))) args s 0 0 A) [] 0 0 41 [none, none, none] [] := by
  unfold F_X9_isAt_41 at h
  refine g_iconst X 0 dX9_isAt_41 42 rfl kI_0 ?_
  exact w_X9_isAt_42 a0 a1 a8 a0_1 a9 a7 a4 v_at v_fault v_word v_depth v_scriptLength v_script X  r    0 h
theorem met_X9_isAt (l : Launch) (Z : gZt) (a0 : Nat) (a1 : Nat) (a8 : Nat) (a0_1 : Nat) (a9 : Nat) (a7 : Nat) (a4 : Nat) (v_at : Int32) (v_fault : Int32) (v_word : Option Nat) (v_depth : Int32) (v_scriptLength : Int32) (v_script : Nat → Int32) (x1 : Int32) (x2 : Int32) (r : Int32) (h : F_X9_isAt v_at v_scriptLength v_script x1 x2 = some r) : Ct l yX9_isAt (ws_ yX9_isAt cX9_isAt 3 (some .boolean)) rm_X9_isAt Z [.ref a0, .int x1, .int x2] [] [(a0, .inr (7, [.int v_at, .int v_fault, (va_rf v_word), .ref a0_1, .ref a1])), (a1, .inr (0, [.ref a9, .ref a7, .int v_depth, .ref a8, .int v_scriptLength, .ref a4])), (a8, .inl (Z.2 2, 120, .inl v_script))] (fun _ : Unit => (some (.int r) : Option Value)) (fun _ : Unit => ([] : va_W)) := by
  refine Ct.of cX9_isAt 3 (some .boolean) "LineEchoes$Reader" [some (.ref a0), some (.int x1), some (.int x2)] 0 (by decide) rfl (Nat.le_of_ble_eq_true rfl) rfl (fun p e s m args below meth c A X hin => ?_)
  unfold F_X9_isAt at h
  refine g_aload_n X rfl dX9_isAt_0 1 rfl ?_
  refine g_getR X gC7 0 rfl 0 (by decide) q458 (fun _ h9 => h9) rfl dX9_isAt_1 4 rfl ?_
  refine g_aload_n X rfl dX9_isAt_4 5 rfl ?_
  refine g_getR X gC7 0 rfl 4 (by decide) q463 (fun _ h9 => h9) rfl dX9_isAt_5 8 rfl ?_
  refine g_getRN X gC0 1 rfl 4 (by decide) q246 (fun _ h9 => h9) rfl dX9_isAt_8 11 rfl ?_
  refine g_icmp_ge X dX9_isAt_11 41 (by decide) 14 rfl (fun hc => ?_) (fun hc => ?_)
  · replace h := if_t hc h
    refine g_kill (j := 0) [none, some (.int x1), some (.int x2)] rfl ?_
    refine g_kill (j := 1) [none, none, some (.int x2)] rfl ?_
    refine g_kill (j := 2) [none, none, none] rfl ?_
    exact w_X9_isAt_41 a0 a1 a8 a0_1 a9 a7 a4 v_at v_fault v_word v_depth v_scriptLength v_script X  r     h
  · replace h := if_f hc h
    refine g_aload_n X rfl dX9_isAt_14 15 rfl ?_
    refine g_getR X gC7 0 rfl 4 (by decide) q463 (fun _ h9 => h9) rfl dX9_isAt_15 18 rfl ?_
    refine g_getRN X gC0 1 rfl 3 (by decide) q244 (fun _ h9 => h9) rfl dX9_isAt_18 21 rfl ?_
    refine g_aload_n X rfl dX9_isAt_21 22 rfl ?_
    refine g_getR X gC7 0 rfl 0 (by decide) q458 (fun _ h9 => h9) rfl dX9_isAt_22 25 rfl ?_
    obtain ⟨hi, h⟩ := gin_e h
    refine g_baldR X 2 rfl hi dX9_isAt_25 26 rfl ?_
    refine g_i2l X dX9_isAt_26 27 rfl ?_
    refine g_iload_n X rfl dX9_isAt_27 28 rfl ?_
    refine g_i2l X dX9_isAt_28 29 rfl ?_
    refine g_iload_n X rfl dX9_isAt_29 30 rfl ?_
    refine g_i2l X dX9_isAt_30 31 rfl ?_
    obtain ⟨r1, hcl, h⟩ := bd1_e h
    refine g_callSN1Z X (met_X1_inRange l Z   ((v_script v_at.toNatClampNeg).toInt64) x1.toInt64 x2.toInt64 r1 hcl) q489 q69 q487 q488 md_X1_inRange ⟨(Nat.le_of_ble_eq_true rfl), (Nat.le_of_ble_eq_true rfl)⟩ rfl dX9_isAt_31 34 rfl 0 0 rfl rfl (Nat.le_of_ble_eq_true rfl) (Nat.le_of_ble_eq_true rfl) (st := []) rfl (Nat.le_of_ble_eq_true rfl) (fun _ => rfl) (fun _ => ?_)
    refine g_if_eq X dX9_isAt_34 41 (by decide) 37 rfl (fun hc => ?_) (fun hc => ?_)
    · replace h := if_t hc h
      refine g_kill (j := 0) [none, some (.int x1), some (.int x2)] rfl ?_
      refine g_kill (j := 1) [none, none, some (.int x2)] rfl ?_
      refine g_kill (j := 2) [none, none, none] rfl ?_
      exact w_X9_isAt_41 a0 a1 a8 a0_1 a9 a7 a4 v_at v_fault v_word v_depth v_scriptLength v_script X  r     h
    · replace h := if_f hc h
      refine g_iconst X 1 dX9_isAt_37 38 rfl kI_1 ?_
      refine g_goto X dX9_isAt_38 42 (by decide) ?_
      refine g_kill (j := 0) [none, some (.int x1), some (.int x2)] rfl ?_
      refine g_kill (j := 1) [none, none, some (.int x2)] rfl ?_
      refine g_kill (j := 2) [none, none, none] rfl ?_
      exact w_X9_isAt_42 a0 a1 a8 a0_1 a9 a7 a4 v_at v_fault v_word v_depth v_scriptLength v_script X  r    1 h
/-! LineEchoes$Reader.spaces()Z -/
abbrev rm_X9_spaces : Room := { frames := 2, cells := 0, slots := 0, locals := 47 }
def B_X9_spaces_5 (K5 : (Int32) → (Int32) → (Int32) → (Nat → Int32) → Option (Int32 × Int32)) (v_at : Int32) (x1 : Int32) (v_scriptLength : Int32) (v_script : Nat → Int32) : Option (Int32 × Int32) :=
  bd1 (F_X9_isAt v_at v_scriptLength v_script 32 32) fun r1 =>
  if r1 = 0 then
    (some ((if v_at ≤ x1 then (0 : Int32) else 1), v_at))
  else
    (K5 (v_at + 1) x1 v_scriptLength v_script)
def F_X9_spaces_5 : Nat → (Int32) → (Int32) → (Int32) → (Nat → Int32) → Option (Int32 × Int32)
  | 0 => fun _ _ _ _ => none
  | n + 1 => B_X9_spaces_5 (F_X9_spaces_5 n)
def F_X9_spaces (v_at : Int32) (v_scriptLength : Int32) (v_script : Nat → Int32) : Option (Int32 × Int32) :=
  F_X9_spaces_5 gFU v_at v_at v_scriptLength v_script
theorem w_X9_spaces_5 {p : Program} {l : Launch} {e : Env} {s : State} {m : MethodId} {args : Array Value} {below : List Frame} {meth : Method} {c : Code} {Z : gZt} {A : Nat → Prop} (a0 : Nat) (a1 : Nat) (a8 : Nat) (a0_1 : Nat) (a9 : Nat) (a7 : Nat) (a4 : Nat) (v_depth : Int32) (v_scriptLength : Int32) (v_script : Nat → Int32) (X : gX p s m args meth c Z A cX9_spaces "LineEchoes$Reader" 2 (some .boolean) [(a1, .inr (0, [.ref a9, .ref a7, .int v_depth, .ref a8, .int v_scriptLength, .ref a4])), (a8, .inl (Z.2 2, 120, .inl v_script))]) (r : Int32) (r_at : Int32)  : ∀ (n : Nat) (v_at : Int32) (v_fault : Int32) (v_word : Option Nat) (x1 : Int32), F_X9_spaces_5 n v_at x1 v_scriptLength v_script = some (r, r_at) → G p l e rm_X9_spaces s m args below meth c Z A 2 (MQ below (gPost Z A (fun _ : Unit => (some (.int r) : Option Value)) (fun _ : Unit => ([(a0, .inr (7, [.int r_at, .int v_fault, (va_rf v_word), .ref a0_1, .ref a1]))] : va_W))) args s 0 0 A) [(a0, .inr (7, [.int v_at, .int v_fault, (va_rf v_word), .ref a0_1, .ref a1]))] 0 0 5 [some (.ref a0), some (.int x1)] [] := by
  intro n
  induction n with
  | zero =>
    intro v_at v_fault v_word x1 h
    cases h
  | succ n hK5 =>
    intro v_at v_fault v_word x1 h
    replace h : B_X9_spaces_5 (F_X9_spaces_5 n) v_at x1 v_scriptLength v_script = some (r, r_at) := h
    unfold B_X9_spaces_5 at h
    refine g_aload_n X rfl dX9_spaces_5 6 rfl ?_
    refine g_bipush X 32 dX9_spaces_6 8 rfl kB_32 ?_
    refine g_bipush X 32 dX9_spaces_8 10 rfl kB_32 ?_
    obtain ⟨r1, hcl, h⟩ := bd1_e h
    refine g_callV1 X (met_X9_isAt l Z a0 a1 a8 a0_1 a9 a7 a4 v_at v_fault v_word v_depth v_scriptLength v_script 32 32 r1 hcl) [] [0] [0, 1, 2] (wr := [(a0, .inr (7, [.int v_at, .int v_fault, (va_rf v_word), .ref a0_1, .ref a1]))]) ⟨rfl, rfl, rfl, rfl, rfl, by decide, by decide⟩ 0 gC7 rfl rfl (lw_V q483 q485 qs8 q97 q486) md_X9_isAt ⟨(Nat.le_of_ble_eq_true rfl), (Nat.le_of_ble_eq_true rfl)⟩ rfl dX9_spaces_10 13 rfl 0 0 rfl rfl (Nat.le_of_ble_eq_true rfl) (Nat.le_of_ble_eq_true rfl) (st := []) rfl (Nat.le_of_ble_eq_true rfl) (fun _ => rfl) (fun _ => ?_)
    refine g_if_eq X dX9_spaces_13 29 (by decide) 16 rfl (fun hc => ?_) (fun hc => ?_)
    · replace h := if_t hc h
      refine g_aload_n X rfl dX9_spaces_29 30 rfl ?_
      refine g_get X gC7 0 rfl 0 (by decide) q458 (fun _ h9 => h9) rfl dX9_spaces_30 33 rfl ?_
      refine g_iload_n X rfl dX9_spaces_33 34 rfl ?_
      refine g_seli 42 [] (b := v_at ≤ x1) 0 1 ?_ (fun hc K => ?_) (fun hc K => ?_)
      · cases h
        exact g_zret X dX9_spaces_42 (gb_if gb_0 gb_1) () rfl rfl (Nat.le_of_ble_eq_true rfl) (Nat.le_of_ble_eq_true rfl)
      · refine g_icmp_le X dX9_spaces_34 41 (by decide) 37 rfl (fun _ => ?_) (fun hn => absurd hc hn)
        refine g_iconst X 0 dX9_spaces_41 42 rfl kI_0 ?_
        exact K
      · refine g_icmp_le X dX9_spaces_34 41 (by decide) 37 rfl (fun hn => absurd hn hc) (fun _ => ?_)
        refine g_iconst X 1 dX9_spaces_37 38 rfl kI_1 ?_
        refine g_goto X dX9_spaces_38 42 (by decide) ?_
        exact K
    · replace h := if_f hc h
      refine g_aload_n X rfl dX9_spaces_16 17 rfl ?_
      refine g_dup X dX9_spaces_17 18 rfl rfl ?_
      refine g_get X gC7 0 rfl 0 (by decide) q458 (fun _ h9 => h9) rfl dX9_spaces_18 21 rfl ?_
      refine g_iconst X 1 dX9_spaces_21 22 rfl kI_1 ?_
      refine g_iadd X dX9_spaces_22 23 rfl ?_
      refine g_put X gC7 0 rfl 0 (by decide) q458 (fun _ h9 => h9) rfl rfl rfl (Nat.le_of_ble_eq_true rfl) dX9_spaces_23 26 rfl ?_
      refine g_goto X dX9_spaces_26 5 (by decide) ?_
      exact hK5 (v_at + 1) v_fault v_word x1 h
theorem met_X9_spaces (l : Launch) (Z : gZt) (a0 : Nat) (a1 : Nat) (a8 : Nat) (a0_1 : Nat) (a9 : Nat) (a7 : Nat) (a4 : Nat) (v_at : Int32) (v_fault : Int32) (v_word : Option Nat) (v_depth : Int32) (v_scriptLength : Int32) (v_script : Nat → Int32) (r : Int32) (r_at : Int32) (h : F_X9_spaces v_at v_scriptLength v_script = some (r, r_at)) : Ct l yX9_spaces (ws_ yX9_spaces cX9_spaces 2 (some .boolean)) rm_X9_spaces Z [.ref a0] [(a0, .inr (7, [.int v_at, .int v_fault, (va_rf v_word), .ref a0_1, .ref a1]))] [(a1, .inr (0, [.ref a9, .ref a7, .int v_depth, .ref a8, .int v_scriptLength, .ref a4])), (a8, .inl (Z.2 2, 120, .inl v_script))] (fun _ : Unit => (some (.int r) : Option Value)) (fun _ : Unit => ([(a0, .inr (7, [.int r_at, .int v_fault, (va_rf v_word), .ref a0_1, .ref a1]))] : va_W)) := by
  refine Ct.of cX9_spaces 2 (some .boolean) "LineEchoes$Reader" [some (.ref a0), none] 1 (by decide) rfl (Nat.le_of_ble_eq_true rfl) rfl (fun p e s m args below meth c A X hin => ?_)
  unfold F_X9_spaces at h
  refine g_aload_n X rfl dX9_spaces_0 1 rfl ?_
  refine g_get X gC7 0 rfl 0 (by decide) q458 (fun _ h9 => h9) rfl dX9_spaces_1 4 rfl ?_
  refine g_istore_n X dX9_spaces_4 5 rfl (Nat.le_of_ble_eq_true rfl) rfl [some (.ref a0), some (.int v_at)] rfl ?_
  exact w_X9_spaces_5 a0 a1 a8 a0_1 a9 a7 a4 v_depth v_scriptLength v_script X  r r_at    gFU v_at v_fault v_word v_at h
/-! LineEchoes$Reader.readNumber(I)Z -/
abbrev rm_X9_readNumber : Room := { frames := 2, cells := 0, slots := 0, locals := 47 }
def F_X9_readNumber_102 (v_at : Int32) (v_numbers : Nat → Int32) (s0 : Int32) : Option (Int32 × Int32 × (Nat → Int32)) :=
  gch (s0 = 0 ∨ s0 = 1) <|
  some (s0, v_at, v_numbers)
def F_X9_readNumber_101 (v_at : Int32) (v_numbers : Nat → Int32) : Option (Int32 × Int32 × (Nat → Int32)) :=
  F_X9_readNumber_102 v_at v_numbers 0
def F_X9_readNumber_78 (v_at : Int32) (v_numbers : Nat → Int32) (x2 : Int32) (v_scriptLength : Int32) (v_script : Nat → Int32) : Option (Int32 × Int32 × (Nat → Int32)) :=
  if v_at ≤ x2 then
    (F_X9_readNumber_101 v_at v_numbers)
  else
    (bd1 (F_X9_isAt v_at v_scriptLength v_script 48 57) fun r1 =>
    if r1 = 0 then
      (F_X9_readNumber_102 v_at v_numbers 1)
    else
      (F_X9_readNumber_101 v_at v_numbers))
def B_X9_readNumber_12 (K12 : (Int32) → (Nat → Int32) → (Int32) → (Int32) → (Int32) → (Nat → Int32) → Option (Int32 × Int32 × (Nat → Int32))) (v_at : Int32) (v_numbers : Nat → Int32) (x1 : Int32) (x2 : Int32) (v_scriptLength : Int32) (v_script : Nat → Int32) : Option (Int32 × Int32 × (Nat → Int32)) :=
  bd1 (F_X9_isAt v_at v_scriptLength v_script 48 57) fun r1 =>
  if r1 = 0 then
    (F_X9_readNumber_78 v_at v_numbers x2 v_scriptLength v_script)
  else
    (if (x2 + 6) ≤ v_at then
      (F_X9_readNumber_78 v_at v_numbers x2 v_scriptLength v_script)
    else
      (gin x1 3 <|
      gin v_at 120 <|
      nm (((10 * (v_numbers x1.toNatClampNeg)) + (v_script v_at.toNatClampNeg)) - 48) fun t2 =>
      gin x1 3 <|
      K12 (v_at + 1) (upd v_numbers x1.toNatClampNeg t2) x1 x2 v_scriptLength v_script))
def F_X9_readNumber_12 : Nat → (Int32) → (Nat → Int32) → (Int32) → (Int32) → (Int32) → (Nat → Int32) → Option (Int32 × Int32 × (Nat → Int32))
  | 0 => fun _ _ _ _ _ _ => none
  | n + 1 => B_X9_readNumber_12 (F_X9_readNumber_12 n)
def F_X9_readNumber (v_at : Int32) (v_numbers : Nat → Int32) (v_scriptLength : Int32) (v_script : Nat → Int32) (x1 : Int32) : Option (Int32 × Int32 × (Nat → Int32)) :=
  gin x1 3 <|
  F_X9_readNumber_12 gFU v_at (upd v_numbers x1.toNatClampNeg 0) x1 v_at v_scriptLength v_script
theorem w_X9_readNumber_102 {p : Program} {l : Launch} {e : Env} {s : State} {m : MethodId} {args : Array Value} {below : List Frame} {meth : Method} {c : Code} {Z : gZt} {A : Nat → Prop} (a0 : Nat) (a0_1 : Nat) (a1 : Nat) (a8 : Nat) (a9 : Nat) (a7 : Nat) (a4 : Nat) (v_depth : Int32) (v_scriptLength : Int32) (v_script : Nat → Int32) (X : gX p s m args meth c Z A cX9_readNumber "LineEchoes$Reader" 3 (some .boolean) [(a1, .inr (0, [.ref a9, .ref a7, .int v_depth, .ref a8, .int v_scriptLength, .ref a4])), (a8, .inl (Z.2 2, 120, .inl v_script))]) (r : Int32) (r_at : Int32) (r_numbers : Nat → Int32)  (v_at : Int32) (v_fault : Int32) (v_word : Option Nat) (v_numbers : Nat → Int32) (s0 : Int32) (h : F_X9_readNumber_102 v_at v_numbers s0 = some (r, r_at, r_numbers)) : G p l e rm_X9_readNumber s m args below meth c Z A 3 (MQ below (gPost Z A (fun _ : Unit => (some (.int r) : Option Value)) (fun _ : Unit => ([(a0, .inr (7, [.int r_at, .int v_fault, (va_rf v_word), .ref a0_1, .ref a1])), (a0_1, .inl (Z.2 0, 3, .inl r_numbers))] : va_W))) args s 0 0 A) [(a0, .inr (7, [.int v_at, .int v_fault, (va_rf v_word), .ref a0_1, .ref a1])), (a0_1, .inl (Z.2 0, 3, .inl v_numbers))] 0 0 102 [none, none, none] [.int s0] := by
  unfold F_X9_readNumber_102 at h
  obtain ⟨hz, h⟩ := gch_e h
  cases h
  exact g_zret X dX9_readNumber_102 (gb_01 hz) () rfl rfl (Nat.le_of_ble_eq_true rfl) (Nat.le_of_ble_eq_true rfl)
theorem w_X9_readNumber_101 {p : Program} {l : Launch} {e : Env} {s : State} {m : MethodId} {args : Array Value} {below : List Frame} {meth : Method} {c : Code} {Z : gZt} {A : Nat → Prop} (a0 : Nat) (a0_1 : Nat) (a1 : Nat) (a8 : Nat) (a9 : Nat) (a7 : Nat) (a4 : Nat) (v_depth : Int32) (v_scriptLength : Int32) (v_script : Nat → Int32) (X : gX p s m args meth c Z A cX9_readNumber "LineEchoes$Reader" 3 (some .boolean) [(a1, .inr (0, [.ref a9, .ref a7, .int v_depth, .ref a8, .int v_scriptLength, .ref a4])), (a8, .inl (Z.2 2, 120, .inl v_script))]) (r : Int32) (r_at : Int32) (r_numbers : Nat → Int32)  (v_at : Int32) (v_fault : Int32) (v_word : Option Nat) (v_numbers : Nat → Int32) (h : F_X9_readNumber_101 v_at v_numbers = some (r, r_at, r_numbers)) : G p l e rm_X9_readNumber s m args below meth c Z A 3 (MQ below (gPost Z A (fun _ : Unit => (some (.int r) : Option Value)) (fun _ : Unit => ([(a0, .inr (7, [.int r_at, .int v_fault, (va_rf v_word), .ref a0_1, .ref a1])), (a0_1, .inl (Z.2 0, 3, .inl r_numbers))] : va_W))) args s 0 0 A) [(a0, .inr (7, [.int v_at, .int v_fault, (va_rf v_word), .ref a0_1, .ref a1])), (a0_1, .inl (Z.2 0, 3, .inl v_numbers))] 0 0 101 [none, none, none] [] := by
  unfold F_X9_readNumber_101 at h
  refine g_iconst X 0 dX9_readNumber_101 102 rfl kI_0 ?_
  exact w_X9_readNumber_102 a0 a0_1 a1 a8 a9 a7 a4 v_depth v_scriptLength v_script X  r r_at r_numbers    v_at v_fault v_word v_numbers 0 h
theorem w_X9_readNumber_78 {p : Program} {l : Launch} {e : Env} {s : State} {m : MethodId} {args : Array Value} {below : List Frame} {meth : Method} {c : Code} {Z : gZt} {A : Nat → Prop} (a0 : Nat) (a0_1 : Nat) (a1 : Nat) (a8 : Nat) (a9 : Nat) (a7 : Nat) (a4 : Nat) (v_depth : Int32) (v_scriptLength : Int32) (v_script : Nat → Int32) (X : gX p s m args meth c Z A cX9_readNumber "LineEchoes$Reader" 3 (some .boolean) [(a1, .inr (0, [.ref a9, .ref a7, .int v_depth, .ref a8, .int v_scriptLength, .ref a4])), (a8, .inl (Z.2 2, 120, .inl v_script))]) (r : Int32) (r_at : Int32) (r_numbers : Nat → Int32)  (v_at : Int32) (v_fault : Int32) (v_word : Option Nat) (v_numbers : Nat → Int32) (x2 : Int32) (h : F_X9_readNumber_78 v_at v_numbers x2 v_scriptLength v_script = some (r, r_at, r_numbers)) : G p l e rm_X9_readNumber s m args below meth c Z A 3 (MQ below (gPost Z A (fun _ : Unit => (some (.int r) : Option Value)) (fun _ : Unit => ([(a0, .inr (7, [.int r_at, .int v_fault, (va_rf v_word), .ref a0_1, .ref a1])), (a0_1, .inl (Z.2 0, 3, .inl r_numbers))] : va_W))) args s 0 0 A) [(a0, .inr (7, [.int v_at, .int v_fault, (va_rf v_word), .ref a0_1, .ref a1])), (a0_1, .inl (Z.2 0, 3, .inl v_numbers))] 0 0 78 [some (.ref a0), none, some (.int x2)] [] := by
  unfold F_X9_readNumber_78 at h
  refine g_aload_n X rfl dX9_readNumber_78 79 rfl ?_
  refine g_get X gC7 0 rfl 0 (by decide) q458 (fun _ h9 => h9) rfl dX9_readNumber_79 82 rfl ?_
  refine g_iload_n X rfl dX9_readNumber_82 83 rfl ?_
  refine g_icmp_le X dX9_readNumber_83 101 (by decide) 86 rfl (fun hc => ?_) (fun hc => ?_)
  · replace h := if_t hc h
    refine g_kill (j := 0) [none, none, some (.int x2)] rfl ?_
    refine g_kill (j := 2) [none, none, none] rfl ?_
    exact w_X9_readNumber_101 a0 a0_1 a1 a8 a9 a7 a4 v_depth v_scriptLength v_script X  r r_at r_numbers    v_at v_fault v_word v_numbers h
  · replace h := if_f hc h
    refine g_aload_n X rfl dX9_readNumber_86 87 rfl ?_
    refine g_bipush X 48 dX9_readNumber_87 89 rfl kB_48 ?_
    refine g_bipush X 57 dX9_readNumber_89 91 rfl kB_57 ?_
    obtain ⟨r1, hcl, h⟩ := bd1_e h
    refine g_callV1 X (met_X9_isAt l Z a0 a1 a8 a0_1 a9 a7 a4 v_at v_fault v_word v_depth v_scriptLength v_script 48 57 r1 hcl) [] [0, 1] [0, 2, 3] (wr := [(a0, .inr (7, [.int v_at, .int v_fault, (va_rf v_word), .ref a0_1, .ref a1])), (a0_1, .inl (Z.2 0, 3, .inl v_numbers))]) ⟨rfl, rfl, rfl, rfl, rfl, by decide, by decide⟩ 0 gC7 rfl rfl (lw_V q483 q485 qs8 q97 q486) md_X9_isAt ⟨(Nat.le_of_ble_eq_true rfl), (Nat.le_of_ble_eq_true rfl)⟩ rfl dX9_readNumber_91 94 rfl 0 0 rfl rfl (Nat.le_of_ble_eq_true rfl) (Nat.le_of_ble_eq_true rfl) (st := []) rfl (Nat.le_of_ble_eq_true rfl) (fun _ => rfl) (fun _ => ?_)
    refine g_wd [(a0, .inr (7, [.int v_at, .int v_fault, (va_rf v_word), .ref a0_1, .ref a1])), (a0_1, .inl (Z.2 0, 3, .inl v_numbers))] rfl ?_
    refine g_if_ne X dX9_readNumber_94 101 (by decide) 97 rfl (fun hc => ?_) (fun hc => ?_)
    · replace h := if_f hc h
      refine g_kill (j := 0) [none, none, some (.int x2)] rfl ?_
      refine g_kill (j := 2) [none, none, none] rfl ?_
      exact w_X9_readNumber_101 a0 a0_1 a1 a8 a9 a7 a4 v_depth v_scriptLength v_script X  r r_at r_numbers    v_at v_fault v_word v_numbers h
    · replace h := if_t hc h
      refine g_iconst X 1 dX9_readNumber_97 98 rfl kI_1 ?_
      refine g_goto X dX9_readNumber_98 102 (by decide) ?_
      refine g_kill (j := 0) [none, none, some (.int x2)] rfl ?_
      refine g_kill (j := 2) [none, none, none] rfl ?_
      exact w_X9_readNumber_102 a0 a0_1 a1 a8 a9 a7 a4 v_depth v_scriptLength v_script X  r r_at r_numbers    v_at v_fault v_word v_numbers 1 h
theorem w_X9_readNumber_12 {p : Program} {l : Launch} {e : Env} {s : State} {m : MethodId} {args : Array Value} {below : List Frame} {meth : Method} {c : Code} {Z : gZt} {A : Nat → Prop} (a0 : Nat) (a0_1 : Nat) (a1 : Nat) (a8 : Nat) (a9 : Nat) (a7 : Nat) (a4 : Nat) (v_depth : Int32) (v_scriptLength : Int32) (v_script : Nat → Int32) (X : gX p s m args meth c Z A cX9_readNumber "LineEchoes$Reader" 3 (some .boolean) [(a1, .inr (0, [.ref a9, .ref a7, .int v_depth, .ref a8, .int v_scriptLength, .ref a4])), (a8, .inl (Z.2 2, 120, .inl v_script))]) (r : Int32) (r_at : Int32) (r_numbers : Nat → Int32)  : ∀ (n : Nat) (v_at : Int32) (v_fault : Int32) (v_word : Option Nat) (v_numbers : Nat → Int32) (x1 : Int32) (x2 : Int32), F_X9_readNumber_12 n v_at v_numbers x1 x2 v_scriptLength v_script = some (r, r_at, r_numbers) → G p l e rm_X9_readNumber s m args below meth c Z A 3 (MQ below (gPost Z A (fun _ : Unit => (some (.int r) : Option Value)) (fun _ : Unit => ([(a0, .inr (7, [.int r_at, .int v_fault, (va_rf v_word), .ref a0_1, .ref a1])), (a0_1, .inl (Z.2 0, 3, .inl r_numbers))] : va_W))) args s 0 0 A) [(a0, .inr (7, [.int v_at, .int v_fault, (va_rf v_word), .ref a0_1, .ref a1])), (a0_1, .inl (Z.2 0, 3, .inl v_numbers))] 0 0 12 [some (.ref a0), some (.int x1), some (.int x2)] [] := by
  intro n
  induction n with
  | zero =>
    intro v_at v_fault v_word v_numbers x1 x2 h
    cases h
  | succ n hK12 =>
    intro v_at v_fault v_word v_numbers x1 x2 h
    replace h : B_X9_readNumber_12 (F_X9_readNumber_12 n) v_at v_numbers x1 x2 v_scriptLength v_script = some (r, r_at, r_numbers) := h
    unfold B_X9_readNumber_12 at h
    refine g_aload_n X rfl dX9_readNumber_12 13 rfl ?_
    refine g_bipush X 48 dX9_readNumber_13 15 rfl kB_48 ?_
    refine g_bipush X 57 dX9_readNumber_15 17 rfl kB_57 ?_
    obtain ⟨r1, hcl, h⟩ := bd1_e h
    refine g_callV1 X (met_X9_isAt l Z a0 a1 a8 a0_1 a9 a7 a4 v_at v_fault v_word v_depth v_scriptLength v_script 48 57 r1 hcl) [] [0, 1] [0, 2, 3] (wr := [(a0, .inr (7, [.int v_at, .int v_fault, (va_rf v_word), .ref a0_1, .ref a1])), (a0_1, .inl (Z.2 0, 3, .inl v_numbers))]) ⟨rfl, rfl, rfl, rfl, rfl, by decide, by decide⟩ 0 gC7 rfl rfl (lw_V q483 q485 qs8 q97 q486) md_X9_isAt ⟨(Nat.le_of_ble_eq_true rfl), (Nat.le_of_ble_eq_true rfl)⟩ rfl dX9_readNumber_17 20 rfl 0 0 rfl rfl (Nat.le_of_ble_eq_true rfl) (Nat.le_of_ble_eq_true rfl) (st := []) rfl (Nat.le_of_ble_eq_true rfl) (fun _ => rfl) (fun _ => ?_)
    refine g_if_eq X dX9_readNumber_20 78 (by decide) 23 rfl (fun hc => ?_) (fun hc => ?_)
    · replace h := if_t hc h
      refine g_kill (j := 1) [some (.ref a0), none, some (.int x2)] rfl ?_
      exact w_X9_readNumber_78 a0 a0_1 a1 a8 a9 a7 a4 v_depth v_scriptLength v_script X  r r_at r_numbers    v_at v_fault v_word v_numbers x2 h
    · replace h := if_f hc h
      refine g_aload_n X rfl dX9_readNumber_23 24 rfl ?_
      refine g_get X gC7 0 rfl 0 (by decide) q458 (fun _ h9 => h9) rfl dX9_readNumber_24 27 rfl ?_
      refine g_iload_n X rfl dX9_readNumber_27 28 rfl ?_
      refine g_bipush X 6 dX9_readNumber_28 30 rfl kB_6 ?_
      refine g_iadd X dX9_readNumber_30 31 rfl ?_
      refine g_icmp_ge X dX9_readNumber_31 78 (by decide) 34 rfl (fun hc => ?_) (fun hc => ?_)
      · replace h := if_t hc h
        refine g_kill (j := 1) [some (.ref a0), none, some (.int x2)] rfl ?_
        exact w_X9_readNumber_78 a0 a0_1 a1 a8 a9 a7 a4 v_depth v_scriptLength v_script X  r r_at r_numbers    v_at v_fault v_word v_numbers x2 h
      · replace h := if_f hc h
        refine g_aload_n X rfl dX9_readNumber_34 35 rfl ?_
        refine g_get X gC7 0 rfl 3 (by decide) q462 (fun _ h9 => h9) rfl dX9_readNumber_35 38 rfl ?_
        refine g_iload_n X rfl dX9_readNumber_38 39 rfl ?_
        refine g_bipush X 10 dX9_readNumber_39 41 rfl kB_10 ?_
        refine g_aload_n X rfl dX9_readNumber_41 42 rfl ?_
        refine g_get X gC7 0 rfl 3 (by decide) q462 (fun _ h9 => h9) rfl dX9_readNumber_42 45 rfl ?_
        refine g_iload_n X rfl dX9_readNumber_45 46 rfl ?_
        obtain ⟨hi, h⟩ := gin_e h
        refine g_iald X 1 rfl hi dX9_readNumber_46 47 rfl ?_
        refine g_imul X dX9_readNumber_47 48 rfl ?_
        refine g_aload_n X rfl dX9_readNumber_48 49 rfl ?_
        refine g_get X gC7 0 rfl 4 (by decide) q463 (fun _ h9 => h9) rfl dX9_readNumber_49 52 rfl ?_
        refine g_getRN X gC0 0 rfl 3 (by decide) q244 (fun _ h9 => h9) rfl dX9_readNumber_52 55 rfl ?_
        refine g_aload_n X rfl dX9_readNumber_55 56 rfl ?_
        refine g_get X gC7 0 rfl 0 (by decide) q458 (fun _ h9 => h9) rfl dX9_readNumber_56 59 rfl ?_
        obtain ⟨hi, h⟩ := gin_e h
        refine g_baldR X 1 rfl hi dX9_readNumber_59 60 rfl ?_
        refine g_iadd X dX9_readNumber_60 61 rfl ?_
        refine g_bipush X 48 dX9_readNumber_61 63 rfl kB_48 ?_
        refine g_isub X dX9_readNumber_63 64 rfl ?_
        refine g_topi (fun t2 et2 => ?_)
        replace h := nm_at et2 h
        obtain ⟨hi, h⟩ := gin_e h
        refine g_iast X 1 rfl hi dX9_readNumber_64 65 rfl ?_
        refine g_aload_n X rfl dX9_readNumber_65 66 rfl ?_
        refine g_dup X dX9_readNumber_66 67 rfl rfl ?_
        refine g_get X gC7 0 rfl 0 (by decide) q458 (fun _ h9 => h9) rfl dX9_readNumber_67 70 rfl ?_
        refine g_iconst X 1 dX9_readNumber_70 71 rfl kI_1 ?_
        refine g_iadd X dX9_readNumber_71 72 rfl ?_
        refine g_put X gC7 0 rfl 0 (by decide) q458 (fun _ h9 => h9) rfl rfl rfl (Nat.le_of_ble_eq_true rfl) dX9_readNumber_72 75 rfl ?_
        refine g_wd [(a0, .inr (7, [.int (v_at + 1), .int v_fault, (va_rf v_word), .ref a0_1, .ref a1])), (a0_1, .inl (Z.2 0, 3, .inl (upd v_numbers x1.toNatClampNeg t2)))] rfl ?_
        refine g_goto X dX9_readNumber_75 12 (by decide) ?_
        exact hK12 (v_at + 1) v_fault v_word (upd v_numbers x1.toNatClampNeg t2) x1 x2 h
theorem met_X9_readNumber (l : Launch) (Z : gZt) (a0 : Nat) (a0_1 : Nat) (a1 : Nat) (a8 : Nat) (a9 : Nat) (a7 : Nat) (a4 : Nat) (v_at : Int32) (v_fault : Int32) (v_word : Option Nat) (v_numbers : Nat → Int32) (v_depth : Int32) (v_scriptLength : Int32) (v_script : Nat → Int32) (x1 : Int32) (r : Int32) (r_at : Int32) (r_numbers : Nat → Int32) (h : F_X9_readNumber v_at v_numbers v_scriptLength v_script x1 = some (r, r_at, r_numbers)) : Ct l yX9_readNumber (ws_ yX9_readNumber cX9_readNumber 3 (some .boolean)) rm_X9_readNumber Z [.ref a0, .int x1] [(a0, .inr (7, [.int v_at, .int v_fault, (va_rf v_word), .ref a0_1, .ref a1])), (a0_1, .inl (Z.2 0, 3, .inl v_numbers))] [(a1, .inr (0, [.ref a9, .ref a7, .int v_depth, .ref a8, .int v_scriptLength, .ref a4])), (a8, .inl (Z.2 2, 120, .inl v_script))] (fun _ : Unit => (some (.int r) : Option Value)) (fun _ : Unit => ([(a0, .inr (7, [.int r_at, .int v_fault, (va_rf v_word), .ref a0_1, .ref a1])), (a0_1, .inl (Z.2 0, 3, .inl r_numbers))] : va_W)) := by
  refine Ct.of cX9_readNumber 3 (some .boolean) "LineEchoes$Reader" [some (.ref a0), some (.int x1), none] 1 (by decide) rfl (Nat.le_of_ble_eq_true rfl) rfl (fun p e s m args below meth c A X hin => ?_)
  unfold F_X9_readNumber at h
  refine g_aload_n X rfl dX9_readNumber_0 1 rfl ?_
  refine g_get X gC7 0 rfl 0 (by decide) q458 (fun _ h9 => h9) rfl dX9_readNumber_1 4 rfl ?_
  refine g_istore_n X dX9_readNumber_4 5 rfl (Nat.le_of_ble_eq_true rfl) rfl [some (.ref a0), some (.int x1), some (.int v_at)] rfl ?_
  refine g_aload_n X rfl dX9_readNumber_5 6 rfl ?_
  refine g_get X gC7 0 rfl 3 (by decide) q462 (fun _ h9 => h9) rfl dX9_readNumber_6 9 rfl ?_
  refine g_iload_n X rfl dX9_readNumber_9 10 rfl ?_
  refine g_iconst X 0 dX9_readNumber_10 11 rfl kI_0 ?_
  obtain ⟨hi, h⟩ := gin_e h
  refine g_iast X 1 rfl hi dX9_readNumber_11 12 rfl ?_
  exact w_X9_readNumber_12 a0 a0_1 a1 a8 a9 a7 a4 v_depth v_scriptLength v_script X  r r_at r_numbers    gFU v_at v_fault v_word (upd v_numbers x1.toNatClampNeg 0) x1 v_at h
/-! LineEchoes$Reader.readCommand()Z -/
abbrev rm_X9_readCommand : Room := { frames := 6, cells := 24, slots := 1300, locals := 171 }
def F_X9_readCommand_108 (v_numbers : Nat → Int32) (n_b5 : Nat → Int32) (n_b5_N : Nat) (n_b4_2 : Int32) (n_b4_3 : Int32) (v_at : Int32) : Option (Int32 × Int32 × (Nat → Int32) × Int32 × Int32 × (Nat → Int32) × Nat) :=
  some (0, v_at, v_numbers, n_b4_2, n_b4_3, n_b5, n_b5_N)
def B_X9_readCommand_86 (K86 : (Int32) → (Nat → Int32) → (Nat → Int32) → (Nat) → (Int32) → (Int32) → (Int32) → (Int32) → (Int32) → (Nat → Int32) → Option (Int32 × Int32 × (Nat → Int32) × Int32 × Int32 × (Nat → Int32) × Nat)) (v_at : Int32) (v_numbers : Nat → Int32) (n_b5 : Nat → Int32) (n_b5_N : Nat) (n_b4_2 : Int32) (n_b4_3 : Int32) (x3 : Int32) (x4 : Int32) (v_scriptLength : Int32) (v_script : Nat → Int32) : Option (Int32 × Int32 × (Nat → Int32) × Int32 × Int32 × (Nat → Int32) × Nat) :=
  if x3 ≤ x4 then
    (bd2 (F_X9_spaces v_at v_scriptLength v_script) fun r1 w2_at =>
    bd1 (F_X9_isAt w2_at v_scriptLength v_script 59 59) fun r3 =>
    nm (w2_at + (if r3 = 0 then (0 : Int32) else 1)) fun t4 =>
    gch (r3 = 0 ∨ r3 = 1) <|
    some (r3, t4, v_numbers, n_b4_2, n_b4_3, n_b5, n_b5_N))
  else
    (bd2 (F_X9_spaces v_at v_scriptLength v_script) fun r5 w6_at =>
    if r5 = 0 then
      (F_X9_readCommand_108 v_numbers n_b5 n_b5_N n_b4_2 n_b4_3 w6_at)
    else
      (bd3 (F_X9_readNumber w6_at v_numbers v_scriptLength v_script x4) fun r7 w8_at w9_numbers =>
      if r7 = 0 then
        (F_X9_readCommand_108 w9_numbers n_b5 n_b5_N n_b4_2 n_b4_3 w8_at)
      else
        (K86 w8_at w9_numbers n_b5 n_b5_N n_b4_2 n_b4_3 x3 (x4 + 1) v_scriptLength v_script)))
def F_X9_readCommand_86 : Nat → (Int32) → (Nat → Int32) → (Nat → Int32) → (Nat) → (Int32) → (Int32) → (Int32) → (Int32) → (Int32) → (Nat → Int32) → Option (Int32 × Int32 × (Nat → Int32) × Int32 × Int32 × (Nat → Int32) × Nat)
  | 0 => fun _ _ _ _ _ _ _ _ _ _ => none
  | n + 1 => B_X9_readCommand_86 (F_X9_readCommand_86 n)
def B_X9_readCommand_13 (K13 : (Nat) → (Int32) → (Nat → Int32) → (Int32) → (Nat → Int32) → (Int32) → (Int32) → (Nat → Int32) → Option (Int32 × Int32 × (Nat → Int32) × Int32 × Int32 × (Nat → Int32) × Nat)) (n_cap : Nat) (v_at : Int32) (v_numbers : Nat → Int32) (n_b1_3 : Int32) (n_pv : Nat → Int32) (x1 : Int32) (v_scriptLength : Int32) (v_script : Nat → Int32) : Option (Int32 × Int32 × (Nat → Int32) × Int32 × Int32 × (Nat → Int32) × Nat) :=
  gch (n_cap ≤ 300) <|
  bd1 (F_X9_isAt v_at v_scriptLength v_script 97 122) fun r1 =>
  if r1 = 0 then
    (bd2 (F_J11_toString n_b1_3 n_pv n_cap 2 (n_b1_3.toNatClampNeg + 4)) fun w2_o1 w3_o1_N =>
    gch (n_b1_3.toNatClampNeg ≤ 300 ∧ n_cap ≤ 300) <|
    bd3 (F_X1_numbersOf 0 0 w2_o1 w3_o1_N) fun r6 w7_hash w8_hz =>
    if r6 = (-1) then
      (some (0, x1, v_numbers, w7_hash, w8_hz, w2_o1, w3_o1_N))
    else
      (F_X9_readCommand_86 gFU v_at v_numbers w2_o1 w3_o1_N w7_hash w8_hz r6 0 v_scriptLength v_script))
  else
    (gin v_at 120 <|
    bd3 (F_J11_append n_b1_3 n_pv n_cap (((v_script v_at.toNatClampNeg).toUInt32 % 65536).toInt32) (gRc (F_J11_append n_b1_3 n_pv n_cap (((v_script v_at.toNatClampNeg).toUInt32 % 65536).toInt32) 0 0)) (gRs (F_J11_append n_b1_3 n_pv n_cap (((v_script v_at.toNatClampNeg).toUInt32 % 65536).toInt32) 0 0) n_cap)) fun w9_count w10_o0 w11_o0_N =>
    gch (n_cap / 16 + gRc (F_J11_append n_b1_3 n_pv n_cap (((v_script v_at.toNatClampNeg).toUInt32 % 65536).toInt32) 0 0) ≤ w11_o0_N / 16 ∧ 3 * n_cap + gRs (F_J11_append n_b1_3 n_pv n_cap (((v_script v_at.toNatClampNeg).toUInt32 % 65536).toInt32) 0 0) n_cap ≤ 3 * w11_o0_N ∧ n_cap ≤ 300 ∧ w11_o0_N ≤ 300) <|
    K13 w11_o0_N (v_at + 1) v_numbers w9_count w10_o0 x1 v_scriptLength v_script)
def F_X9_readCommand_13 : Nat → (Nat) → (Int32) → (Nat → Int32) → (Int32) → (Nat → Int32) → (Int32) → (Int32) → (Nat → Int32) → Option (Int32 × Int32 × (Nat → Int32) × Int32 × Int32 × (Nat → Int32) × Nat)
  | 0 => fun _ _ _ _ _ _ _ _ => none
  | n + 1 => B_X9_readCommand_13 (F_X9_readCommand_13 n)
def F_X9_readCommand (v_at : Int32) (v_numbers : Nat → Int32) (v_scriptLength : Int32) (v_script : Nat → Int32) : Option (Int32 × Int32 × (Nat → Int32) × Int32 × Int32 × (Nat → Int32) × Nat) :=
  bd1 (F_J11_init) fun w2_o0 =>
  F_X9_readCommand_13 gFU 16 v_at v_numbers 0 w2_o0 v_at v_scriptLength v_script
theorem w_X9_readCommand_108 {p : Program} {l : Launch} {e : Env} {s : State} {m : MethodId} {args : Array Value} {below : List Frame} {meth : Method} {c : Code} {Z : gZt} {A : Nat → Prop} (a0 : Nat) (a0_1 : Nat) (a1 : Nat) (a8 : Nat) (a9 : Nat) (a7 : Nat) (a4 : Nat) (v_depth : Int32) (v_scriptLength : Int32) (v_script : Nat → Int32) (X : gX p s m args meth c Z A cX9_readCommand "LineEchoes$Reader" 6 (some .boolean) [(a1, .inr (0, [.ref a9, .ref a7, .int v_depth, .ref a8, .int v_scriptLength, .ref a4])), (a8, .inl (Z.2 2, 120, .inl v_script))]) (b4 : Nat) (b5 : Nat) (r : Int32) (r_at : Int32) (r_numbers : Nat → Int32) (o0_2 : Int32) (o0_3 : Int32) (o1 : Nat → Int32) (o1_N : Nat)  (v_numbers : Nat → Int32) (n_b5 : Nat → Int32) (n_b5_N : Nat) (n_b4_2 : Int32) (n_b4_3 : Int32) (v_at : Int32) (v_fault : Int32) (h : F_X9_readCommand_108 v_numbers n_b5 n_b5_N n_b4_2 n_b4_3 v_at = some (r, r_at, r_numbers, o0_2, o0_3, o1, o1_N)) : G p l e rm_X9_readCommand s m args below meth c Z A 6 (MQ below (gPost Z A (fun u : Nat × Nat => (some (.int r) : Option Value)) (fun u : Nat × Nat => ([(a0, .inr (7, [.int r_at, .int v_fault, .ref u.1, .ref a0_1, .ref a1])), (a0_1, .inl (Z.2 0, 3, .inl r_numbers)), (u.1, .inr (8, [.ref u.2, .int 0, .int o0_2, .int o0_3])), (u.2, .inl (Z.2 2, o1_N, .inl o1))] : va_W))) args s 24 1300 A) [(a0_1, .inl (Z.2 0, 3, .inl v_numbers)), (b5, .inl (Z.2 2, n_b5_N, .inl n_b5)), (b4, .inr (8, [.ref b5, .int 0, .int n_b4_2, .int n_b4_3])), (a0, .inr (7, [.int v_at, .int v_fault, .ref b4, .ref a0_1, .ref a1]))] 24 1300 108 [none, none, none, none, none, none] [] := by
  unfold F_X9_readCommand_108 at h
  refine g_iconst X 0 dX9_readCommand_108 109 rfl kI_0 ?_
  refine g_keep [3, 0, 2, 1] [(a0, .inr (7, [.int v_at, .int v_fault, .ref b4, .ref a0_1, .ref a1])), (a0_1, .inl (Z.2 0, 3, .inl v_numbers)), (b4, .inr (8, [.ref b5, .int 0, .int n_b4_2, .int n_b4_3])), (b5, .inl (Z.2 2, n_b5_N, .inl n_b5))] rfl rfl ?_
  cases h
  exact g_zret X dX9_readCommand_109 (by decide) (b4, b5) rfl rfl (Nat.le_of_ble_eq_true rfl) (Nat.le_of_ble_eq_true rfl)
theorem w_X9_readCommand_86 {p : Program} {l : Launch} {e : Env} {s : State} {m : MethodId} {args : Array Value} {below : List Frame} {meth : Method} {c : Code} {Z : gZt} {A : Nat → Prop} (a0 : Nat) (a0_1 : Nat) (a1 : Nat) (a8 : Nat) (a9 : Nat) (a7 : Nat) (a4 : Nat) (v_depth : Int32) (v_scriptLength : Int32) (v_script : Nat → Int32) (X : gX p s m args meth c Z A cX9_readCommand "LineEchoes$Reader" 6 (some .boolean) [(a1, .inr (0, [.ref a9, .ref a7, .int v_depth, .ref a8, .int v_scriptLength, .ref a4])), (a8, .inl (Z.2 2, 120, .inl v_script))]) (b4 : Nat) (b5 : Nat) (r : Int32) (r_at : Int32) (r_numbers : Nat → Int32) (o0_2 : Int32) (o0_3 : Int32) (o1 : Nat → Int32) (o1_N : Nat)  : ∀ (n : Nat) (v_at : Int32) (v_fault : Int32) (v_numbers : Nat → Int32) (n_b5 : Nat → Int32) (n_b5_N : Nat) (n_b4_2 : Int32) (n_b4_3 : Int32) (x3 : Int32) (x4 : Int32), F_X9_readCommand_86 n v_at v_numbers n_b5 n_b5_N n_b4_2 n_b4_3 x3 x4 v_scriptLength v_script = some (r, r_at, r_numbers, o0_2, o0_3, o1, o1_N) → G p l e rm_X9_readCommand s m args below meth c Z A 6 (MQ below (gPost Z A (fun u : Nat × Nat => (some (.int r) : Option Value)) (fun u : Nat × Nat => ([(a0, .inr (7, [.int r_at, .int v_fault, .ref u.1, .ref a0_1, .ref a1])), (a0_1, .inl (Z.2 0, 3, .inl r_numbers)), (u.1, .inr (8, [.ref u.2, .int 0, .int o0_2, .int o0_3])), (u.2, .inl (Z.2 2, o1_N, .inl o1))] : va_W))) args s 24 1300 A) [(a0, .inr (7, [.int v_at, .int v_fault, .ref b4, .ref a0_1, .ref a1])), (a0_1, .inl (Z.2 0, 3, .inl v_numbers)), (b5, .inl (Z.2 2, n_b5_N, .inl n_b5)), (b4, .inr (8, [.ref b5, .int 0, .int n_b4_2, .int n_b4_3]))] 24 1300 86 [some (.ref a0), none, none, some (.int x3), some (.int x4), none] [] := by
  intro n
  induction n with
  | zero =>
    intro v_at v_fault v_numbers n_b5 n_b5_N n_b4_2 n_b4_3 x3 x4 h
    cases h
  | succ n hK86 =>
    intro v_at v_fault v_numbers n_b5 n_b5_N n_b4_2 n_b4_3 x3 x4 h
    replace h : B_X9_readCommand_86 (F_X9_readCommand_86 n) v_at v_numbers n_b5 n_b5_N n_b4_2 n_b4_3 x3 x4 v_scriptLength v_script = some (r, r_at, r_numbers, o0_2, o0_3, o1, o1_N) := h
    unfold B_X9_readCommand_86 at h
    refine g_iload X rfl dX9_readCommand_86 88 rfl ?_
    refine g_iload_n X rfl dX9_readCommand_88 89 rfl ?_
    refine g_icmp_ge X dX9_readCommand_89 116 (by decide) 92 rfl (fun hc => ?_) (fun hc => ?_)
    · replace h := if_t hc h
      refine g_aload_n X rfl dX9_readCommand_116 117 rfl ?_
      obtain ⟨r1, w2_at, hcl, h⟩ := bd2_e h
      refine g_callV1 X (met_X9_spaces l Z a0 a1 a8 a0_1 a9 a7 a4 v_at v_fault (some b4) v_depth v_scriptLength v_script  r1 w2_at hcl) [0] [1, 2, 3] [4, 5] (wr := [(a0_1, .inl (Z.2 0, 3, .inl v_numbers)), (b5, .inl (Z.2 2, n_b5_N, .inl n_b5)), (b4, .inr (8, [.ref b5, .int 0, .int n_b4_2, .int n_b4_3]))]) ⟨rfl, rfl, rfl, rfl, rfl, by decide, by decide⟩ 0 gC7 rfl rfl (lw_V q479 q481 qs7 q97 q482) md_X9_spaces ⟨(Nat.le_of_ble_eq_true rfl), (Nat.le_of_ble_eq_true rfl)⟩ rfl dX9_readCommand_117 120 rfl 24 1300 rfl rfl (Nat.le_of_ble_eq_true rfl) (Nat.le_of_ble_eq_true rfl) (st := []) rfl (Nat.le_of_ble_eq_true rfl) (fun _ => rfl) (fun _ => ?_)
      refine g_istore X dX9_readCommand_120 122 rfl (Nat.le_of_ble_eq_true rfl) rfl [some (.ref a0), none, none, some (.int x3), some (.int r1), none] rfl ?_
      refine g_aload_n X rfl dX9_readCommand_122 123 rfl ?_
      refine g_bipush X 59 dX9_readCommand_123 125 rfl kB_59 ?_
      refine g_bipush X 59 dX9_readCommand_125 127 rfl kB_59 ?_
      obtain ⟨r3, hcl, h⟩ := bd1_e h
      refine g_callV1 X (met_X9_isAt l Z a0 a1 a8 a0_1 a9 a7 a4 w2_at v_fault (some b4) v_depth v_scriptLength v_script 59 59 r3 hcl) [] [0, 1, 2, 3] [3, 4, 5] (wr := [(a0_1, .inl (Z.2 0, 3, .inl v_numbers)), (b5, .inl (Z.2 2, n_b5_N, .inl n_b5)), (b4, .inr (8, [.ref b5, .int 0, .int n_b4_2, .int n_b4_3])), (a0, .inr (7, [.int w2_at, .int v_fault, .ref b4, .ref a0_1, .ref a1]))]) ⟨rfl, rfl, rfl, rfl, rfl, by decide, by decide⟩ 3 gC7 rfl rfl (lw_V q483 q485 qs8 q97 q486) md_X9_isAt ⟨(Nat.le_of_ble_eq_true rfl), (Nat.le_of_ble_eq_true rfl)⟩ rfl dX9_readCommand_127 130 rfl 24 1300 rfl rfl (Nat.le_of_ble_eq_true rfl) (Nat.le_of_ble_eq_true rfl) (st := []) rfl (Nat.le_of_ble_eq_true rfl) (fun _ => rfl) (fun _ => ?_)
      refine g_istore X dX9_readCommand_130 132 rfl (Nat.le_of_ble_eq_true rfl) rfl [some (.ref a0), none, none, some (.int x3), some (.int r1), some (.int r3)] rfl ?_
      refine g_aload_n X rfl dX9_readCommand_132 133 rfl ?_
      refine g_dup X dX9_readCommand_133 134 rfl rfl ?_
      refine g_get X gC7 3 rfl 0 (by decide) q458 (fun _ h9 => h9) rfl dX9_readCommand_134 137 rfl ?_
      refine g_iload X rfl dX9_readCommand_137 139 rfl ?_
      refine g_seli 147 [.int w2_at, .ref a0] (b := r3 = 0) 0 1 ?_ (fun hc K => ?_) (fun hc K => ?_)
      · refine g_iadd X dX9_readCommand_147 148 rfl ?_
        refine g_topi (fun t4 et4 => ?_)
        replace h := nm_at et4 h
        refine g_put X gC7 3 rfl 0 (by decide) q458 (fun _ h9 => h9) rfl rfl rfl (Nat.le_of_ble_eq_true rfl) dX9_readCommand_148 151 rfl ?_
        refine g_wd [(a0_1, .inl (Z.2 0, 3, .inl v_numbers)), (b5, .inl (Z.2 2, n_b5_N, .inl n_b5)), (b4, .inr (8, [.ref b5, .int 0, .int n_b4_2, .int n_b4_3])), (a0, .inr (7, [.int t4, .int v_fault, .ref b4, .ref a0_1, .ref a1]))] rfl ?_
        refine g_iload X rfl dX9_readCommand_151 153 rfl ?_
        obtain ⟨hz, h⟩ := gch_e h
        refine g_keep [3, 0, 2, 1] [(a0, .inr (7, [.int t4, .int v_fault, .ref b4, .ref a0_1, .ref a1])), (a0_1, .inl (Z.2 0, 3, .inl v_numbers)), (b4, .inr (8, [.ref b5, .int 0, .int n_b4_2, .int n_b4_3])), (b5, .inl (Z.2 2, n_b5_N, .inl n_b5))] rfl rfl ?_
        cases h
        exact g_zret X dX9_readCommand_153 (gb_01 hz) (b4, b5) rfl rfl (Nat.le_of_ble_eq_true rfl) (Nat.le_of_ble_eq_true rfl)
      · refine g_if_eq X dX9_readCommand_139 146 (by decide) 142 rfl (fun _ => ?_) (fun hn => absurd hc hn)
        refine g_iconst X 0 dX9_readCommand_146 147 rfl kI_0 ?_
        exact K
      · refine g_if_eq X dX9_readCommand_139 146 (by decide) 142 rfl (fun hn => absurd hn hc) (fun _ => ?_)
        refine g_iconst X 1 dX9_readCommand_142 143 rfl kI_1 ?_
        refine g_goto X dX9_readCommand_143 147 (by decide) ?_
        exact K
    · replace h := if_f hc h
      refine g_aload_n X rfl dX9_readCommand_92 93 rfl ?_
      obtain ⟨r5, w6_at, hcl, h⟩ := bd2_e h
      refine g_callV1 X (met_X9_spaces l Z a0 a1 a8 a0_1 a9 a7 a4 v_at v_fault (some b4) v_depth v_scriptLength v_script  r5 w6_at hcl) [0] [1, 2, 3] [4, 5] (wr := [(a0_1, .inl (Z.2 0, 3, .inl v_numbers)), (b5, .inl (Z.2 2, n_b5_N, .inl n_b5)), (b4, .inr (8, [.ref b5, .int 0, .int n_b4_2, .int n_b4_3]))]) ⟨rfl, rfl, rfl, rfl, rfl, by decide, by decide⟩ 0 gC7 rfl rfl (lw_V q479 q481 qs7 q97 q482) md_X9_spaces ⟨(Nat.le_of_ble_eq_true rfl), (Nat.le_of_ble_eq_true rfl)⟩ rfl dX9_readCommand_93 96 rfl 24 1300 rfl rfl (Nat.le_of_ble_eq_true rfl) (Nat.le_of_ble_eq_true rfl) (st := []) rfl (Nat.le_of_ble_eq_true rfl) (fun _ => rfl) (fun _ => ?_)
      refine g_if_eq X dX9_readCommand_96 108 (by decide) 99 rfl (fun hc => ?_) (fun hc => ?_)
      · replace h := if_t hc h
        refine g_kill (j := 0) [none, none, none, some (.int x3), some (.int x4), none] rfl ?_
        refine g_kill (j := 3) [none, none, none, none, some (.int x4), none] rfl ?_
        refine g_kill (j := 4) [none, none, none, none, none, none] rfl ?_
        exact w_X9_readCommand_108 a0 a0_1 a1 a8 a9 a7 a4 v_depth v_scriptLength v_script X b4 b5 r r_at r_numbers o0_2 o0_3 o1 o1_N    v_numbers n_b5 n_b5_N n_b4_2 n_b4_3 w6_at v_fault h
      · replace h := if_f hc h
        refine g_aload_n X rfl dX9_readCommand_99 100 rfl ?_
        refine g_iload X rfl dX9_readCommand_100 102 rfl ?_
        obtain ⟨r7, w8_at, w9_numbers, hcl, h⟩ := bd3_e h
        refine g_callV1 X (met_X9_readNumber l Z a0 a0_1 a1 a8 a9 a7 a4 w6_at v_fault (some b4) v_numbers v_depth v_scriptLength v_script x4 r7 w8_at w9_numbers hcl) [3, 0] [1, 2] [4, 5] (wr := [(b5, .inl (Z.2 2, n_b5_N, .inl n_b5)), (b4, .inr (8, [.ref b5, .int 0, .int n_b4_2, .int n_b4_3]))]) ⟨rfl, rfl, rfl, rfl, rfl, by decide, by decide⟩ 3 gC7 rfl rfl (lw_V q903 q905 qs11 q97 q906) md_X9_readNumber ⟨(Nat.le_of_ble_eq_true rfl), (Nat.le_of_ble_eq_true rfl)⟩ rfl dX9_readCommand_102 105 rfl 24 1300 rfl rfl (Nat.le_of_ble_eq_true rfl) (Nat.le_of_ble_eq_true rfl) (st := []) rfl (Nat.le_of_ble_eq_true rfl) (fun _ => rfl) (fun _ => ?_)
        refine g_if_ne X dX9_readCommand_105 110 (by decide) 108 rfl (fun hc => ?_) (fun hc => ?_)
        · replace h := if_f hc h
          refine g_iinc X 1 rfl dX9_readCommand_110 113 rfl kI_1 (Nat.le_of_ble_eq_true rfl) rfl [some (.ref a0), none, none, some (.int x3), some (.int (x4 + 1)), none] rfl ?_
          refine g_goto X dX9_readCommand_113 86 (by decide) ?_
          refine g_keep [2, 3, 0, 1] [(a0, .inr (7, [.int w8_at, .int v_fault, .ref b4, .ref a0_1, .ref a1])), (a0_1, .inl (Z.2 0, 3, .inl w9_numbers)), (b5, .inl (Z.2 2, n_b5_N, .inl n_b5)), (b4, .inr (8, [.ref b5, .int 0, .int n_b4_2, .int n_b4_3]))] rfl rfl ?_
          refine g_more 24 1300 (by omega) (by omega) ?_
          exact hK86 w8_at v_fault w9_numbers n_b5 n_b5_N n_b4_2 n_b4_3 x3 (x4 + 1) h
        · replace h := if_t hc h
          refine g_keep [3, 0, 1, 2] [(a0_1, .inl (Z.2 0, 3, .inl w9_numbers)), (b5, .inl (Z.2 2, n_b5_N, .inl n_b5)), (b4, .inr (8, [.ref b5, .int 0, .int n_b4_2, .int n_b4_3])), (a0, .inr (7, [.int w8_at, .int v_fault, .ref b4, .ref a0_1, .ref a1]))] rfl rfl ?_
          refine g_kill (j := 0) [none, none, none, some (.int x3), some (.int x4), none] rfl ?_
          refine g_kill (j := 3) [none, none, none, none, some (.int x4), none] rfl ?_
          refine g_kill (j := 4) [none, none, none, none, none, none] rfl ?_
          exact w_X9_readCommand_108 a0 a0_1 a1 a8 a9 a7 a4 v_depth v_scriptLength v_script X b4 b5 r r_at r_numbers o0_2 o0_3 o1 o1_N    w9_numbers n_b5 n_b5_N n_b4_2 n_b4_3 w8_at v_fault h
theorem w_X9_readCommand_13 {p : Program} {l : Launch} {e : Env} {s : State} {m : MethodId} {args : Array Value} {below : List Frame} {meth : Method} {c : Code} {Z : gZt} {A : Nat → Prop} (a0 : Nat) (a0_1 : Nat) (a1 : Nat) (a8 : Nat) (a9 : Nat) (a7 : Nat) (a4 : Nat) (v_depth : Int32) (v_scriptLength : Int32) (v_script : Nat → Int32) (X : gX p s m args meth c Z A cX9_readCommand "LineEchoes$Reader" 6 (some .boolean) [(a1, .inr (0, [.ref a9, .ref a7, .int v_depth, .ref a8, .int v_scriptLength, .ref a4])), (a8, .inl (Z.2 2, 120, .inl v_script))]) (b1 : Nat) (r : Int32) (r_at : Int32) (r_numbers : Nat → Int32) (o0_2 : Int32) (o0_3 : Int32) (o1 : Nat → Int32) (o1_N : Nat)  : ∀ (n : Nat) (pv : Nat) (n_cap : Nat) (v_at : Int32) (v_fault : Int32) (v_word : Option Nat) (v_numbers : Nat → Int32) (n_b1_3 : Int32) (n_pv : Nat → Int32) (x1 : Int32), F_X9_readCommand_13 n n_cap v_at v_numbers n_b1_3 n_pv x1 v_scriptLength v_script = some (r, r_at, r_numbers, o0_2, o0_3, o1, o1_N) → G p l e rm_X9_readCommand s m args below meth c Z A 6 (MQ below (gPost Z A (fun u : Nat × Nat => (some (.int r) : Option Value)) (fun u : Nat × Nat => ([(a0, .inr (7, [.int r_at, .int v_fault, .ref u.1, .ref a0_1, .ref a1])), (a0_1, .inl (Z.2 0, 3, .inl r_numbers)), (u.1, .inr (8, [.ref u.2, .int 0, .int o0_2, .int o0_3])), (u.2, .inl (Z.2 2, o1_N, .inl o1))] : va_W))) args s 24 1300 A) [(a0, .inr (7, [.int v_at, .int v_fault, (va_rf v_word), .ref a0_1, .ref a1])), (a0_1, .inl (Z.2 0, 3, .inl v_numbers)), (b1, .inr (9, [.ref pv, .int 0, .int 0, .int n_b1_3])), (pv, .inl (Z.2 2, n_cap, .inl n_pv))] (2 + n_cap / 16) (0 + 3 * n_cap) 13 [some (.ref a0), some (.int x1), some (.ref b1), none, none, none] [] := by
  intro n
  induction n with
  | zero =>
    intro pv n_cap v_at v_fault v_word v_numbers n_b1_3 n_pv x1 h
    cases h
  | succ n hK13 =>
    intro pv n_cap v_at v_fault v_word v_numbers n_b1_3 n_pv x1 h
    replace h : B_X9_readCommand_13 (F_X9_readCommand_13 n) n_cap v_at v_numbers n_b1_3 n_pv x1 v_scriptLength v_script = some (r, r_at, r_numbers, o0_2, o0_3, o1, o1_N) := h
    unfold B_X9_readCommand_13 at h
    obtain ⟨hpc, h⟩ := gch_e h
    refine g_aload_n X rfl dX9_readCommand_13 14 rfl ?_
    refine g_bipush X 97 dX9_readCommand_14 16 rfl kB_97 ?_
    refine g_bipush X 122 dX9_readCommand_16 18 rfl kB_122 ?_
    obtain ⟨r1, hcl, h⟩ := bd1_e h
    refine g_callV1 X (met_X9_isAt l Z a0 a1 a8 a0_1 a9 a7 a4 v_at v_fault v_word v_depth v_scriptLength v_script 97 122 r1 hcl) [] [0, 1, 2, 3] [0, 4, 5] (wr := [(a0, .inr (7, [.int v_at, .int v_fault, (va_rf v_word), .ref a0_1, .ref a1])), (a0_1, .inl (Z.2 0, 3, .inl v_numbers)), (b1, .inr (9, [.ref pv, .int 0, .int 0, .int n_b1_3])), (pv, .inl (Z.2 2, n_cap, .inl n_pv))]) ⟨rfl, rfl, rfl, rfl, rfl, by decide, by decide⟩ 0 gC7 rfl rfl (lw_V q483 q485 qs8 q97 q486) md_X9_isAt ⟨(Nat.le_of_ble_eq_true rfl), (Nat.le_of_ble_eq_true rfl)⟩ rfl dX9_readCommand_18 21 rfl (2 + n_cap / 16 + 0) (0 + 3 * n_cap + 0) rfl rfl (show 2 + n_cap / 16 + 0 ≤ 24 by omega) (show 0 + 3 * n_cap + 0 ≤ 1300 by omega) (st := []) rfl (Nat.le_of_ble_eq_true rfl) (fun _ => rfl) (fun _ => ?_)
    refine g_wd [(a0, .inr (7, [.int v_at, .int v_fault, (va_rf v_word), .ref a0_1, .ref a1])), (a0_1, .inl (Z.2 0, 3, .inl v_numbers)), (b1, .inr (9, [.ref pv, .int 0, .int 0, .int n_b1_3])), (pv, .inl (Z.2 2, n_cap, .inl n_pv))] rfl ?_
    refine g_if_eq X dX9_readCommand_21 55 (by decide) 24 rfl (fun hc => ?_) (fun hc => ?_)
    · replace h := if_t hc h
      refine g_aload_n X rfl dX9_readCommand_55 56 rfl ?_
      refine g_aload_n X rfl dX9_readCommand_56 57 rfl ?_
      obtain ⟨w2_o1, w3_o1_N, hcl, h⟩ := bd2_e h
      obtain ⟨hpt, h⟩ := gch_e h
      refine g_callV1 X (met_J11_toString l Z b1 pv 0 n_b1_3 n_pv n_cap  2 (n_b1_3.toNatClampNeg + 4) w2_o1 w3_o1_N hcl) [2, 3] [0, 1] [] (wr := [(a0, .inr (7, [.int v_at, .int v_fault, (va_rf v_word), .ref a0_1, .ref a1])), (a0_1, .inl (Z.2 0, 3, .inl v_numbers))]) ⟨rfl, rfl, rfl, rfl, rfl, by decide, by decide⟩ 2 gC9 rfl rfl (lw_V q618 q619 q620 q88 q621) md_J11_toString ⟨(Nat.le_of_ble_eq_true rfl), (Nat.le_of_ble_eq_true rfl)⟩ rfl dX9_readCommand_57 60 rfl (2 + n_cap / 16 + 0 + 2) (0 + 3 * n_cap + 0 + (n_b1_3.toNatClampNeg + 4)) rfl rfl (show 2 + n_cap / 16 + 0 + 2 ≤ 24 by omega) (show 0 + 3 * n_cap + 0 + (n_b1_3.toNatClampNeg + 4) ≤ 1300 by omega) (st := [.ref a0]) rfl (Nat.le_of_ble_eq_true rfl) (fun _ => rfl) (fun u => ?_)
      obtain ⟨b4, b5⟩ := u
      refine g_put X gC7 0 rfl 2 (by decide) q461 (fun _ h9 => h9) rfl rfl rfl (Nat.le_of_ble_eq_true rfl) dX9_readCommand_60 63 rfl ?_
      refine g_aload_n X rfl dX9_readCommand_63 64 rfl ?_
      refine g_get X gC7 0 rfl 2 (by decide) q461 (fun _ h9 => h9) rfl dX9_readCommand_64 67 rfl ?_
      obtain ⟨r6, w7_hash, w8_hz, hcl, h⟩ := bd3_e h
      refine g_callSN1 X (met_X1_numbersOf l Z b4 b5 0 0 w2_o1 w3_o1_N  r6 w7_hash w8_hz hcl) [4] [0, 1, 2, 3, 5] [5] (wr := [(a0, .inr (7, [.int v_at, .int v_fault, .ref b4, .ref a0_1, .ref a1])), (a0_1, .inl (Z.2 0, 3, .inl v_numbers)), (b1, .inr (9, [.ref pv, .int 0, .int 0, .int n_b1_3])), (pv, .inl (Z.2 2, n_cap, .inl n_pv)), (b5, .inl (Z.2 2, w3_o1_N, .inl w2_o1))]) ⟨rfl, rfl, rfl, rfl, rfl, by decide, by decide⟩ q825 q69 q823 q824 md_X1_numbersOf ⟨(Nat.le_of_ble_eq_true rfl), (Nat.le_of_ble_eq_true rfl)⟩ rfl dX9_readCommand_67 70 rfl (2 + n_cap / 16 + 0 + 2 + 0) (0 + 3 * n_cap + 0 + (n_b1_3.toNatClampNeg + 4) + 0) rfl rfl (show 2 + n_cap / 16 + 0 + 2 + 0 ≤ 24 by omega) (show 0 + 3 * n_cap + 0 + (n_b1_3.toNatClampNeg + 4) + 0 ≤ 1300 by omega) (st := []) rfl (Nat.le_of_ble_eq_true rfl) (fun _ => rfl) (fun _ => ?_)
      refine g_wd [(a0, .inr (7, [.int v_at, .int v_fault, .ref b4, .ref a0_1, .ref a1])), (a0_1, .inl (Z.2 0, 3, .inl v_numbers)), (b1, .inr (9, [.ref pv, .int 0, .int 0, .int n_b1_3])), (pv, .inl (Z.2 2, n_cap, .inl n_pv)), (b5, .inl (Z.2 2, w3_o1_N, .inl w2_o1)), (b4, .inr (8, [.ref b5, .int 0, .int w7_hash, .int w8_hz]))] rfl ?_
      refine g_istore_n X dX9_readCommand_70 71 rfl (Nat.le_of_ble_eq_true rfl) rfl [some (.ref a0), some (.int x1), some (.ref b1), some (.int r6), none, none] rfl ?_
      refine g_iload_n X rfl dX9_readCommand_71 72 rfl ?_
      refine g_iconst X (-1) dX9_readCommand_72 73 rfl kI_m1 ?_
      refine g_icmp_ne X dX9_readCommand_73 83 (by decide) 76 rfl (fun hc => ?_) (fun hc => ?_)
      · replace h := if_f hc h
        refine g_iconst X 0 dX9_readCommand_83 84 rfl kI_0 ?_
        refine g_istore X dX9_readCommand_84 86 rfl (Nat.le_of_ble_eq_true rfl) rfl [some (.ref a0), some (.int x1), some (.ref b1), some (.int r6), some (.int 0), none] rfl ?_
        refine g_keep [0, 1, 4, 5] [(a0, .inr (7, [.int v_at, .int v_fault, .ref b4, .ref a0_1, .ref a1])), (a0_1, .inl (Z.2 0, 3, .inl v_numbers)), (b5, .inl (Z.2 2, w3_o1_N, .inl w2_o1)), (b4, .inr (8, [.ref b5, .int 0, .int w7_hash, .int w8_hz]))] rfl rfl ?_
        refine g_more 24 1300 (by omega) (by omega) ?_
        refine g_kill (j := 1) [some (.ref a0), none, some (.ref b1), some (.int r6), some (.int 0), none] rfl ?_
        refine g_kill (j := 2) [some (.ref a0), none, none, some (.int r6), some (.int 0), none] rfl ?_
        exact w_X9_readCommand_86 a0 a0_1 a1 a8 a9 a7 a4 v_depth v_scriptLength v_script X b4 b5 r r_at r_numbers o0_2 o0_3 o1 o1_N    gFU v_at v_fault v_numbers w2_o1 w3_o1_N w7_hash w8_hz r6 0 h
      · replace h := if_t hc h
        refine g_aload_n X rfl dX9_readCommand_76 77 rfl ?_
        refine g_iload_n X rfl dX9_readCommand_77 78 rfl ?_
        refine g_put X gC7 0 rfl 0 (by decide) q458 (fun _ h9 => h9) rfl rfl rfl (Nat.le_of_ble_eq_true rfl) dX9_readCommand_78 81 rfl ?_
        refine g_iconst X 0 dX9_readCommand_81 82 rfl kI_0 ?_
        refine g_keep [0, 1, 5, 4] [(a0, .inr (7, [.int x1, .int v_fault, .ref b4, .ref a0_1, .ref a1])), (a0_1, .inl (Z.2 0, 3, .inl v_numbers)), (b4, .inr (8, [.ref b5, .int 0, .int w7_hash, .int w8_hz])), (b5, .inl (Z.2 2, w3_o1_N, .inl w2_o1))] rfl rfl ?_
        cases h
        exact g_zret X dX9_readCommand_82 (by decide) (b4, b5) rfl rfl (show 2 + n_cap / 16 + 0 + 2 + 0 ≤ 24 by omega) (show 0 + 3 * n_cap + 0 + (n_b1_3.toNatClampNeg + 4) + 0 ≤ 1300 by omega)
    · replace h := if_f hc h
      refine g_aload_n X rfl dX9_readCommand_24 25 rfl ?_
      refine g_aload_n X rfl dX9_readCommand_25 26 rfl ?_
      refine g_get X gC7 0 rfl 4 (by decide) q463 (fun _ h9 => h9) rfl dX9_readCommand_26 29 rfl ?_
      refine g_getRN X gC0 0 rfl 3 (by decide) q244 (fun _ h9 => h9) rfl dX9_readCommand_29 32 rfl ?_
      refine g_aload_n X rfl dX9_readCommand_32 33 rfl ?_
      refine g_get X gC7 0 rfl 0 (by decide) q458 (fun _ h9 => h9) rfl dX9_readCommand_33 36 rfl ?_
      obtain ⟨hi, h⟩ := gin_e h
      refine g_baldR X 1 rfl hi dX9_readCommand_36 37 rfl ?_
      refine g_i2c X dX9_readCommand_37 38 rfl ?_
      obtain ⟨w9_count, w10_o0, w11_o0_N, hcl, h⟩ := bd3_e h
      obtain ⟨hpt, h⟩ := gch_e h
      refine g_callV1 X (met_J11_append l Z b1 pv 0 n_b1_3 n_pv n_cap (((v_script v_at.toNatClampNeg).toUInt32 % 65536).toInt32) (gRc (F_J11_append n_b1_3 n_pv n_cap (((v_script v_at.toNatClampNeg).toUInt32 % 65536).toInt32) 0 0)) (gRs (F_J11_append n_b1_3 n_pv n_cap (((v_script v_at.toNatClampNeg).toUInt32 % 65536).toInt32) 0 0) n_cap) w9_count w10_o0 w11_o0_N hcl) [2, 3] [0, 1] [] (wr := [(a0, .inr (7, [.int v_at, .int v_fault, (va_rf v_word), .ref a0_1, .ref a1])), (a0_1, .inl (Z.2 0, 3, .inl v_numbers))]) ⟨rfl, rfl, rfl, rfl, rfl, by decide, by decide⟩ 2 gC9 rfl rfl (lw_V q525 q526 q527 q88 q528) md_J11_append ⟨(Nat.le_of_ble_eq_true rfl), (Nat.le_of_ble_eq_true rfl)⟩ rfl dX9_readCommand_38 41 rfl (2 + n_cap / 16 + 0 + (gRc (F_J11_append n_b1_3 n_pv n_cap (((v_script v_at.toNatClampNeg).toUInt32 % 65536).toInt32) 0 0))) (0 + 3 * n_cap + 0 + (gRs (F_J11_append n_b1_3 n_pv n_cap (((v_script v_at.toNatClampNeg).toUInt32 % 65536).toInt32) 0 0) n_cap)) rfl rfl (show 2 + n_cap / 16 + 0 + (gRc (F_J11_append n_b1_3 n_pv n_cap (((v_script v_at.toNatClampNeg).toUInt32 % 65536).toInt32) 0 0)) ≤ 24 by omega) (show 0 + 3 * n_cap + 0 + (gRs (F_J11_append n_b1_3 n_pv n_cap (((v_script v_at.toNatClampNeg).toUInt32 % 65536).toInt32) 0 0) n_cap) ≤ 1300 by omega) (st := []) rfl (Nat.le_of_ble_eq_true rfl) (fun _ => rfl) (fun b12 => ?_)
      refine g_more (2 + w11_o0_N / 16) (0 + 3 * w11_o0_N) (by omega) (by omega) ?_
      refine g_pop X dX9_readCommand_41 42 rfl rfl ?_
      refine g_aload_n X rfl dX9_readCommand_42 43 rfl ?_
      refine g_dup X dX9_readCommand_43 44 rfl rfl ?_
      refine g_get X gC7 0 rfl 0 (by decide) q458 (fun _ h9 => h9) rfl dX9_readCommand_44 47 rfl ?_
      refine g_iconst X 1 dX9_readCommand_47 48 rfl kI_1 ?_
      refine g_iadd X dX9_readCommand_48 49 rfl ?_
      refine g_put X gC7 0 rfl 0 (by decide) q458 (fun _ h9 => h9) rfl rfl rfl (Nat.le_of_ble_eq_true rfl) dX9_readCommand_49 52 rfl ?_
      refine g_goto X dX9_readCommand_52 13 (by decide) ?_
      refine g_more (2 + w11_o0_N / 16) (0 + 3 * w11_o0_N) (by omega) (by omega) ?_
      exact hK13 b12 w11_o0_N (v_at + 1) v_fault v_word v_numbers w9_count w10_o0 x1 h
theorem met_X9_readCommand (l : Launch) (Z : gZt) (a0 : Nat) (a0_1 : Nat) (a1 : Nat) (a8 : Nat) (a9 : Nat) (a7 : Nat) (a4 : Nat) (v_at : Int32) (v_fault : Int32) (v_word : Option Nat) (v_numbers : Nat → Int32) (v_depth : Int32) (v_scriptLength : Int32) (v_script : Nat → Int32) (r : Int32) (r_at : Int32) (r_numbers : Nat → Int32) (o0_2 : Int32) (o0_3 : Int32) (o1 : Nat → Int32) (o1_N : Nat) (h : F_X9_readCommand v_at v_numbers v_scriptLength v_script = some (r, r_at, r_numbers, o0_2, o0_3, o1, o1_N)) : Ct l yX9_readCommand (ws_ yX9_readCommand cX9_readCommand 6 (some .boolean)) rm_X9_readCommand Z [.ref a0] [(a0, .inr (7, [.int v_at, .int v_fault, (va_rf v_word), .ref a0_1, .ref a1])), (a0_1, .inl (Z.2 0, 3, .inl v_numbers))] [(a1, .inr (0, [.ref a9, .ref a7, .int v_depth, .ref a8, .int v_scriptLength, .ref a4])), (a8, .inl (Z.2 2, 120, .inl v_script))] (fun u : Nat × Nat => (some (.int r) : Option Value)) (fun u : Nat × Nat => ([(a0, .inr (7, [.int r_at, .int v_fault, .ref u.1, .ref a0_1, .ref a1])), (a0_1, .inl (Z.2 0, 3, .inl r_numbers)), (u.1, .inr (8, [.ref u.2, .int 0, .int o0_2, .int o0_3])), (u.2, .inl (Z.2 2, o1_N, .inl o1))] : va_W)) := by
  refine Ct.of cX9_readCommand 6 (some .boolean) "LineEchoes$Reader" [some (.ref a0), none, none, none, none, none] 5 (by decide) rfl (Nat.le_of_ble_eq_true rfl) rfl (fun p e s m args below meth c A X hin => ?_)
  unfold F_X9_readCommand at h
  refine g_aload_n X rfl dX9_readCommand_0 1 rfl ?_
  refine g_get X gC7 0 rfl 0 (by decide) q458 (fun _ h9 => h9) rfl dX9_readCommand_1 4 rfl ?_
  refine g_istore_n X dX9_readCommand_4 5 rfl (Nat.le_of_ble_eq_true rfl) rfl [some (.ref a0), some (.int v_at), none, none, none, none] rfl ?_
  refine g_new X gC9 q494 q495 q88 [.null, .int 0, .int 0, .int 0] gD9 dX9_readCommand_5 8 rfl 1 4 rfl rfl (Nat.le_of_ble_eq_true rfl) (Nat.le_of_ble_eq_true rfl) (fun b1 => ?_)
  refine g_dup X dX9_readCommand_8 9 rfl rfl ?_
  obtain ⟨w2_o0, hcl, h⟩ := bd1_e h
  refine g_callI0 X (met_J11_init l Z b1   w2_o0 hcl) [2] [0, 1] [] (wr := [(a0, .inr (7, [.int v_at, .int v_fault, (va_rf v_word), .ref a0_1, .ref a1])), (a0_1, .inl (Z.2 0, 3, .inl v_numbers))]) ⟨rfl, rfl, rfl, rfl, rfl, by decide, by decide⟩ q498 q88 q496 q497 rfl md_J11_init ⟨(Nat.le_of_ble_eq_true rfl), (Nat.le_of_ble_eq_true rfl)⟩ rfl dX9_readCommand_9 12 rfl 2 20 rfl rfl (Nat.le_of_ble_eq_true rfl) (Nat.le_of_ble_eq_true rfl) (st := [.ref b1]) rfl (Nat.le_of_ble_eq_true rfl) (fun _ => rfl) (fun b3 => ?_)
  refine g_astore_n X dX9_readCommand_12 13 rfl (Nat.le_of_ble_eq_true rfl) rfl [some (.ref a0), some (.int v_at), some (.ref b1), none, none, none] rfl ?_
  refine g_more (2 + 16 / 16) (0 + 3 * 16) (by omega) (by omega) ?_
  exact w_X9_readCommand_13 a0 a0_1 a1 a8 a9 a7 a4 v_depth v_scriptLength v_script X b1 r r_at r_numbers o0_2 o0_3 o1 o1_N    gFU b3 16 v_at v_fault v_word v_numbers 0 w2_o0 v_at h
/-! LineEchoes$Reader.next()Z -/
abbrev rm_X9_next1 : Room := { frames := 7, cells := 24, slots := 1300, locals := 196 }
def F_X9_next1_44 (v_at : Int32) (v_fault : Int32) (v_numbers : Nat → Int32) (n_b10_2 : Int32) (n_b10_3 : Int32) (n_b11 : Nat → Int32) (n_b11_N : Nat) : Option (Int32 × Int32 × Int32 × (Nat → Int32) × Int32 × Int32 × (Nat → Int32) × Nat) :=
  some (1, v_at, v_fault, v_numbers, n_b10_2, n_b10_3, n_b11, n_b11_N)
def F_X9_next1 (v_at : Int32) (v_fault : Int32) (v_numbers : Nat → Int32) (v_scriptLength : Int32) (v_script : Nat → Int32) : Option (Int32 × Int32 × Int32 × (Nat → Int32) × Int32 × Int32 × (Nat → Int32) × Nat) :=
  bd2 (F_X9_spaces v_at v_scriptLength v_script) fun r1 w2_at =>
  if w2_at = v_scriptLength then
    (none)
  else
    (if v_fault = (-1) then
      (bd7 (F_X9_readCommand w2_at v_numbers v_scriptLength v_script) fun r3 w4_at w5_numbers w6_o0_2 w7_o0_3 w8_o1 w9_o1_N =>
      if r3 = 0 then
        (F_X9_next1_44 w4_at w4_at w5_numbers w6_o0_2 w7_o0_3 w8_o1 w9_o1_N)
      else
        (F_X9_next1_44 w4_at v_fault w5_numbers w6_o0_2 w7_o0_3 w8_o1 w9_o1_N))
    else
      (none))
theorem w_X9_next1_44 {p : Program} {l : Launch} {e : Env} {s : State} {m : MethodId} {args : Array Value} {below : List Frame} {meth : Method} {c : Code} {Z : gZt} {A : Nat → Prop} (a0 : Nat) (a0_1 : Nat) (a1 : Nat) (a8 : Nat) (a9 : Nat) (a7 : Nat) (a4 : Nat) (v_depth : Int32) (v_scriptLength : Int32) (v_script : Nat → Int32) (X : gX p s m args meth c Z A cX9_next "LineEchoes$Reader" 2 (some .boolean) [(a1, .inr (0, [.ref a9, .ref a7, .int v_depth, .ref a8, .int v_scriptLength, .ref a4])), (a8, .inl (Z.2 2, 120, .inl v_script))]) (b10 : Nat) (b11 : Nat) (r : Int32) (r_at : Int32) (r_fault : Int32) (r_numbers : Nat → Int32) (o0_2 : Int32) (o0_3 : Int32) (o1 : Nat → Int32) (o1_N : Nat)  (v_at : Int32) (v_fault : Int32) (v_numbers : Nat → Int32) (n_b10_2 : Int32) (n_b10_3 : Int32) (n_b11 : Nat → Int32) (n_b11_N : Nat) (h : F_X9_next1_44 v_at v_fault v_numbers n_b10_2 n_b10_3 n_b11 n_b11_N = some (r, r_at, r_fault, r_numbers, o0_2, o0_3, o1, o1_N)) : G p l e rm_X9_next1 s m args below meth c Z A 2 (MQ below (gPost Z A (fun u : Nat × Nat => (some (.int r) : Option Value)) (fun u : Nat × Nat => ([(a0, .inr (7, [.int r_at, .int r_fault, .ref u.1, .ref a0_1, .ref a1])), (a0_1, .inl (Z.2 0, 3, .inl r_numbers)), (u.1, .inr (8, [.ref u.2, .int 0, .int o0_2, .int o0_3])), (u.2, .inl (Z.2 2, o1_N, .inl o1))] : va_W))) args s 24 1300 A) [(a0, .inr (7, [.int v_at, .int v_fault, .ref b10, .ref a0_1, .ref a1])), (a0_1, .inl (Z.2 0, 3, .inl v_numbers)), (b10, .inr (8, [.ref b11, .int 0, .int n_b10_2, .int n_b10_3])), (b11, .inl (Z.2 2, n_b11_N, .inl n_b11))] 24 1300 44 [none, none] [] := by
  unfold F_X9_next1_44 at h
  refine g_iconst X 1 dX9_next_44 45 rfl kI_1 ?_
  cases h
  exact g_zret X dX9_next_45 (by decide) (b10, b11) rfl rfl (Nat.le_of_ble_eq_true rfl) (Nat.le_of_ble_eq_true rfl)
theorem met_X9_next1 (l : Launch) (Z : gZt) (a0 : Nat) (a0_1 : Nat) (a1 : Nat) (a8 : Nat) (a9 : Nat) (a7 : Nat) (a4 : Nat) (v_at : Int32) (v_fault : Int32) (v_word : Option Nat) (v_numbers : Nat → Int32) (v_depth : Int32) (v_scriptLength : Int32) (v_script : Nat → Int32) (r : Int32) (r_at : Int32) (r_fault : Int32) (r_numbers : Nat → Int32) (o0_2 : Int32) (o0_3 : Int32) (o1 : Nat → Int32) (o1_N : Nat) (h : F_X9_next1 v_at v_fault v_numbers v_scriptLength v_script = some (r, r_at, r_fault, r_numbers, o0_2, o0_3, o1, o1_N)) : Ct l yX9_next (ws_ yX9_next cX9_next 2 (some .boolean)) rm_X9_next1 Z [.ref a0] [(a0, .inr (7, [.int v_at, .int v_fault, (va_rf v_word), .ref a0_1, .ref a1])), (a0_1, .inl (Z.2 0, 3, .inl v_numbers))] [(a1, .inr (0, [.ref a9, .ref a7, .int v_depth, .ref a8, .int v_scriptLength, .ref a4])), (a8, .inl (Z.2 2, 120, .inl v_script))] (fun u : Nat × Nat => (some (.int r) : Option Value)) (fun u : Nat × Nat => ([(a0, .inr (7, [.int r_at, .int r_fault, .ref u.1, .ref a0_1, .ref a1])), (a0_1, .inl (Z.2 0, 3, .inl r_numbers)), (u.1, .inr (8, [.ref u.2, .int 0, .int o0_2, .int o0_3])), (u.2, .inl (Z.2 2, o1_N, .inl o1))] : va_W)) := by
  refine Ct.of cX9_next 2 (some .boolean) "LineEchoes$Reader" [some (.ref a0), none] 1 (by decide) rfl (Nat.le_of_ble_eq_true rfl) rfl (fun p e s m args below meth c A X hin => ?_)
  unfold F_X9_next1 at h
  refine g_aload_n X rfl dX9_next_0 1 rfl ?_
  obtain ⟨r1, w2_at, hcl, h⟩ := bd2_e h
  refine g_callV1 X (met_X9_spaces l Z a0 a1 a8 a0_1 a9 a7 a4 v_at v_fault v_word v_depth v_scriptLength v_script  r1 w2_at hcl) [0] [1] [2, 3] (wr := [(a0_1, .inl (Z.2 0, 3, .inl v_numbers))]) ⟨rfl, rfl, rfl, rfl, rfl, by decide, by decide⟩ 0 gC7 rfl rfl (lw_V q479 q481 qs7 q97 q482) md_X9_spaces ⟨(Nat.le_of_ble_eq_true rfl), (Nat.le_of_ble_eq_true rfl)⟩ rfl dX9_next_1 4 rfl 0 0 rfl rfl (Nat.le_of_ble_eq_true rfl) (Nat.le_of_ble_eq_true rfl) (st := []) rfl (Nat.le_of_ble_eq_true rfl) (fun _ => rfl) (fun _ => ?_)
  refine g_istore_n X dX9_next_4 5 rfl (Nat.le_of_ble_eq_true rfl) rfl [some (.ref a0), some (.int r1)] rfl ?_
  refine g_aload_n X rfl dX9_next_5 6 rfl ?_
  refine g_get X gC7 1 rfl 0 (by decide) q458 (fun _ h9 => h9) rfl dX9_next_6 9 rfl ?_
  refine g_aload_n X rfl dX9_next_9 10 rfl ?_
  refine g_get X gC7 1 rfl 4 (by decide) q463 (fun _ h9 => h9) rfl dX9_next_10 13 rfl ?_
  refine g_getRN X gC0 0 rfl 4 (by decide) q246 (fun _ h9 => h9) rfl dX9_next_13 16 rfl ?_
  refine g_icmp_eq X dX9_next_16 27 (by decide) 19 rfl (fun hc => ?_) (fun hc => ?_)
  · replace h := if_t hc h
    cases h
  · replace h := if_f hc h
    refine g_aload_n X rfl dX9_next_19 20 rfl ?_
    refine g_get X gC7 1 rfl 1 (by decide) q459 (fun _ h9 => h9) rfl dX9_next_20 23 rfl ?_
    refine g_iconst X (-1) dX9_next_23 24 rfl kI_m1 ?_
    refine g_icmp_eq X dX9_next_24 29 (by decide) 27 rfl (fun hc => ?_) (fun hc => ?_)
    · replace h := if_t hc h
      refine g_aload_n X rfl dX9_next_29 30 rfl ?_
      obtain ⟨r3, w4_at, w5_numbers, w6_o0_2, w7_o0_3, w8_o1, w9_o1_N, hcl, h⟩ := bd7_e h
      refine g_callV1 X (met_X9_readCommand l Z a0 a0_1 a1 a8 a9 a7 a4 w2_at v_fault v_word v_numbers v_depth v_scriptLength v_script  r3 w4_at w5_numbers w6_o0_2 w7_o0_3 w8_o1 w9_o1_N hcl) [1, 0] [] [2, 3] (wr := []) ⟨rfl, rfl, rfl, rfl, rfl, by decide, by decide⟩ 1 gC7 rfl rfl (lw_V q490 q492 qs9 q97 q493) md_X9_readCommand ⟨(Nat.le_of_ble_eq_true rfl), (Nat.le_of_ble_eq_true rfl)⟩ rfl dX9_next_30 33 rfl 24 1300 rfl rfl (Nat.le_of_ble_eq_true rfl) (Nat.le_of_ble_eq_true rfl) (st := []) rfl (Nat.le_of_ble_eq_true rfl) (fun _ => rfl) (fun u => ?_)
      obtain ⟨b10, b11⟩ := u
      refine g_if_ne X dX9_next_33 44 (by decide) 36 rfl (fun hc => ?_) (fun hc => ?_)
      · replace h := if_f hc h
        refine g_kill (j := 0) [none, some (.int r1)] rfl ?_
        refine g_kill (j := 1) [none, none] rfl ?_
        exact w_X9_next1_44 a0 a0_1 a1 a8 a9 a7 a4 v_depth v_scriptLength v_script X b10 b11 r r_at r_fault r_numbers o0_2 o0_3 o1 o1_N    w4_at v_fault w5_numbers w6_o0_2 w7_o0_3 w8_o1 w9_o1_N h
      · replace h := if_t hc h
        refine g_aload_n X rfl dX9_next_36 37 rfl ?_
        refine g_aload_n X rfl dX9_next_37 38 rfl ?_
        refine g_get X gC7 0 rfl 0 (by decide) q458 (fun _ h9 => h9) rfl dX9_next_38 41 rfl ?_
        refine g_put X gC7 0 rfl 1 (by decide) q459 (fun _ h9 => h9) rfl rfl rfl (Nat.le_of_ble_eq_true rfl) dX9_next_41 44 rfl ?_
        refine g_wd [(a0, .inr (7, [.int w4_at, .int w4_at, .ref b10, .ref a0_1, .ref a1])), (a0_1, .inl (Z.2 0, 3, .inl w5_numbers)), (b10, .inr (8, [.ref b11, .int 0, .int w6_o0_2, .int w7_o0_3])), (b11, .inl (Z.2 2, w9_o1_N, .inl w8_o1))] rfl ?_
        refine g_kill (j := 0) [none, some (.int r1)] rfl ?_
        refine g_kill (j := 1) [none, none] rfl ?_
        exact w_X9_next1_44 a0 a0_1 a1 a8 a9 a7 a4 v_depth v_scriptLength v_script X b10 b11 r r_at r_fault r_numbers o0_2 o0_3 o1 o1_N    w4_at w4_at w5_numbers w6_o0_2 w7_o0_3 w8_o1 w9_o1_N h
    · replace h := if_f hc h
      cases h
/-! LineEchoes$Reader.next()Z -/
abbrev rm_X9_next0 : Room := { frames := 3, cells := 0, slots := 0, locals := 68 }
def F_X9_next0_27 (v_at : Int32) : Option (Int32 × Int32) :=
  some (0, v_at)
def F_X9_next0 (v_at : Int32) (v_fault : Int32) (v_scriptLength : Int32) (v_script : Nat → Int32) : Option (Int32 × Int32) :=
  bd2 (F_X9_spaces v_at v_scriptLength v_script) fun r1 w2_at =>
  if w2_at = v_scriptLength then
    (F_X9_next0_27 w2_at)
  else
    (if v_fault = (-1) then
      (none)
    else
      (F_X9_next0_27 w2_at))
theorem w_X9_next0_27 {p : Program} {l : Launch} {e : Env} {s : State} {m : MethodId} {args : Array Value} {below : List Frame} {meth : Method} {c : Code} {Z : gZt} {A : Nat → Prop} (a0 : Nat) (a1 : Nat) (a8 : Nat) (a0_1 : Nat) (a9 : Nat) (a7 : Nat) (a4 : Nat) (v_depth : Int32) (v_scriptLength : Int32) (v_script : Nat → Int32) (X : gX p s m args meth c Z A cX9_next "LineEchoes$Reader" 2 (some .boolean) [(a1, .inr (0, [.ref a9, .ref a7, .int v_depth, .ref a8, .int v_scriptLength, .ref a4])), (a8, .inl (Z.2 2, 120, .inl v_script))]) (r : Int32) (r_at : Int32)  (v_at : Int32) (v_fault : Int32) (v_word : Option Nat) (h : F_X9_next0_27 v_at = some (r, r_at)) : G p l e rm_X9_next0 s m args below meth c Z A 2 (MQ below (gPost Z A (fun _ : Unit => (some (.int r) : Option Value)) (fun _ : Unit => ([(a0, .inr (7, [.int r_at, .int v_fault, (va_rf v_word), .ref a0_1, .ref a1]))] : va_W))) args s 0 0 A) [(a0, .inr (7, [.int v_at, .int v_fault, (va_rf v_word), .ref a0_1, .ref a1]))] 0 0 27 [none, none] [] := by
  unfold F_X9_next0_27 at h
  refine g_iconst X 0 dX9_next_27 28 rfl kI_0 ?_
  cases h
  exact g_zret X dX9_next_28 (by decide) () rfl rfl (Nat.le_of_ble_eq_true rfl) (Nat.le_of_ble_eq_true rfl)
theorem met_X9_next0 (l : Launch) (Z : gZt) (a0 : Nat) (a1 : Nat) (a8 : Nat) (a0_1 : Nat) (a9 : Nat) (a7 : Nat) (a4 : Nat) (v_at : Int32) (v_fault : Int32) (v_word : Option Nat) (v_depth : Int32) (v_scriptLength : Int32) (v_script : Nat → Int32) (r : Int32) (r_at : Int32) (h : F_X9_next0 v_at v_fault v_scriptLength v_script = some (r, r_at)) : Ct l yX9_next (ws_ yX9_next cX9_next 2 (some .boolean)) rm_X9_next0 Z [.ref a0] [(a0, .inr (7, [.int v_at, .int v_fault, (va_rf v_word), .ref a0_1, .ref a1]))] [(a1, .inr (0, [.ref a9, .ref a7, .int v_depth, .ref a8, .int v_scriptLength, .ref a4])), (a8, .inl (Z.2 2, 120, .inl v_script))] (fun _ : Unit => (some (.int r) : Option Value)) (fun _ : Unit => ([(a0, .inr (7, [.int r_at, .int v_fault, (va_rf v_word), .ref a0_1, .ref a1]))] : va_W)) := by
  refine Ct.of cX9_next 2 (some .boolean) "LineEchoes$Reader" [some (.ref a0), none] 1 (by decide) rfl (Nat.le_of_ble_eq_true rfl) rfl (fun p e s m args below meth c A X hin => ?_)
  unfold F_X9_next0 at h
  refine g_aload_n X rfl dX9_next_0 1 rfl ?_
  obtain ⟨r1, w2_at, hcl, h⟩ := bd2_e h
  refine g_callV1W X (met_X9_spaces l Z a0 a1 a8 a0_1 a9 a7 a4 v_at v_fault v_word v_depth v_scriptLength v_script  r1 w2_at hcl) rfl 0 gC7 rfl rfl (lw_V q479 q481 qs7 q97 q482) md_X9_spaces ⟨(Nat.le_of_ble_eq_true rfl), (Nat.le_of_ble_eq_true rfl)⟩ rfl dX9_next_1 4 rfl 0 0 rfl rfl (Nat.le_of_ble_eq_true rfl) (Nat.le_of_ble_eq_true rfl) (st := []) rfl (Nat.le_of_ble_eq_true rfl) (fun _ => rfl) (fun _ => ?_)
  refine g_istore_n X dX9_next_4 5 rfl (Nat.le_of_ble_eq_true rfl) rfl [some (.ref a0), some (.int r1)] rfl ?_
  refine g_aload_n X rfl dX9_next_5 6 rfl ?_
  refine g_get X gC7 0 rfl 0 (by decide) q458 (fun _ h9 => h9) rfl dX9_next_6 9 rfl ?_
  refine g_aload_n X rfl dX9_next_9 10 rfl ?_
  refine g_get X gC7 0 rfl 4 (by decide) q463 (fun _ h9 => h9) rfl dX9_next_10 13 rfl ?_
  refine g_getRN X gC0 0 rfl 4 (by decide) q246 (fun _ h9 => h9) rfl dX9_next_13 16 rfl ?_
  refine g_icmp_eq X dX9_next_16 27 (by decide) 19 rfl (fun hc => ?_) (fun hc => ?_)
  · replace h := if_t hc h
    refine g_kill (j := 0) [none, some (.int r1)] rfl ?_
    refine g_kill (j := 1) [none, none] rfl ?_
    exact w_X9_next0_27 a0 a1 a8 a0_1 a9 a7 a4 v_depth v_scriptLength v_script X  r r_at    w2_at v_fault v_word h
  · replace h := if_f hc h
    refine g_aload_n X rfl dX9_next_19 20 rfl ?_
    refine g_get X gC7 0 rfl 1 (by decide) q459 (fun _ h9 => h9) rfl dX9_next_20 23 rfl ?_
    refine g_iconst X (-1) dX9_next_23 24 rfl kI_m1 ?_
    refine g_icmp_eq X dX9_next_24 29 (by decide) 27 rfl (fun hc => ?_) (fun hc => ?_)
    · replace h := if_t hc h
      cases h
    · replace h := if_f hc h
      refine g_kill (j := 0) [none, some (.int r1)] rfl ?_
      refine g_kill (j := 1) [none, none] rfl ?_
      exact w_X9_next0_27 a0 a1 a8 a0_1 a9 a7 a4 v_depth v_scriptLength v_script X  r r_at    w2_at v_fault v_word h
