/-! 21.run (printed by gen/system.py) -/
set_option maxRecDepth 100000
theorem kS_200 : (Int16.ofInt 200).toInt32 = 200 := by decide
theorem md_At : gMd gAt 1 := by unfold gMd; decide +kernel
theorem md_Dc : gMd gDc 1 := by unfold gMd; decide +kernel
theorem md_Dg : gMd gDg 1 := by unfold gMd; decide +kernel
theorem md_J8_fill : gMd yJ8_fill 2 := by unfold gMd; decide +kernel
theorem md_X4_init : gMd yX4_init 0 := by unfold gMd; decide +kernel
theorem md_X4_of : gMd yX4_of 2 := by unfold gMd; decide +kernel
theorem md_X5_passFront : gMd yX5_passFront 1 := by unfold gMd; decide +kernel
theorem md_X5_passJoint : gMd yX5_passJoint 2 := by unfold gMd; decide +kernel
theorem md_X5_setOut : gMd yX5_setOut 5 := by unfold gMd; decide +kernel
theorem md_X5_sumOfEchoes : gMd yX5_sumOfEchoes 0 := by unfold gMd; decide +kernel
theorem md_X7_turned : gMd yX7_turned 2 := by unfold gMd; decide +kernel
theorem gD3 : ∀ j, j < 1 → defaultValue (tyX4 j) = vp_V [.null] j := fun j hj => match j, hj with | 0, _ => rfl | n + 1, hj => absurd hj (by omega)
/-! LineEchoes$Echoes.turned(JI)J -/
abbrev rm_X7_turned : Room := { frames := 0, cells := 0, slots := 0, locals := 0 }
def F_X7_turned (x0 : Int64) (x2 : Int32) : Option (Int64) :=
  some ((x0 * x2.toInt64) / 1000)
theorem met_X7_turned (l : Launch) (Z : gZt) (x0 : Int64) (x2 : Int32) (r : Int64) (h : F_X7_turned x0 x2 = some r) : Ct l yX7_turned (ws_ yX7_turned cX7_turned 3 (some .long)) rm_X7_turned Z [.long x0, .int x2] [] [] (fun _ : Unit => (some (.long r) : Option Value)) (fun _ : Unit => ([] : va_W)) := by
  refine Ct.of cX7_turned 3 (some .long) "LineEchoes$Echoes" [some (.long x0), none, some (.int x2)] 0 (by decide) rfl (Nat.le_of_ble_eq_true rfl) rfl (fun p e s m args below meth c A X hin => ?_)
  unfold F_X7_turned at h
  refine g_lload_n X rfl dX7_turned_0 1 rfl ?_
  refine g_iload_n X rfl dX7_turned_1 2 rfl ?_
  refine g_i2l X dX7_turned_2 3 rfl ?_
  refine g_lmul X dX7_turned_3 4 rfl ?_
  refine g_ldc2 X q321 dX7_turned_4 7 rfl ?_
  refine g_ldiv X (by decide) dX7_turned_7 8 rfl ?_
  cases h
  exact g_lret X dX7_turned_8 () rfl rfl (Nat.le_of_ble_eq_true rfl) (Nat.le_of_ble_eq_true rfl)
/-! LineEchoes$Runner.<init>()V -/
abbrev rm_X5_init : Room := { frames := 1, cells := 3, slots := 3819, locals := 40 }
def F_X5_init : Option ((Nat → Int64) × (Nat → Int64) × (Nat → Int64)) :=
  some (fun _ => 0, fun _ => 0, fun _ => 0)
theorem met_X5_init (l : Launch) (Z : gZt) (a0 : Nat) (v_brought : Int64) (v_left : Int64) (v_dropped : Int64) (v_away : Int64) (v_mergings : Int32) (v_drops : Int32) (o0 : Nat → Int64) (o1 : Nat → Int64) (o2 : Nat → Int64) (h : F_X5_init = some (o0, o1, o2)) : Ct l yX5_init (ws_ yX5_init cX5_init 1 none) rm_X5_init Z [.ref a0] [(a0, .inr (4, [.null, .null, .null, .null, .long v_brought, .long v_left, .long v_dropped, .long v_away, .int v_mergings, .int v_drops]))] [] (fun u : Nat × Nat × Nat => (none : Option Value)) (fun u : Nat × Nat × Nat => ([(a0, .inr (4, [.ref u.1, .ref u.2.1, .ref u.2.2, .null, .long v_brought, .long v_left, .long v_dropped, .long v_away, .int v_mergings, .int v_drops])), (u.1, .inl (Z.2 1, 1809, .inr (.inl o0))), (u.2.1, .inl (Z.2 1, 1809, .inr (.inl o1))), (u.2.2, .inl (Z.2 1, 201, .inr (.inl o2)))] : va_W)) := by
  refine Ct.of cX5_init 1 none "LineEchoes$Runner" [some (.ref a0)] 0 (by decide) rfl (Nat.le_of_ble_eq_true rfl) rfl (fun p e s m args below meth c A X hin => ?_)
  replace hin : True → meth.name = "<init>" := fun _ => hin rfl
  unfold F_X5_init at h
  refine g_aload_n X rfl dX5_init_0 1 rfl ?_
  refine g_objInit X q208 q104 q105 dX5_init_1 4 rfl (Nat.le_of_ble_eq_true rfl) (Nat.le_of_ble_eq_true rfl) ?_
  refine g_aload_n X rfl dX5_init_4 5 rfl ?_
  refine g_sipush X 1809 dX5_init_5 8 rfl kS_1809 ?_
  refine g_newa1 X q189 1809 (by decide) rfl (Nat.le_of_ble_eq_true rfl) dX5_init_8 10 rfl 1 1809 rfl rfl (Nat.le_of_ble_eq_true rfl) (Nat.le_of_ble_eq_true rfl) (fun b1 => ?_)
  refine g_putF X gC4 0 rfl 0 (by decide) q209 (fun _ h9 => h9) rfl (hin trivial) rfl rfl rfl (Nat.le_of_ble_eq_true rfl) dX5_init_10 13 rfl ?_
  refine g_aload_n X rfl dX5_init_13 14 rfl ?_
  refine g_sipush X 1809 dX5_init_14 17 rfl kS_1809 ?_
  refine g_newa1 X q189 1809 (by decide) rfl (Nat.le_of_ble_eq_true rfl) dX5_init_17 19 rfl 2 3618 rfl rfl (Nat.le_of_ble_eq_true rfl) (Nat.le_of_ble_eq_true rfl) (fun b2 => ?_)
  refine g_putF X gC4 0 rfl 1 (by decide) q210 (fun _ h9 => h9) rfl (hin trivial) rfl rfl rfl (Nat.le_of_ble_eq_true rfl) dX5_init_19 22 rfl ?_
  refine g_aload_n X rfl dX5_init_22 23 rfl ?_
  refine g_sipush X 201 dX5_init_23 26 rfl kS_201 ?_
  refine g_newa1 X q189 201 (by decide) rfl (Nat.le_of_ble_eq_true rfl) dX5_init_26 28 rfl 3 3819 rfl rfl (Nat.le_of_ble_eq_true rfl) (Nat.le_of_ble_eq_true rfl) (fun b3 => ?_)
  refine g_wd [(a0, .inr (4, [.ref b1, .ref b2, .null, .null, .long v_brought, .long v_left, .long v_dropped, .long v_away, .int v_mergings, .int v_drops])), (b1, .inl (Z.2 1, 1809, .inr (.inl (fun _ => 0)))), (b2, .inl (Z.2 1, 1809, .inr (.inl (fun _ => 0)))), (b3, .inl (Z.2 1, 201, .inr (.inl (fun _ => 0))))] rfl ?_
  refine g_putF X gC4 0 rfl 2 (by decide) q211 (fun _ h9 => h9) rfl (hin trivial) rfl rfl rfl (Nat.le_of_ble_eq_true rfl) dX5_init_28 31 rfl ?_
  cases h
  exact g_vret X dX5_init_31 (b1, b2, b3) rfl rfl (Nat.le_of_ble_eq_true rfl) (Nat.le_of_ble_eq_true rfl)
/-! LineEchoes$Runner.at(I)J -/
abbrev rm_X5_at : Room := { frames := 0, cells := 0, slots := 0, locals := 0 }
def F_X5_at (v_echoes : Nat → Int64) (x1 : Int32) : Option (Int64) :=
  gin x1 201 <|
  some (v_echoes x1.toNatClampNeg)
theorem met_X5_at (l : Launch) (Z : gZt) (a0 : Nat) (a0_1 : Nat) (a0_2 : Nat) (a0_3 : Nat) (v_line : Option Nat) (v_brought : Int64) (v_left : Int64) (v_dropped : Int64) (v_away : Int64) (v_mergings : Int32) (v_drops : Int32) (v_fromNear : Nat → Int64) (v_fromFar : Nat → Int64) (v_echoes : Nat → Int64) (x1 : Int32) (r : Int64) (h : F_X5_at v_echoes x1 = some r) : Ct l yX5_at (ws_ yX5_at cX5_at 2 (some .long)) rm_X5_at Z [.ref a0, .int x1] [] [(a0, .inr (4, [.ref a0_1, .ref a0_2, .ref a0_3, (va_rf v_line), .long v_brought, .long v_left, .long v_dropped, .long v_away, .int v_mergings, .int v_drops])), (a0_1, .inl (Z.2 1, 1809, .inr (.inl v_fromNear))), (a0_2, .inl (Z.2 1, 1809, .inr (.inl v_fromFar))), (a0_3, .inl (Z.2 1, 201, .inr (.inl v_echoes)))] (fun _ : Unit => (some (.long r) : Option Value)) (fun _ : Unit => ([] : va_W)) := by
  refine Ct.of cX5_at 2 (some .long) "LineEchoes$Runner" [some (.ref a0), some (.int x1)] 0 (by decide) rfl (Nat.le_of_ble_eq_true rfl) rfl (fun p e s m args below meth c A X hin => ?_)
  unfold F_X5_at at h
  refine g_aload_n X rfl dX5_at_0 1 rfl ?_
  refine g_getR X gC4 0 rfl 2 (by decide) q211 (fun _ h9 => h9) rfl dX5_at_1 4 rfl ?_
  refine g_iload_n X rfl dX5_at_4 5 rfl ?_
  obtain ⟨hi, h⟩ := gin_e h
  refine g_laldR X 3 rfl hi dX5_at_5 6 rfl ?_
  cases h
  exact g_lret X dX5_at_6 () rfl rfl (Nat.le_of_ble_eq_true rfl) (Nat.le_of_ble_eq_true rfl)
/-! LineEchoes$Runner.arrival(IIZ)J -/
abbrev rm_X5_arrival : Room := { frames := 0, cells := 0, slots := 0, locals := 0 }
def F_X5_arrival_31 (s0 : Int64) : Option (Int64) :=
  some s0
def F_X5_arrival (v_fromNear : Nat → Int64) (v_fromFar : Nat → Int64) (x1 : Int32) (x2 : Int32) (x3 : Int32) : Option (Int64) :=
  if x3 = 0 then
    (gin ((201 * x1) + x2) 1809 <|
    F_X5_arrival_31 (v_fromNear ((201 * x1) + x2).toNatClampNeg))
  else
    (gin ((201 * x1) + x2) 1809 <|
    F_X5_arrival_31 (v_fromFar ((201 * x1) + x2).toNatClampNeg))
theorem w_X5_arrival_31 {p : Program} {l : Launch} {e : Env} {s : State} {m : MethodId} {args : Array Value} {below : List Frame} {meth : Method} {c : Code} {Z : gZt} {A : Nat → Prop} (a0 : Nat) (a0_1 : Nat) (a0_2 : Nat) (a0_3 : Nat) (v_line : Option Nat) (v_brought : Int64) (v_left : Int64) (v_dropped : Int64) (v_away : Int64) (v_mergings : Int32) (v_drops : Int32) (v_fromNear : Nat → Int64) (v_fromFar : Nat → Int64) (v_echoes : Nat → Int64) (X : gX p s m args meth c Z A cX5_arrival "LineEchoes$Runner" 4 (some .long) [(a0, .inr (4, [.ref a0_1, .ref a0_2, .ref a0_3, (va_rf v_line), .long v_brought, .long v_left, .long v_dropped, .long v_away, .int v_mergings, .int v_drops])), (a0_1, .inl (Z.2 1, 1809, .inr (.inl v_fromNear))), (a0_2, .inl (Z.2 1, 1809, .inr (.inl v_fromFar))), (a0_3, .inl (Z.2 1, 201, .inr (.inl v_echoes)))]) (r : Int64)  (s0 : Int64) (h : F_X5_arrival_31 s0 = some r) : G p l e rm_X5_arrival s m args below meth c Z A 4 (MQ below (gPost Z A (fun _ : Unit => (some (.long r) : Option Value)) (fun _ : Unit => ([] : va_W))) args s 0 0 A) [] 0 0 31 [none, none, none, none] [.long s0] := by
  unfold F_X5_arrival_31 at h
  cases h
  exact g_lret X dX5_arrival_31 () rfl rfl (Nat.le_of_ble_eq_true rfl) (Nat.le_of_ble_eq_true rfl)
theorem met_X5_arrival (l : Launch) (Z : gZt) (a0 : Nat) (a0_1 : Nat) (a0_2 : Nat) (a0_3 : Nat) (v_line : Option Nat) (v_brought : Int64) (v_left : Int64) (v_dropped : Int64) (v_away : Int64) (v_mergings : Int32) (v_drops : Int32) (v_fromNear : Nat → Int64) (v_fromFar : Nat → Int64) (v_echoes : Nat → Int64) (x1 : Int32) (x2 : Int32) (x3 : Int32) (r : Int64) (h : F_X5_arrival v_fromNear v_fromFar x1 x2 x3 = some r) : Ct l yX5_arrival (ws_ yX5_arrival cX5_arrival 4 (some .long)) rm_X5_arrival Z [.ref a0, .int x1, .int x2, .int x3] [] [(a0, .inr (4, [.ref a0_1, .ref a0_2, .ref a0_3, (va_rf v_line), .long v_brought, .long v_left, .long v_dropped, .long v_away, .int v_mergings, .int v_drops])), (a0_1, .inl (Z.2 1, 1809, .inr (.inl v_fromNear))), (a0_2, .inl (Z.2 1, 1809, .inr (.inl v_fromFar))), (a0_3, .inl (Z.2 1, 201, .inr (.inl v_echoes)))] (fun _ : Unit => (some (.long r) : Option Value)) (fun _ : Unit => ([] : va_W)) := by
  refine Ct.of cX5_arrival 4 (some .long) "LineEchoes$Runner" [some (.ref a0), some (.int x1), some (.int x2), some (.int x3)] 0 (by decide) rfl (Nat.le_of_ble_eq_true rfl) rfl (fun p e s m args below meth c A X hin => ?_)
  unfold F_X5_arrival at h
  refine g_iload_n X rfl dX5_arrival_0 1 rfl ?_
  refine g_if_eq X dX5_arrival_1 19 (by decide) 4 rfl (fun hc => ?_) (fun hc => ?_)
  · replace h := if_t hc h
    refine g_aload_n X rfl dX5_arrival_19 20 rfl ?_
    refine g_getR X gC4 0 rfl 0 (by decide) q209 (fun _ h9 => h9) rfl dX5_arrival_20 23 rfl ?_
    refine g_sipush X 201 dX5_arrival_23 26 rfl kS_201 ?_
    refine g_iload_n X rfl dX5_arrival_26 27 rfl ?_
    refine g_imul X dX5_arrival_27 28 rfl ?_
    refine g_iload_n X rfl dX5_arrival_28 29 rfl ?_
    refine g_iadd X dX5_arrival_29 30 rfl ?_
    obtain ⟨hi, h⟩ := gin_e h
    refine g_laldR X 1 rfl hi dX5_arrival_30 31 rfl ?_
    refine g_kill (j := 0) [none, some (.int x1), some (.int x2), some (.int x3)] rfl ?_
    refine g_kill (j := 1) [none, none, some (.int x2), some (.int x3)] rfl ?_
    refine g_kill (j := 2) [none, none, none, some (.int x3)] rfl ?_
    refine g_kill (j := 3) [none, none, none, none] rfl ?_
    exact w_X5_arrival_31 a0 a0_1 a0_2 a0_3 v_line v_brought v_left v_dropped v_away v_mergings v_drops v_fromNear v_fromFar v_echoes X  r    (v_fromNear ((201 * x1) + x2).toNatClampNeg) h
  · replace h := if_f hc h
    refine g_aload_n X rfl dX5_arrival_4 5 rfl ?_
    refine g_getR X gC4 0 rfl 1 (by decide) q210 (fun _ h9 => h9) rfl dX5_arrival_5 8 rfl ?_
    refine g_sipush X 201 dX5_arrival_8 11 rfl kS_201 ?_
    refine g_iload_n X rfl dX5_arrival_11 12 rfl ?_
    refine g_imul X dX5_arrival_12 13 rfl ?_
    refine g_iload_n X rfl dX5_arrival_13 14 rfl ?_
    refine g_iadd X dX5_arrival_14 15 rfl ?_
    obtain ⟨hi, h⟩ := gin_e h
    refine g_laldR X 2 rfl hi dX5_arrival_15 16 rfl ?_
    refine g_goto X dX5_arrival_16 31 (by decide) ?_
    refine g_kill (j := 0) [none, some (.int x1), some (.int x2), some (.int x3)] rfl ?_
    refine g_kill (j := 1) [none, none, some (.int x2), some (.int x3)] rfl ?_
    refine g_kill (j := 2) [none, none, none, some (.int x3)] rfl ?_
    refine g_kill (j := 3) [none, none, none, none] rfl ?_
    exact w_X5_arrival_31 a0 a0_1 a0_2 a0_3 v_line v_brought v_left v_dropped v_away v_mergings v_drops v_fromNear v_fromFar v_echoes X  r    (v_fromFar ((201 * x1) + x2).toNatClampNeg) h
/-! LineEchoes$Runner.setOut(IZIJI)V -/
abbrev rm_X5_setOut : Room := { frames := 0, cells := 0, slots := 0, locals := 0 }
def F_X5_setOut_141 (v_dropped : Int64) (v_away : Int64) (v_mergings : Int32) (v_drops : Int32) (v_fromNear : Nat → Int64) (v_fromFar : Nat → Int64) : Option (Int64 × Int64 × Int32 × Int32 × (Nat → Int64) × (Nat → Int64)) :=
  some (v_dropped, v_away, v_mergings, v_drops, v_fromNear, v_fromFar)
def F_X5_setOut_63 (v_dropped : Int64) (v_away : Int64) (v_mergings : Int32) (v_drops : Int32) (v_fromNear : Nat → Int64) (v_fromFar : Nat → Int64) (x1 : Int32) (x2 : Int32) (x3 : Int32) (x4 : Int64) (v_window : Int32) (v_lengths : Nat → Int32) : Option (Int64 × Int64 × Int32 × Int32 × (Nat → Int64) × (Nat → Int64)) :=
  gin x1 8 <|
  nm (x3 + (v_lengths x1.toNatClampNeg)) fun t1 =>
  if t1 ≤ v_window then
    (if x2 = 0 then
      (gin ((201 * x1) + t1) 1809 <|
      F_X5_setOut_141 v_dropped v_away v_mergings v_drops v_fromNear (vp_updL v_fromFar ((201 * x1) + t1).toNatClampNeg x4))
    else
      (gin ((201 * (x1 + 1)) + t1) 1809 <|
      F_X5_setOut_141 v_dropped v_away v_mergings v_drops (vp_updL v_fromNear ((201 * (x1 + 1)) + t1).toNatClampNeg x4) v_fromFar))
  else
    (F_X5_setOut_141 v_dropped (v_away + x4) v_mergings v_drops v_fromNear v_fromFar)
def F_X5_setOut (v_dropped : Int64) (v_away : Int64) (v_mergings : Int32) (v_drops : Int32) (v_fromNear : Nat → Int64) (v_fromFar : Nat → Int64) (v_least : Int32) (v_window : Int32) (v_lengths : Nat → Int32) (x1 : Int32) (x2 : Int32) (x3 : Int32) (x4 : Int64) (x6 : Int32) : Option (Int64 × Int64 × Int32 × Int32 × (Nat → Int64) × (Nat → Int64)) :=
  nm (v_mergings + (if x6 ≤ 1 then (0 : Int32) else 1)) fun t1 =>
  if x4 ≤ 0 then
    (F_X5_setOut_63 v_dropped v_away t1 v_drops v_fromNear v_fromFar x1 x2 x3 x4 v_window v_lengths)
  else
    (if v_least.toInt64 ≤ x4 then
      (F_X5_setOut_63 v_dropped v_away t1 v_drops v_fromNear v_fromFar x1 x2 x3 x4 v_window v_lengths)
    else
      (some (v_dropped + x4, v_away, t1, v_drops + 1, v_fromNear, v_fromFar)))
theorem w_X5_setOut_141 {p : Program} {l : Launch} {e : Env} {s : State} {m : MethodId} {args : Array Value} {below : List Frame} {meth : Method} {c : Code} {Z : gZt} {A : Nat → Prop} (a0 : Nat) (a0_1 : Nat) (a0_2 : Nat) (a0_3 : Nat) (a1 : Nat) (a1_1 : Nat) (a1_2 : Nat) (a1_3 : Nat) (a1_4 : Nat) (v_n : Int32) (v_pulses : Int32) (v_front : Int32) (v_least : Int32) (v_window : Int32) (v_lengths : Nat → Int32) (v_fractions : Nat → Int32) (v_pulseTimes : Nat → Int32) (v_pulseEnergies : Nat → Int32) (X : gX p s m args meth c Z A cX5_setOut "LineEchoes$Runner" 8 none [(a1, .inr (2, [.ref a1_1, .ref a1_2, .int v_n, .ref a1_3, .ref a1_4, .int v_pulses, .int v_front, .int v_least, .int v_window])), (a1_1, .inl (Z.2 0, 8, .inl v_lengths)), (a1_2, .inl (Z.2 0, 8, .inl v_fractions)), (a1_3, .inl (Z.2 0, 4, .inl v_pulseTimes)), (a1_4, .inl (Z.2 0, 4, .inl v_pulseEnergies))]) (r_dropped : Int64) (r_away : Int64) (r_mergings : Int32) (r_drops : Int32) (r_fromNear : Nat → Int64) (r_fromFar : Nat → Int64)  (v_brought : Int64) (v_left : Int64) (v_dropped : Int64) (v_away : Int64) (v_mergings : Int32) (v_drops : Int32) (v_fromNear : Nat → Int64) (v_fromFar : Nat → Int64) (v_echoes : Nat → Int64) (h : F_X5_setOut_141 v_dropped v_away v_mergings v_drops v_fromNear v_fromFar = some (r_dropped, r_away, r_mergings, r_drops, r_fromNear, r_fromFar)) : G p l e rm_X5_setOut s m args below meth c Z A 8 (MQ below (gPost Z A (fun _ : Unit => (none : Option Value)) (fun _ : Unit => ([(a0, .inr (4, [.ref a0_1, .ref a0_2, .ref a0_3, .ref a1, .long v_brought, .long v_left, .long r_dropped, .long r_away, .int r_mergings, .int r_drops])), (a0_1, .inl (Z.2 1, 1809, .inr (.inl r_fromNear))), (a0_2, .inl (Z.2 1, 1809, .inr (.inl r_fromFar))), (a0_3, .inl (Z.2 1, 201, .inr (.inl v_echoes)))] : va_W))) args s 0 0 A) [(a0, .inr (4, [.ref a0_1, .ref a0_2, .ref a0_3, .ref a1, .long v_brought, .long v_left, .long v_dropped, .long v_away, .int v_mergings, .int v_drops])), (a0_1, .inl (Z.2 1, 1809, .inr (.inl v_fromNear))), (a0_2, .inl (Z.2 1, 1809, .inr (.inl v_fromFar))), (a0_3, .inl (Z.2 1, 201, .inr (.inl v_echoes)))] 0 0 141 [none, none, none, none, none, none, none, none] [] := by
  unfold F_X5_setOut_141 at h
  cases h
  exact g_vret X dX5_setOut_141 () rfl rfl (Nat.le_of_ble_eq_true rfl) (Nat.le_of_ble_eq_true rfl)
theorem w_X5_setOut_63 {p : Program} {l : Launch} {e : Env} {s : State} {m : MethodId} {args : Array Value} {below : List Frame} {meth : Method} {c : Code} {Z : gZt} {A : Nat → Prop} (a0 : Nat) (a0_1 : Nat) (a0_2 : Nat) (a0_3 : Nat) (a1 : Nat) (a1_1 : Nat) (a1_2 : Nat) (a1_3 : Nat) (a1_4 : Nat) (v_n : Int32) (v_pulses : Int32) (v_front : Int32) (v_least : Int32) (v_window : Int32) (v_lengths : Nat → Int32) (v_fractions : Nat → Int32) (v_pulseTimes : Nat → Int32) (v_pulseEnergies : Nat → Int32) (X : gX p s m args meth c Z A cX5_setOut "LineEchoes$Runner" 8 none [(a1, .inr (2, [.ref a1_1, .ref a1_2, .int v_n, .ref a1_3, .ref a1_4, .int v_pulses, .int v_front, .int v_least, .int v_window])), (a1_1, .inl (Z.2 0, 8, .inl v_lengths)), (a1_2, .inl (Z.2 0, 8, .inl v_fractions)), (a1_3, .inl (Z.2 0, 4, .inl v_pulseTimes)), (a1_4, .inl (Z.2 0, 4, .inl v_pulseEnergies))]) (r_dropped : Int64) (r_away : Int64) (r_mergings : Int32) (r_drops : Int32) (r_fromNear : Nat → Int64) (r_fromFar : Nat → Int64)  (v_brought : Int64) (v_left : Int64) (v_dropped : Int64) (v_away : Int64) (v_mergings : Int32) (v_drops : Int32) (v_fromNear : Nat → Int64) (v_fromFar : Nat → Int64) (v_echoes : Nat → Int64) (x1 : Int32) (x2 : Int32) (x3 : Int32) (x4 : Int64) (h : F_X5_setOut_63 v_dropped v_away v_mergings v_drops v_fromNear v_fromFar x1 x2 x3 x4 v_window v_lengths = some (r_dropped, r_away, r_mergings, r_drops, r_fromNear, r_fromFar)) : G p l e rm_X5_setOut s m args below meth c Z A 8 (MQ below (gPost Z A (fun _ : Unit => (none : Option Value)) (fun _ : Unit => ([(a0, .inr (4, [.ref a0_1, .ref a0_2, .ref a0_3, .ref a1, .long v_brought, .long v_left, .long r_dropped, .long r_away, .int r_mergings, .int r_drops])), (a0_1, .inl (Z.2 1, 1809, .inr (.inl r_fromNear))), (a0_2, .inl (Z.2 1, 1809, .inr (.inl r_fromFar))), (a0_3, .inl (Z.2 1, 201, .inr (.inl v_echoes)))] : va_W))) args s 0 0 A) [(a0, .inr (4, [.ref a0_1, .ref a0_2, .ref a0_3, .ref a1, .long v_brought, .long v_left, .long v_dropped, .long v_away, .int v_mergings, .int v_drops])), (a0_1, .inl (Z.2 1, 1809, .inr (.inl v_fromNear))), (a0_2, .inl (Z.2 1, 1809, .inr (.inl v_fromFar))), (a0_3, .inl (Z.2 1, 201, .inr (.inl v_echoes)))] 0 0 63 [some (.ref a0), some (.int x1), some (.int x2), some (.int x3), some (.long x4), none, none, none] [] := by
  unfold F_X5_setOut_63 at h
  refine g_iload_n X rfl dX5_setOut_63 64 rfl ?_
  refine g_aload_n X rfl dX5_setOut_64 65 rfl ?_
  refine g_get X gC4 0 rfl 3 (by decide) q212 (fun _ h9 => h9) rfl dX5_setOut_65 68 rfl ?_
  refine g_getRN X gC2 0 rfl 0 (by decide) q123 (fun _ h9 => h9) rfl dX5_setOut_68 71 rfl ?_
  refine g_iload_n X rfl dX5_setOut_71 72 rfl ?_
  obtain ⟨hi, h⟩ := gin_e h
  refine g_ialdR X 1 rfl hi dX5_setOut_72 73 rfl ?_
  refine g_iadd X dX5_setOut_73 74 rfl ?_
  refine g_topi (fun t1 et1 => ?_)
  replace h := nm_at et1 h
  refine g_istore X dX5_setOut_74 76 rfl (Nat.le_of_ble_eq_true rfl) rfl [some (.ref a0), some (.int x1), some (.int x2), some (.int x3), some (.long x4), none, none, some (.int t1)] rfl ?_
  refine g_iload X rfl dX5_setOut_76 78 rfl ?_
  refine g_aload_n X rfl dX5_setOut_78 79 rfl ?_
  refine g_get X gC4 0 rfl 3 (by decide) q212 (fun _ h9 => h9) rfl dX5_setOut_79 82 rfl ?_
  refine g_getRN X gC2 0 rfl 8 (by decide) q151 (fun _ h9 => h9) rfl dX5_setOut_82 85 rfl ?_
  refine g_icmp_le X dX5_setOut_85 102 (by decide) 88 rfl (fun hc => ?_) (fun hc => ?_)
  · replace h := if_t hc h
    refine g_iload_n X rfl dX5_setOut_102 103 rfl ?_
    refine g_if_eq X dX5_setOut_103 126 (by decide) 106 rfl (fun hc => ?_) (fun hc => ?_)
    · replace h := if_t hc h
      refine g_aload_n X rfl dX5_setOut_126 127 rfl ?_
      refine g_get X gC4 0 rfl 1 (by decide) q210 (fun _ h9 => h9) rfl dX5_setOut_127 130 rfl ?_
      refine g_sipush X 201 dX5_setOut_130 133 rfl kS_201 ?_
      refine g_iload_n X rfl dX5_setOut_133 134 rfl ?_
      refine g_imul X dX5_setOut_134 135 rfl ?_
      refine g_iload X rfl dX5_setOut_135 137 rfl ?_
      refine g_iadd X dX5_setOut_137 138 rfl ?_
      refine g_lload X rfl dX5_setOut_138 140 rfl ?_
      obtain ⟨hi, h⟩ := gin_e h
      refine g_last X 2 rfl hi dX5_setOut_140 141 rfl ?_
      refine g_kill (j := 0) [none, some (.int x1), some (.int x2), some (.int x3), some (.long x4), none, none, some (.int t1)] rfl ?_
      refine g_kill (j := 1) [none, none, some (.int x2), some (.int x3), some (.long x4), none, none, some (.int t1)] rfl ?_
      refine g_kill (j := 2) [none, none, none, some (.int x3), some (.long x4), none, none, some (.int t1)] rfl ?_
      refine g_kill (j := 3) [none, none, none, none, some (.long x4), none, none, some (.int t1)] rfl ?_
      refine g_kill (j := 4) [none, none, none, none, none, none, none, some (.int t1)] rfl ?_
      refine g_kill (j := 7) [none, none, none, none, none, none, none, none] rfl ?_
      exact w_X5_setOut_141 a0 a0_1 a0_2 a0_3 a1 a1_1 a1_2 a1_3 a1_4 v_n v_pulses v_front v_least v_window v_lengths v_fractions v_pulseTimes v_pulseEnergies X  r_dropped r_away r_mergings r_drops r_fromNear r_fromFar    v_brought v_left v_dropped v_away v_mergings v_drops v_fromNear (vp_updL v_fromFar ((201 * x1) + t1).toNatClampNeg x4) v_echoes h
    · replace h := if_f hc h
      refine g_aload_n X rfl dX5_setOut_106 107 rfl ?_
      refine g_get X gC4 0 rfl 0 (by decide) q209 (fun _ h9 => h9) rfl dX5_setOut_107 110 rfl ?_
      refine g_sipush X 201 dX5_setOut_110 113 rfl kS_201 ?_
      refine g_iload_n X rfl dX5_setOut_113 114 rfl ?_
      refine g_iconst X 1 dX5_setOut_114 115 rfl kI_1 ?_
      refine g_iadd X dX5_setOut_115 116 rfl ?_
      refine g_imul X dX5_setOut_116 117 rfl ?_
      refine g_iload X rfl dX5_setOut_117 119 rfl ?_
      refine g_iadd X dX5_setOut_119 120 rfl ?_
      refine g_lload X rfl dX5_setOut_120 122 rfl ?_
      obtain ⟨hi, h⟩ := gin_e h
      refine g_last X 1 rfl hi dX5_setOut_122 123 rfl ?_
      refine g_goto X dX5_setOut_123 141 (by decide) ?_
      refine g_kill (j := 0) [none, some (.int x1), some (.int x2), some (.int x3), some (.long x4), none, none, some (.int t1)] rfl ?_
      refine g_kill (j := 1) [none, none, some (.int x2), some (.int x3), some (.long x4), none, none, some (.int t1)] rfl ?_
      refine g_kill (j := 2) [none, none, none, some (.int x3), some (.long x4), none, none, some (.int t1)] rfl ?_
      refine g_kill (j := 3) [none, none, none, none, some (.long x4), none, none, some (.int t1)] rfl ?_
      refine g_kill (j := 4) [none, none, none, none, none, none, none, some (.int t1)] rfl ?_
      refine g_kill (j := 7) [none, none, none, none, none, none, none, none] rfl ?_
      exact w_X5_setOut_141 a0 a0_1 a0_2 a0_3 a1 a1_1 a1_2 a1_3 a1_4 v_n v_pulses v_front v_least v_window v_lengths v_fractions v_pulseTimes v_pulseEnergies X  r_dropped r_away r_mergings r_drops r_fromNear r_fromFar    v_brought v_left v_dropped v_away v_mergings v_drops (vp_updL v_fromNear ((201 * (x1 + 1)) + t1).toNatClampNeg x4) v_fromFar v_echoes h
  · replace h := if_f hc h
    refine g_aload_n X rfl dX5_setOut_88 89 rfl ?_
    refine g_dup X dX5_setOut_89 90 rfl rfl ?_
    refine g_get X gC4 0 rfl 7 (by decide) q216 (fun _ h9 => h9) rfl dX5_setOut_90 93 rfl ?_
    refine g_lload X rfl dX5_setOut_93 95 rfl ?_
    refine g_ladd X dX5_setOut_95 96 rfl ?_
    refine g_put X gC4 0 rfl 7 (by decide) q216 (fun _ h9 => h9) rfl rfl rfl (Nat.le_of_ble_eq_true rfl) dX5_setOut_96 99 rfl ?_
    refine g_goto X dX5_setOut_99 141 (by decide) ?_
    refine g_kill (j := 0) [none, some (.int x1), some (.int x2), some (.int x3), some (.long x4), none, none, some (.int t1)] rfl ?_
    refine g_kill (j := 1) [none, none, some (.int x2), some (.int x3), some (.long x4), none, none, some (.int t1)] rfl ?_
    refine g_kill (j := 2) [none, none, none, some (.int x3), some (.long x4), none, none, some (.int t1)] rfl ?_
    refine g_kill (j := 3) [none, none, none, none, some (.long x4), none, none, some (.int t1)] rfl ?_
    refine g_kill (j := 4) [none, none, none, none, none, none, none, some (.int t1)] rfl ?_
    refine g_kill (j := 7) [none, none, none, none, none, none, none, none] rfl ?_
    exact w_X5_setOut_141 a0 a0_1 a0_2 a0_3 a1 a1_1 a1_2 a1_3 a1_4 v_n v_pulses v_front v_least v_window v_lengths v_fractions v_pulseTimes v_pulseEnergies X  r_dropped r_away r_mergings r_drops r_fromNear r_fromFar    v_brought v_left v_dropped (v_away + x4) v_mergings v_drops v_fromNear v_fromFar v_echoes h
theorem met_X5_setOut (l : Launch) (Z : gZt) (a0 : Nat) (a0_1 : Nat) (a0_2 : Nat) (a0_3 : Nat) (a1 : Nat) (a1_1 : Nat) (a1_2 : Nat) (a1_3 : Nat) (a1_4 : Nat) (v_brought : Int64) (v_left : Int64) (v_dropped : Int64) (v_away : Int64) (v_mergings : Int32) (v_drops : Int32) (v_fromNear : Nat → Int64) (v_fromFar : Nat → Int64) (v_echoes : Nat → Int64) (v_n : Int32) (v_pulses : Int32) (v_front : Int32) (v_least : Int32) (v_window : Int32) (v_lengths : Nat → Int32) (v_fractions : Nat → Int32) (v_pulseTimes : Nat → Int32) (v_pulseEnergies : Nat → Int32) (x1 : Int32) (x2 : Int32) (x3 : Int32) (x4 : Int64) (x6 : Int32) (r_dropped : Int64) (r_away : Int64) (r_mergings : Int32) (r_drops : Int32) (r_fromNear : Nat → Int64) (r_fromFar : Nat → Int64) (h : F_X5_setOut v_dropped v_away v_mergings v_drops v_fromNear v_fromFar v_least v_window v_lengths x1 x2 x3 x4 x6 = some (r_dropped, r_away, r_mergings, r_drops, r_fromNear, r_fromFar)) : Ct l yX5_setOut (ws_ yX5_setOut cX5_setOut 8 none) rm_X5_setOut Z [.ref a0, .int x1, .int x2, .int x3, .long x4, .int x6] [(a0, .inr (4, [.ref a0_1, .ref a0_2, .ref a0_3, .ref a1, .long v_brought, .long v_left, .long v_dropped, .long v_away, .int v_mergings, .int v_drops])), (a0_1, .inl (Z.2 1, 1809, .inr (.inl v_fromNear))), (a0_2, .inl (Z.2 1, 1809, .inr (.inl v_fromFar))), (a0_3, .inl (Z.2 1, 201, .inr (.inl v_echoes)))] [(a1, .inr (2, [.ref a1_1, .ref a1_2, .int v_n, .ref a1_3, .ref a1_4, .int v_pulses, .int v_front, .int v_least, .int v_window])), (a1_1, .inl (Z.2 0, 8, .inl v_lengths)), (a1_2, .inl (Z.2 0, 8, .inl v_fractions)), (a1_3, .inl (Z.2 0, 4, .inl v_pulseTimes)), (a1_4, .inl (Z.2 0, 4, .inl v_pulseEnergies))] (fun _ : Unit => (none : Option Value)) (fun _ : Unit => ([(a0, .inr (4, [.ref a0_1, .ref a0_2, .ref a0_3, .ref a1, .long v_brought, .long v_left, .long r_dropped, .long r_away, .int r_mergings, .int r_drops])), (a0_1, .inl (Z.2 1, 1809, .inr (.inl r_fromNear))), (a0_2, .inl (Z.2 1, 1809, .inr (.inl r_fromFar))), (a0_3, .inl (Z.2 1, 201, .inr (.inl v_echoes)))] : va_W)) := by
  refine Ct.of cX5_setOut 8 none "LineEchoes$Runner" [some (.ref a0), some (.int x1), some (.int x2), some (.int x3), some (.long x4), none, some (.int x6), none] 1 (by decide) rfl (Nat.le_of_ble_eq_true rfl) rfl (fun p e s m args below meth c A X hin => ?_)
  unfold F_X5_setOut at h
  refine g_aload_n X rfl dX5_setOut_0 1 rfl ?_
  refine g_dup X dX5_setOut_1 2 rfl rfl ?_
  refine g_get X gC4 0 rfl 8 (by decide) q217 (fun _ h9 => h9) rfl dX5_setOut_2 5 rfl ?_
  refine g_iload X rfl dX5_setOut_5 7 rfl ?_
  refine g_iconst X 1 dX5_setOut_7 8 rfl kI_1 ?_
  refine g_seli 16 [.int v_mergings, .ref a0] (b := x6 ≤ 1) 0 1 ?_ (fun hc K => ?_) (fun hc K => ?_)
  · refine g_iadd X dX5_setOut_16 17 rfl ?_
    refine g_topi (fun t1 et1 => ?_)
    replace h := nm_at et1 h
    refine g_put X gC4 0 rfl 8 (by decide) q217 (fun _ h9 => h9) rfl rfl rfl (Nat.le_of_ble_eq_true rfl) dX5_setOut_17 20 rfl ?_
    refine g_lload X rfl dX5_setOut_20 22 rfl ?_
    refine g_lconst X 0 dX5_setOut_22 23 rfl rfl ?_
    refine g_lcmp_le X dX5_setOut_23 24 rfl dX5_setOut_24 63 (by decide) 27 rfl (fun hc => ?_) (fun hc => ?_)
    · replace h := if_t hc h
      refine g_kill (j := 6) [some (.ref a0), some (.int x1), some (.int x2), some (.int x3), some (.long x4), none, none, none] rfl ?_
      exact w_X5_setOut_63 a0 a0_1 a0_2 a0_3 a1 a1_1 a1_2 a1_3 a1_4 v_n v_pulses v_front v_least v_window v_lengths v_fractions v_pulseTimes v_pulseEnergies X  r_dropped r_away r_mergings r_drops r_fromNear r_fromFar    v_brought v_left v_dropped v_away t1 v_drops v_fromNear v_fromFar v_echoes x1 x2 x3 x4 h
    · replace h := if_f hc h
      refine g_lload X rfl dX5_setOut_27 29 rfl ?_
      refine g_aload_n X rfl dX5_setOut_29 30 rfl ?_
      refine g_get X gC4 0 rfl 3 (by decide) q212 (fun _ h9 => h9) rfl dX5_setOut_30 33 rfl ?_
      refine g_getRN X gC2 0 rfl 7 (by decide) q148 (fun _ h9 => h9) rfl dX5_setOut_33 36 rfl ?_
      refine g_i2l X dX5_setOut_36 37 rfl ?_
      refine g_lcmp_ge X dX5_setOut_37 38 rfl dX5_setOut_38 63 (by decide) 41 rfl (fun hc => ?_) (fun hc => ?_)
      · replace h := if_t hc h
        refine g_kill (j := 6) [some (.ref a0), some (.int x1), some (.int x2), some (.int x3), some (.long x4), none, none, none] rfl ?_
        exact w_X5_setOut_63 a0 a0_1 a0_2 a0_3 a1 a1_1 a1_2 a1_3 a1_4 v_n v_pulses v_front v_least v_window v_lengths v_fractions v_pulseTimes v_pulseEnergies X  r_dropped r_away r_mergings r_drops r_fromNear r_fromFar    v_brought v_left v_dropped v_away t1 v_drops v_fromNear v_fromFar v_echoes x1 x2 x3 x4 h
      · replace h := if_f hc h
        refine g_aload_n X rfl dX5_setOut_41 42 rfl ?_
        refine g_dup X dX5_setOut_42 43 rfl rfl ?_
        refine g_get X gC4 0 rfl 6 (by decide) q215 (fun _ h9 => h9) rfl dX5_setOut_43 46 rfl ?_
        refine g_lload X rfl dX5_setOut_46 48 rfl ?_
        refine g_ladd X dX5_setOut_48 49 rfl ?_
        refine g_put X gC4 0 rfl 6 (by decide) q215 (fun _ h9 => h9) rfl rfl rfl (Nat.le_of_ble_eq_true rfl) dX5_setOut_49 52 rfl ?_
        refine g_aload_n X rfl dX5_setOut_52 53 rfl ?_
        refine g_dup X dX5_setOut_53 54 rfl rfl ?_
        refine g_get X gC4 0 rfl 9 (by decide) q218 (fun _ h9 => h9) rfl dX5_setOut_54 57 rfl ?_
        refine g_iconst X 1 dX5_setOut_57 58 rfl kI_1 ?_
        refine g_iadd X dX5_setOut_58 59 rfl ?_
        refine g_put X gC4 0 rfl 9 (by decide) q218 (fun _ h9 => h9) rfl rfl rfl (Nat.le_of_ble_eq_true rfl) dX5_setOut_59 62 rfl ?_
        cases h
        exact g_vret X dX5_setOut_62 () rfl rfl (Nat.le_of_ble_eq_true rfl) (Nat.le_of_ble_eq_true rfl)
  · refine g_icmp_le X dX5_setOut_8 15 (by decide) 11 rfl (fun _ => ?_) (fun hn => absurd hc hn)
    refine g_iconst X 0 dX5_setOut_15 16 rfl kI_0 ?_
    exact K
  · refine g_icmp_le X dX5_setOut_8 15 (by decide) 11 rfl (fun hn => absurd hn hc) (fun _ => ?_)
    refine g_iconst X 1 dX5_setOut_11 12 rfl kI_1 ?_
    refine g_goto X dX5_setOut_12 16 (by decide) ?_
    exact K
/-! LineEchoes$Runner.passFront(I)V -/
abbrev rm_X5_passFront : Room := { frames := 1, cells := 0, slots := 0, locals := 27 }
def F_X5_passFront_62 (K8 : (Int64) → (Int64) → (Int64) → (Int64) → (Int32) → (Int32) → (Nat → Int64) → (Nat → Int64) → (Nat → Int64) → (Int32) → (Int64) → (Int32) → (Int32) → (Int32) → (Int32) → (Int32) → (Int32) → (Int32) → (Nat → Int32) → (Nat → Int32) → (Nat → Int32) → Option (Int64 × Int64 × Int64 × Int64 × Int32 × Int32 × (Nat → Int64) × (Nat → Int64) × (Nat → Int64))) (v_brought : Int64) (v_left : Int64) (v_dropped : Int64) (v_away : Int64) (v_mergings : Int32) (v_drops : Int32) (v_fromNear : Nat → Int64) (v_fromFar : Nat → Int64) (v_echoes : Nat → Int64) (x1 : Int32) (x4 : Int32) (x5 : Int32) (x6 : Int32) (s0 : Int64) (s1 : Int64) (v_n : Int32) (v_pulses : Int32) (v_front : Int32) (v_least : Int32) (v_window : Int32) (v_lengths : Nat → Int32) (v_pulseTimes : Nat → Int32) (v_pulseEnergies : Nat → Int32) : Option (Int64 × Int64 × Int64 × Int64 × Int32 × Int32 × (Nat → Int64) × (Nat → Int64) × (Nat → Int64)) :=
  nm (x4 + (if x6 = 0 then (0 : Int32) else 1)) fun t1 =>
  K8 v_brought v_left v_dropped v_away v_mergings v_drops v_fromNear v_fromFar v_echoes x1 (s0 + s1) t1 (x5 + 1) v_n v_pulses v_front v_least v_window v_lengths v_pulseTimes v_pulseEnergies
def B_X5_passFront_8 (K8 : (Int64) → (Int64) → (Int64) → (Int64) → (Int32) → (Int32) → (Nat → Int64) → (Nat → Int64) → (Nat → Int64) → (Int32) → (Int64) → (Int32) → (Int32) → (Int32) → (Int32) → (Int32) → (Int32) → (Int32) → (Nat → Int32) → (Nat → Int32) → (Nat → Int32) → Option (Int64 × Int64 × Int64 × Int64 × Int32 × Int32 × (Nat → Int64) × (Nat → Int64) × (Nat → Int64))) (v_brought : Int64) (v_left : Int64) (v_dropped : Int64) (v_away : Int64) (v_mergings : Int32) (v_drops : Int32) (v_fromNear : Nat → Int64) (v_fromFar : Nat → Int64) (v_echoes : Nat → Int64) (x1 : Int32) (x2 : Int64) (x4 : Int32) (x5 : Int32) (v_n : Int32) (v_pulses : Int32) (v_front : Int32) (v_least : Int32) (v_window : Int32) (v_lengths : Nat → Int32) (v_pulseTimes : Nat → Int32) (v_pulseEnergies : Nat → Int32) : Option (Int64 × Int64 × Int64 × Int64 × Int32 × Int32 × (Nat → Int64) × (Nat → Int64) × (Nat → Int64)) :=
  if v_pulses ≤ x5 then
    (if v_n = 0 then
      (some (v_brought + x2, v_left + x2, v_dropped, v_away, v_mergings, v_drops, v_fromNear, v_fromFar, v_echoes))
    else
      (gin x1 1809 <|
      bd1 (F_X7_turned (v_fromFar x1.toNatClampNeg) v_front) fun r1 =>
      nm ((v_fromFar x1.toNatClampNeg) - r1) fun t2 =>
      gin x1 201 <|
      bd6 (F_X5_setOut v_dropped v_away v_mergings v_drops v_fromNear v_fromFar v_least v_window v_lengths 0 1 x1 (x2 + r1) (x4 + (if r1 ≤ 0 then (0 : Int32) else 1))) fun w3_dropped w4_away w5_mergings w6_drops w7_fromNear w8_fromFar =>
      some (v_brought + x2, v_left, w3_dropped, w4_away, w5_mergings, w6_drops, w7_fromNear, w8_fromFar, vp_updL v_echoes x1.toNatClampNeg t2)))
  else
    (gin x5 4 <|
    if (if (v_pulseTimes x5.toNatClampNeg) = x1 then (1 : Int32) else 0) = 0 then
      (F_X5_passFront_62 K8 v_brought v_left v_dropped v_away v_mergings v_drops v_fromNear v_fromFar v_echoes x1 x4 x5 (if (v_pulseTimes x5.toNatClampNeg) = x1 then (1 : Int32) else 0) x2 0 v_n v_pulses v_front v_least v_window v_lengths v_pulseTimes v_pulseEnergies)
    else
      (gin x5 4 <|
      F_X5_passFront_62 K8 v_brought v_left v_dropped v_away v_mergings v_drops v_fromNear v_fromFar v_echoes x1 x4 x5 (if (v_pulseTimes x5.toNatClampNeg) = x1 then (1 : Int32) else 0) x2 ((v_pulseEnergies x5.toNatClampNeg).toInt64) v_n v_pulses v_front v_least v_window v_lengths v_pulseTimes v_pulseEnergies))
def F_X5_passFront_8 : Nat → (Int64) → (Int64) → (Int64) → (Int64) → (Int32) → (Int32) → (Nat → Int64) → (Nat → Int64) → (Nat → Int64) → (Int32) → (Int64) → (Int32) → (Int32) → (Int32) → (Int32) → (Int32) → (Int32) → (Int32) → (Nat → Int32) → (Nat → Int32) → (Nat → Int32) → Option (Int64 × Int64 × Int64 × Int64 × Int32 × Int32 × (Nat → Int64) × (Nat → Int64) × (Nat → Int64))
  | 0 => fun _ _ _ _ _ _ _ _ _ _ _ _ _ _ _ _ _ _ _ _ _ => none
  | n + 1 => B_X5_passFront_8 (F_X5_passFront_8 n)
def F_X5_passFront (v_brought : Int64) (v_left : Int64) (v_dropped : Int64) (v_away : Int64) (v_mergings : Int32) (v_drops : Int32) (v_fromNear : Nat → Int64) (v_fromFar : Nat → Int64) (v_echoes : Nat → Int64) (v_n : Int32) (v_pulses : Int32) (v_front : Int32) (v_least : Int32) (v_window : Int32) (v_lengths : Nat → Int32) (v_pulseTimes : Nat → Int32) (v_pulseEnergies : Nat → Int32) (x1 : Int32) : Option (Int64 × Int64 × Int64 × Int64 × Int32 × Int32 × (Nat → Int64) × (Nat → Int64) × (Nat → Int64)) :=
  F_X5_passFront_8 gFU v_brought v_left v_dropped v_away v_mergings v_drops v_fromNear v_fromFar v_echoes x1 0 0 0 v_n v_pulses v_front v_least v_window v_lengths v_pulseTimes v_pulseEnergies
theorem w_X5_passFront_62 {p : Program} {l : Launch} {e : Env} {s : State} {m : MethodId} {args : Array Value} {below : List Frame} {meth : Method} {c : Code} {Z : gZt} {A : Nat → Prop} (a0 : Nat) (a0_1 : Nat) (a0_2 : Nat) (a0_3 : Nat) (a1 : Nat) (a1_1 : Nat) (a1_2 : Nat) (a1_3 : Nat) (a1_4 : Nat) (v_n : Int32) (v_pulses : Int32) (v_front : Int32) (v_least : Int32) (v_window : Int32) (v_lengths : Nat → Int32) (v_fractions : Nat → Int32) (v_pulseTimes : Nat → Int32) (v_pulseEnergies : Nat → Int32) (X : gX p s m args meth c Z A cX5_passFront "LineEchoes$Runner" 9 none [(a1, .inr (2, [.ref a1_1, .ref a1_2, .int v_n, .ref a1_3, .ref a1_4, .int v_pulses, .int v_front, .int v_least, .int v_window])), (a1_1, .inl (Z.2 0, 8, .inl v_lengths)), (a1_2, .inl (Z.2 0, 8, .inl v_fractions)), (a1_3, .inl (Z.2 0, 4, .inl v_pulseTimes)), (a1_4, .inl (Z.2 0, 4, .inl v_pulseEnergies))]) (r_brought : Int64) (r_left : Int64) (r_dropped : Int64) (r_away : Int64) (r_mergings : Int32) (r_drops : Int32) (r_fromNear : Nat → Int64) (r_fromFar : Nat → Int64) (r_echoes : Nat → Int64) (K8 : (Int64) → (Int64) → (Int64) → (Int64) → (Int32) → (Int32) → (Nat → Int64) → (Nat → Int64) → (Nat → Int64) → (Int32) → (Int64) → (Int32) → (Int32) → (Int32) → (Int32) → (Int32) → (Int32) → (Int32) → (Nat → Int32) → (Nat → Int32) → (Nat → Int32) → Option (Int64 × Int64 × Int64 × Int64 × Int32 × Int32 × (Nat → Int64) × (Nat → Int64) × (Nat → Int64))) (hK8 : ∀ (v_brought : Int64) (v_left : Int64) (v_dropped : Int64) (v_away : Int64) (v_mergings : Int32) (v_drops : Int32) (v_fromNear : Nat → Int64) (v_fromFar : Nat → Int64) (v_echoes : Nat → Int64) (x1 : Int32) (x2 : Int64) (x4 : Int32) (x5 : Int32), K8 v_brought v_left v_dropped v_away v_mergings v_drops v_fromNear v_fromFar v_echoes x1 x2 x4 x5 v_n v_pulses v_front v_least v_window v_lengths v_pulseTimes v_pulseEnergies = some (r_brought, r_left, r_dropped, r_away, r_mergings, r_drops, r_fromNear, r_fromFar, r_echoes) → G p l e rm_X5_passFront s m args below meth c Z A 9 (MQ below (gPost Z A (fun _ : Unit => (none : Option Value)) (fun _ : Unit => ([(a0, .inr (4, [.ref a0_1, .ref a0_2, .ref a0_3, .ref a1, .long r_brought, .long r_left, .long r_dropped, .long r_away, .int r_mergings, .int r_drops])), (a0_1, .inl (Z.2 1, 1809, .inr (.inl r_fromNear))), (a0_2, .inl (Z.2 1, 1809, .inr (.inl r_fromFar))), (a0_3, .inl (Z.2 1, 201, .inr (.inl r_echoes)))] : va_W))) args s 0 0 A) [(a0, .inr (4, [.ref a0_1, .ref a0_2, .ref a0_3, .ref a1, .long v_brought, .long v_left, .long v_dropped, .long v_away, .int v_mergings, .int v_drops])), (a0_1, .inl (Z.2 1, 1809, .inr (.inl v_fromNear))), (a0_2, .inl (Z.2 1, 1809, .inr (.inl v_fromFar))), (a0_3, .inl (Z.2 1, 201, .inr (.inl v_echoes)))] 0 0 8 [some (.ref a0), some (.int x1), some (.long x2), none, some (.int x4), some (.int x5), none, none, none] []) (v_brought : Int64) (v_left : Int64) (v_dropped : Int64) (v_away : Int64) (v_mergings : Int32) (v_drops : Int32) (v_fromNear : Nat → Int64) (v_fromFar : Nat → Int64) (v_echoes : Nat → Int64) (x1 : Int32) (x4 : Int32) (x5 : Int32) (x6 : Int32) (s0 : Int64) (s1 : Int64) (h : F_X5_passFront_62 K8 v_brought v_left v_dropped v_away v_mergings v_drops v_fromNear v_fromFar v_echoes x1 x4 x5 x6 s0 s1 v_n v_pulses v_front v_least v_window v_lengths v_pulseTimes v_pulseEnergies = some (r_brought, r_left, r_dropped, r_away, r_mergings, r_drops, r_fromNear, r_fromFar, r_echoes)) : G p l e rm_X5_passFront s m args below meth c Z A 9 (MQ below (gPost Z A (fun _ : Unit => (none : Option Value)) (fun _ : Unit => ([(a0, .inr (4, [.ref a0_1, .ref a0_2, .ref a0_3, .ref a1, .long r_brought, .long r_left, .long r_dropped, .long r_away, .int r_mergings, .int r_drops])), (a0_1, .inl (Z.2 1, 1809, .inr (.inl r_fromNear))), (a0_2, .inl (Z.2 1, 1809, .inr (.inl r_fromFar))), (a0_3, .inl (Z.2 1, 201, .inr (.inl r_echoes)))] : va_W))) args s 0 0 A) [(a0, .inr (4, [.ref a0_1, .ref a0_2, .ref a0_3, .ref a1, .long v_brought, .long v_left, .long v_dropped, .long v_away, .int v_mergings, .int v_drops])), (a0_1, .inl (Z.2 1, 1809, .inr (.inl v_fromNear))), (a0_2, .inl (Z.2 1, 1809, .inr (.inl v_fromFar))), (a0_3, .inl (Z.2 1, 201, .inr (.inl v_echoes)))] 0 0 62 [some (.ref a0), some (.int x1), none, none, some (.int x4), some (.int x5), some (.int x6), none, none] [.long s1, .long s0] := by
  unfold F_X5_passFront_62 at h
  refine g_ladd X dX5_passFront_62 63 rfl ?_
  refine g_lstore_n X dX5_passFront_63 64 rfl (Nat.le_of_ble_eq_true rfl) rfl [some (.ref a0), some (.int x1), some (.long (s0 + s1)), none, some (.int x4), some (.int x5), some (.int x6), none, none] rfl ?_
  refine g_iload X rfl dX5_passFront_64 66 rfl ?_
  refine g_iload X rfl dX5_passFront_66 68 rfl ?_
  refine g_seli 76 [.int x4] (b := x6 = 0) 0 1 ?_ (fun hc K => ?_) (fun hc K => ?_)
  · refine g_iadd X dX5_passFront_76 77 rfl ?_
    refine g_topi (fun t1 et1 => ?_)
    replace h := nm_at et1 h
    refine g_istore X dX5_passFront_77 79 rfl (Nat.le_of_ble_eq_true rfl) rfl [some (.ref a0), some (.int x1), some (.long (s0 + s1)), none, some (.int t1), some (.int x5), some (.int x6), none, none] rfl ?_
    refine g_iinc X 1 rfl dX5_passFront_79 82 rfl kI_1 (Nat.le_of_ble_eq_true rfl) rfl [some (.ref a0), some (.int x1), some (.long (s0 + s1)), none, some (.int t1), some (.int (x5 + 1)), some (.int x6), none, none] rfl ?_
    refine g_goto X dX5_passFront_82 8 (by decide) ?_
    refine g_kill (j := 6) [some (.ref a0), some (.int x1), some (.long (s0 + s1)), none, some (.int t1), some (.int (x5 + 1)), none, none, none] rfl ?_
    exact hK8 v_brought v_left v_dropped v_away v_mergings v_drops v_fromNear v_fromFar v_echoes x1 (s0 + s1) t1 (x5 + 1) h
  · refine g_if_eq X dX5_passFront_68 75 (by decide) 71 rfl (fun _ => ?_) (fun hn => absurd hc hn)
    refine g_iconst X 0 dX5_passFront_75 76 rfl kI_0 ?_
    exact K
  · refine g_if_eq X dX5_passFront_68 75 (by decide) 71 rfl (fun hn => absurd hn hc) (fun _ => ?_)
    refine g_iconst X 1 dX5_passFront_71 72 rfl kI_1 ?_
    refine g_goto X dX5_passFront_72 76 (by decide) ?_
    exact K
theorem w_X5_passFront_8 {p : Program} {l : Launch} {e : Env} {s : State} {m : MethodId} {args : Array Value} {below : List Frame} {meth : Method} {c : Code} {Z : gZt} {A : Nat → Prop} (a0 : Nat) (a0_1 : Nat) (a0_2 : Nat) (a0_3 : Nat) (a1 : Nat) (a1_1 : Nat) (a1_2 : Nat) (a1_3 : Nat) (a1_4 : Nat) (v_n : Int32) (v_pulses : Int32) (v_front : Int32) (v_least : Int32) (v_window : Int32) (v_lengths : Nat → Int32) (v_fractions : Nat → Int32) (v_pulseTimes : Nat → Int32) (v_pulseEnergies : Nat → Int32) (X : gX p s m args meth c Z A cX5_passFront "LineEchoes$Runner" 9 none [(a1, .inr (2, [.ref a1_1, .ref a1_2, .int v_n, .ref a1_3, .ref a1_4, .int v_pulses, .int v_front, .int v_least, .int v_window])), (a1_1, .inl (Z.2 0, 8, .inl v_lengths)), (a1_2, .inl (Z.2 0, 8, .inl v_fractions)), (a1_3, .inl (Z.2 0, 4, .inl v_pulseTimes)), (a1_4, .inl (Z.2 0, 4, .inl v_pulseEnergies))]) (r_brought : Int64) (r_left : Int64) (r_dropped : Int64) (r_away : Int64) (r_mergings : Int32) (r_drops : Int32) (r_fromNear : Nat → Int64) (r_fromFar : Nat → Int64) (r_echoes : Nat → Int64)  : ∀ (n : Nat) (v_brought : Int64) (v_left : Int64) (v_dropped : Int64) (v_away : Int64) (v_mergings : Int32) (v_drops : Int32) (v_fromNear : Nat → Int64) (v_fromFar : Nat → Int64) (v_echoes : Nat → Int64) (x1 : Int32) (x2 : Int64) (x4 : Int32) (x5 : Int32), F_X5_passFront_8 n v_brought v_left v_dropped v_away v_mergings v_drops v_fromNear v_fromFar v_echoes x1 x2 x4 x5 v_n v_pulses v_front v_least v_window v_lengths v_pulseTimes v_pulseEnergies = some (r_brought, r_left, r_dropped, r_away, r_mergings, r_drops, r_fromNear, r_fromFar, r_echoes) → G p l e rm_X5_passFront s m args below meth c Z A 9 (MQ below (gPost Z A (fun _ : Unit => (none : Option Value)) (fun _ : Unit => ([(a0, .inr (4, [.ref a0_1, .ref a0_2, .ref a0_3, .ref a1, .long r_brought, .long r_left, .long r_dropped, .long r_away, .int r_mergings, .int r_drops])), (a0_1, .inl (Z.2 1, 1809, .inr (.inl r_fromNear))), (a0_2, .inl (Z.2 1, 1809, .inr (.inl r_fromFar))), (a0_3, .inl (Z.2 1, 201, .inr (.inl r_echoes)))] : va_W))) args s 0 0 A) [(a0, .inr (4, [.ref a0_1, .ref a0_2, .ref a0_3, .ref a1, .long v_brought, .long v_left, .long v_dropped, .long v_away, .int v_mergings, .int v_drops])), (a0_1, .inl (Z.2 1, 1809, .inr (.inl v_fromNear))), (a0_2, .inl (Z.2 1, 1809, .inr (.inl v_fromFar))), (a0_3, .inl (Z.2 1, 201, .inr (.inl v_echoes)))] 0 0 8 [some (.ref a0), some (.int x1), some (.long x2), none, some (.int x4), some (.int x5), none, none, none] [] := by
  intro n
  induction n with
  | zero =>
    intro v_brought v_left v_dropped v_away v_mergings v_drops v_fromNear v_fromFar v_echoes x1 x2 x4 x5 h
    cases h
  | succ n hK8 =>
    intro v_brought v_left v_dropped v_away v_mergings v_drops v_fromNear v_fromFar v_echoes x1 x2 x4 x5 h
    replace h : B_X5_passFront_8 (F_X5_passFront_8 n) v_brought v_left v_dropped v_away v_mergings v_drops v_fromNear v_fromFar v_echoes x1 x2 x4 x5 v_n v_pulses v_front v_least v_window v_lengths v_pulseTimes v_pulseEnergies = some (r_brought, r_left, r_dropped, r_away, r_mergings, r_drops, r_fromNear, r_fromFar, r_echoes) := h
    unfold B_X5_passFront_8 at h
    refine g_iload X rfl dX5_passFront_8 10 rfl ?_
    refine g_aload_n X rfl dX5_passFront_10 11 rfl ?_
    refine g_get X gC4 0 rfl 3 (by decide) q212 (fun _ h9 => h9) rfl dX5_passFront_11 14 rfl ?_
    refine g_getRN X gC2 0 rfl 5 (by decide) q142 (fun _ h9 => h9) rfl dX5_passFront_14 17 rfl ?_
    refine g_icmp_ge X dX5_passFront_17 85 (by decide) 20 rfl (fun hc => ?_) (fun hc => ?_)
    · replace h := if_t hc h
      refine g_aload_n X rfl dX5_passFront_85 86 rfl ?_
      refine g_dup X dX5_passFront_86 87 rfl rfl ?_
      refine g_get X gC4 0 rfl 4 (by decide) q213 (fun _ h9 => h9) rfl dX5_passFront_87 90 rfl ?_
      refine g_lload_n X rfl dX5_passFront_90 91 rfl ?_
      refine g_ladd X dX5_passFront_91 92 rfl ?_
      refine g_put X gC4 0 rfl 4 (by decide) q213 (fun _ h9 => h9) rfl rfl rfl (Nat.le_of_ble_eq_true rfl) dX5_passFront_92 95 rfl ?_
      refine g_aload_n X rfl dX5_passFront_95 96 rfl ?_
      refine g_get X gC4 0 rfl 3 (by decide) q212 (fun _ h9 => h9) rfl dX5_passFront_96 99 rfl ?_
      refine g_getRN X gC2 0 rfl 2 (by decide) q133 (fun _ h9 => h9) rfl dX5_passFront_99 102 rfl ?_
      refine g_if_ne X dX5_passFront_102 116 (by decide) 105 rfl (fun hc => ?_) (fun hc => ?_)
      · replace h := if_f hc h
        refine g_aload_n X rfl dX5_passFront_116 117 rfl ?_
        refine g_get X gC4 0 rfl 1 (by decide) q210 (fun _ h9 => h9) rfl dX5_passFront_117 120 rfl ?_
        refine g_iload_n X rfl dX5_passFront_120 121 rfl ?_
        obtain ⟨hi, h⟩ := gin_e h
        refine g_lald X 2 rfl hi dX5_passFront_121 122 rfl ?_
        refine g_lstore X dX5_passFront_122 124 rfl (Nat.le_of_ble_eq_true rfl) rfl [some (.ref a0), some (.int x1), some (.long x2), none, some (.int x4), some (.long (v_fromFar x1.toNatClampNeg)), none, none, none] rfl ?_
        refine g_lload X rfl dX5_passFront_124 126 rfl ?_
        refine g_aload_n X rfl dX5_passFront_126 127 rfl ?_
        refine g_get X gC4 0 rfl 3 (by decide) q212 (fun _ h9 => h9) rfl dX5_passFront_127 130 rfl ?_
        refine g_getRN X gC2 0 rfl 6 (by decide) q146 (fun _ h9 => h9) rfl dX5_passFront_130 133 rfl ?_
        obtain ⟨r1, hcl, h⟩ := bd1_e h
        refine g_callS1Z X (met_X7_turned l Z   (v_fromFar x1.toNatClampNeg) v_front r1 hcl) (lw_S q318 q319 q85 q320) md_X7_turned ⟨(Nat.le_of_ble_eq_true rfl), (Nat.le_of_ble_eq_true rfl)⟩ rfl dX5_passFront_133 136 rfl 0 0 rfl rfl (Nat.le_of_ble_eq_true rfl) (Nat.le_of_ble_eq_true rfl) (st := []) rfl (Nat.le_of_ble_eq_true rfl) (fun _ => rfl) (fun _ => ?_)
        refine g_lstore X dX5_passFront_136 138 rfl (Nat.le_of_ble_eq_true rfl) rfl [some (.ref a0), some (.int x1), some (.long x2), none, some (.int x4), some (.long (v_fromFar x1.toNatClampNeg)), none, some (.long r1), none] rfl ?_
        refine g_aload_n X rfl dX5_passFront_138 139 rfl ?_
        refine g_get X gC4 0 rfl 2 (by decide) q211 (fun _ h9 => h9) rfl dX5_passFront_139 142 rfl ?_
        refine g_iload_n X rfl dX5_passFront_142 143 rfl ?_
        refine g_lload X rfl dX5_passFront_143 145 rfl ?_
        refine g_lload X rfl dX5_passFront_145 147 rfl ?_
        refine g_lsub X dX5_passFront_147 148 rfl ?_
        refine g_topl (fun t2 et2 => ?_)
        replace h := nm_at et2 h
        obtain ⟨hi, h⟩ := gin_e h
        refine g_last X 3 rfl hi dX5_passFront_148 149 rfl ?_
        refine g_aload_n X rfl dX5_passFront_149 150 rfl ?_
        refine g_iconst X 0 dX5_passFront_150 151 rfl kI_0 ?_
        refine g_iconst X 1 dX5_passFront_151 152 rfl kI_1 ?_
        refine g_iload_n X rfl dX5_passFront_152 153 rfl ?_
        refine g_lload_n X rfl dX5_passFront_153 154 rfl ?_
        refine g_lload X rfl dX5_passFront_154 156 rfl ?_
        refine g_ladd X dX5_passFront_156 157 rfl ?_
        refine g_iload X rfl dX5_passFront_157 159 rfl ?_
        refine g_lload X rfl dX5_passFront_159 161 rfl ?_
        refine g_lconst X 0 dX5_passFront_161 162 rfl rfl ?_
        refine g_seli 171 [.int x4, .long (x2 + r1), .int x1, .int 1, .int 0, .ref a0] (b := r1 ≤ 0) 0 1 ?_ (fun hc K => ?_) (fun hc K => ?_)
        · refine g_iadd X dX5_passFront_171 172 rfl ?_
          obtain ⟨w3_dropped, w4_away, w5_mergings, w6_drops, w7_fromNear, w8_fromFar, hcl, h⟩ := bd6_e h
          refine g_callV0W X (met_X5_setOut l Z a0 a0_1 a0_2 a0_3 a1 a1_1 a1_2 a1_3 a1_4 (v_brought + x2) v_left v_dropped v_away v_mergings v_drops v_fromNear v_fromFar (vp_updL v_echoes x1.toNatClampNeg t2) v_n v_pulses v_front v_least v_window v_lengths v_fractions v_pulseTimes v_pulseEnergies 0 1 x1 (x2 + r1) (x4 + (if r1 ≤ 0 then (0 : Int32) else 1)) w3_dropped w4_away w5_mergings w6_drops w7_fromNear w8_fromFar hcl) rfl 0 gC4 rfl rfl (lw_V q322 q324 qs2 q73 q325) md_X5_setOut ⟨(Nat.le_of_ble_eq_true rfl), (Nat.le_of_ble_eq_true rfl)⟩ rfl dX5_passFront_172 175 rfl 0 0 rfl rfl (Nat.le_of_ble_eq_true rfl) (Nat.le_of_ble_eq_true rfl) (st := []) rfl (Nat.le_of_ble_eq_true rfl) (fun _ => rfl) (fun _ => ?_)
          cases h
          exact g_vret X dX5_passFront_175 () rfl rfl (Nat.le_of_ble_eq_true rfl) (Nat.le_of_ble_eq_true rfl)
        · refine g_lcmp_le X dX5_passFront_162 163 rfl dX5_passFront_163 170 (by decide) 166 rfl (fun _ => ?_) (fun hn => absurd hc hn)
          refine g_iconst X 0 dX5_passFront_170 171 rfl kI_0 ?_
          exact K
        · refine g_lcmp_le X dX5_passFront_162 163 rfl dX5_passFront_163 170 (by decide) 166 rfl (fun hn => absurd hn hc) (fun _ => ?_)
          refine g_iconst X 1 dX5_passFront_166 167 rfl kI_1 ?_
          refine g_goto X dX5_passFront_167 171 (by decide) ?_
          exact K
      · replace h := if_t hc h
        refine g_aload_n X rfl dX5_passFront_105 106 rfl ?_
        refine g_dup X dX5_passFront_106 107 rfl rfl ?_
        refine g_get X gC4 0 rfl 5 (by decide) q214 (fun _ h9 => h9) rfl dX5_passFront_107 110 rfl ?_
        refine g_lload_n X rfl dX5_passFront_110 111 rfl ?_
        refine g_ladd X dX5_passFront_111 112 rfl ?_
        refine g_put X gC4 0 rfl 5 (by decide) q214 (fun _ h9 => h9) rfl rfl rfl (Nat.le_of_ble_eq_true rfl) dX5_passFront_112 115 rfl ?_
        cases h
        exact g_vret X dX5_passFront_115 () rfl rfl (Nat.le_of_ble_eq_true rfl) (Nat.le_of_ble_eq_true rfl)
    · replace h := if_f hc h
      refine g_aload_n X rfl dX5_passFront_20 21 rfl ?_
      refine g_get X gC4 0 rfl 3 (by decide) q212 (fun _ h9 => h9) rfl dX5_passFront_21 24 rfl ?_
      refine g_getRN X gC2 0 rfl 3 (by decide) q136 (fun _ h9 => h9) rfl dX5_passFront_24 27 rfl ?_
      refine g_iload X rfl dX5_passFront_27 29 rfl ?_
      obtain ⟨hi, h⟩ := gin_e h
      refine g_ialdR X 3 rfl hi dX5_passFront_29 30 rfl ?_
      refine g_iload_n X rfl dX5_passFront_30 31 rfl ?_
      refine g_seli 39 [] (b := (v_pulseTimes x5.toNatClampNeg) = x1) 1 0 ?_ (fun hc K => ?_) (fun hc K => ?_)
      · refine g_istore X dX5_passFront_39 41 rfl (Nat.le_of_ble_eq_true rfl) rfl [some (.ref a0), some (.int x1), some (.long x2), none, some (.int x4), some (.int x5), some (.int (if (v_pulseTimes x5.toNatClampNeg) = x1 then (1 : Int32) else 0)), none, none] rfl ?_
        refine g_lload_n X rfl dX5_passFront_41 42 rfl ?_
        refine g_iload X rfl dX5_passFront_42 44 rfl ?_
        refine g_if_eq X dX5_passFront_44 61 (by decide) 47 rfl (fun hc => ?_) (fun hc => ?_)
        · replace h := if_t hc h
          refine g_lconst X 0 dX5_passFront_61 62 rfl rfl ?_
          refine g_kill (j := 2) [some (.ref a0), some (.int x1), none, none, some (.int x4), some (.int x5), some (.int (if (v_pulseTimes x5.toNatClampNeg) = x1 then (1 : Int32) else 0)), none, none] rfl ?_
          exact w_X5_passFront_62 a0 a0_1 a0_2 a0_3 a1 a1_1 a1_2 a1_3 a1_4 v_n v_pulses v_front v_least v_window v_lengths v_fractions v_pulseTimes v_pulseEnergies X  r_brought r_left r_dropped r_away r_mergings r_drops r_fromNear r_fromFar r_echoes _ hK8  v_brought v_left v_dropped v_away v_mergings v_drops v_fromNear v_fromFar v_echoes x1 x4 x5 (if (v_pulseTimes x5.toNatClampNeg) = x1 then (1 : Int32) else 0) x2 0 h
        · replace h := if_f hc h
          refine g_aload_n X rfl dX5_passFront_47 48 rfl ?_
          refine g_get X gC4 0 rfl 3 (by decide) q212 (fun _ h9 => h9) rfl dX5_passFront_48 51 rfl ?_
          refine g_getRN X gC2 0 rfl 4 (by decide) q139 (fun _ h9 => h9) rfl dX5_passFront_51 54 rfl ?_
          refine g_iload X rfl dX5_passFront_54 56 rfl ?_
          obtain ⟨hi, h⟩ := gin_e h
          refine g_ialdR X 4 rfl hi dX5_passFront_56 57 rfl ?_
          refine g_i2l X dX5_passFront_57 58 rfl ?_
          refine g_goto X dX5_passFront_58 62 (by decide) ?_
          refine g_kill (j := 2) [some (.ref a0), some (.int x1), none, none, some (.int x4), some (.int x5), some (.int (if (v_pulseTimes x5.toNatClampNeg) = x1 then (1 : Int32) else 0)), none, none] rfl ?_
          exact w_X5_passFront_62 a0 a0_1 a0_2 a0_3 a1 a1_1 a1_2 a1_3 a1_4 v_n v_pulses v_front v_least v_window v_lengths v_fractions v_pulseTimes v_pulseEnergies X  r_brought r_left r_dropped r_away r_mergings r_drops r_fromNear r_fromFar r_echoes _ hK8  v_brought v_left v_dropped v_away v_mergings v_drops v_fromNear v_fromFar v_echoes x1 x4 x5 (if (v_pulseTimes x5.toNatClampNeg) = x1 then (1 : Int32) else 0) x2 ((v_pulseEnergies x5.toNatClampNeg).toInt64) h
      · refine g_icmp_ne X dX5_passFront_31 38 (by decide) 34 rfl (fun hn => absurd hc hn) (fun _ => ?_)
        refine g_iconst X 1 dX5_passFront_34 35 rfl kI_1 ?_
        refine g_goto X dX5_passFront_35 39 (by decide) ?_
        exact K
      · refine g_icmp_ne X dX5_passFront_31 38 (by decide) 34 rfl (fun _ => ?_) (fun hn => absurd hn hc)
        refine g_iconst X 0 dX5_passFront_38 39 rfl kI_0 ?_
        exact K
theorem met_X5_passFront (l : Launch) (Z : gZt) (a0 : Nat) (a0_1 : Nat) (a0_2 : Nat) (a0_3 : Nat) (a1 : Nat) (a1_1 : Nat) (a1_2 : Nat) (a1_3 : Nat) (a1_4 : Nat) (v_brought : Int64) (v_left : Int64) (v_dropped : Int64) (v_away : Int64) (v_mergings : Int32) (v_drops : Int32) (v_fromNear : Nat → Int64) (v_fromFar : Nat → Int64) (v_echoes : Nat → Int64) (v_n : Int32) (v_pulses : Int32) (v_front : Int32) (v_least : Int32) (v_window : Int32) (v_lengths : Nat → Int32) (v_fractions : Nat → Int32) (v_pulseTimes : Nat → Int32) (v_pulseEnergies : Nat → Int32) (x1 : Int32) (r_brought : Int64) (r_left : Int64) (r_dropped : Int64) (r_away : Int64) (r_mergings : Int32) (r_drops : Int32) (r_fromNear : Nat → Int64) (r_fromFar : Nat → Int64) (r_echoes : Nat → Int64) (h : F_X5_passFront v_brought v_left v_dropped v_away v_mergings v_drops v_fromNear v_fromFar v_echoes v_n v_pulses v_front v_least v_window v_lengths v_pulseTimes v_pulseEnergies x1 = some (r_brought, r_left, r_dropped, r_away, r_mergings, r_drops, r_fromNear, r_fromFar, r_echoes)) : Ct l yX5_passFront (ws_ yX5_passFront cX5_passFront 9 none) rm_X5_passFront Z [.ref a0, .int x1] [(a0, .inr (4, [.ref a0_1, .ref a0_2, .ref a0_3, .ref a1, .long v_brought, .long v_left, .long v_dropped, .long v_away, .int v_mergings, .int v_drops])), (a0_1, .inl (Z.2 1, 1809, .inr (.inl v_fromNear))), (a0_2, .inl (Z.2 1, 1809, .inr (.inl v_fromFar))), (a0_3, .inl (Z.2 1, 201, .inr (.inl v_echoes)))] [(a1, .inr (2, [.ref a1_1, .ref a1_2, .int v_n, .ref a1_3, .ref a1_4, .int v_pulses, .int v_front, .int v_least, .int v_window])), (a1_1, .inl (Z.2 0, 8, .inl v_lengths)), (a1_2, .inl (Z.2 0, 8, .inl v_fractions)), (a1_3, .inl (Z.2 0, 4, .inl v_pulseTimes)), (a1_4, .inl (Z.2 0, 4, .inl v_pulseEnergies))] (fun _ : Unit => (none : Option Value)) (fun _ : Unit => ([(a0, .inr (4, [.ref a0_1, .ref a0_2, .ref a0_3, .ref a1, .long r_brought, .long r_left, .long r_dropped, .long r_away, .int r_mergings, .int r_drops])), (a0_1, .inl (Z.2 1, 1809, .inr (.inl r_fromNear))), (a0_2, .inl (Z.2 1, 1809, .inr (.inl r_fromFar))), (a0_3, .inl (Z.2 1, 201, .inr (.inl r_echoes)))] : va_W)) := by
  refine Ct.of cX5_passFront 9 none "LineEchoes$Runner" [some (.ref a0), some (.int x1), none, none, none, none, none, none, none] 7 (by decide) rfl (Nat.le_of_ble_eq_true rfl) rfl (fun p e s m args below meth c A X hin => ?_)
  unfold F_X5_passFront at h
  refine g_lconst X 0 dX5_passFront_0 1 rfl rfl ?_
  refine g_lstore_n X dX5_passFront_1 2 rfl (Nat.le_of_ble_eq_true rfl) rfl [some (.ref a0), some (.int x1), some (.long 0), none, none, none, none, none, none] rfl ?_
  refine g_iconst X 0 dX5_passFront_2 3 rfl kI_0 ?_
  refine g_istore X dX5_passFront_3 5 rfl (Nat.le_of_ble_eq_true rfl) rfl [some (.ref a0), some (.int x1), some (.long 0), none, some (.int 0), none, none, none, none] rfl ?_
  refine g_iconst X 0 dX5_passFront_5 6 rfl kI_0 ?_
  refine g_istore X dX5_passFront_6 8 rfl (Nat.le_of_ble_eq_true rfl) rfl [some (.ref a0), some (.int x1), some (.long 0), none, some (.int 0), some (.int 0), none, none, none] rfl ?_
  exact w_X5_passFront_8 a0 a0_1 a0_2 a0_3 a1 a1_1 a1_2 a1_3 a1_4 v_n v_pulses v_front v_least v_window v_lengths v_fractions v_pulseTimes v_pulseEnergies X  r_brought r_left r_dropped r_away r_mergings r_drops r_fromNear r_fromFar r_echoes    gFU v_brought v_left v_dropped v_away v_mergings v_drops v_fromNear v_fromFar v_echoes x1 0 0 0 h
/-! LineEchoes$Runner.passJoint(II)V -/
abbrev rm_X5_passJoint : Room := { frames := 1, cells := 0, slots := 0, locals := 27 }
def F_X5_passJoint_171 (v_left : Int64) (v_dropped : Int64) (v_away : Int64) (v_mergings : Int32) (v_drops : Int32) (v_fromNear : Nat → Int64) (v_fromFar : Nat → Int64) : Option (Int64 × Int64 × Int64 × Int32 × Int32 × (Nat → Int64) × (Nat → Int64)) :=
  some (v_left, v_dropped, v_away, v_mergings, v_drops, v_fromNear, v_fromFar)
def F_X5_passJoint (v_left : Int64) (v_dropped : Int64) (v_away : Int64) (v_mergings : Int32) (v_drops : Int32) (v_fromNear : Nat → Int64) (v_fromFar : Nat → Int64) (v_n : Int32) (v_least : Int32) (v_window : Int32) (v_lengths : Nat → Int32) (v_fractions : Nat → Int32) (x1 : Int32) (x2 : Int32) : Option (Int64 × Int64 × Int64 × Int32 × Int32 × (Nat → Int64) × (Nat → Int64)) :=
  gin ((201 * x1) + x2) 1809 <|
  nm (v_fromNear ((201 * x1) + x2).toNatClampNeg) fun t1 =>
  gin ((201 * x1) + x2) 1809 <|
  nm (v_fromFar ((201 * x1) + x2).toNatClampNeg) fun t2 =>
  gin (x1 - 1) 8 <|
  nm (v_fractions (x1 - 1).toNatClampNeg) fun t3 =>
  bd1 (F_X7_turned t1 t3) fun r4 =>
  bd1 (F_X7_turned t2 t3) fun r5 =>
  bd6 (F_X5_setOut v_dropped v_away v_mergings v_drops v_fromNear v_fromFar v_least v_window v_lengths (x1 - 1) 0 x2 (r4 + (t2 - r5)) ((if r4 ≤ 0 then (0 : Int32) else 1) + (if (t2 - r5) ≤ 0 then (0 : Int32) else 1))) fun w6_dropped w7_away w8_mergings w9_drops w10_fromNear w11_fromFar =>
  if x1 = v_n then
    (F_X5_passJoint_171 (v_left + (t1 - r4)) w6_dropped w7_away w8_mergings w9_drops w10_fromNear w11_fromFar)
  else
    (bd6 (F_X5_setOut w6_dropped w7_away w8_mergings w9_drops w10_fromNear w11_fromFar v_least v_window v_lengths x1 1 x2 ((t1 - r4) + r5) ((if (t1 - r4) ≤ 0 then (0 : Int32) else 1) + (if r5 ≤ 0 then (0 : Int32) else 1))) fun w12_dropped w13_away w14_mergings w15_drops w16_fromNear w17_fromFar =>
    F_X5_passJoint_171 v_left w12_dropped w13_away w14_mergings w15_drops w16_fromNear w17_fromFar)
theorem w_X5_passJoint_171 {p : Program} {l : Launch} {e : Env} {s : State} {m : MethodId} {args : Array Value} {below : List Frame} {meth : Method} {c : Code} {Z : gZt} {A : Nat → Prop} (a0 : Nat) (a0_1 : Nat) (a0_2 : Nat) (a0_3 : Nat) (a1 : Nat) (a1_1 : Nat) (a1_2 : Nat) (a1_3 : Nat) (a1_4 : Nat) (v_n : Int32) (v_pulses : Int32) (v_front : Int32) (v_least : Int32) (v_window : Int32) (v_lengths : Nat → Int32) (v_fractions : Nat → Int32) (v_pulseTimes : Nat → Int32) (v_pulseEnergies : Nat → Int32) (X : gX p s m args meth c Z A cX5_passJoint "LineEchoes$Runner" 16 none [(a1, .inr (2, [.ref a1_1, .ref a1_2, .int v_n, .ref a1_3, .ref a1_4, .int v_pulses, .int v_front, .int v_least, .int v_window])), (a1_1, .inl (Z.2 0, 8, .inl v_lengths)), (a1_2, .inl (Z.2 0, 8, .inl v_fractions)), (a1_3, .inl (Z.2 0, 4, .inl v_pulseTimes)), (a1_4, .inl (Z.2 0, 4, .inl v_pulseEnergies))]) (r_left : Int64) (r_dropped : Int64) (r_away : Int64) (r_mergings : Int32) (r_drops : Int32) (r_fromNear : Nat → Int64) (r_fromFar : Nat → Int64)  (v_brought : Int64) (v_left : Int64) (v_dropped : Int64) (v_away : Int64) (v_mergings : Int32) (v_drops : Int32) (v_fromNear : Nat → Int64) (v_fromFar : Nat → Int64) (v_echoes : Nat → Int64) (h : F_X5_passJoint_171 v_left v_dropped v_away v_mergings v_drops v_fromNear v_fromFar = some (r_left, r_dropped, r_away, r_mergings, r_drops, r_fromNear, r_fromFar)) : G p l e rm_X5_passJoint s m args below meth c Z A 16 (MQ below (gPost Z A (fun _ : Unit => (none : Option Value)) (fun _ : Unit => ([(a0, .inr (4, [.ref a0_1, .ref a0_2, .ref a0_3, .ref a1, .long v_brought, .long r_left, .long r_dropped, .long r_away, .int r_mergings, .int r_drops])), (a0_1, .inl (Z.2 1, 1809, .inr (.inl r_fromNear))), (a0_2, .inl (Z.2 1, 1809, .inr (.inl r_fromFar))), (a0_3, .inl (Z.2 1, 201, .inr (.inl v_echoes)))] : va_W))) args s 0 0 A) [(a0, .inr (4, [.ref a0_1, .ref a0_2, .ref a0_3, .ref a1, .long v_brought, .long v_left, .long v_dropped, .long v_away, .int v_mergings, .int v_drops])), (a0_1, .inl (Z.2 1, 1809, .inr (.inl v_fromNear))), (a0_2, .inl (Z.2 1, 1809, .inr (.inl v_fromFar))), (a0_3, .inl (Z.2 1, 201, .inr (.inl v_echoes)))] 0 0 171 [none, none, none, none, none, none, none, none, none, none, none, none, none, none, none, none] [] := by
  unfold F_X5_passJoint_171 at h
  cases h
  exact g_vret X dX5_passJoint_171 () rfl rfl (Nat.le_of_ble_eq_true rfl) (Nat.le_of_ble_eq_true rfl)
theorem met_X5_passJoint (l : Launch) (Z : gZt) (a0 : Nat) (a0_1 : Nat) (a0_2 : Nat) (a0_3 : Nat) (a1 : Nat) (a1_1 : Nat) (a1_2 : Nat) (a1_3 : Nat) (a1_4 : Nat) (v_brought : Int64) (v_left : Int64) (v_dropped : Int64) (v_away : Int64) (v_mergings : Int32) (v_drops : Int32) (v_fromNear : Nat → Int64) (v_fromFar : Nat → Int64) (v_echoes : Nat → Int64) (v_n : Int32) (v_pulses : Int32) (v_front : Int32) (v_least : Int32) (v_window : Int32) (v_lengths : Nat → Int32) (v_fractions : Nat → Int32) (v_pulseTimes : Nat → Int32) (v_pulseEnergies : Nat → Int32) (x1 : Int32) (x2 : Int32) (r_left : Int64) (r_dropped : Int64) (r_away : Int64) (r_mergings : Int32) (r_drops : Int32) (r_fromNear : Nat → Int64) (r_fromFar : Nat → Int64) (h : F_X5_passJoint v_left v_dropped v_away v_mergings v_drops v_fromNear v_fromFar v_n v_least v_window v_lengths v_fractions x1 x2 = some (r_left, r_dropped, r_away, r_mergings, r_drops, r_fromNear, r_fromFar)) : Ct l yX5_passJoint (ws_ yX5_passJoint cX5_passJoint 16 none) rm_X5_passJoint Z [.ref a0, .int x1, .int x2] [(a0, .inr (4, [.ref a0_1, .ref a0_2, .ref a0_3, .ref a1, .long v_brought, .long v_left, .long v_dropped, .long v_away, .int v_mergings, .int v_drops])), (a0_1, .inl (Z.2 1, 1809, .inr (.inl v_fromNear))), (a0_2, .inl (Z.2 1, 1809, .inr (.inl v_fromFar))), (a0_3, .inl (Z.2 1, 201, .inr (.inl v_echoes)))] [(a1, .inr (2, [.ref a1_1, .ref a1_2, .int v_n, .ref a1_3, .ref a1_4, .int v_pulses, .int v_front, .int v_least, .int v_window])), (a1_1, .inl (Z.2 0, 8, .inl v_lengths)), (a1_2, .inl (Z.2 0, 8, .inl v_fractions)), (a1_3, .inl (Z.2 0, 4, .inl v_pulseTimes)), (a1_4, .inl (Z.2 0, 4, .inl v_pulseEnergies))] (fun _ : Unit => (none : Option Value)) (fun _ : Unit => ([(a0, .inr (4, [.ref a0_1, .ref a0_2, .ref a0_3, .ref a1, .long v_brought, .long r_left, .long r_dropped, .long r_away, .int r_mergings, .int r_drops])), (a0_1, .inl (Z.2 1, 1809, .inr (.inl r_fromNear))), (a0_2, .inl (Z.2 1, 1809, .inr (.inl r_fromFar))), (a0_3, .inl (Z.2 1, 201, .inr (.inl v_echoes)))] : va_W)) := by
  refine Ct.of cX5_passJoint 16 none "LineEchoes$Runner" [some (.ref a0), some (.int x1), some (.int x2), none, none, none, none, none, none, none, none, none, none, none, none, none] 13 (by decide) rfl (Nat.le_of_ble_eq_true rfl) rfl (fun p e s m args below meth c A X hin => ?_)
  unfold F_X5_passJoint at h
  refine g_aload_n X rfl dX5_passJoint_0 1 rfl ?_
  refine g_get X gC4 0 rfl 0 (by decide) q209 (fun _ h9 => h9) rfl dX5_passJoint_1 4 rfl ?_
  refine g_sipush X 201 dX5_passJoint_4 7 rfl kS_201 ?_
  refine g_iload_n X rfl dX5_passJoint_7 8 rfl ?_
  refine g_imul X dX5_passJoint_8 9 rfl ?_
  refine g_iload_n X rfl dX5_passJoint_9 10 rfl ?_
  refine g_iadd X dX5_passJoint_10 11 rfl ?_
  obtain ⟨hi, h⟩ := gin_e h
  refine g_lald X 1 rfl hi dX5_passJoint_11 12 rfl ?_
  refine g_topl (fun t1 et1 => ?_)
  replace h := nm_at et1 h
  refine g_lstore_n X dX5_passJoint_12 13 rfl (Nat.le_of_ble_eq_true rfl) rfl [some (.ref a0), some (.int x1), some (.int x2), some (.long t1), none, none, none, none, none, none, none, none, none, none, none, none] rfl ?_
  refine g_aload_n X rfl dX5_passJoint_13 14 rfl ?_
  refine g_get X gC4 0 rfl 1 (by decide) q210 (fun _ h9 => h9) rfl dX5_passJoint_14 17 rfl ?_
  refine g_sipush X 201 dX5_passJoint_17 20 rfl kS_201 ?_
  refine g_iload_n X rfl dX5_passJoint_20 21 rfl ?_
  refine g_imul X dX5_passJoint_21 22 rfl ?_
  refine g_iload_n X rfl dX5_passJoint_22 23 rfl ?_
  refine g_iadd X dX5_passJoint_23 24 rfl ?_
  obtain ⟨hi, h⟩ := gin_e h
  refine g_lald X 2 rfl hi dX5_passJoint_24 25 rfl ?_
  refine g_topl (fun t2 et2 => ?_)
  replace h := nm_at et2 h
  refine g_lstore X dX5_passJoint_25 27 rfl (Nat.le_of_ble_eq_true rfl) rfl [some (.ref a0), some (.int x1), some (.int x2), some (.long t1), none, some (.long t2), none, none, none, none, none, none, none, none, none, none] rfl ?_
  refine g_aload_n X rfl dX5_passJoint_27 28 rfl ?_
  refine g_get X gC4 0 rfl 3 (by decide) q212 (fun _ h9 => h9) rfl dX5_passJoint_28 31 rfl ?_
  refine g_getRN X gC2 0 rfl 1 (by decide) q127 (fun _ h9 => h9) rfl dX5_passJoint_31 34 rfl ?_
  refine g_iload_n X rfl dX5_passJoint_34 35 rfl ?_
  refine g_iconst X 1 dX5_passJoint_35 36 rfl kI_1 ?_
  refine g_isub X dX5_passJoint_36 37 rfl ?_
  obtain ⟨hi, h⟩ := gin_e h
  refine g_ialdR X 2 rfl hi dX5_passJoint_37 38 rfl ?_
  refine g_topi (fun t3 et3 => ?_)
  replace h := nm_at et3 h
  refine g_istore X dX5_passJoint_38 40 rfl (Nat.le_of_ble_eq_true rfl) rfl [some (.ref a0), some (.int x1), some (.int x2), some (.long t1), none, some (.long t2), none, some (.int t3), none, none, none, none, none, none, none, none] rfl ?_
  refine g_lload_n X rfl dX5_passJoint_40 41 rfl ?_
  refine g_iload X rfl dX5_passJoint_41 43 rfl ?_
  obtain ⟨r4, hcl, h⟩ := bd1_e h
  refine g_callS1Z X (met_X7_turned l Z   t1 t3 r4 hcl) (lw_S q318 q319 q85 q320) md_X7_turned ⟨(Nat.le_of_ble_eq_true rfl), (Nat.le_of_ble_eq_true rfl)⟩ rfl dX5_passJoint_43 46 rfl 0 0 rfl rfl (Nat.le_of_ble_eq_true rfl) (Nat.le_of_ble_eq_true rfl) (st := []) rfl (Nat.le_of_ble_eq_true rfl) (fun _ => rfl) (fun _ => ?_)
  refine g_lstore X dX5_passJoint_46 48 rfl (Nat.le_of_ble_eq_true rfl) rfl [some (.ref a0), some (.int x1), some (.int x2), some (.long t1), none, some (.long t2), none, some (.int t3), some (.long r4), none, none, none, none, none, none, none] rfl ?_
  refine g_lload X rfl dX5_passJoint_48 50 rfl ?_
  refine g_iload X rfl dX5_passJoint_50 52 rfl ?_
  obtain ⟨r5, hcl, h⟩ := bd1_e h
  refine g_callS1Z X (met_X7_turned l Z   t2 t3 r5 hcl) (lw_S q318 q319 q85 q320) md_X7_turned ⟨(Nat.le_of_ble_eq_true rfl), (Nat.le_of_ble_eq_true rfl)⟩ rfl dX5_passJoint_52 55 rfl 0 0 rfl rfl (Nat.le_of_ble_eq_true rfl) (Nat.le_of_ble_eq_true rfl) (st := []) rfl (Nat.le_of_ble_eq_true rfl) (fun _ => rfl) (fun _ => ?_)
  refine g_lstore X dX5_passJoint_55 57 rfl (Nat.le_of_ble_eq_true rfl) rfl [some (.ref a0), some (.int x1), some (.int x2), some (.long t1), none, some (.long t2), none, some (.int t3), some (.long r4), none, some (.long r5), none, none, none, none, none] rfl ?_
  refine g_lload_n X rfl dX5_passJoint_57 58 rfl ?_
  refine g_lload X rfl dX5_passJoint_58 60 rfl ?_
  refine g_lsub X dX5_passJoint_60 61 rfl ?_
  refine g_lstore X dX5_passJoint_61 63 rfl (Nat.le_of_ble_eq_true rfl) rfl [some (.ref a0), some (.int x1), some (.int x2), some (.long t1), none, some (.long t2), none, some (.int t3), some (.long r4), none, some (.long r5), none, some (.long (t1 - r4)), none, none, none] rfl ?_
  refine g_lload X rfl dX5_passJoint_63 65 rfl ?_
  refine g_lload X rfl dX5_passJoint_65 67 rfl ?_
  refine g_lsub X dX5_passJoint_67 68 rfl ?_
  refine g_lstore X dX5_passJoint_68 70 rfl (Nat.le_of_ble_eq_true rfl) rfl [some (.ref a0), some (.int x1), some (.int x2), some (.long t1), none, some (.long t2), none, some (.int t3), some (.long r4), none, some (.long r5), none, some (.long (t1 - r4)), none, some (.long (t2 - r5)), none] rfl ?_
  refine g_aload_n X rfl dX5_passJoint_70 71 rfl ?_
  refine g_iload_n X rfl dX5_passJoint_71 72 rfl ?_
  refine g_iconst X 1 dX5_passJoint_72 73 rfl kI_1 ?_
  refine g_isub X dX5_passJoint_73 74 rfl ?_
  refine g_iconst X 0 dX5_passJoint_74 75 rfl kI_0 ?_
  refine g_iload_n X rfl dX5_passJoint_75 76 rfl ?_
  refine g_lload X rfl dX5_passJoint_76 78 rfl ?_
  refine g_lload X rfl dX5_passJoint_78 80 rfl ?_
  refine g_ladd X dX5_passJoint_80 81 rfl ?_
  refine g_lload X rfl dX5_passJoint_81 83 rfl ?_
  refine g_lconst X 0 dX5_passJoint_83 84 rfl rfl ?_
  refine g_seli 93 [.long (r4 + (t2 - r5)), .int x2, .int 0, .int (x1 - 1), .ref a0] (b := r4 ≤ 0) 0 1 ?_ (fun hc K => ?_) (fun hc K => ?_)
  · refine g_lload X rfl dX5_passJoint_93 95 rfl ?_
    refine g_lconst X 0 dX5_passJoint_95 96 rfl rfl ?_
    refine g_seli 105 [.int (if r4 ≤ 0 then (0 : Int32) else 1), .long (r4 + (t2 - r5)), .int x2, .int 0, .int (x1 - 1), .ref a0] (b := (t2 - r5) ≤ 0) 0 1 ?_ (fun hc K => ?_) (fun hc K => ?_)
    · refine g_iadd X dX5_passJoint_105 106 rfl ?_
      obtain ⟨w6_dropped, w7_away, w8_mergings, w9_drops, w10_fromNear, w11_fromFar, hcl, h⟩ := bd6_e h
      refine g_callV0W X (met_X5_setOut l Z a0 a0_1 a0_2 a0_3 a1 a1_1 a1_2 a1_3 a1_4 v_brought v_left v_dropped v_away v_mergings v_drops v_fromNear v_fromFar v_echoes v_n v_pulses v_front v_least v_window v_lengths v_fractions v_pulseTimes v_pulseEnergies (x1 - 1) 0 x2 (r4 + (t2 - r5)) ((if r4 ≤ 0 then (0 : Int32) else 1) + (if (t2 - r5) ≤ 0 then (0 : Int32) else 1)) w6_dropped w7_away w8_mergings w9_drops w10_fromNear w11_fromFar hcl) rfl 0 gC4 rfl rfl (lw_V q322 q324 qs2 q73 q325) md_X5_setOut ⟨(Nat.le_of_ble_eq_true rfl), (Nat.le_of_ble_eq_true rfl)⟩ rfl dX5_passJoint_106 109 rfl 0 0 rfl rfl (Nat.le_of_ble_eq_true rfl) (Nat.le_of_ble_eq_true rfl) (st := []) rfl (Nat.le_of_ble_eq_true rfl) (fun _ => rfl) (fun _ => ?_)
      refine g_iload_n X rfl dX5_passJoint_109 110 rfl ?_
      refine g_aload_n X rfl dX5_passJoint_110 111 rfl ?_
      refine g_get X gC4 0 rfl 3 (by decide) q212 (fun _ h9 => h9) rfl dX5_passJoint_111 114 rfl ?_
      refine g_getRN X gC2 0 rfl 2 (by decide) q133 (fun _ h9 => h9) rfl dX5_passJoint_114 117 rfl ?_
      refine g_icmp_ne X dX5_passJoint_117 134 (by decide) 120 rfl (fun hc => ?_) (fun hc => ?_)
      · replace h := if_f hc h
        refine g_aload_n X rfl dX5_passJoint_134 135 rfl ?_
        refine g_iload_n X rfl dX5_passJoint_135 136 rfl ?_
        refine g_iconst X 1 dX5_passJoint_136 137 rfl kI_1 ?_
        refine g_iload_n X rfl dX5_passJoint_137 138 rfl ?_
        refine g_lload X rfl dX5_passJoint_138 140 rfl ?_
        refine g_lload X rfl dX5_passJoint_140 142 rfl ?_
        refine g_ladd X dX5_passJoint_142 143 rfl ?_
        refine g_lload X rfl dX5_passJoint_143 145 rfl ?_
        refine g_lconst X 0 dX5_passJoint_145 146 rfl rfl ?_
        refine g_seli 155 [.long ((t1 - r4) + r5), .int x2, .int 1, .int x1, .ref a0] (b := (t1 - r4) ≤ 0) 0 1 ?_ (fun hc K => ?_) (fun hc K => ?_)
        · refine g_lload X rfl dX5_passJoint_155 157 rfl ?_
          refine g_lconst X 0 dX5_passJoint_157 158 rfl rfl ?_
          refine g_seli 167 [.int (if (t1 - r4) ≤ 0 then (0 : Int32) else 1), .long ((t1 - r4) + r5), .int x2, .int 1, .int x1, .ref a0] (b := r5 ≤ 0) 0 1 ?_ (fun hc K => ?_) (fun hc K => ?_)
          · refine g_iadd X dX5_passJoint_167 168 rfl ?_
            obtain ⟨w12_dropped, w13_away, w14_mergings, w15_drops, w16_fromNear, w17_fromFar, hcl, h⟩ := bd6_e h
            refine g_callV0W X (met_X5_setOut l Z a0 a0_1 a0_2 a0_3 a1 a1_1 a1_2 a1_3 a1_4 v_brought v_left w6_dropped w7_away w8_mergings w9_drops w10_fromNear w11_fromFar v_echoes v_n v_pulses v_front v_least v_window v_lengths v_fractions v_pulseTimes v_pulseEnergies x1 1 x2 ((t1 - r4) + r5) ((if (t1 - r4) ≤ 0 then (0 : Int32) else 1) + (if r5 ≤ 0 then (0 : Int32) else 1)) w12_dropped w13_away w14_mergings w15_drops w16_fromNear w17_fromFar hcl) rfl 0 gC4 rfl rfl (lw_V q322 q324 qs2 q73 q325) md_X5_setOut ⟨(Nat.le_of_ble_eq_true rfl), (Nat.le_of_ble_eq_true rfl)⟩ rfl dX5_passJoint_168 171 rfl 0 0 rfl rfl (Nat.le_of_ble_eq_true rfl) (Nat.le_of_ble_eq_true rfl) (st := []) rfl (Nat.le_of_ble_eq_true rfl) (fun _ => rfl) (fun _ => ?_)
            refine g_kill (j := 0) [none, some (.int x1), some (.int x2), some (.long t1), none, some (.long t2), none, some (.int t3), some (.long r4), none, some (.long r5), none, some (.long (t1 - r4)), none, some (.long (t2 - r5)), none] rfl ?_
            refine g_kill (j := 1) [none, none, some (.int x2), some (.long t1), none, some (.long t2), none, some (.int t3), some (.long r4), none, some (.long r5), none, some (.long (t1 - r4)), none, some (.long (t2 - r5)), none] rfl ?_
            refine g_kill (j := 2) [none, none, none, some (.long t1), none, some (.long t2), none, some (.int t3), some (.long r4), none, some (.long r5), none, some (.long (t1 - r4)), none, some (.long (t2 - r5)), none] rfl ?_
            refine g_kill (j := 3) [none, none, none, none, none, some (.long t2), none, some (.int t3), some (.long r4), none, some (.long r5), none, some (.long (t1 - r4)), none, some (.long (t2 - r5)), none] rfl ?_
            refine g_kill (j := 5) [none, none, none, none, none, none, none, some (.int t3), some (.long r4), none, some (.long r5), none, some (.long (t1 - r4)), none, some (.long (t2 - r5)), none] rfl ?_
            refine g_kill (j := 7) [none, none, none, none, none, none, none, none, some (.long r4), none, some (.long r5), none, some (.long (t1 - r4)), none, some (.long (t2 - r5)), none] rfl ?_
            refine g_kill (j := 8) [none, none, none, none, none, none, none, none, none, none, some (.long r5), none, some (.long (t1 - r4)), none, some (.long (t2 - r5)), none] rfl ?_
            refine g_kill (j := 10) [none, none, none, none, none, none, none, none, none, none, none, none, some (.long (t1 - r4)), none, some (.long (t2 - r5)), none] rfl ?_
            refine g_kill (j := 12) [none, none, none, none, none, none, none, none, none, none, none, none, none, none, some (.long (t2 - r5)), none] rfl ?_
            refine g_kill (j := 14) [none, none, none, none, none, none, none, none, none, none, none, none, none, none, none, none] rfl ?_
            exact w_X5_passJoint_171 a0 a0_1 a0_2 a0_3 a1 a1_1 a1_2 a1_3 a1_4 v_n v_pulses v_front v_least v_window v_lengths v_fractions v_pulseTimes v_pulseEnergies X  r_left r_dropped r_away r_mergings r_drops r_fromNear r_fromFar    v_brought v_left w12_dropped w13_away w14_mergings w15_drops w16_fromNear w17_fromFar v_echoes h
          · refine g_lcmp_le X dX5_passJoint_158 159 rfl dX5_passJoint_159 166 (by decide) 162 rfl (fun _ => ?_) (fun hn => absurd hc hn)
            refine g_iconst X 0 dX5_passJoint_166 167 rfl kI_0 ?_
            exact K
          · refine g_lcmp_le X dX5_passJoint_158 159 rfl dX5_passJoint_159 166 (by decide) 162 rfl (fun hn => absurd hn hc) (fun _ => ?_)
            refine g_iconst X 1 dX5_passJoint_162 163 rfl kI_1 ?_
            refine g_goto X dX5_passJoint_163 167 (by decide) ?_
            exact K
        · refine g_lcmp_le X dX5_passJoint_146 147 rfl dX5_passJoint_147 154 (by decide) 150 rfl (fun _ => ?_) (fun hn => absurd hc hn)
          refine g_iconst X 0 dX5_passJoint_154 155 rfl kI_0 ?_
          exact K
        · refine g_lcmp_le X dX5_passJoint_146 147 rfl dX5_passJoint_147 154 (by decide) 150 rfl (fun hn => absurd hn hc) (fun _ => ?_)
          refine g_iconst X 1 dX5_passJoint_150 151 rfl kI_1 ?_
          refine g_goto X dX5_passJoint_151 155 (by decide) ?_
          exact K
      · replace h := if_t hc h
        refine g_aload_n X rfl dX5_passJoint_120 121 rfl ?_
        refine g_dup X dX5_passJoint_121 122 rfl rfl ?_
        refine g_get X gC4 0 rfl 5 (by decide) q214 (fun _ h9 => h9) rfl dX5_passJoint_122 125 rfl ?_
        refine g_lload X rfl dX5_passJoint_125 127 rfl ?_
        refine g_ladd X dX5_passJoint_127 128 rfl ?_
        refine g_put X gC4 0 rfl 5 (by decide) q214 (fun _ h9 => h9) rfl rfl rfl (Nat.le_of_ble_eq_true rfl) dX5_passJoint_128 131 rfl ?_
        refine g_goto X dX5_passJoint_131 171 (by decide) ?_
        refine g_kill (j := 0) [none, some (.int x1), some (.int x2), some (.long t1), none, some (.long t2), none, some (.int t3), some (.long r4), none, some (.long r5), none, some (.long (t1 - r4)), none, some (.long (t2 - r5)), none] rfl ?_
        refine g_kill (j := 1) [none, none, some (.int x2), some (.long t1), none, some (.long t2), none, some (.int t3), some (.long r4), none, some (.long r5), none, some (.long (t1 - r4)), none, some (.long (t2 - r5)), none] rfl ?_
        refine g_kill (j := 2) [none, none, none, some (.long t1), none, some (.long t2), none, some (.int t3), some (.long r4), none, some (.long r5), none, some (.long (t1 - r4)), none, some (.long (t2 - r5)), none] rfl ?_
        refine g_kill (j := 3) [none, none, none, none, none, some (.long t2), none, some (.int t3), some (.long r4), none, some (.long r5), none, some (.long (t1 - r4)), none, some (.long (t2 - r5)), none] rfl ?_
        refine g_kill (j := 5) [none, none, none, none, none, none, none, some (.int t3), some (.long r4), none, some (.long r5), none, some (.long (t1 - r4)), none, some (.long (t2 - r5)), none] rfl ?_
        refine g_kill (j := 7) [none, none, none, none, none, none, none, none, some (.long r4), none, some (.long r5), none, some (.long (t1 - r4)), none, some (.long (t2 - r5)), none] rfl ?_
        refine g_kill (j := 8) [none, none, none, none, none, none, none, none, none, none, some (.long r5), none, some (.long (t1 - r4)), none, some (.long (t2 - r5)), none] rfl ?_
        refine g_kill (j := 10) [none, none, none, none, none, none, none, none, none, none, none, none, some (.long (t1 - r4)), none, some (.long (t2 - r5)), none] rfl ?_
        refine g_kill (j := 12) [none, none, none, none, none, none, none, none, none, none, none, none, none, none, some (.long (t2 - r5)), none] rfl ?_
        refine g_kill (j := 14) [none, none, none, none, none, none, none, none, none, none, none, none, none, none, none, none] rfl ?_
        exact w_X5_passJoint_171 a0 a0_1 a0_2 a0_3 a1 a1_1 a1_2 a1_3 a1_4 v_n v_pulses v_front v_least v_window v_lengths v_fractions v_pulseTimes v_pulseEnergies X  r_left r_dropped r_away r_mergings r_drops r_fromNear r_fromFar    v_brought (v_left + (t1 - r4)) w6_dropped w7_away w8_mergings w9_drops w10_fromNear w11_fromFar v_echoes h
    · refine g_lcmp_le X dX5_passJoint_96 97 rfl dX5_passJoint_97 104 (by decide) 100 rfl (fun _ => ?_) (fun hn => absurd hc hn)
      refine g_iconst X 0 dX5_passJoint_104 105 rfl kI_0 ?_
      exact K
    · refine g_lcmp_le X dX5_passJoint_96 97 rfl dX5_passJoint_97 104 (by decide) 100 rfl (fun hn => absurd hn hc) (fun _ => ?_)
      refine g_iconst X 1 dX5_passJoint_100 101 rfl kI_1 ?_
      refine g_goto X dX5_passJoint_101 105 (by decide) ?_
      exact K
  · refine g_lcmp_le X dX5_passJoint_84 85 rfl dX5_passJoint_85 92 (by decide) 88 rfl (fun _ => ?_) (fun hn => absurd hc hn)
    refine g_iconst X 0 dX5_passJoint_92 93 rfl kI_0 ?_
    exact K
  · refine g_lcmp_le X dX5_passJoint_84 85 rfl dX5_passJoint_85 92 (by decide) 88 rfl (fun hn => absurd hn hc) (fun _ => ?_)
    refine g_iconst X 1 dX5_passJoint_88 89 rfl kI_1 ?_
    refine g_goto X dX5_passJoint_89 93 (by decide) ?_
    exact K
/-! LineEchoes$Runner.run(LLineEchoes$Line;)V -/
abbrev rm_X5_run : Room := { frames := 2, cells := 0, slots := 0, locals := 62 }
def B_X5_run_79 (K61 : (Int64) → (Int64) → (Int64) → (Int64) → (Int32) → (Int32) → (Nat → Int64) → (Nat → Int64) → (Nat → Int64) → (Int32) → (Int32) → (Int32) → (Int32) → (Int32) → (Int32) → (Nat → Int32) → (Nat → Int32) → (Nat → Int32) → (Nat → Int32) → Option (Int64 × Int64 × Int64 × Int64 × Int32 × Int32 × (Nat → Int64) × (Nat → Int64) × (Nat → Int64))) (K79 : (Int64) → (Int64) → (Int64) → (Int64) → (Int32) → (Int32) → (Nat → Int64) → (Nat → Int64) → (Nat → Int64) → (Int32) → (Int32) → (Int32) → (Int32) → (Int32) → (Int32) → (Int32) → (Nat → Int32) → (Nat → Int32) → (Nat → Int32) → (Nat → Int32) → Option (Int64 × Int64 × Int64 × Int64 × Int32 × Int32 × (Nat → Int64) × (Nat → Int64) × (Nat → Int64))) (v_brought : Int64) (v_left : Int64) (v_dropped : Int64) (v_away : Int64) (v_mergings : Int32) (v_drops : Int32) (v_fromNear : Nat → Int64) (v_fromFar : Nat → Int64) (v_echoes : Nat → Int64) (x2 : Int32) (x3 : Int32) (v_n : Int32) (v_pulses : Int32) (v_front : Int32) (v_least : Int32) (v_window : Int32) (v_lengths : Nat → Int32) (v_fractions : Nat → Int32) (v_pulseTimes : Nat → Int32) (v_pulseEnergies : Nat → Int32) : Option (Int64 × Int64 × Int64 × Int64 × Int32 × Int32 × (Nat → Int64) × (Nat → Int64) × (Nat → Int64)) :=
  if v_n < x3 then
    (K61 v_brought v_left v_dropped v_away v_mergings v_drops v_fromNear v_fromFar v_echoes (x2 + 1) v_n v_pulses v_front v_least v_window v_lengths v_fractions v_pulseTimes v_pulseEnergies)
  else
    (bd7 (F_X5_passJoint v_left v_dropped v_away v_mergings v_drops v_fromNear v_fromFar v_n v_least v_window v_lengths v_fractions x3 x2) fun w1_left w2_dropped w3_away w4_mergings w5_drops w6_fromNear w7_fromFar =>
    K79 v_brought w1_left w2_dropped w3_away w4_mergings w5_drops w6_fromNear w7_fromFar v_echoes x2 (x3 + 1) v_n v_pulses v_front v_least v_window v_lengths v_fractions v_pulseTimes v_pulseEnergies)
def F_X5_run_79 (K61 : (Int64) → (Int64) → (Int64) → (Int64) → (Int32) → (Int32) → (Nat → Int64) → (Nat → Int64) → (Nat → Int64) → (Int32) → (Int32) → (Int32) → (Int32) → (Int32) → (Int32) → (Nat → Int32) → (Nat → Int32) → (Nat → Int32) → (Nat → Int32) → Option (Int64 × Int64 × Int64 × Int64 × Int32 × Int32 × (Nat → Int64) × (Nat → Int64) × (Nat → Int64))) : Nat → (Int64) → (Int64) → (Int64) → (Int64) → (Int32) → (Int32) → (Nat → Int64) → (Nat → Int64) → (Nat → Int64) → (Int32) → (Int32) → (Int32) → (Int32) → (Int32) → (Int32) → (Int32) → (Nat → Int32) → (Nat → Int32) → (Nat → Int32) → (Nat → Int32) → Option (Int64 × Int64 × Int64 × Int64 × Int32 × Int32 × (Nat → Int64) × (Nat → Int64) × (Nat → Int64))
  | 0 => fun _ _ _ _ _ _ _ _ _ _ _ _ _ _ _ _ _ _ _ _ => none
  | n + 1 => B_X5_run_79 K61 (F_X5_run_79 K61 n)
def B_X5_run_61 (K61 : (Int64) → (Int64) → (Int64) → (Int64) → (Int32) → (Int32) → (Nat → Int64) → (Nat → Int64) → (Nat → Int64) → (Int32) → (Int32) → (Int32) → (Int32) → (Int32) → (Int32) → (Nat → Int32) → (Nat → Int32) → (Nat → Int32) → (Nat → Int32) → Option (Int64 × Int64 × Int64 × Int64 × Int32 × Int32 × (Nat → Int64) × (Nat → Int64) × (Nat → Int64))) (v_brought : Int64) (v_left : Int64) (v_dropped : Int64) (v_away : Int64) (v_mergings : Int32) (v_drops : Int32) (v_fromNear : Nat → Int64) (v_fromFar : Nat → Int64) (v_echoes : Nat → Int64) (x2 : Int32) (v_n : Int32) (v_pulses : Int32) (v_front : Int32) (v_least : Int32) (v_window : Int32) (v_lengths : Nat → Int32) (v_fractions : Nat → Int32) (v_pulseTimes : Nat → Int32) (v_pulseEnergies : Nat → Int32) : Option (Int64 × Int64 × Int64 × Int64 × Int32 × Int32 × (Nat → Int64) × (Nat → Int64) × (Nat → Int64)) :=
  if v_window < x2 then
    (some (v_brought, v_left, v_dropped, v_away, v_mergings, v_drops, v_fromNear, v_fromFar, v_echoes))
  else
    (bd9 (F_X5_passFront v_brought v_left v_dropped v_away v_mergings v_drops v_fromNear v_fromFar v_echoes v_n v_pulses v_front v_least v_window v_lengths v_pulseTimes v_pulseEnergies x2) fun w1_brought w2_left w3_dropped w4_away w5_mergings w6_drops w7_fromNear w8_fromFar w9_echoes =>
    F_X5_run_79 K61 gFU w1_brought w2_left w3_dropped w4_away w5_mergings w6_drops w7_fromNear w8_fromFar w9_echoes x2 1 v_n v_pulses v_front v_least v_window v_lengths v_fractions v_pulseTimes v_pulseEnergies)
def F_X5_run_61 : Nat → (Int64) → (Int64) → (Int64) → (Int64) → (Int32) → (Int32) → (Nat → Int64) → (Nat → Int64) → (Nat → Int64) → (Int32) → (Int32) → (Int32) → (Int32) → (Int32) → (Int32) → (Nat → Int32) → (Nat → Int32) → (Nat → Int32) → (Nat → Int32) → Option (Int64 × Int64 × Int64 × Int64 × Int32 × Int32 × (Nat → Int64) × (Nat → Int64) × (Nat → Int64))
  | 0 => fun _ _ _ _ _ _ _ _ _ _ _ _ _ _ _ _ _ _ _ => none
  | n + 1 => B_X5_run_61 (F_X5_run_61 n)
def F_X5_run (v_fromNear : Nat → Int64) (v_fromFar : Nat → Int64) (v_echoes : Nat → Int64) (v_n : Int32) (v_pulses : Int32) (v_front : Int32) (v_least : Int32) (v_window : Int32) (v_lengths : Nat → Int32) (v_fractions : Nat → Int32) (v_pulseTimes : Nat → Int32) (v_pulseEnergies : Nat → Int32) : Option (Int64 × Int64 × Int64 × Int64 × Int32 × Int32 × (Nat → Int64) × (Nat → Int64) × (Nat → Int64)) :=
  bd1 (F_J8_fill1809 v_fromNear 0) fun w1_a =>
  bd1 (F_J8_fill1809 v_fromFar 0) fun w2_a =>
  bd1 (F_J8_fill201 v_echoes 0) fun w3_a =>
  F_X5_run_61 gFU 0 0 0 0 0 0 w1_a w2_a w3_a 0 v_n v_pulses v_front v_least v_window v_lengths v_fractions v_pulseTimes v_pulseEnergies
theorem w_X5_run_79 {p : Program} {l : Launch} {e : Env} {s : State} {m : MethodId} {args : Array Value} {below : List Frame} {meth : Method} {c : Code} {Z : gZt} {A : Nat → Prop} (a0 : Nat) (a0_1 : Nat) (a0_2 : Nat) (a0_3 : Nat) (a1 : Nat) (a1_1 : Nat) (a1_2 : Nat) (a1_3 : Nat) (a1_4 : Nat) (v_n : Int32) (v_pulses : Int32) (v_front : Int32) (v_least : Int32) (v_window : Int32) (v_lengths : Nat → Int32) (v_fractions : Nat → Int32) (v_pulseTimes : Nat → Int32) (v_pulseEnergies : Nat → Int32) (X : gX p s m args meth c Z A cX5_run "LineEchoes$Runner" 4 none [(a1, .inr (2, [.ref a1_1, .ref a1_2, .int v_n, .ref a1_3, .ref a1_4, .int v_pulses, .int v_front, .int v_least, .int v_window])), (a1_1, .inl (Z.2 0, 8, .inl v_lengths)), (a1_2, .inl (Z.2 0, 8, .inl v_fractions)), (a1_3, .inl (Z.2 0, 4, .inl v_pulseTimes)), (a1_4, .inl (Z.2 0, 4, .inl v_pulseEnergies))]) (r_brought : Int64) (r_left : Int64) (r_dropped : Int64) (r_away : Int64) (r_mergings : Int32) (r_drops : Int32) (r_fromNear : Nat → Int64) (r_fromFar : Nat → Int64) (r_echoes : Nat → Int64) (K61 : (Int64) → (Int64) → (Int64) → (Int64) → (Int32) → (Int32) → (Nat → Int64) → (Nat → Int64) → (Nat → Int64) → (Int32) → (Int32) → (Int32) → (Int32) → (Int32) → (Int32) → (Nat → Int32) → (Nat → Int32) → (Nat → Int32) → (Nat → Int32) → Option (Int64 × Int64 × Int64 × Int64 × Int32 × Int32 × (Nat → Int64) × (Nat → Int64) × (Nat → Int64))) (hK61 : ∀ (v_brought : Int64) (v_left : Int64) (v_dropped : Int64) (v_away : Int64) (v_mergings : Int32) (v_drops : Int32) (v_fromNear : Nat → Int64) (v_fromFar : Nat → Int64) (v_echoes : Nat → Int64) (x2 : Int32), K61 v_brought v_left v_dropped v_away v_mergings v_drops v_fromNear v_fromFar v_echoes x2 v_n v_pulses v_front v_least v_window v_lengths v_fractions v_pulseTimes v_pulseEnergies = some (r_brought, r_left, r_dropped, r_away, r_mergings, r_drops, r_fromNear, r_fromFar, r_echoes) → G p l e rm_X5_run s m args below meth c Z A 4 (MQ below (gPost Z A (fun _ : Unit => (none : Option Value)) (fun _ : Unit => ([(a0, .inr (4, [.ref a0_1, .ref a0_2, .ref a0_3, .ref a1, .long r_brought, .long r_left, .long r_dropped, .long r_away, .int r_mergings, .int r_drops])), (a0_1, .inl (Z.2 1, 1809, .inr (.inl r_fromNear))), (a0_2, .inl (Z.2 1, 1809, .inr (.inl r_fromFar))), (a0_3, .inl (Z.2 1, 201, .inr (.inl r_echoes)))] : va_W))) args s 0 0 A) [(a0, .inr (4, [.ref a0_1, .ref a0_2, .ref a0_3, .ref a1, .long v_brought, .long v_left, .long v_dropped, .long v_away, .int v_mergings, .int v_drops])), (a0_1, .inl (Z.2 1, 1809, .inr (.inl v_fromNear))), (a0_2, .inl (Z.2 1, 1809, .inr (.inl v_fromFar))), (a0_3, .inl (Z.2 1, 201, .inr (.inl v_echoes)))] 0 0 61 [some (.ref a0), none, some (.int x2), none] []) : ∀ (n : Nat) (v_brought : Int64) (v_left : Int64) (v_dropped : Int64) (v_away : Int64) (v_mergings : Int32) (v_drops : Int32) (v_fromNear : Nat → Int64) (v_fromFar : Nat → Int64) (v_echoes : Nat → Int64) (x2 : Int32) (x3 : Int32), F_X5_run_79 K61 n v_brought v_left v_dropped v_away v_mergings v_drops v_fromNear v_fromFar v_echoes x2 x3 v_n v_pulses v_front v_least v_window v_lengths v_fractions v_pulseTimes v_pulseEnergies = some (r_brought, r_left, r_dropped, r_away, r_mergings, r_drops, r_fromNear, r_fromFar, r_echoes) → G p l e rm_X5_run s m args below meth c Z A 4 (MQ below (gPost Z A (fun _ : Unit => (none : Option Value)) (fun _ : Unit => ([(a0, .inr (4, [.ref a0_1, .ref a0_2, .ref a0_3, .ref a1, .long r_brought, .long r_left, .long r_dropped, .long r_away, .int r_mergings, .int r_drops])), (a0_1, .inl (Z.2 1, 1809, .inr (.inl r_fromNear))), (a0_2, .inl (Z.2 1, 1809, .inr (.inl r_fromFar))), (a0_3, .inl (Z.2 1, 201, .inr (.inl r_echoes)))] : va_W))) args s 0 0 A) [(a0, .inr (4, [.ref a0_1, .ref a0_2, .ref a0_3, .ref a1, .long v_brought, .long v_left, .long v_dropped, .long v_away, .int v_mergings, .int v_drops])), (a0_1, .inl (Z.2 1, 1809, .inr (.inl v_fromNear))), (a0_2, .inl (Z.2 1, 1809, .inr (.inl v_fromFar))), (a0_3, .inl (Z.2 1, 201, .inr (.inl v_echoes)))] 0 0 79 [some (.ref a0), none, some (.int x2), some (.int x3)] [] := by
  intro n
  induction n with
  | zero =>
    intro v_brought v_left v_dropped v_away v_mergings v_drops v_fromNear v_fromFar v_echoes x2 x3 h
    cases h
  | succ n hK79 =>
    intro v_brought v_left v_dropped v_away v_mergings v_drops v_fromNear v_fromFar v_echoes x2 x3 h
    replace h : B_X5_run_79 K61 (F_X5_run_79 K61 n) v_brought v_left v_dropped v_away v_mergings v_drops v_fromNear v_fromFar v_echoes x2 x3 v_n v_pulses v_front v_least v_window v_lengths v_fractions v_pulseTimes v_pulseEnergies = some (r_brought, r_left, r_dropped, r_away, r_mergings, r_drops, r_fromNear, r_fromFar, r_echoes) := h
    unfold B_X5_run_79 at h
    refine g_iload_n X rfl dX5_run_79 80 rfl ?_
    refine g_aload_n X rfl dX5_run_80 81 rfl ?_
    refine g_get X gC4 0 rfl 3 (by decide) q212 (fun _ h9 => h9) rfl dX5_run_81 84 rfl ?_
    refine g_getRN X gC2 0 rfl 2 (by decide) q133 (fun _ h9 => h9) rfl dX5_run_84 87 rfl ?_
    refine g_icmp_gt X dX5_run_87 102 (by decide) 90 rfl (fun hc => ?_) (fun hc => ?_)
    · replace h := if_t hc h
      refine g_iinc X 1 rfl dX5_run_102 105 rfl kI_1 (Nat.le_of_ble_eq_true rfl) rfl [some (.ref a0), none, some (.int (x2 + 1)), some (.int x3)] rfl ?_
      refine g_goto X dX5_run_105 61 (by decide) ?_
      refine g_kill (j := 3) [some (.ref a0), none, some (.int (x2 + 1)), none] rfl ?_
      exact hK61 v_brought v_left v_dropped v_away v_mergings v_drops v_fromNear v_fromFar v_echoes (x2 + 1) h
    · replace h := if_f hc h
      refine g_aload_n X rfl dX5_run_90 91 rfl ?_
      refine g_iload_n X rfl dX5_run_91 92 rfl ?_
      refine g_iload_n X rfl dX5_run_92 93 rfl ?_
      obtain ⟨w1_left, w2_dropped, w3_away, w4_mergings, w5_drops, w6_fromNear, w7_fromFar, hcl, h⟩ := bd7_e h
      refine g_callV0W X (met_X5_passJoint l Z a0 a0_1 a0_2 a0_3 a1 a1_1 a1_2 a1_3 a1_4 v_brought v_left v_dropped v_away v_mergings v_drops v_fromNear v_fromFar v_echoes v_n v_pulses v_front v_least v_window v_lengths v_fractions v_pulseTimes v_pulseEnergies x3 x2 w1_left w2_dropped w3_away w4_mergings w5_drops w6_fromNear w7_fromFar hcl) rfl 0 gC4 rfl rfl (lw_V q326 q328 qs3 q73 q329) md_X5_passJoint ⟨(Nat.le_of_ble_eq_true rfl), (Nat.le_of_ble_eq_true rfl)⟩ rfl dX5_run_93 96 rfl 0 0 rfl rfl (Nat.le_of_ble_eq_true rfl) (Nat.le_of_ble_eq_true rfl) (st := []) rfl (Nat.le_of_ble_eq_true rfl) (fun _ => rfl) (fun _ => ?_)
      refine g_iinc X 1 rfl dX5_run_96 99 rfl kI_1 (Nat.le_of_ble_eq_true rfl) rfl [some (.ref a0), none, some (.int x2), some (.int (x3 + 1))] rfl ?_
      refine g_goto X dX5_run_99 79 (by decide) ?_
      exact hK79 v_brought w1_left w2_dropped w3_away w4_mergings w5_drops w6_fromNear w7_fromFar v_echoes x2 (x3 + 1) h
theorem w_X5_run_61 {p : Program} {l : Launch} {e : Env} {s : State} {m : MethodId} {args : Array Value} {below : List Frame} {meth : Method} {c : Code} {Z : gZt} {A : Nat → Prop} (a0 : Nat) (a0_1 : Nat) (a0_2 : Nat) (a0_3 : Nat) (a1 : Nat) (a1_1 : Nat) (a1_2 : Nat) (a1_3 : Nat) (a1_4 : Nat) (v_n : Int32) (v_pulses : Int32) (v_front : Int32) (v_least : Int32) (v_window : Int32) (v_lengths : Nat → Int32) (v_fractions : Nat → Int32) (v_pulseTimes : Nat → Int32) (v_pulseEnergies : Nat → Int32) (X : gX p s m args meth c Z A cX5_run "LineEchoes$Runner" 4 none [(a1, .inr (2, [.ref a1_1, .ref a1_2, .int v_n, .ref a1_3, .ref a1_4, .int v_pulses, .int v_front, .int v_least, .int v_window])), (a1_1, .inl (Z.2 0, 8, .inl v_lengths)), (a1_2, .inl (Z.2 0, 8, .inl v_fractions)), (a1_3, .inl (Z.2 0, 4, .inl v_pulseTimes)), (a1_4, .inl (Z.2 0, 4, .inl v_pulseEnergies))]) (r_brought : Int64) (r_left : Int64) (r_dropped : Int64) (r_away : Int64) (r_mergings : Int32) (r_drops : Int32) (r_fromNear : Nat → Int64) (r_fromFar : Nat → Int64) (r_echoes : Nat → Int64)  : ∀ (n : Nat) (v_brought : Int64) (v_left : Int64) (v_dropped : Int64) (v_away : Int64) (v_mergings : Int32) (v_drops : Int32) (v_fromNear : Nat → Int64) (v_fromFar : Nat → Int64) (v_echoes : Nat → Int64) (x2 : Int32), F_X5_run_61 n v_brought v_left v_dropped v_away v_mergings v_drops v_fromNear v_fromFar v_echoes x2 v_n v_pulses v_front v_least v_window v_lengths v_fractions v_pulseTimes v_pulseEnergies = some (r_brought, r_left, r_dropped, r_away, r_mergings, r_drops, r_fromNear, r_fromFar, r_echoes) → G p l e rm_X5_run s m args below meth c Z A 4 (MQ below (gPost Z A (fun _ : Unit => (none : Option Value)) (fun _ : Unit => ([(a0, .inr (4, [.ref a0_1, .ref a0_2, .ref a0_3, .ref a1, .long r_brought, .long r_left, .long r_dropped, .long r_away, .int r_mergings, .int r_drops])), (a0_1, .inl (Z.2 1, 1809, .inr (.inl r_fromNear))), (a0_2, .inl (Z.2 1, 1809, .inr (.inl r_fromFar))), (a0_3, .inl (Z.2 1, 201, .inr (.inl r_echoes)))] : va_W))) args s 0 0 A) [(a0, .inr (4, [.ref a0_1, .ref a0_2, .ref a0_3, .ref a1, .long v_brought, .long v_left, .long v_dropped, .long v_away, .int v_mergings, .int v_drops])), (a0_1, .inl (Z.2 1, 1809, .inr (.inl v_fromNear))), (a0_2, .inl (Z.2 1, 1809, .inr (.inl v_fromFar))), (a0_3, .inl (Z.2 1, 201, .inr (.inl v_echoes)))] 0 0 61 [some (.ref a0), none, some (.int x2), none] [] := by
  intro n
  induction n with
  | zero =>
    intro v_brought v_left v_dropped v_away v_mergings v_drops v_fromNear v_fromFar v_echoes x2 h
    cases h
  | succ n hK61 =>
    intro v_brought v_left v_dropped v_away v_mergings v_drops v_fromNear v_fromFar v_echoes x2 h
    replace h : B_X5_run_61 (F_X5_run_61 n) v_brought v_left v_dropped v_away v_mergings v_drops v_fromNear v_fromFar v_echoes x2 v_n v_pulses v_front v_least v_window v_lengths v_fractions v_pulseTimes v_pulseEnergies = some (r_brought, r_left, r_dropped, r_away, r_mergings, r_drops, r_fromNear, r_fromFar, r_echoes) := h
    unfold B_X5_run_61 at h
    refine g_iload_n X rfl dX5_run_61 62 rfl ?_
    refine g_aload_n X rfl dX5_run_62 63 rfl ?_
    refine g_get X gC4 0 rfl 3 (by decide) q212 (fun _ h9 => h9) rfl dX5_run_63 66 rfl ?_
    refine g_getRN X gC2 0 rfl 8 (by decide) q151 (fun _ h9 => h9) rfl dX5_run_66 69 rfl ?_
    refine g_icmp_gt X dX5_run_69 108 (by decide) 72 rfl (fun hc => ?_) (fun hc => ?_)
    · replace h := if_t hc h
      cases h
      exact g_vret X dX5_run_108 () rfl rfl (Nat.le_of_ble_eq_true rfl) (Nat.le_of_ble_eq_true rfl)
    · replace h := if_f hc h
      refine g_aload_n X rfl dX5_run_72 73 rfl ?_
      refine g_iload_n X rfl dX5_run_73 74 rfl ?_
      obtain ⟨w1_brought, w2_left, w3_dropped, w4_away, w5_mergings, w6_drops, w7_fromNear, w8_fromFar, w9_echoes, hcl, h⟩ := bd9_e h
      refine g_callV0W X (met_X5_passFront l Z a0 a0_1 a0_2 a0_3 a1 a1_1 a1_2 a1_3 a1_4 v_brought v_left v_dropped v_away v_mergings v_drops v_fromNear v_fromFar v_echoes v_n v_pulses v_front v_least v_window v_lengths v_fractions v_pulseTimes v_pulseEnergies x2 w1_brought w2_left w3_dropped w4_away w5_mergings w6_drops w7_fromNear w8_fromFar w9_echoes hcl) rfl 0 gC4 rfl rfl (lw_V q314 q316 qs1 q73 q317) md_X5_passFront ⟨(Nat.le_of_ble_eq_true rfl), (Nat.le_of_ble_eq_true rfl)⟩ rfl dX5_run_74 77 rfl 0 0 rfl rfl (Nat.le_of_ble_eq_true rfl) (Nat.le_of_ble_eq_true rfl) (st := []) rfl (Nat.le_of_ble_eq_true rfl) (fun _ => rfl) (fun _ => ?_)
      refine g_iconst X 1 dX5_run_77 78 rfl kI_1 ?_
      refine g_istore_n X dX5_run_78 79 rfl (Nat.le_of_ble_eq_true rfl) rfl [some (.ref a0), none, some (.int x2), some (.int 1)] rfl ?_
      exact w_X5_run_79 a0 a0_1 a0_2 a0_3 a1 a1_1 a1_2 a1_3 a1_4 v_n v_pulses v_front v_least v_window v_lengths v_fractions v_pulseTimes v_pulseEnergies X  r_brought r_left r_dropped r_away r_mergings r_drops r_fromNear r_fromFar r_echoes _ hK61  gFU w1_brought w2_left w3_dropped w4_away w5_mergings w6_drops w7_fromNear w8_fromFar w9_echoes x2 1 h
theorem met_X5_run (l : Launch) (Z : gZt) (a0 : Nat) (a0_1 : Nat) (a0_2 : Nat) (a0_3 : Nat) (a1 : Nat) (a1_1 : Nat) (a1_2 : Nat) (a1_3 : Nat) (a1_4 : Nat) (v_line : Option Nat) (v_brought : Int64) (v_left : Int64) (v_dropped : Int64) (v_away : Int64) (v_mergings : Int32) (v_drops : Int32) (v_fromNear : Nat → Int64) (v_fromFar : Nat → Int64) (v_echoes : Nat → Int64) (v_n : Int32) (v_pulses : Int32) (v_front : Int32) (v_least : Int32) (v_window : Int32) (v_lengths : Nat → Int32) (v_fractions : Nat → Int32) (v_pulseTimes : Nat → Int32) (v_pulseEnergies : Nat → Int32) (r_brought : Int64) (r_left : Int64) (r_dropped : Int64) (r_away : Int64) (r_mergings : Int32) (r_drops : Int32) (r_fromNear : Nat → Int64) (r_fromFar : Nat → Int64) (r_echoes : Nat → Int64) (h : F_X5_run v_fromNear v_fromFar v_echoes v_n v_pulses v_front v_least v_window v_lengths v_fractions v_pulseTimes v_pulseEnergies = some (r_brought, r_left, r_dropped, r_away, r_mergings, r_drops, r_fromNear, r_fromFar, r_echoes)) : Ct l yX5_run (ws_ yX5_run cX5_run 4 none) rm_X5_run Z [.ref a0, .ref a1] [(a0, .inr (4, [.ref a0_1, .ref a0_2, .ref a0_3, (va_rf v_line), .long v_brought, .long v_left, .long v_dropped, .long v_away, .int v_mergings, .int v_drops])), (a0_1, .inl (Z.2 1, 1809, .inr (.inl v_fromNear))), (a0_2, .inl (Z.2 1, 1809, .inr (.inl v_fromFar))), (a0_3, .inl (Z.2 1, 201, .inr (.inl v_echoes)))] [(a1, .inr (2, [.ref a1_1, .ref a1_2, .int v_n, .ref a1_3, .ref a1_4, .int v_pulses, .int v_front, .int v_least, .int v_window])), (a1_1, .inl (Z.2 0, 8, .inl v_lengths)), (a1_2, .inl (Z.2 0, 8, .inl v_fractions)), (a1_3, .inl (Z.2 0, 4, .inl v_pulseTimes)), (a1_4, .inl (Z.2 0, 4, .inl v_pulseEnergies))] (fun _ : Unit => (none : Option Value)) (fun _ : Unit => ([(a0, .inr (4, [.ref a0_1, .ref a0_2, .ref a0_3, .ref a1, .long r_brought, .long r_left, .long r_dropped, .long r_away, .int r_mergings, .int r_drops])), (a0_1, .inl (Z.2 1, 1809, .inr (.inl r_fromNear))), (a0_2, .inl (Z.2 1, 1809, .inr (.inl r_fromFar))), (a0_3, .inl (Z.2 1, 201, .inr (.inl r_echoes)))] : va_W)) := by
  refine Ct.of cX5_run 4 none "LineEchoes$Runner" [some (.ref a0), some (.ref a1), none, none] 2 (by decide) rfl (Nat.le_of_ble_eq_true rfl) rfl (fun p e s m args below meth c A X hin => ?_)
  unfold F_X5_run at h
  refine g_aload_n X rfl dX5_run_0 1 rfl ?_
  refine g_aload_n X rfl dX5_run_1 2 rfl ?_
  refine g_put X gC4 0 rfl 3 (by decide) q212 (fun _ h9 => h9) rfl rfl rfl (Nat.le_of_ble_eq_true rfl) dX5_run_2 5 rfl ?_
  refine g_aload_n X rfl dX5_run_5 6 rfl ?_
  refine g_get X gC4 0 rfl 0 (by decide) q209 (fun _ h9 => h9) rfl dX5_run_6 9 rfl ?_
  refine g_lconst X 0 dX5_run_9 10 rfl rfl ?_
  obtain ⟨w1_a, hcl, h⟩ := bd1_e h
  refine g_callS0 X (met_J8_fill1809 l Z a0_1 v_fromNear 0 w1_a hcl) [1] [0, 2, 3] [] (wr := [(a0, .inr (4, [.ref a0_1, .ref a0_2, .ref a0_3, .ref a1, .long v_brought, .long v_left, .long v_dropped, .long v_away, .int v_mergings, .int v_drops])), (a0_2, .inl (Z.2 1, 1809, .inr (.inl v_fromFar))), (a0_3, .inl (Z.2 1, 201, .inr (.inl v_echoes)))]) ⟨rfl, rfl, rfl, rfl, rfl, by decide, by decide⟩ (lw_S q311 q312 q84 q313) md_J8_fill ⟨(Nat.le_of_ble_eq_true rfl), (Nat.le_of_ble_eq_true rfl)⟩ rfl dX5_run_10 13 rfl 0 0 rfl rfl (Nat.le_of_ble_eq_true rfl) (Nat.le_of_ble_eq_true rfl) (st := []) rfl (Nat.le_of_ble_eq_true rfl) (fun _ => rfl) (fun _ => ?_)
  refine g_aload_n X rfl dX5_run_13 14 rfl ?_
  refine g_get X gC4 0 rfl 1 (by decide) q210 (fun _ h9 => h9) rfl dX5_run_14 17 rfl ?_
  refine g_lconst X 0 dX5_run_17 18 rfl rfl ?_
  obtain ⟨w2_a, hcl, h⟩ := bd1_e h
  refine g_callS0 X (met_J8_fill1809 l Z a0_2 v_fromFar 0 w2_a hcl) [1] [0, 2, 3] [] (wr := [(a0, .inr (4, [.ref a0_1, .ref a0_2, .ref a0_3, .ref a1, .long v_brought, .long v_left, .long v_dropped, .long v_away, .int v_mergings, .int v_drops])), (a0_3, .inl (Z.2 1, 201, .inr (.inl v_echoes))), (a0_1, .inl (Z.2 1, 1809, .inr (.inl w1_a)))]) ⟨rfl, rfl, rfl, rfl, rfl, by decide, by decide⟩ (lw_S q311 q312 q84 q313) md_J8_fill ⟨(Nat.le_of_ble_eq_true rfl), (Nat.le_of_ble_eq_true rfl)⟩ rfl dX5_run_18 21 rfl 0 0 rfl rfl (Nat.le_of_ble_eq_true rfl) (Nat.le_of_ble_eq_true rfl) (st := []) rfl (Nat.le_of_ble_eq_true rfl) (fun _ => rfl) (fun _ => ?_)
  refine g_wd [(a0, .inr (4, [.ref a0_1, .ref a0_2, .ref a0_3, .ref a1, .long v_brought, .long v_left, .long v_dropped, .long v_away, .int v_mergings, .int v_drops])), (a0_3, .inl (Z.2 1, 201, .inr (.inl v_echoes))), (a0_1, .inl (Z.2 1, 1809, .inr (.inl w1_a))), (a0_2, .inl (Z.2 1, 1809, .inr (.inl w2_a)))] rfl ?_
  refine g_aload_n X rfl dX5_run_21 22 rfl ?_
  refine g_get X gC4 0 rfl 2 (by decide) q211 (fun _ h9 => h9) rfl dX5_run_22 25 rfl ?_
  refine g_lconst X 0 dX5_run_25 26 rfl rfl ?_
  obtain ⟨w3_a, hcl, h⟩ := bd1_e h
  refine g_callS0 X (met_J8_fill201 l Z a0_3 v_echoes 0 w3_a hcl) [1] [0, 2, 3] [] (wr := [(a0, .inr (4, [.ref a0_1, .ref a0_2, .ref a0_3, .ref a1, .long v_brought, .long v_left, .long v_dropped, .long v_away, .int v_mergings, .int v_drops])), (a0_1, .inl (Z.2 1, 1809, .inr (.inl w1_a))), (a0_2, .inl (Z.2 1, 1809, .inr (.inl w2_a)))]) ⟨rfl, rfl, rfl, rfl, rfl, by decide, by decide⟩ (lw_S q311 q312 q84 q313) md_J8_fill ⟨(Nat.le_of_ble_eq_true rfl), (Nat.le_of_ble_eq_true rfl)⟩ rfl dX5_run_26 29 rfl 0 0 rfl rfl (Nat.le_of_ble_eq_true rfl) (Nat.le_of_ble_eq_true rfl) (st := []) rfl (Nat.le_of_ble_eq_true rfl) (fun _ => rfl) (fun _ => ?_)
  refine g_aload_n X rfl dX5_run_29 30 rfl ?_
  refine g_lconst X 0 dX5_run_30 31 rfl rfl ?_
  refine g_put X gC4 0 rfl 4 (by decide) q213 (fun _ h9 => h9) rfl rfl rfl (Nat.le_of_ble_eq_true rfl) dX5_run_31 34 rfl ?_
  refine g_aload_n X rfl dX5_run_34 35 rfl ?_
  refine g_lconst X 0 dX5_run_35 36 rfl rfl ?_
  refine g_put X gC4 0 rfl 5 (by decide) q214 (fun _ h9 => h9) rfl rfl rfl (Nat.le_of_ble_eq_true rfl) dX5_run_36 39 rfl ?_
  refine g_aload_n X rfl dX5_run_39 40 rfl ?_
  refine g_lconst X 0 dX5_run_40 41 rfl rfl ?_
  refine g_put X gC4 0 rfl 6 (by decide) q215 (fun _ h9 => h9) rfl rfl rfl (Nat.le_of_ble_eq_true rfl) dX5_run_41 44 rfl ?_
  refine g_wd [(a0, .inr (4, [.ref a0_1, .ref a0_2, .ref a0_3, .ref a1, .long 0, .long 0, .long 0, .long v_away, .int v_mergings, .int v_drops])), (a0_1, .inl (Z.2 1, 1809, .inr (.inl w1_a))), (a0_2, .inl (Z.2 1, 1809, .inr (.inl w2_a))), (a0_3, .inl (Z.2 1, 201, .inr (.inl w3_a)))] rfl ?_
  refine g_aload_n X rfl dX5_run_44 45 rfl ?_
  refine g_lconst X 0 dX5_run_45 46 rfl rfl ?_
  refine g_put X gC4 0 rfl 7 (by decide) q216 (fun _ h9 => h9) rfl rfl rfl (Nat.le_of_ble_eq_true rfl) dX5_run_46 49 rfl ?_
  refine g_aload_n X rfl dX5_run_49 50 rfl ?_
  refine g_iconst X 0 dX5_run_50 51 rfl kI_0 ?_
  refine g_put X gC4 0 rfl 8 (by decide) q217 (fun _ h9 => h9) rfl rfl rfl (Nat.le_of_ble_eq_true rfl) dX5_run_51 54 rfl ?_
  refine g_aload_n X rfl dX5_run_54 55 rfl ?_
  refine g_iconst X 0 dX5_run_55 56 rfl kI_0 ?_
  refine g_put X gC4 0 rfl 9 (by decide) q218 (fun _ h9 => h9) rfl rfl rfl (Nat.le_of_ble_eq_true rfl) dX5_run_56 59 rfl ?_
  refine g_iconst X 0 dX5_run_59 60 rfl kI_0 ?_
  refine g_istore_n X dX5_run_60 61 rfl (Nat.le_of_ble_eq_true rfl) rfl [some (.ref a0), some (.ref a1), some (.int 0), none] rfl ?_
  refine g_kill (j := 1) [some (.ref a0), none, some (.int 0), none] rfl ?_
  exact w_X5_run_61 a0 a0_1 a0_2 a0_3 a1 a1_1 a1_2 a1_3 a1_4 v_n v_pulses v_front v_least v_window v_lengths v_fractions v_pulseTimes v_pulseEnergies X  r_brought r_left r_dropped r_away r_mergings r_drops r_fromNear r_fromFar r_echoes    gFU 0 0 0 0 0 0 w1_a w2_a w3_a 0 h
/-! LineEchoes$Runner.sumOfEchoes()J -/
abbrev rm_X5_sumOfEchoes : Room := { frames := 0, cells := 0, slots := 0, locals := 0 }
def B_X5_sumOfEchoes_14 (K14 : (Int64) → (Int32) → (Int32) → (Nat → Int64) → Option (Int64)) (x1 : Int64) (x4 : Int32) (x5 : Int32) (v_echoes : Nat → Int64) : Option (Int64) :=
  if x4 ≤ x5 then
    (some x1)
  else
    (gin x5 201 <|
    nm (x1 + (v_echoes x5.toNatClampNeg)) fun t1 =>
    K14 t1 x4 (x5 + 1) v_echoes)
def F_X5_sumOfEchoes_14 : Nat → (Int64) → (Int32) → (Int32) → (Nat → Int64) → Option (Int64)
  | 0 => fun _ _ _ _ => none
  | n + 1 => B_X5_sumOfEchoes_14 (F_X5_sumOfEchoes_14 n)
def F_X5_sumOfEchoes (v_echoes : Nat → Int64) : Option (Int64) :=
  F_X5_sumOfEchoes_14 gFU 0 201 0 v_echoes
theorem w_X5_sumOfEchoes_14 {p : Program} {l : Launch} {e : Env} {s : State} {m : MethodId} {args : Array Value} {below : List Frame} {meth : Method} {c : Code} {Z : gZt} {A : Nat → Prop} (a0 : Nat) (a0_1 : Nat) (a0_2 : Nat) (a0_3 : Nat) (v_line : Option Nat) (v_brought : Int64) (v_left : Int64) (v_dropped : Int64) (v_away : Int64) (v_mergings : Int32) (v_drops : Int32) (v_fromNear : Nat → Int64) (v_fromFar : Nat → Int64) (v_echoes : Nat → Int64) (X : gX p s m args meth c Z A cX5_sumOfEchoes "LineEchoes$Runner" 8 (some .long) [(a0, .inr (4, [.ref a0_1, .ref a0_2, .ref a0_3, (va_rf v_line), .long v_brought, .long v_left, .long v_dropped, .long v_away, .int v_mergings, .int v_drops])), (a0_1, .inl (Z.2 1, 1809, .inr (.inl v_fromNear))), (a0_2, .inl (Z.2 1, 1809, .inr (.inl v_fromFar))), (a0_3, .inl (Z.2 1, 201, .inr (.inl v_echoes)))]) (r : Int64)  : ∀ (n : Nat) (x1 : Int64) (x4 : Int32) (x5 : Int32), F_X5_sumOfEchoes_14 n x1 x4 x5 v_echoes = some r → G p l e rm_X5_sumOfEchoes s m args below meth c Z A 8 (MQ below (gPost Z A (fun _ : Unit => (some (.long r) : Option Value)) (fun _ : Unit => ([] : va_W))) args s 0 0 A) [] 0 0 14 [none, some (.long x1), none, some (.ref a0_3), some (.int x4), some (.int x5), none, none] [] := by
  intro n
  induction n with
  | zero =>
    intro x1 x4 x5 h
    cases h
  | succ n hK14 =>
    intro x1 x4 x5 h
    replace h : B_X5_sumOfEchoes_14 (F_X5_sumOfEchoes_14 n) x1 x4 x5 v_echoes = some r := h
    unfold B_X5_sumOfEchoes_14 at h
    refine g_iload X rfl dX5_sumOfEchoes_14 16 rfl ?_
    refine g_iload X rfl dX5_sumOfEchoes_16 18 rfl ?_
    refine g_icmp_ge X dX5_sumOfEchoes_18 38 (by decide) 21 rfl (fun hc => ?_) (fun hc => ?_)
    · replace h := if_t hc h
      refine g_lload_n X rfl dX5_sumOfEchoes_38 39 rfl ?_
      cases h
      exact g_lret X dX5_sumOfEchoes_39 () rfl rfl (Nat.le_of_ble_eq_true rfl) (Nat.le_of_ble_eq_true rfl)
    · replace h := if_f hc h
      refine g_aload_n X rfl dX5_sumOfEchoes_21 22 rfl ?_
      refine g_iload X rfl dX5_sumOfEchoes_22 24 rfl ?_
      obtain ⟨hi, h⟩ := gin_e h
      refine g_laldR X 3 rfl hi dX5_sumOfEchoes_24 25 rfl ?_
      refine g_lstore X dX5_sumOfEchoes_25 27 rfl (Nat.le_of_ble_eq_true rfl) rfl [none, some (.long x1), none, some (.ref a0_3), some (.int x4), some (.int x5), some (.long (v_echoes x5.toNatClampNeg)), none] rfl ?_
      refine g_lload_n X rfl dX5_sumOfEchoes_27 28 rfl ?_
      refine g_lload X rfl dX5_sumOfEchoes_28 30 rfl ?_
      refine g_ladd X dX5_sumOfEchoes_30 31 rfl ?_
      refine g_topl (fun t1 et1 => ?_)
      replace h := nm_at et1 h
      refine g_lstore_n X dX5_sumOfEchoes_31 32 rfl (Nat.le_of_ble_eq_true rfl) rfl [none, some (.long t1), none, some (.ref a0_3), some (.int x4), some (.int x5), some (.long (v_echoes x5.toNatClampNeg)), none] rfl ?_
      refine g_iinc X 1 rfl dX5_sumOfEchoes_32 35 rfl kI_1 (Nat.le_of_ble_eq_true rfl) rfl [none, some (.long t1), none, some (.ref a0_3), some (.int x4), some (.int (x5 + 1)), some (.long (v_echoes x5.toNatClampNeg)), none] rfl ?_
      refine g_goto X dX5_sumOfEchoes_35 14 (by decide) ?_
      refine g_kill (j := 6) [none, some (.long t1), none, some (.ref a0_3), some (.int x4), some (.int (x5 + 1)), none, none] rfl ?_
      exact hK14 t1 x4 (x5 + 1) h
theorem met_X5_sumOfEchoes (l : Launch) (Z : gZt) (a0 : Nat) (a0_1 : Nat) (a0_2 : Nat) (a0_3 : Nat) (v_line : Option Nat) (v_brought : Int64) (v_left : Int64) (v_dropped : Int64) (v_away : Int64) (v_mergings : Int32) (v_drops : Int32) (v_fromNear : Nat → Int64) (v_fromFar : Nat → Int64) (v_echoes : Nat → Int64) (r : Int64) (h : F_X5_sumOfEchoes v_echoes = some r) : Ct l yX5_sumOfEchoes (ws_ yX5_sumOfEchoes cX5_sumOfEchoes 8 (some .long)) rm_X5_sumOfEchoes Z [.ref a0] [] [(a0, .inr (4, [.ref a0_1, .ref a0_2, .ref a0_3, (va_rf v_line), .long v_brought, .long v_left, .long v_dropped, .long v_away, .int v_mergings, .int v_drops])), (a0_1, .inl (Z.2 1, 1809, .inr (.inl v_fromNear))), (a0_2, .inl (Z.2 1, 1809, .inr (.inl v_fromFar))), (a0_3, .inl (Z.2 1, 201, .inr (.inl v_echoes)))] (fun _ : Unit => (some (.long r) : Option Value)) (fun _ : Unit => ([] : va_W)) := by
  refine Ct.of cX5_sumOfEchoes 8 (some .long) "LineEchoes$Runner" [some (.ref a0), none, none, none, none, none, none, none] 7 (by decide) rfl (Nat.le_of_ble_eq_true rfl) rfl (fun p e s m args below meth c A X hin => ?_)
  unfold F_X5_sumOfEchoes at h
  refine g_lconst X 0 dX5_sumOfEchoes_0 1 rfl rfl ?_
  refine g_lstore_n X dX5_sumOfEchoes_1 2 rfl (Nat.le_of_ble_eq_true rfl) rfl [some (.ref a0), some (.long 0), none, none, none, none, none, none] rfl ?_
  refine g_aload_n X rfl dX5_sumOfEchoes_2 3 rfl ?_
  refine g_getR X gC4 0 rfl 2 (by decide) q211 (fun _ h9 => h9) rfl dX5_sumOfEchoes_3 6 rfl ?_
  refine g_astore_n X dX5_sumOfEchoes_6 7 rfl (Nat.le_of_ble_eq_true rfl) rfl [some (.ref a0), some (.long 0), none, some (.ref a0_3), none, none, none, none] rfl ?_
  refine g_aload_n X rfl dX5_sumOfEchoes_7 8 rfl ?_
  refine g_alen1R X 3 rfl 201 rfl dX5_sumOfEchoes_8 9 rfl ?_
  refine g_istore X dX5_sumOfEchoes_9 11 rfl (Nat.le_of_ble_eq_true rfl) rfl [some (.ref a0), some (.long 0), none, some (.ref a0_3), some (.int 201), none, none, none] rfl ?_
  refine g_iconst X 0 dX5_sumOfEchoes_11 12 rfl kI_0 ?_
  refine g_istore X dX5_sumOfEchoes_12 14 rfl (Nat.le_of_ble_eq_true rfl) rfl [some (.ref a0), some (.long 0), none, some (.ref a0_3), some (.int 201), some (.int 0), none, none] rfl ?_
  refine g_kill (j := 0) [none, some (.long 0), none, some (.ref a0_3), some (.int 201), some (.int 0), none, none] rfl ?_
  exact w_X5_sumOfEchoes_14 a0 a0_1 a0_2 a0_3 v_line v_brought v_left v_dropped v_away v_mergings v_drops v_fromNear v_fromFar v_echoes X  r    gFU 0 201 0 h
/-! LineEchoes$Echoes.count(I)I -/
abbrev rm_X7_count : Room := { frames := 1, cells := 0, slots := 0, locals := 21 }
def B_X7_count_4 (K4 : (Int32) → (Int32) → (Int32) → (Nat → Int64) → Option (Int32)) (x1 : Int32) (x2 : Int32) (x3 : Int32) (v_echoes : Nat → Int64) : Option (Int32) :=
  if x1 < x3 then
    (some x2)
  else
    (bd1 (F_X5_at v_echoes x3) fun r1 =>
    nm (x2 + (if r1 ≤ 0 then (0 : Int32) else 1)) fun t2 =>
    K4 x1 t2 (x3 + 1) v_echoes)
def F_X7_count_4 : Nat → (Int32) → (Int32) → (Int32) → (Nat → Int64) → Option (Int32)
  | 0 => fun _ _ _ _ => none
  | n + 1 => B_X7_count_4 (F_X7_count_4 n)
def F_X7_count (v_echoes : Nat → Int64) (x1 : Int32) : Option (Int32) :=
  F_X7_count_4 gFU x1 0 0 v_echoes
theorem w_X7_count_4 {p : Program} {l : Launch} {e : Env} {s : State} {m : MethodId} {args : Array Value} {below : List Frame} {meth : Method} {c : Code} {Z : gZt} {A : Nat → Prop} (a0 : Nat) (a0_1 : Nat) (a0_2 : Nat) (a0_3 : Nat) (v_line : Option Nat) (v_brought : Int64) (v_left : Int64) (v_dropped : Int64) (v_away : Int64) (v_mergings : Int32) (v_drops : Int32) (v_fromNear : Nat → Int64) (v_fromFar : Nat → Int64) (v_echoes : Nat → Int64) (X : gX p s m args meth c Z A cX7_count "LineEchoes$Echoes" 4 (some .int) [(a0, .inr (4, [.ref a0_1, .ref a0_2, .ref a0_3, (va_rf v_line), .long v_brought, .long v_left, .long v_dropped, .long v_away, .int v_mergings, .int v_drops])), (a0_1, .inl (Z.2 1, 1809, .inr (.inl v_fromNear))), (a0_2, .inl (Z.2 1, 1809, .inr (.inl v_fromFar))), (a0_3, .inl (Z.2 1, 201, .inr (.inl v_echoes)))]) (r : Int32)  : ∀ (n : Nat) (x1 : Int32) (x2 : Int32) (x3 : Int32), F_X7_count_4 n x1 x2 x3 v_echoes = some r → G p l e rm_X7_count s m args below meth c Z A 4 (MQ below (gPost Z A (fun _ : Unit => (some (.int r) : Option Value)) (fun _ : Unit => ([] : va_W))) args s 0 0 A) [] 0 0 4 [some (.ref a0), some (.int x1), some (.int x2), some (.int x3)] [] := by
  intro n
  induction n with
  | zero =>
    intro x1 x2 x3 h
    cases h
  | succ n hK4 =>
    intro x1 x2 x3 h
    replace h : B_X7_count_4 (F_X7_count_4 n) x1 x2 x3 v_echoes = some r := h
    unfold B_X7_count_4 at h
    refine g_iload_n X rfl dX7_count_4 5 rfl ?_
    refine g_iload_n X rfl dX7_count_5 6 rfl ?_
    refine g_icmp_gt X dX7_count_6 35 (by decide) 9 rfl (fun hc => ?_) (fun hc => ?_)
    · replace h := if_t hc h
      refine g_iload_n X rfl dX7_count_35 36 rfl ?_
      cases h
      exact g_iret X dX7_count_36 () rfl rfl (Nat.le_of_ble_eq_true rfl) (Nat.le_of_ble_eq_true rfl)
    · replace h := if_f hc h
      refine g_iload_n X rfl dX7_count_9 10 rfl ?_
      refine g_aload_n X rfl dX7_count_10 11 rfl ?_
      refine g_iload_n X rfl dX7_count_11 12 rfl ?_
      obtain ⟨r1, hcl, h⟩ := bd1_e h
      refine g_callF1W X (met_X5_at l Z a0 a0_1 a0_2 a0_3 v_line v_brought v_left v_dropped v_away v_mergings v_drops v_fromNear v_fromFar v_echoes x3 r1 hcl) rfl 0 gC4 rfl (lw_F q357 q346 q348 q73 q350) X.kk.2.2.2.2.1 md_At ⟨(Nat.le_of_ble_eq_true rfl), (Nat.le_of_ble_eq_true rfl)⟩ rfl dX7_count_12 17 rfl 0 0 rfl rfl (Nat.le_of_ble_eq_true rfl) (Nat.le_of_ble_eq_true rfl) (st := [.int x2]) rfl (Nat.le_of_ble_eq_true rfl) (fun _ => rfl) (fun _ => ?_)
      refine g_lconst X 0 dX7_count_17 18 rfl rfl ?_
      refine g_seli 27 [.int x2] (b := r1 ≤ 0) 0 1 ?_ (fun hc K => ?_) (fun hc K => ?_)
      · refine g_iadd X dX7_count_27 28 rfl ?_
        refine g_topi (fun t2 et2 => ?_)
        replace h := nm_at et2 h
        refine g_istore_n X dX7_count_28 29 rfl (Nat.le_of_ble_eq_true rfl) rfl [some (.ref a0), some (.int x1), some (.int t2), some (.int x3)] rfl ?_
        refine g_iinc X 1 rfl dX7_count_29 32 rfl kI_1 (Nat.le_of_ble_eq_true rfl) rfl [some (.ref a0), some (.int x1), some (.int t2), some (.int (x3 + 1))] rfl ?_
        refine g_goto X dX7_count_32 4 (by decide) ?_
        exact hK4 x1 t2 (x3 + 1) h
      · refine g_lcmp_le X dX7_count_18 19 rfl dX7_count_19 26 (by decide) 22 rfl (fun _ => ?_) (fun hn => absurd hc hn)
        refine g_iconst X 0 dX7_count_26 27 rfl kI_0 ?_
        exact K
      · refine g_lcmp_le X dX7_count_18 19 rfl dX7_count_19 26 (by decide) 22 rfl (fun hn => absurd hn hc) (fun _ => ?_)
        refine g_iconst X 1 dX7_count_22 23 rfl kI_1 ?_
        refine g_goto X dX7_count_23 27 (by decide) ?_
        exact K
theorem met_X7_count (l : Launch) (Z : gZt) (a0 : Nat) (a0_1 : Nat) (a0_2 : Nat) (a0_3 : Nat) (v_line : Option Nat) (v_brought : Int64) (v_left : Int64) (v_dropped : Int64) (v_away : Int64) (v_mergings : Int32) (v_drops : Int32) (v_fromNear : Nat → Int64) (v_fromFar : Nat → Int64) (v_echoes : Nat → Int64) (x1 : Int32) (r : Int32) (h : F_X7_count v_echoes x1 = some r) : Ct l yX7_count (ws_ yX7_count cX7_count 4 (some .int)) rm_X7_count Z [.ref a0, .int x1] [] [(a0, .inr (4, [.ref a0_1, .ref a0_2, .ref a0_3, (va_rf v_line), .long v_brought, .long v_left, .long v_dropped, .long v_away, .int v_mergings, .int v_drops])), (a0_1, .inl (Z.2 1, 1809, .inr (.inl v_fromNear))), (a0_2, .inl (Z.2 1, 1809, .inr (.inl v_fromFar))), (a0_3, .inl (Z.2 1, 201, .inr (.inl v_echoes)))] (fun _ : Unit => (some (.int r) : Option Value)) (fun _ : Unit => ([] : va_W)) := by
  refine Ct.of cX7_count 4 (some .int) "LineEchoes$Echoes" [some (.ref a0), some (.int x1), none, none] 2 (by decide) rfl (Nat.le_of_ble_eq_true rfl) rfl (fun p e s m args below meth c A X hin => ?_)
  unfold F_X7_count at h
  refine g_iconst X 0 dX7_count_0 1 rfl kI_0 ?_
  refine g_istore_n X dX7_count_1 2 rfl (Nat.le_of_ble_eq_true rfl) rfl [some (.ref a0), some (.int x1), some (.int 0), none] rfl ?_
  refine g_iconst X 0 dX7_count_2 3 rfl kI_0 ?_
  refine g_istore_n X dX7_count_3 4 rfl (Nat.le_of_ble_eq_true rfl) rfl [some (.ref a0), some (.int x1), some (.int 0), some (.int 0)] rfl ?_
  exact w_X7_count_4 a0 a0_1 a0_2 a0_3 v_line v_brought v_left v_dropped v_away v_mergings v_drops v_fromNear v_fromFar v_echoes X  r    gFU x1 0 0 h
/-! LineEchoes$Echoes.greatest(I)J -/
abbrev rm_X7_greatest : Room := { frames := 1, cells := 0, slots := 0, locals := 30 }
def B_X7_greatest_5 (K5 : (Int32) → (Int64) → (Int32) → (Nat → Int64) → Option (Int64)) (x1 : Int32) (x2 : Int64) (x4 : Int32) (v_echoes : Nat → Int64) : Option (Int64) :=
  if x1 < x4 then
    (some x2)
  else
    (bd1 (F_X5_at v_echoes x4) fun r1 =>
    K5 x1 (if r1 < x2 then x2 else r1) (x4 + 1) v_echoes)
def F_X7_greatest_5 : Nat → (Int32) → (Int64) → (Int32) → (Nat → Int64) → Option (Int64)
  | 0 => fun _ _ _ _ => none
  | n + 1 => B_X7_greatest_5 (F_X7_greatest_5 n)
def F_X7_greatest (v_echoes : Nat → Int64) (x1 : Int32) : Option (Int64) :=
  F_X7_greatest_5 gFU x1 0 0 v_echoes
theorem w_X7_greatest_5 {p : Program} {l : Launch} {e : Env} {s : State} {m : MethodId} {args : Array Value} {below : List Frame} {meth : Method} {c : Code} {Z : gZt} {A : Nat → Prop} (a0 : Nat) (a0_1 : Nat) (a0_2 : Nat) (a0_3 : Nat) (v_line : Option Nat) (v_brought : Int64) (v_left : Int64) (v_dropped : Int64) (v_away : Int64) (v_mergings : Int32) (v_drops : Int32) (v_fromNear : Nat → Int64) (v_fromFar : Nat → Int64) (v_echoes : Nat → Int64) (X : gX p s m args meth c Z A cX7_greatest "LineEchoes$Echoes" 5 (some .long) [(a0, .inr (4, [.ref a0_1, .ref a0_2, .ref a0_3, (va_rf v_line), .long v_brought, .long v_left, .long v_dropped, .long v_away, .int v_mergings, .int v_drops])), (a0_1, .inl (Z.2 1, 1809, .inr (.inl v_fromNear))), (a0_2, .inl (Z.2 1, 1809, .inr (.inl v_fromFar))), (a0_3, .inl (Z.2 1, 201, .inr (.inl v_echoes)))]) (r : Int64)  : ∀ (n : Nat) (x1 : Int32) (x2 : Int64) (x4 : Int32), F_X7_greatest_5 n x1 x2 x4 v_echoes = some r → G p l e rm_X7_greatest s m args below meth c Z A 5 (MQ below (gPost Z A (fun _ : Unit => (some (.long r) : Option Value)) (fun _ : Unit => ([] : va_W))) args s 0 0 A) [] 0 0 5 [some (.ref a0), some (.int x1), some (.long x2), none, some (.int x4)] [] := by
  intro n
  induction n with
  | zero =>
    intro x1 x2 x4 h
    cases h
  | succ n hK5 =>
    intro x1 x2 x4 h
    replace h : B_X7_greatest_5 (F_X7_greatest_5 n) x1 x2 x4 v_echoes = some r := h
    unfold B_X7_greatest_5 at h
    refine g_iload X rfl dX7_greatest_5 7 rfl ?_
    refine g_iload_n X rfl dX7_greatest_7 8 rfl ?_
    refine g_icmp_gt X dX7_greatest_8 30 (by decide) 11 rfl (fun hc => ?_) (fun hc => ?_)
    · replace h := if_t hc h
      refine g_lload_n X rfl dX7_greatest_30 31 rfl ?_
      cases h
      exact g_lret X dX7_greatest_31 () rfl rfl (Nat.le_of_ble_eq_true rfl) (Nat.le_of_ble_eq_true rfl)
    · replace h := if_f hc h
      refine g_lload_n X rfl dX7_greatest_11 12 rfl ?_
      refine g_aload_n X rfl dX7_greatest_12 13 rfl ?_
      refine g_iload X rfl dX7_greatest_13 15 rfl ?_
      obtain ⟨r1, hcl, h⟩ := bd1_e h
      refine g_callF1W X (met_X5_at l Z a0 a0_1 a0_2 a0_3 v_line v_brought v_left v_dropped v_away v_mergings v_drops v_fromNear v_fromFar v_echoes x4 r1 hcl) rfl 0 gC4 rfl (lw_F q357 q346 q348 q73 q350) X.kk.2.2.2.2.1 md_At ⟨(Nat.le_of_ble_eq_true rfl), (Nat.le_of_ble_eq_true rfl)⟩ rfl dX7_greatest_15 20 rfl 0 0 rfl rfl (Nat.le_of_ble_eq_true rfl) (Nat.le_of_ble_eq_true rfl) (st := [.long x2]) rfl (Nat.le_of_ble_eq_true rfl) (fun _ => rfl) (fun _ => ?_)
      refine g_mmaxl X q1052 q1053 q86 q1054 dX7_greatest_20 23 rfl (Nat.le_of_ble_eq_true rfl) (Nat.le_of_ble_eq_true rfl) (Nat.le_of_ble_eq_true rfl) (Nat.le_of_ble_eq_true rfl) ?_
      refine g_lstore_n X dX7_greatest_23 24 rfl (Nat.le_of_ble_eq_true rfl) rfl [some (.ref a0), some (.int x1), some (.long (if r1 < x2 then x2 else r1)), none, some (.int x4)] rfl ?_
      refine g_iinc X 1 rfl dX7_greatest_24 27 rfl kI_1 (Nat.le_of_ble_eq_true rfl) rfl [some (.ref a0), some (.int x1), some (.long (if r1 < x2 then x2 else r1)), none, some (.int (x4 + 1))] rfl ?_
      refine g_goto X dX7_greatest_27 5 (by decide) ?_
      exact hK5 x1 (if r1 < x2 then x2 else r1) (x4 + 1) h
theorem met_X7_greatest (l : Launch) (Z : gZt) (a0 : Nat) (a0_1 : Nat) (a0_2 : Nat) (a0_3 : Nat) (v_line : Option Nat) (v_brought : Int64) (v_left : Int64) (v_dropped : Int64) (v_away : Int64) (v_mergings : Int32) (v_drops : Int32) (v_fromNear : Nat → Int64) (v_fromFar : Nat → Int64) (v_echoes : Nat → Int64) (x1 : Int32) (r : Int64) (h : F_X7_greatest v_echoes x1 = some r) : Ct l yX7_greatest (ws_ yX7_greatest cX7_greatest 5 (some .long)) rm_X7_greatest Z [.ref a0, .int x1] [] [(a0, .inr (4, [.ref a0_1, .ref a0_2, .ref a0_3, (va_rf v_line), .long v_brought, .long v_left, .long v_dropped, .long v_away, .int v_mergings, .int v_drops])), (a0_1, .inl (Z.2 1, 1809, .inr (.inl v_fromNear))), (a0_2, .inl (Z.2 1, 1809, .inr (.inl v_fromFar))), (a0_3, .inl (Z.2 1, 201, .inr (.inl v_echoes)))] (fun _ : Unit => (some (.long r) : Option Value)) (fun _ : Unit => ([] : va_W)) := by
  refine Ct.of cX7_greatest 5 (some .long) "LineEchoes$Echoes" [some (.ref a0), some (.int x1), none, none, none] 3 (by decide) rfl (Nat.le_of_ble_eq_true rfl) rfl (fun p e s m args below meth c A X hin => ?_)
  unfold F_X7_greatest at h
  refine g_lconst X 0 dX7_greatest_0 1 rfl rfl ?_
  refine g_lstore_n X dX7_greatest_1 2 rfl (Nat.le_of_ble_eq_true rfl) rfl [some (.ref a0), some (.int x1), some (.long 0), none, none] rfl ?_
  refine g_iconst X 0 dX7_greatest_2 3 rfl kI_0 ?_
  refine g_istore X dX7_greatest_3 5 rfl (Nat.le_of_ble_eq_true rfl) rfl [some (.ref a0), some (.int x1), some (.long 0), none, some (.int 0)] rfl ?_
  exact w_X7_greatest_5 a0 a0_1 a0_2 a0_3 v_line v_brought v_left v_dropped v_away v_mergings v_drops v_fromNear v_fromFar v_echoes X  r    gFU x1 0 0 h
/-! LineEchoes$Echoes.firstDifference(LLineEchoes$Echoes;I)I -/
abbrev rm_X7_firstDifference : Room := { frames := 1, cells := 0, slots := 0, locals := 21 }
def B_X7_firstDifference_2 (K2 : (Int32) → (Int32) → (Nat → Int64) → (Nat → Int64) → Option (Int32)) (x2 : Int32) (x3 : Int32) (v_echoes : Nat → Int64) (v_energies : Nat → Int64) : Option (Int32) :=
  if x2 < x3 then
    (some (-1))
  else
    (bd1 (F_X5_at v_echoes x3) fun r1 =>
    bd1 (F_X4_at v_energies x3) fun r2 =>
    if r1 = r2 then
      (K2 x2 (x3 + 1) v_echoes v_energies)
    else
      (some x3))
def F_X7_firstDifference_2 : Nat → (Int32) → (Int32) → (Nat → Int64) → (Nat → Int64) → Option (Int32)
  | 0 => fun _ _ _ _ => none
  | n + 1 => B_X7_firstDifference_2 (F_X7_firstDifference_2 n)
def F_X7_firstDifference (v_echoes : Nat → Int64) (v_energies : Nat → Int64) (x2 : Int32) : Option (Int32) :=
  F_X7_firstDifference_2 gFU x2 0 v_echoes v_energies
theorem w_X7_firstDifference_2 {p : Program} {l : Launch} {e : Env} {s : State} {m : MethodId} {args : Array Value} {below : List Frame} {meth : Method} {c : Code} {Z : gZt} {A : Nat → Prop} (a0 : Nat) (a0_1 : Nat) (a0_2 : Nat) (a0_3 : Nat) (a2 : Nat) (a2_1 : Nat) (v_line : Option Nat) (v_brought : Int64) (v_left : Int64) (v_dropped : Int64) (v_away : Int64) (v_mergings : Int32) (v_drops : Int32) (v_fromNear : Nat → Int64) (v_fromFar : Nat → Int64) (v_echoes : Nat → Int64) (v_energies : Nat → Int64) (X : gX p s m args meth c Z A cX7_firstDifference "LineEchoes$Echoes" 4 (some .int) [(a0, .inr (4, [.ref a0_1, .ref a0_2, .ref a0_3, (va_rf v_line), .long v_brought, .long v_left, .long v_dropped, .long v_away, .int v_mergings, .int v_drops])), (a0_1, .inl (Z.2 1, 1809, .inr (.inl v_fromNear))), (a0_2, .inl (Z.2 1, 1809, .inr (.inl v_fromFar))), (a0_3, .inl (Z.2 1, 201, .inr (.inl v_echoes))), (a2, .inr (3, [.ref a2_1])), (a2_1, .inl (Z.2 1, 201, .inr (.inl v_energies)))]) (r : Int32)  : ∀ (n : Nat) (x2 : Int32) (x3 : Int32), F_X7_firstDifference_2 n x2 x3 v_echoes v_energies = some r → G p l e rm_X7_firstDifference s m args below meth c Z A 4 (MQ below (gPost Z A (fun _ : Unit => (some (.int r) : Option Value)) (fun _ : Unit => ([] : va_W))) args s 0 0 A) [] 0 0 2 [some (.ref a0), some (.ref a2), some (.int x2), some (.int x3)] [] := by
  intro n
  induction n with
  | zero =>
    intro x2 x3 h
    cases h
  | succ n hK2 =>
    intro x2 x3 h
    replace h : B_X7_firstDifference_2 (F_X7_firstDifference_2 n) x2 x3 v_echoes v_energies = some r := h
    unfold B_X7_firstDifference_2 at h
    refine g_iload_n X rfl dX7_firstDifference_2 3 rfl ?_
    refine g_iload_n X rfl dX7_firstDifference_3 4 rfl ?_
    refine g_icmp_gt X dX7_firstDifference_4 33 (by decide) 7 rfl (fun hc => ?_) (fun hc => ?_)
    · replace h := if_t hc h
      refine g_iconst X (-1) dX7_firstDifference_33 34 rfl kI_m1 ?_
      cases h
      exact g_iret X dX7_firstDifference_34 () rfl rfl (Nat.le_of_ble_eq_true rfl) (Nat.le_of_ble_eq_true rfl)
    · replace h := if_f hc h
      refine g_aload_n X rfl dX7_firstDifference_7 8 rfl ?_
      refine g_iload_n X rfl dX7_firstDifference_8 9 rfl ?_
      obtain ⟨r1, hcl, h⟩ := bd1_e h
      refine g_callF1 X (met_X5_at l Z a0 a0_1 a0_2 a0_3 v_line v_brought v_left v_dropped v_away v_mergings v_drops v_fromNear v_fromFar v_echoes x3 r1 hcl) [] [] [0, 1, 2, 3] (wr := []) ⟨rfl, rfl, rfl, rfl, rfl, by decide, by decide⟩ 0 gC4 rfl (lw_F q357 q346 q348 q73 q350) X.kk.2.2.2.2.1 md_At ⟨(Nat.le_of_ble_eq_true rfl), (Nat.le_of_ble_eq_true rfl)⟩ rfl dX7_firstDifference_9 14 rfl 0 0 rfl rfl (Nat.le_of_ble_eq_true rfl) (Nat.le_of_ble_eq_true rfl) (st := []) rfl (Nat.le_of_ble_eq_true rfl) (fun _ => rfl) (fun _ => ?_)
      refine g_aload_n X rfl dX7_firstDifference_14 15 rfl ?_
      refine g_iload_n X rfl dX7_firstDifference_15 16 rfl ?_
      obtain ⟨r2, hcl, h⟩ := bd1_e h
      refine g_callF1 X (met_X4_at l Z a2 a2_1 v_energies x3 r2 hcl) [] [] [4, 5] (wr := []) ⟨rfl, rfl, rfl, rfl, rfl, by decide, by decide⟩ 4 gC3 rfl (lw_F q357 q340 q342 q72 q344) X.kk.2.2.2.1 md_At ⟨(Nat.le_of_ble_eq_true rfl), (Nat.le_of_ble_eq_true rfl)⟩ rfl dX7_firstDifference_16 21 rfl 0 0 rfl rfl (Nat.le_of_ble_eq_true rfl) (Nat.le_of_ble_eq_true rfl) (st := [.long r1]) rfl (Nat.le_of_ble_eq_true rfl) (fun _ => rfl) (fun _ => ?_)
      refine g_lcmp_eq X dX7_firstDifference_21 22 rfl dX7_firstDifference_22 27 (by decide) 25 rfl (fun hc => ?_) (fun hc => ?_)
      · replace h := if_t hc h
        refine g_iinc X 1 rfl dX7_firstDifference_27 30 rfl kI_1 (Nat.le_of_ble_eq_true rfl) rfl [some (.ref a0), some (.ref a2), some (.int x2), some (.int (x3 + 1))] rfl ?_
        refine g_goto X dX7_firstDifference_30 2 (by decide) ?_
        exact hK2 x2 (x3 + 1) h
      · replace h := if_f hc h
        refine g_iload_n X rfl dX7_firstDifference_25 26 rfl ?_
        cases h
        exact g_iret X dX7_firstDifference_26 () rfl rfl (Nat.le_of_ble_eq_true rfl) (Nat.le_of_ble_eq_true rfl)
theorem met_X7_firstDifference (l : Launch) (Z : gZt) (a0 : Nat) (a0_1 : Nat) (a0_2 : Nat) (a0_3 : Nat) (a2 : Nat) (a2_1 : Nat) (v_line : Option Nat) (v_brought : Int64) (v_left : Int64) (v_dropped : Int64) (v_away : Int64) (v_mergings : Int32) (v_drops : Int32) (v_fromNear : Nat → Int64) (v_fromFar : Nat → Int64) (v_echoes : Nat → Int64) (v_energies : Nat → Int64) (x2 : Int32) (r : Int32) (h : F_X7_firstDifference v_echoes v_energies x2 = some r) : Ct l yX7_firstDifference (ws_ yX7_firstDifference cX7_firstDifference 4 (some .int)) rm_X7_firstDifference Z [.ref a0, .ref a2, .int x2] [] [(a0, .inr (4, [.ref a0_1, .ref a0_2, .ref a0_3, (va_rf v_line), .long v_brought, .long v_left, .long v_dropped, .long v_away, .int v_mergings, .int v_drops])), (a0_1, .inl (Z.2 1, 1809, .inr (.inl v_fromNear))), (a0_2, .inl (Z.2 1, 1809, .inr (.inl v_fromFar))), (a0_3, .inl (Z.2 1, 201, .inr (.inl v_echoes))), (a2, .inr (3, [.ref a2_1])), (a2_1, .inl (Z.2 1, 201, .inr (.inl v_energies)))] (fun _ : Unit => (some (.int r) : Option Value)) (fun _ : Unit => ([] : va_W)) := by
  refine Ct.of cX7_firstDifference 4 (some .int) "LineEchoes$Echoes" [some (.ref a0), some (.ref a2), some (.int x2), none] 1 (by decide) rfl (Nat.le_of_ble_eq_true rfl) rfl (fun p e s m args below meth c A X hin => ?_)
  unfold F_X7_firstDifference at h
  refine g_iconst X 0 dX7_firstDifference_0 1 rfl kI_0 ?_
  refine g_istore_n X dX7_firstDifference_1 2 rfl (Nat.le_of_ble_eq_true rfl) rfl [some (.ref a0), some (.ref a2), some (.int x2), some (.int 0)] rfl ?_
  exact w_X7_firstDifference_2 a0 a0_1 a0_2 a0_3 a2 a2_1 v_line v_brought v_left v_dropped v_away v_mergings v_drops v_fromNear v_fromFar v_echoes v_energies X  r    gFU x2 0 h
/-! LineEchoes$Runner.total(I)J -/
abbrev rm_X5_total : Room := { frames := 2, cells := 0, slots := 0, locals := 54 }
def F_X5_total (v_brought : Int64) (v_left : Int64) (v_dropped : Int64) (v_away : Int64) (v_mergings : Int32) (v_drops : Int32) (v_echoes : Nat → Int64) (v_window : Int32) (x1 : Int32) : Option (Int64) :=
  if x1 = 0 then
    (some v_brought)
  else
    (if x1 = 1 then
      (bd1 (F_X5_sumOfEchoes v_echoes) fun r1 =>
      some r1)
    else
      (if x1 = 2 then
        (some v_left)
      else
        (if x1 = 3 then
          (some v_dropped)
        else
          (if x1 = 4 then
            (some v_away)
          else
            (if x1 = 5 then
              (some v_mergings.toInt64)
            else
              (if x1 = 6 then
                (some v_drops.toInt64)
              else
                (if x1 = 7 then
                  (bd1 (F_X7_count v_echoes v_window) fun r2 =>
                  some r2.toInt64)
                else
                  (bd1 (F_X7_greatest v_echoes v_window) fun r3 =>
                  some r3))))))))
theorem met_X5_total (l : Launch) (Z : gZt) (a0 : Nat) (a0_1 : Nat) (a0_2 : Nat) (a0_3 : Nat) (a1 : Nat) (a1_1 : Nat) (a1_2 : Nat) (a1_3 : Nat) (a1_4 : Nat) (v_brought : Int64) (v_left : Int64) (v_dropped : Int64) (v_away : Int64) (v_mergings : Int32) (v_drops : Int32) (v_fromNear : Nat → Int64) (v_fromFar : Nat → Int64) (v_echoes : Nat → Int64) (v_n : Int32) (v_pulses : Int32) (v_front : Int32) (v_least : Int32) (v_window : Int32) (v_lengths : Nat → Int32) (v_fractions : Nat → Int32) (v_pulseTimes : Nat → Int32) (v_pulseEnergies : Nat → Int32) (x1 : Int32) (r : Int64) (h : F_X5_total v_brought v_left v_dropped v_away v_mergings v_drops v_echoes v_window x1 = some r) : Ct l yX5_total (ws_ yX5_total cX5_total 2 (some .long)) rm_X5_total Z [.ref a0, .int x1] [] [(a0, .inr (4, [.ref a0_1, .ref a0_2, .ref a0_3, .ref a1, .long v_brought, .long v_left, .long v_dropped, .long v_away, .int v_mergings, .int v_drops])), (a0_1, .inl (Z.2 1, 1809, .inr (.inl v_fromNear))), (a0_2, .inl (Z.2 1, 1809, .inr (.inl v_fromFar))), (a0_3, .inl (Z.2 1, 201, .inr (.inl v_echoes))), (a1, .inr (2, [.ref a1_1, .ref a1_2, .int v_n, .ref a1_3, .ref a1_4, .int v_pulses, .int v_front, .int v_least, .int v_window])), (a1_1, .inl (Z.2 0, 8, .inl v_lengths)), (a1_2, .inl (Z.2 0, 8, .inl v_fractions)), (a1_3, .inl (Z.2 0, 4, .inl v_pulseTimes)), (a1_4, .inl (Z.2 0, 4, .inl v_pulseEnergies))] (fun _ : Unit => (some (.long r) : Option Value)) (fun _ : Unit => ([] : va_W)) := by
  refine Ct.of cX5_total 2 (some .long) "LineEchoes$Runner" [some (.ref a0), some (.int x1)] 0 (by decide) rfl (Nat.le_of_ble_eq_true rfl) rfl (fun p e s m args below meth c A X hin => ?_)
  unfold F_X5_total at h
  refine g_iload_n X rfl dX5_total_0 1 rfl ?_
  by_cases hc0 : x1 = 0
  · replace h := if_t hc0 h
    refine g_tabIn X dX5_total_1 48 0 hc0 (by decide) (by decide) rfl (by decide) ?_
    refine g_aload_n X rfl dX5_total_48 49 rfl ?_
    refine g_getR X gC4 0 rfl 4 (by decide) q213 (fun _ h9 => h9) rfl dX5_total_49 52 rfl ?_
    cases h
    exact g_lret X dX5_total_52 () rfl rfl (Nat.le_of_ble_eq_true rfl) (Nat.le_of_ble_eq_true rfl)
  replace h := if_f hc0 h
  by_cases hc1 : x1 = 1
  · replace h := if_t hc1 h
    refine g_tabIn X dX5_total_1 53 1 hc1 (by decide) (by decide) rfl (by decide) ?_
    refine g_aload_n X rfl dX5_total_53 54 rfl ?_
    obtain ⟨r1, hcl, h⟩ := bd1_e h
    refine g_callV1 X (met_X5_sumOfEchoes l Z a0 a0_1 a0_2 a0_3 (some a1) v_brought v_left v_dropped v_away v_mergings v_drops v_fromNear v_fromFar v_echoes  r1 hcl) [] [] [0, 1, 2, 3] (wr := []) ⟨rfl, rfl, rfl, rfl, rfl, by decide, by decide⟩ 0 gC4 rfl rfl (lw_V q1043 q1045 qs16 q73 q1046) md_X5_sumOfEchoes ⟨(Nat.le_of_ble_eq_true rfl), (Nat.le_of_ble_eq_true rfl)⟩ rfl dX5_total_54 57 rfl 0 0 rfl rfl (Nat.le_of_ble_eq_true rfl) (Nat.le_of_ble_eq_true rfl) (st := []) rfl (Nat.le_of_ble_eq_true rfl) (fun _ => rfl) (fun _ => ?_)
    cases h
    exact g_lret X dX5_total_57 () rfl rfl (Nat.le_of_ble_eq_true rfl) (Nat.le_of_ble_eq_true rfl)
  replace h := if_f hc1 h
  by_cases hc2 : x1 = 2
  · replace h := if_t hc2 h
    refine g_tabIn X dX5_total_1 58 2 hc2 (by decide) (by decide) rfl (by decide) ?_
    refine g_aload_n X rfl dX5_total_58 59 rfl ?_
    refine g_getR X gC4 0 rfl 5 (by decide) q214 (fun _ h9 => h9) rfl dX5_total_59 62 rfl ?_
    cases h
    exact g_lret X dX5_total_62 () rfl rfl (Nat.le_of_ble_eq_true rfl) (Nat.le_of_ble_eq_true rfl)
  replace h := if_f hc2 h
  by_cases hc3 : x1 = 3
  · replace h := if_t hc3 h
    refine g_tabIn X dX5_total_1 63 3 hc3 (by decide) (by decide) rfl (by decide) ?_
    refine g_aload_n X rfl dX5_total_63 64 rfl ?_
    refine g_getR X gC4 0 rfl 6 (by decide) q215 (fun _ h9 => h9) rfl dX5_total_64 67 rfl ?_
    cases h
    exact g_lret X dX5_total_67 () rfl rfl (Nat.le_of_ble_eq_true rfl) (Nat.le_of_ble_eq_true rfl)
  replace h := if_f hc3 h
  by_cases hc4 : x1 = 4
  · replace h := if_t hc4 h
    refine g_tabIn X dX5_total_1 68 4 hc4 (by decide) (by decide) rfl (by decide) ?_
    refine g_aload_n X rfl dX5_total_68 69 rfl ?_
    refine g_getR X gC4 0 rfl 7 (by decide) q216 (fun _ h9 => h9) rfl dX5_total_69 72 rfl ?_
    cases h
    exact g_lret X dX5_total_72 () rfl rfl (Nat.le_of_ble_eq_true rfl) (Nat.le_of_ble_eq_true rfl)
  replace h := if_f hc4 h
  by_cases hc5 : x1 = 5
  · replace h := if_t hc5 h
    refine g_tabIn X dX5_total_1 73 5 hc5 (by decide) (by decide) rfl (by decide) ?_
    refine g_aload_n X rfl dX5_total_73 74 rfl ?_
    refine g_getR X gC4 0 rfl 8 (by decide) q217 (fun _ h9 => h9) rfl dX5_total_74 77 rfl ?_
    refine g_i2l X dX5_total_77 78 rfl ?_
    cases h
    exact g_lret X dX5_total_78 () rfl rfl (Nat.le_of_ble_eq_true rfl) (Nat.le_of_ble_eq_true rfl)
  replace h := if_f hc5 h
  by_cases hc6 : x1 = 6
  · replace h := if_t hc6 h
    refine g_tabIn X dX5_total_1 79 6 hc6 (by decide) (by decide) rfl (by decide) ?_
    refine g_aload_n X rfl dX5_total_79 80 rfl ?_
    refine g_getR X gC4 0 rfl 9 (by decide) q218 (fun _ h9 => h9) rfl dX5_total_80 83 rfl ?_
    refine g_i2l X dX5_total_83 84 rfl ?_
    cases h
    exact g_lret X dX5_total_84 () rfl rfl (Nat.le_of_ble_eq_true rfl) (Nat.le_of_ble_eq_true rfl)
  replace h := if_f hc6 h
  by_cases hc7 : x1 = 7
  · replace h := if_t hc7 h
    refine g_tabIn X dX5_total_1 85 7 hc7 (by decide) (by decide) rfl (by decide) ?_
    refine g_aload_n X rfl dX5_total_85 86 rfl ?_
    refine g_aload_n X rfl dX5_total_86 87 rfl ?_
    refine g_getR X gC4 0 rfl 3 (by decide) q212 (fun _ h9 => h9) rfl dX5_total_87 90 rfl ?_
    refine g_getRN X gC2 4 rfl 8 (by decide) q151 (fun _ h9 => h9) rfl dX5_total_90 93 rfl ?_
    obtain ⟨r2, hcl, h⟩ := bd1_e h
    refine g_callD1 X (met_X7_count l Z a0 a0_1 a0_2 a0_3 (some a1) v_brought v_left v_dropped v_away v_mergings v_drops v_fromNear v_fromFar v_echoes v_window r2 hcl) [] [] [0, 1, 2, 3] (wr := []) ⟨rfl, rfl, rfl, rfl, rfl, by decide, by decide⟩ 0 gC4 rfl rfl (by simp [defaultWords_1, gDc, gDf, gDg]) X.kk.2.2.2.2.2.2.1 q351 (by decide) q353 q85 q355 md_Dc ⟨(Nat.le_of_ble_eq_true rfl), (Nat.le_of_ble_eq_true rfl)⟩ rfl dX5_total_93 96 rfl 0 0 rfl rfl (Nat.le_of_ble_eq_true rfl) (Nat.le_of_ble_eq_true rfl) (st := []) rfl (Nat.le_of_ble_eq_true rfl) (fun _ => rfl) (fun _ => ?_)
    refine g_i2l X dX5_total_96 97 rfl ?_
    cases h
    exact g_lret X dX5_total_97 () rfl rfl (Nat.le_of_ble_eq_true rfl) (Nat.le_of_ble_eq_true rfl)
  replace h := if_f hc7 h
  refine g_tabOut X dX5_total_1 98 (g_rng (lo := 0) (n := 8) (fun i hi => match i, hi with | 0, _ => lv_neT hc0 (by decide) | 1, _ => lv_neT hc1 (by decide) | 2, _ => lv_neT hc2 (by decide) | 3, _ => lv_neT hc3 (by decide) | 4, _ => lv_neT hc4 (by decide) | 5, _ => lv_neT hc5 (by decide) | 6, _ => lv_neT hc6 (by decide) | 7, _ => lv_neT hc7 (by decide) | n + 8, hi => absurd hi (by omega)) (by decide)) (by decide) ?_
  refine g_aload_n X rfl dX5_total_98 99 rfl ?_
  refine g_aload_n X rfl dX5_total_99 100 rfl ?_
  refine g_getR X gC4 0 rfl 3 (by decide) q212 (fun _ h9 => h9) rfl dX5_total_100 103 rfl ?_
  refine g_getRN X gC2 4 rfl 8 (by decide) q151 (fun _ h9 => h9) rfl dX5_total_103 106 rfl ?_
  obtain ⟨r3, hcl, h⟩ := bd1_e h
  refine g_callD1 X (met_X7_greatest l Z a0 a0_1 a0_2 a0_3 (some a1) v_brought v_left v_dropped v_away v_mergings v_drops v_fromNear v_fromFar v_echoes v_window r3 hcl) [] [] [0, 1, 2, 3] (wr := []) ⟨rfl, rfl, rfl, rfl, rfl, by decide, by decide⟩ 0 gC4 rfl rfl (by simp [defaultWords_1, gDc, gDf, gDg]) X.kk.2.2.2.2.2.2.2.2.1 q1047 (by decide) q1049 q85 q1051 md_Dg ⟨(Nat.le_of_ble_eq_true rfl), (Nat.le_of_ble_eq_true rfl)⟩ rfl dX5_total_106 109 rfl 0 0 rfl rfl (Nat.le_of_ble_eq_true rfl) (Nat.le_of_ble_eq_true rfl) (st := []) rfl (Nat.le_of_ble_eq_true rfl) (fun _ => rfl) (fun _ => ?_)
  cases h
  exact g_lret X dX5_total_109 () rfl rfl (Nat.le_of_ble_eq_true rfl) (Nat.le_of_ble_eq_true rfl)
/-! LineEchoes$Kept.of(LLineEchoes$Echoes;I)LLineEchoes$Kept; -/
abbrev rm_X4_ofR : Room := { frames := 2, cells := 2, slots := 202, locals := 60 }
def B_X4_ofR_10 (K10 : (Nat → Int64) → (Int32) → (Int32) → (Nat → Int64) → Option ((Nat → Int64))) (n_b3 : Nat → Int64) (x1 : Int32) (x3 : Int32) (v_echoes : Nat → Int64) : Option ((Nat → Int64)) :=
  if x1 < x3 then
    (some n_b3)
  else
    (bd1 (F_X5_at v_echoes x3) fun r1 =>
    gin x3 201 <|
    K10 (vp_updL n_b3 x3.toNatClampNeg r1) x1 (x3 + 1) v_echoes)
def F_X4_ofR_10 : Nat → (Nat → Int64) → (Int32) → (Int32) → (Nat → Int64) → Option ((Nat → Int64))
  | 0 => fun _ _ _ _ => none
  | n + 1 => B_X4_ofR_10 (F_X4_ofR_10 n)
def F_X4_ofR (v_echoes : Nat → Int64) (x1 : Int32) : Option ((Nat → Int64)) :=
  bd1 (F_X4_init) fun w2_o0 =>
  F_X4_ofR_10 gFU w2_o0 x1 0 v_echoes
theorem w_X4_ofR_10 {p : Program} {l : Launch} {e : Env} {s : State} {m : MethodId} {args : Array Value} {below : List Frame} {meth : Method} {c : Code} {Z : gZt} {A : Nat → Prop} (a0 : Nat) (a0_1 : Nat) (a0_2 : Nat) (a0_3 : Nat) (v_line : Option Nat) (v_brought : Int64) (v_left : Int64) (v_dropped : Int64) (v_away : Int64) (v_mergings : Int32) (v_drops : Int32) (v_fromNear : Nat → Int64) (v_fromFar : Nat → Int64) (v_echoes : Nat → Int64) (X : gX p s m args meth c Z A cX4_of "LineEchoes$Kept" 4 (some (.object "LineEchoes$Kept")) [(a0, .inr (4, [.ref a0_1, .ref a0_2, .ref a0_3, (va_rf v_line), .long v_brought, .long v_left, .long v_dropped, .long v_away, .int v_mergings, .int v_drops])), (a0_1, .inl (Z.2 1, 1809, .inr (.inl v_fromNear))), (a0_2, .inl (Z.2 1, 1809, .inr (.inl v_fromFar))), (a0_3, .inl (Z.2 1, 201, .inr (.inl v_echoes)))]) (b1 : Nat) (b3 : Nat) (o1 : Nat → Int64)  : ∀ (n : Nat) (n_b3 : Nat → Int64) (x1 : Int32) (x3 : Int32), F_X4_ofR_10 n n_b3 x1 x3 v_echoes = some o1 → G p l e rm_X4_ofR s m args below meth c Z A 4 (MQ below (gPost Z A (fun u : Nat × Nat => (some (.ref u.1) : Option Value)) (fun u : Nat × Nat => ([(u.1, .inr (3, [.ref u.2])), (u.2, .inl (Z.2 1, 201, .inr (.inl o1)))] : va_W))) args s 2 202 A) [(b1, .inr (3, [.ref b3])), (b3, .inl (Z.2 1, 201, .inr (.inl n_b3)))] 2 202 10 [some (.ref a0), some (.int x1), some (.ref b1), some (.int x3)] [] := by
  intro n
  induction n with
  | zero =>
    intro n_b3 x1 x3 h
    cases h
  | succ n hK10 =>
    intro n_b3 x1 x3 h
    replace h : B_X4_ofR_10 (F_X4_ofR_10 n) n_b3 x1 x3 v_echoes = some o1 := h
    unfold B_X4_ofR_10 at h
    refine g_iload_n X rfl dX4_of_10 11 rfl ?_
    refine g_iload_n X rfl dX4_of_11 12 rfl ?_
    refine g_icmp_gt X dX4_of_12 34 (by decide) 15 rfl (fun hc => ?_) (fun hc => ?_)
    · replace h := if_t hc h
      refine g_aload_n X rfl dX4_of_34 35 rfl ?_
      cases h
      exact g_aret X dX4_of_35 (Or.inl ⟨_, rfl⟩) (b1, b3) rfl rfl (Nat.le_of_ble_eq_true rfl) (Nat.le_of_ble_eq_true rfl)
    · replace h := if_f hc h
      refine g_aload_n X rfl dX4_of_15 16 rfl ?_
      refine g_get X gC3 0 rfl 0 (by decide) q185 (fun _ h9 => h9) rfl dX4_of_16 19 rfl ?_
      refine g_iload_n X rfl dX4_of_19 20 rfl ?_
      refine g_aload_n X rfl dX4_of_20 21 rfl ?_
      refine g_iload_n X rfl dX4_of_21 22 rfl ?_
      obtain ⟨r1, hcl, h⟩ := bd1_e h
      refine g_callF1 X (met_X5_at l Z a0 a0_1 a0_2 a0_3 v_line v_brought v_left v_dropped v_away v_mergings v_drops v_fromNear v_fromFar v_echoes x3 r1 hcl) [] [0, 1] [2, 3, 4, 5] (wr := [(b1, .inr (3, [.ref b3])), (b3, .inl (Z.2 1, 201, .inr (.inl n_b3)))]) ⟨rfl, rfl, rfl, rfl, rfl, by decide, by decide⟩ 2 gC4 rfl (lw_F q336 q346 q348 q73 q350) X.kk.2.2.2.2.1 md_At ⟨(Nat.le_of_ble_eq_true rfl), (Nat.le_of_ble_eq_true rfl)⟩ rfl dX4_of_22 27 rfl 2 202 rfl rfl (Nat.le_of_ble_eq_true rfl) (Nat.le_of_ble_eq_true rfl) (st := [.int x3, .ref b3]) rfl (Nat.le_of_ble_eq_true rfl) (fun _ => rfl) (fun _ => ?_)
      refine g_wd [(b1, .inr (3, [.ref b3])), (b3, .inl (Z.2 1, 201, .inr (.inl n_b3)))] rfl ?_
      obtain ⟨hi, h⟩ := gin_e h
      refine g_last X 1 rfl hi dX4_of_27 28 rfl ?_
      refine g_iinc X 1 rfl dX4_of_28 31 rfl kI_1 (Nat.le_of_ble_eq_true rfl) rfl [some (.ref a0), some (.int x1), some (.ref b1), some (.int (x3 + 1))] rfl ?_
      refine g_goto X dX4_of_31 10 (by decide) ?_
      exact hK10 (vp_updL n_b3 x3.toNatClampNeg r1) x1 (x3 + 1) h
theorem met_X4_ofR (l : Launch) (Z : gZt) (a0 : Nat) (a0_1 : Nat) (a0_2 : Nat) (a0_3 : Nat) (v_line : Option Nat) (v_brought : Int64) (v_left : Int64) (v_dropped : Int64) (v_away : Int64) (v_mergings : Int32) (v_drops : Int32) (v_fromNear : Nat → Int64) (v_fromFar : Nat → Int64) (v_echoes : Nat → Int64) (x1 : Int32) (o1 : Nat → Int64) (h : F_X4_ofR v_echoes x1 = some o1) : Ct l yX4_of (ws_ yX4_of cX4_of 4 (some (.object "LineEchoes$Kept"))) rm_X4_ofR Z [.ref a0, .int x1] [] [(a0, .inr (4, [.ref a0_1, .ref a0_2, .ref a0_3, (va_rf v_line), .long v_brought, .long v_left, .long v_dropped, .long v_away, .int v_mergings, .int v_drops])), (a0_1, .inl (Z.2 1, 1809, .inr (.inl v_fromNear))), (a0_2, .inl (Z.2 1, 1809, .inr (.inl v_fromFar))), (a0_3, .inl (Z.2 1, 201, .inr (.inl v_echoes)))] (fun u : Nat × Nat => (some (.ref u.1) : Option Value)) (fun u : Nat × Nat => ([(u.1, .inr (3, [.ref u.2])), (u.2, .inl (Z.2 1, 201, .inr (.inl o1)))] : va_W)) := by
  refine Ct.of cX4_of 4 (some (.object "LineEchoes$Kept")) "LineEchoes$Kept" [some (.ref a0), some (.int x1), none, none] 2 (by decide) rfl (Nat.le_of_ble_eq_true rfl) rfl (fun p e s m args below meth c A X hin => ?_)
  unfold F_X4_ofR at h
  refine g_new X gC3 q333 q180 q72 [.null] gD3 dX4_of_0 3 rfl 1 1 rfl rfl (Nat.le_of_ble_eq_true rfl) (Nat.le_of_ble_eq_true rfl) (fun b1 => ?_)
  refine g_dup X dX4_of_3 4 rfl rfl ?_
  obtain ⟨w2_o0, hcl, h⟩ := bd1_e h
  refine g_callI0 X (met_X4_init l Z b1   w2_o0 hcl) [0] [] [] (wr := []) ⟨rfl, rfl, rfl, rfl, rfl, by decide, by decide⟩ q183 q72 q334 q182 rfl md_X4_init ⟨(Nat.le_of_ble_eq_true rfl), (Nat.le_of_ble_eq_true rfl)⟩ rfl dX4_of_4 7 rfl 2 202 rfl rfl (Nat.le_of_ble_eq_true rfl) (Nat.le_of_ble_eq_true rfl) (st := [.ref b1]) rfl (Nat.le_of_ble_eq_true rfl) (fun _ => rfl) (fun b3 => ?_)
  refine g_astore_n X dX4_of_7 8 rfl (Nat.le_of_ble_eq_true rfl) rfl [some (.ref a0), some (.int x1), some (.ref b1), none] rfl ?_
  refine g_iconst X 0 dX4_of_8 9 rfl kI_0 ?_
  refine g_istore_n X dX4_of_9 10 rfl (Nat.le_of_ble_eq_true rfl) rfl [some (.ref a0), some (.int x1), some (.ref b1), some (.int 0)] rfl ?_
  exact w_X4_ofR_10 a0 a0_1 a0_2 a0_3 v_line v_brought v_left v_dropped v_away v_mergings v_drops v_fromNear v_fromFar v_echoes X b1 b3 o1    gFU w2_o0 x1 0 h
/-! LineEchoes$Kept.of(LLineEchoes$Echoes;I)LLineEchoes$Kept; -/
abbrev rm_X4_ofK : Room := { frames := 2, cells := 2, slots := 202, locals := 60 }
def B_X4_ofK_10 (K10 : (Nat → Int64) → (Int32) → (Int32) → (Nat → Int64) → Option ((Nat → Int64))) (n_b3 : Nat → Int64) (x1 : Int32) (x3 : Int32) (v_energies : Nat → Int64) : Option ((Nat → Int64)) :=
  if x1 < x3 then
    (some n_b3)
  else
    (bd1 (F_X4_at v_energies x3) fun r1 =>
    gin x3 201 <|
    K10 (vp_updL n_b3 x3.toNatClampNeg r1) x1 (x3 + 1) v_energies)
def F_X4_ofK_10 : Nat → (Nat → Int64) → (Int32) → (Int32) → (Nat → Int64) → Option ((Nat → Int64))
  | 0 => fun _ _ _ _ => none
  | n + 1 => B_X4_ofK_10 (F_X4_ofK_10 n)
def F_X4_ofK (v_energies : Nat → Int64) (x1 : Int32) : Option ((Nat → Int64)) :=
  bd1 (F_X4_init) fun w2_o0 =>
  F_X4_ofK_10 gFU w2_o0 x1 0 v_energies
theorem w_X4_ofK_10 {p : Program} {l : Launch} {e : Env} {s : State} {m : MethodId} {args : Array Value} {below : List Frame} {meth : Method} {c : Code} {Z : gZt} {A : Nat → Prop} (a0 : Nat) (a0_1 : Nat) (v_energies : Nat → Int64) (X : gX p s m args meth c Z A cX4_of "LineEchoes$Kept" 4 (some (.object "LineEchoes$Kept")) [(a0, .inr (3, [.ref a0_1])), (a0_1, .inl (Z.2 1, 201, .inr (.inl v_energies)))]) (b1 : Nat) (b3 : Nat) (o1 : Nat → Int64)  : ∀ (n : Nat) (n_b3 : Nat → Int64) (x1 : Int32) (x3 : Int32), F_X4_ofK_10 n n_b3 x1 x3 v_energies = some o1 → G p l e rm_X4_ofK s m args below meth c Z A 4 (MQ below (gPost Z A (fun u : Nat × Nat => (some (.ref u.1) : Option Value)) (fun u : Nat × Nat => ([(u.1, .inr (3, [.ref u.2])), (u.2, .inl (Z.2 1, 201, .inr (.inl o1)))] : va_W))) args s 2 202 A) [(b1, .inr (3, [.ref b3])), (b3, .inl (Z.2 1, 201, .inr (.inl n_b3)))] 2 202 10 [some (.ref a0), some (.int x1), some (.ref b1), some (.int x3)] [] := by
  intro n
  induction n with
  | zero =>
    intro n_b3 x1 x3 h
    cases h
  | succ n hK10 =>
    intro n_b3 x1 x3 h
    replace h : B_X4_ofK_10 (F_X4_ofK_10 n) n_b3 x1 x3 v_energies = some o1 := h
    unfold B_X4_ofK_10 at h
    refine g_iload_n X rfl dX4_of_10 11 rfl ?_
    refine g_iload_n X rfl dX4_of_11 12 rfl ?_
    refine g_icmp_gt X dX4_of_12 34 (by decide) 15 rfl (fun hc => ?_) (fun hc => ?_)
    · replace h := if_t hc h
      refine g_aload_n X rfl dX4_of_34 35 rfl ?_
      cases h
      exact g_aret X dX4_of_35 (Or.inl ⟨_, rfl⟩) (b1, b3) rfl rfl (Nat.le_of_ble_eq_true rfl) (Nat.le_of_ble_eq_true rfl)
    · replace h := if_f hc h
      refine g_aload_n X rfl dX4_of_15 16 rfl ?_
      refine g_get X gC3 0 rfl 0 (by decide) q185 (fun _ h9 => h9) rfl dX4_of_16 19 rfl ?_
      refine g_iload_n X rfl dX4_of_19 20 rfl ?_
      refine g_aload_n X rfl dX4_of_20 21 rfl ?_
      refine g_iload_n X rfl dX4_of_21 22 rfl ?_
      obtain ⟨r1, hcl, h⟩ := bd1_e h
      refine g_callF1 X (met_X4_at l Z a0 a0_1 v_energies x3 r1 hcl) [] [0, 1] [2, 3] (wr := [(b1, .inr (3, [.ref b3])), (b3, .inl (Z.2 1, 201, .inr (.inl n_b3)))]) ⟨rfl, rfl, rfl, rfl, rfl, by decide, by decide⟩ 2 gC3 rfl (lw_F q336 q340 q342 q72 q344) X.kk.2.2.2.1 md_At ⟨(Nat.le_of_ble_eq_true rfl), (Nat.le_of_ble_eq_true rfl)⟩ rfl dX4_of_22 27 rfl 2 202 rfl rfl (Nat.le_of_ble_eq_true rfl) (Nat.le_of_ble_eq_true rfl) (st := [.int x3, .ref b3]) rfl (Nat.le_of_ble_eq_true rfl) (fun _ => rfl) (fun _ => ?_)
      refine g_wd [(b1, .inr (3, [.ref b3])), (b3, .inl (Z.2 1, 201, .inr (.inl n_b3)))] rfl ?_
      obtain ⟨hi, h⟩ := gin_e h
      refine g_last X 1 rfl hi dX4_of_27 28 rfl ?_
      refine g_iinc X 1 rfl dX4_of_28 31 rfl kI_1 (Nat.le_of_ble_eq_true rfl) rfl [some (.ref a0), some (.int x1), some (.ref b1), some (.int (x3 + 1))] rfl ?_
      refine g_goto X dX4_of_31 10 (by decide) ?_
      exact hK10 (vp_updL n_b3 x3.toNatClampNeg r1) x1 (x3 + 1) h
theorem met_X4_ofK (l : Launch) (Z : gZt) (a0 : Nat) (a0_1 : Nat) (v_energies : Nat → Int64) (x1 : Int32) (o1 : Nat → Int64) (h : F_X4_ofK v_energies x1 = some o1) : Ct l yX4_of (ws_ yX4_of cX4_of 4 (some (.object "LineEchoes$Kept"))) rm_X4_ofK Z [.ref a0, .int x1] [] [(a0, .inr (3, [.ref a0_1])), (a0_1, .inl (Z.2 1, 201, .inr (.inl v_energies)))] (fun u : Nat × Nat => (some (.ref u.1) : Option Value)) (fun u : Nat × Nat => ([(u.1, .inr (3, [.ref u.2])), (u.2, .inl (Z.2 1, 201, .inr (.inl o1)))] : va_W)) := by
  refine Ct.of cX4_of 4 (some (.object "LineEchoes$Kept")) "LineEchoes$Kept" [some (.ref a0), some (.int x1), none, none] 2 (by decide) rfl (Nat.le_of_ble_eq_true rfl) rfl (fun p e s m args below meth c A X hin => ?_)
  unfold F_X4_ofK at h
  refine g_new X gC3 q333 q180 q72 [.null] gD3 dX4_of_0 3 rfl 1 1 rfl rfl (Nat.le_of_ble_eq_true rfl) (Nat.le_of_ble_eq_true rfl) (fun b1 => ?_)
  refine g_dup X dX4_of_3 4 rfl rfl ?_
  obtain ⟨w2_o0, hcl, h⟩ := bd1_e h
  refine g_callI0 X (met_X4_init l Z b1   w2_o0 hcl) [0] [] [] (wr := []) ⟨rfl, rfl, rfl, rfl, rfl, by decide, by decide⟩ q183 q72 q334 q182 rfl md_X4_init ⟨(Nat.le_of_ble_eq_true rfl), (Nat.le_of_ble_eq_true rfl)⟩ rfl dX4_of_4 7 rfl 2 202 rfl rfl (Nat.le_of_ble_eq_true rfl) (Nat.le_of_ble_eq_true rfl) (st := [.ref b1]) rfl (Nat.le_of_ble_eq_true rfl) (fun _ => rfl) (fun b3 => ?_)
  refine g_astore_n X dX4_of_7 8 rfl (Nat.le_of_ble_eq_true rfl) rfl [some (.ref a0), some (.int x1), some (.ref b1), none] rfl ?_
  refine g_iconst X 0 dX4_of_8 9 rfl kI_0 ?_
  refine g_istore_n X dX4_of_9 10 rfl (Nat.le_of_ble_eq_true rfl) rfl [some (.ref a0), some (.int x1), some (.ref b1), some (.int 0)] rfl ?_
  exact w_X4_ofK_10 a0 a0_1 v_energies X b1 b3 o1    gFU w2_o0 x1 0 h
/-! LineEchoes$Kept.with(IJ)LLineEchoes$Kept; -/
abbrev rm_X4_with : Room := { frames := 3, cells := 2, slots := 202, locals := 83 }
def F_X4_with (v_energies : Nat → Int64) (x1 : Int32) (x2 : Int64) : Option ((Nat → Int64)) :=
  bd1 (F_X4_ofK v_energies 200) fun w1_o1 =>
  gin x1 201 <|
  some (vp_updL w1_o1 x1.toNatClampNeg x2)
theorem met_X4_with (l : Launch) (Z : gZt) (a0 : Nat) (a0_1 : Nat) (v_energies : Nat → Int64) (x1 : Int32) (x2 : Int64) (o1 : Nat → Int64) (h : F_X4_with v_energies x1 x2 = some o1) : Ct l yX4_with (ws_ yX4_with cX4_with 5 (some (.object "LineEchoes$Kept"))) rm_X4_with Z [.ref a0, .int x1, .long x2] [] [(a0, .inr (3, [.ref a0_1])), (a0_1, .inl (Z.2 1, 201, .inr (.inl v_energies)))] (fun u : Nat × Nat => (some (.ref u.1) : Option Value)) (fun u : Nat × Nat => ([(u.1, .inr (3, [.ref u.2])), (u.2, .inl (Z.2 1, 201, .inr (.inl o1)))] : va_W)) := by
  refine Ct.of cX4_with 5 (some (.object "LineEchoes$Kept")) "LineEchoes$Kept" [some (.ref a0), some (.int x1), some (.long x2), none, none] 1 (by decide) rfl (Nat.le_of_ble_eq_true rfl) rfl (fun p e s m args below meth c A X hin => ?_)
  unfold F_X4_with at h
  refine g_aload_n X rfl dX4_with_0 1 rfl ?_
  refine g_sipush X 200 dX4_with_1 4 rfl kS_200 ?_
  obtain ⟨w1_o1, hcl, h⟩ := bd1_e h
  refine g_callS1W X (met_X4_ofK l Z a0 a0_1 v_energies 200 w1_o1 hcl) rfl (lw_S q1293 q331 q72 q332) md_X4_of ⟨(Nat.le_of_ble_eq_true rfl), (Nat.le_of_ble_eq_true rfl)⟩ rfl dX4_with_4 7 rfl 2 202 rfl rfl (Nat.le_of_ble_eq_true rfl) (Nat.le_of_ble_eq_true rfl) (st := []) rfl (Nat.le_of_ble_eq_true rfl) (fun _ => rfl) (fun u => ?_)
  obtain ⟨b2, b3⟩ := u
  refine g_astore X dX4_with_7 9 rfl (Nat.le_of_ble_eq_true rfl) rfl [some (.ref a0), some (.int x1), some (.long x2), none, some (.ref b2)] rfl ?_
  refine g_aload X rfl dX4_with_9 11 rfl ?_
  refine g_get X gC3 0 rfl 0 (by decide) q185 (fun _ h9 => h9) rfl dX4_with_11 14 rfl ?_
  refine g_iload_n X rfl dX4_with_14 15 rfl ?_
  refine g_lload_n X rfl dX4_with_15 16 rfl ?_
  obtain ⟨hi, h⟩ := gin_e h
  refine g_last X 1 rfl hi dX4_with_16 17 rfl ?_
  refine g_aload X rfl dX4_with_17 19 rfl ?_
  cases h
  exact g_aret X dX4_with_19 (Or.inl ⟨_, rfl⟩) (b2, b3) rfl rfl (Nat.le_of_ble_eq_true rfl) (Nat.le_of_ble_eq_true rfl)
