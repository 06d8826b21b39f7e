/-! THE REFERENCE, walked (printed by gen/model.py) -/
set_option maxRecDepth 100000
theorem kB_m10 : (Int8.ofInt (-10)).toInt32 = (-10) := by decide
theorem kB_6 : (Int8.ofInt 6).toInt32 = 6 := by decide
theorem kB_7 : (Int8.ofInt 7).toInt32 = 7 := by decide
theorem kB_8 : (Int8.ofInt 8).toInt32 = 8 := by decide
theorem kB_9 : (Int8.ofInt 9).toInt32 = 9 := by decide
theorem kB_10 : (Int8.ofInt 10).toInt32 = 10 := by decide
theorem kB_17 : (Int8.ofInt 17).toInt32 = 17 := by decide
theorem kB_18 : (Int8.ofInt 18).toInt32 = 18 := by decide
theorem kB_19 : (Int8.ofInt 19).toInt32 = 19 := by decide
theorem kB_20 : (Int8.ofInt 20).toInt32 = 20 := by decide
theorem kB_21 : (Int8.ofInt 21).toInt32 = 21 := by decide
theorem kB_22 : (Int8.ofInt 22).toInt32 = 22 := by decide
theorem kB_29 : (Int8.ofInt 29).toInt32 = 29 := by decide
theorem kB_32 : (Int8.ofInt 32).toInt32 = 32 := by decide
theorem kB_48 : (Int8.ofInt 48).toInt32 = 48 := by decide
theorem kB_58 : (Int8.ofInt 58).toInt32 = 58 := by decide
theorem kB_59 : (Int8.ofInt 59).toInt32 = 59 := by decide
theorem kB_120 : (Int8.ofInt 120).toInt32 = 120 := by decide
theorem kI_m1 : Int32.ofInt (-1) = (-1) := by decide
theorem kI_0 : Int32.ofInt 0 = 0 := by decide
theorem kI_1 : Int32.ofInt 1 = 1 := by decide
theorem kI_2 : Int32.ofInt 2 = 2 := by decide
theorem kI_3 : Int32.ofInt 3 = 3 := by decide
theorem kI_4 : Int32.ofInt 4 = 4 := by decide
theorem kI_5 : Int32.ofInt 5 = 5 := by decide
theorem kS_201 : (Int16.ofInt 201).toInt32 = 201 := by decide
theorem kS_230 : (Int16.ofInt 230).toInt32 = 230 := by decide
theorem kS_431 : (Int16.ofInt 431).toInt32 = 431 := by decide
theorem kS_862 : (Int16.ofInt 862).toInt32 = 862 := by decide
theorem kS_1000 : (Int16.ofInt 1000).toInt32 = 1000 := by decide
theorem md_X6_addsPart : gMd yX6_addsPart 2 := by unfold gMd; decide +kernel
theorem md_X6_addsPulse : gMd yX6_addsPulse 2 := by unfold gMd; decide +kernel
theorem md_X6_adopts : gMd yX6_adopts 0 := by unfold gMd; decide +kernel
theorem md_X6_arePartNumbers : gMd yX6_arePartNumbers 2 := by unfold gMd; decide +kernel
theorem md_X6_arrives : gMd yX6_arrives 3 := by unfold gMd; decide +kernel
theorem md_X6_back : gMd yX6_back 2 := by unfold gMd; decide +kernel
theorem md_X6_benchOf : gMd yX6_benchOf 1 := by unfold gMd; decide +kernel
theorem md_X6_contribute : gMd yX6_contribute 1 := by unfold gMd; decide +kernel
theorem md_X6_copies : gMd yX6_copies 1 := by unfold gMd; decide +kernel
theorem md_X6_differencesNow : gMd yX6_differencesNow 0 := by unfold gMd; decide +kernel
theorem md_X6_digitOf : gMd yX6_digitOf 2 := by unfold gMd; decide +kernel
theorem md_X6_digits : gMd yX6_digits 1 := by unfold gMd; decide +kernel
theorem md_X6_does : gMd yX6_does 1 := by unfold gMd; decide +kernel
theorem md_X6_earliest : gMd yX6_earliest 0 := by unfold gMd; decide +kernel
theorem md_X6_exchange : gMd yX6_exchange 2 := by unfold gMd; decide +kernel
theorem md_X6_faultOf : gMd yX6_faultOf 1 := by unfold gMd; decide +kernel
theorem md_X6_firstUnlike : gMd yX6_firstUnlike 0 := by unfold gMd; decide +kernel
theorem md_X6_here : gMd yX6_here 0 := by unfold gMd; decide +kernel
theorem md_X6_in : gMd yX6_in 3 := by unfold gMd; decide +kernel
theorem md_X6_isPart : gMd yX6_isPart 1 := by unfold gMd; decide +kernel
theorem md_X6_keep : gMd yX6_keep 0 := by unfold gMd; decide +kernel
theorem md_X6_kindOf : gMd yX6_kindOf 1 := by unfold gMd; decide +kernel
theorem md_X6_laysPart : gMd yX6_laysPart 3 := by unfold gMd; decide +kernel
theorem md_X6_mix : gMd yX6_mix 1 := by unfold gMd; decide +kernel
theorem md_X6_mixEchoes : gMd yX6_mixEchoes 0 := by unfold gMd; decide +kernel
theorem md_X6_parts : gMd yX6_parts 0 := by unfold gMd; decide +kernel
theorem md_X6_passPulses : gMd yX6_passPulses 1 := by unfold gMd; decide +kernel
theorem md_X6_peelAll : gMd yX6_peelAll 0 := by unfold gMd; decide +kernel
theorem md_X6_peelOf : gMd yX6_peelOf 1 := by unfold gMd; decide +kernel
theorem md_X6_peels : gMd yX6_peels 0 := by unfold gMd; decide +kernel
theorem md_X6_puts : gMd yX6_puts 1 := by unfold gMd; decide +kernel
theorem md_X6_readAll : gMd yX6_readAll 0 := by unfold gMd; decide +kernel
theorem md_X6_readCommand : gMd yX6_readCommand 0 := by unfold gMd; decide +kernel
theorem md_X6_readNumber : gMd yX6_readNumber 1 := by unfold gMd; decide +kernel
theorem md_X6_readWord : gMd yX6_readWord 1 := by unfold gMd; decide +kernel
theorem md_X6_removesPart : gMd yX6_removesPart 1 := by unfold gMd; decide +kernel
theorem md_X6_runAt : gMd yX6_runAt 2 := by unfold gMd; decide +kernel
theorem md_X6_runLine : gMd yX6_runLine 0 := by unfold gMd; decide +kernel
theorem md_X6_runPresent : gMd yX6_runPresent 0 := by unfold gMd; decide +kernel
theorem md_X6_setsOut : gMd yX6_setsOut 0 := by unfold gMd; decide +kernel
theorem md_X6_setsPart : gMd yX6_setsPart 3 := by unfold gMd; decide +kernel
theorem md_X6_spaces : gMd yX6_spaces 0 := by unfold gMd; decide +kernel
theorem md_X6_splitsPart : gMd yX6_splitsPart 3 := by unfold gMd; decide +kernel
theorem md_X6_sumOfLengths : gMd yX6_sumOfLengths 0 := by unfold gMd; decide +kernel
theorem md_X6_totalOf : gMd yX6_totalOf 1 := by unfold gMd; decide +kernel
theorem md_X6_underWay : gMd yX6_underWay 0 := by unfold gMd; decide +kernel
theorem md_X6_upTo : gMd yX6_upTo 1 := by unfold gMd; decide +kernel
theorem md_X6_whyNoPart : gMd yX6_whyNoPart 2 := by unfold gMd; decide +kernel
theorem md_X6_whyNoPulse : gMd yX6_whyNoPulse 2 := by unfold gMd; decide +kernel
theorem md_X6_whyNotSet : gMd yX6_whyNotSet 3 := by unfold gMd; decide +kernel
theorem md_X6_whyNotSplit : gMd yX6_whyNotSplit 3 := by unfold gMd; decide +kernel
theorem md_X6_window : gMd yX6_window 0 := by unfold gMd; decide +kernel
/-! LineEchoesModel.thrown()I -/
abbrev rm_X6_thrown : Room := { frames := 0, cells := 0, slots := 0, locals := 0 }
def F_X6_thrown (v_code : Int32) : Option (Int32) :=
  some v_code
theorem met_X6_thrown (l : Launch) (Z : gZt) (a0 : Nat) (a1 : Nat) (a2 : Nat) (a3 : Nat) (a4 : Nat) (a5 : Nat) (a6 : Nat) (a7 : Nat) (a8 : Nat) (a9 : Nat) (a10 : Nat) (a11 : Nat) (v_savedCount : Int32) (v_scriptLength : Int32) (v_code : Int32) (v_lineParts : Int32) (v_pulseMany : Int32) (v_left : Int64) (v_dropped : Int64) (v_merged : Int32) (v_drops : Int32) (v_contributions : Int32) (v_packet : Int64) (v_peelResult : Int32) (v_peelTime : Int32) (v_peelSum : Int32) (v_at : Int32) (v_commands : Int32) (v_hash : Int64) (v_m : Nat → Int64) (v_saved : Nat → Int64) (v_script : Nat → Int32) (v_lengths : Nat → Int32) (v_fractions : Nat → Int32) (v_times : Nat → Int32) (v_energies : Nat → Int64) (v_far : Nat → Int64) (v_near : Nat → Int64) (v_echoes : Nat → Int64) (v_draft : Nat → Int32) (r : Int32) (h : F_X6_thrown v_code = some r) : Ct l yX6_thrown (ws_ yX6_thrown cX6_thrown 1 (some .int)) rm_X6_thrown Z [.ref a0] [(a0, .inr (5, [.ref a1, .ref a2, .int v_savedCount, .ref a3, .int v_scriptLength, .int v_code, .int v_lineParts, .ref a4, .ref a5, .int v_pulseMany, .ref a6, .ref a7, .ref a8, .ref a9, .ref a10, .long v_left, .long v_dropped, .int v_merged, .int v_drops, .int v_contributions, .long v_packet, .int v_peelResult, .int v_peelTime, .int v_peelSum, .int v_at, .int v_commands, .ref a11, .long v_hash])), (a1, .inl (Z.2 1, 431, .inr (.inl v_m))), (a2, .inl (Z.2 1, 1293, .inr (.inl v_saved))), (a3, .inl (Z.2 0, 120, .inl v_script)), (a4, .inl (Z.2 0, 8, .inl v_lengths)), (a5, .inl (Z.2 0, 9, .inl v_fractions)), (a6, .inl (Z.2 0, 4, .inl v_times)), (a7, .inl (Z.2 1, 4, .inr (.inl v_energies))), (a8, .inl (Z.2 1, 1809, .inr (.inl v_far))), (a9, .inl (Z.2 1, 1809, .inr (.inl v_near))), (a10, .inl (Z.2 1, 201, .inr (.inl v_echoes))), (a11, .inl (Z.2 0, 120, .inl v_draft))] [] (fun _ : Unit => (some (.int r) : Option Value)) (fun _ : Unit => ([(a0, .inr (5, [.ref a1, .ref a2, .int v_savedCount, .ref a3, .int v_scriptLength, .int v_code, .int v_lineParts, .ref a4, .ref a5, .int v_pulseMany, .ref a6, .ref a7, .ref a8, .ref a9, .ref a10, .long v_left, .long v_dropped, .int v_merged, .int v_drops, .int v_contributions, .long v_packet, .int v_peelResult, .int v_peelTime, .int v_peelSum, .int v_at, .int v_commands, .ref a11, .long v_hash])), (a1, .inl (Z.2 1, 431, .inr (.inl v_m))), (a2, .inl (Z.2 1, 1293, .inr (.inl v_saved))), (a3, .inl (Z.2 0, 120, .inl v_script)), (a4, .inl (Z.2 0, 8, .inl v_lengths)), (a5, .inl (Z.2 0, 9, .inl v_fractions)), (a6, .inl (Z.2 0, 4, .inl v_times)), (a7, .inl (Z.2 1, 4, .inr (.inl v_energies))), (a8, .inl (Z.2 1, 1809, .inr (.inl v_far))), (a9, .inl (Z.2 1, 1809, .inr (.inl v_near))), (a10, .inl (Z.2 1, 201, .inr (.inl v_echoes))), (a11, .inl (Z.2 0, 120, .inl v_draft))] : va_W)) := by
  refine Ct.of cX6_thrown 1 (some .int) "LineEchoesModel" [some (.ref a0)] 0 (by decide) rfl (Nat.le_of_ble_eq_true rfl) rfl (fun p e s m args below meth c A X hin => ?_)
  unfold F_X6_thrown at h
  refine g_aload_n X rfl dX6_thrown_0 1 rfl ?_
  refine g_get X gC5 0 rfl 5 (by decide) q1347 (fun _ h9 => h9) rfl dX6_thrown_1 4 rfl ?_
  cases h
  exact g_iret X dX6_thrown_4 () rfl rfl (Nat.le_of_ble_eq_true rfl) (Nat.le_of_ble_eq_true rfl)
/-! LineEchoesModel.laysPart(III)V -/
abbrev rm_X6_laysPart : Room := { frames := 0, cells := 0, slots := 0, locals := 0 }
def F_X6_laysPart (v_m : Nat → Int64) (x1 : Int32) (x2 : Int32) (x3 : Int32) : Option ((Nat → Int64)) :=
  gin (1 + x1) 431 <|
  gin (9 + x1) 431 <|
  some (vp_updL (vp_updL v_m (1 + x1).toNatClampNeg x2.toInt64) (9 + x1).toNatClampNeg x3.toInt64)
theorem met_X6_laysPart (l : Launch) (Z : gZt) (a0 : Nat) (a1 : Nat) (a2 : Nat) (a3 : Nat) (a4 : Nat) (a5 : Nat) (a6 : Nat) (a7 : Nat) (a8 : Nat) (a9 : Nat) (a10 : Nat) (a11 : Nat) (v_savedCount : Int32) (v_scriptLength : Int32) (v_code : Int32) (v_lineParts : Int32) (v_pulseMany : Int32) (v_left : Int64) (v_dropped : Int64) (v_merged : Int32) (v_drops : Int32) (v_contributions : Int32) (v_packet : Int64) (v_peelResult : Int32) (v_peelTime : Int32) (v_peelSum : Int32) (v_at : Int32) (v_commands : Int32) (v_hash : Int64) (v_m : Nat → Int64) (v_saved : Nat → Int64) (v_script : Nat → Int32) (v_lengths : Nat → Int32) (v_fractions : Nat → Int32) (v_times : Nat → Int32) (v_energies : Nat → Int64) (v_far : Nat → Int64) (v_near : Nat → Int64) (v_echoes : Nat → Int64) (v_draft : Nat → Int32) (x1 : Int32) (x2 : Int32) (x3 : Int32) (r_m : Nat → Int64) (h : F_X6_laysPart v_m x1 x2 x3 = some r_m) : Ct l yX6_laysPart (ws_ yX6_laysPart cX6_laysPart 4 none) rm_X6_laysPart Z [.ref a0, .int x1, .int x2, .int x3] [(a0, .inr (5, [.ref a1, .ref a2, .int v_savedCount, .ref a3, .int v_scriptLength, .int v_code, .int v_lineParts, .ref a4, .ref a5, .int v_pulseMany, .ref a6, .ref a7, .ref a8, .ref a9, .ref a10, .long v_left, .long v_dropped, .int v_merged, .int v_drops, .int v_contributions, .long v_packet, .int v_peelResult, .int v_peelTime, .int v_peelSum, .int v_at, .int v_commands, .ref a11, .long v_hash])), (a1, .inl (Z.2 1, 431, .inr (.inl v_m))), (a2, .inl (Z.2 1, 1293, .inr (.inl v_saved))), (a3, .inl (Z.2 0, 120, .inl v_script)), (a4, .inl (Z.2 0, 8, .inl v_lengths)), (a5, .inl (Z.2 0, 9, .inl v_fractions)), (a6, .inl (Z.2 0, 4, .inl v_times)), (a7, .inl (Z.2 1, 4, .inr (.inl v_energies))), (a8, .inl (Z.2 1, 1809, .inr (.inl v_far))), (a9, .inl (Z.2 1, 1809, .inr (.inl v_near))), (a10, .inl (Z.2 1, 201, .inr (.inl v_echoes))), (a11, .inl (Z.2 0, 120, .inl v_draft))] [] (fun _ : Unit => (none : Option Value)) (fun _ : Unit => ([(a0, .inr (5, [.ref a1, .ref a2, .int v_savedCount, .ref a3, .int v_scriptLength, .int v_code, .int v_lineParts, .ref a4, .ref a5, .int v_pulseMany, .ref a6, .ref a7, .ref a8, .ref a9, .ref a10, .long v_left, .long v_dropped, .int v_merged, .int v_drops, .int v_contributions, .long v_packet, .int v_peelResult, .int v_peelTime, .int v_peelSum, .int v_at, .int v_commands, .ref a11, .long v_hash])), (a1, .inl (Z.2 1, 431, .inr (.inl r_m))), (a2, .inl (Z.2 1, 1293, .inr (.inl v_saved))), (a3, .inl (Z.2 0, 120, .inl v_script)), (a4, .inl (Z.2 0, 8, .inl v_lengths)), (a5, .inl (Z.2 0, 9, .inl v_fractions)), (a6, .inl (Z.2 0, 4, .inl v_times)), (a7, .inl (Z.2 1, 4, .inr (.inl v_energies))), (a8, .inl (Z.2 1, 1809, .inr (.inl v_far))), (a9, .inl (Z.2 1, 1809, .inr (.inl v_near))), (a10, .inl (Z.2 1, 201, .inr (.inl v_echoes))), (a11, .inl (Z.2 0, 120, .inl v_draft))] : va_W)) := by
  refine Ct.of cX6_laysPart 4 none "LineEchoesModel" [some (.ref a0), some (.int x1), some (.int x2), some (.int x3)] 0 (by decide) rfl (Nat.le_of_ble_eq_true rfl) rfl (fun p e s m args below meth c A X hin => ?_)
  unfold F_X6_laysPart at h
  refine g_aload_n X rfl dX6_laysPart_0 1 rfl ?_
  refine g_get X gC5 0 rfl 0 (by decide) q1342 (fun _ h9 => h9) rfl dX6_laysPart_1 4 rfl ?_
  refine g_iconst X 1 dX6_laysPart_4 5 rfl kI_1 ?_
  refine g_iload_n X rfl dX6_laysPart_5 6 rfl ?_
  refine g_iadd X dX6_laysPart_6 7 rfl ?_
  refine g_iload_n X rfl dX6_laysPart_7 8 rfl ?_
  refine g_i2l X dX6_laysPart_8 9 rfl ?_
  obtain ⟨hi, h⟩ := gin_e h
  refine g_last X 1 rfl hi dX6_laysPart_9 10 rfl ?_
  refine g_aload_n X rfl dX6_laysPart_10 11 rfl ?_
  refine g_get X gC5 0 rfl 0 (by decide) q1342 (fun _ h9 => h9) rfl dX6_laysPart_11 14 rfl ?_
  refine g_bipush X 9 dX6_laysPart_14 16 rfl kB_9 ?_
  refine g_iload_n X rfl dX6_laysPart_16 17 rfl ?_
  refine g_iadd X dX6_laysPart_17 18 rfl ?_
  refine g_iload_n X rfl dX6_laysPart_18 19 rfl ?_
  refine g_i2l X dX6_laysPart_19 20 rfl ?_
  obtain ⟨hi, h⟩ := gin_e h
  refine g_last X 1 rfl hi dX6_laysPart_20 21 rfl ?_
  cases h
  exact g_vret X dX6_laysPart_21 () rfl rfl (Nat.le_of_ble_eq_true rfl) (Nat.le_of_ble_eq_true rfl)
/-! LineEchoesModel.parts()I -/
abbrev rm_X6_parts : Room := { frames := 0, cells := 0, slots := 0, locals := 0 }
def F_X6_parts (v_m : Nat → Int64) : Option (Int32) :=
  gin 0 431 <|
  some ((v_m (Int32.toNatClampNeg 0)).toInt32)
theorem met_X6_parts (l : Launch) (Z : gZt) (a0 : Nat) (a1 : Nat) (a2 : Nat) (a3 : Nat) (a4 : Nat) (a5 : Nat) (a6 : Nat) (a7 : Nat) (a8 : Nat) (a9 : Nat) (a10 : Nat) (a11 : Nat) (v_savedCount : Int32) (v_scriptLength : Int32) (v_code : Int32) (v_lineParts : Int32) (v_pulseMany : Int32) (v_left : Int64) (v_dropped : Int64) (v_merged : Int32) (v_drops : Int32) (v_contributions : Int32) (v_packet : Int64) (v_peelResult : Int32) (v_peelTime : Int32) (v_peelSum : Int32) (v_at : Int32) (v_commands : Int32) (v_hash : Int64) (v_m : Nat → Int64) (v_saved : Nat → Int64) (v_script : Nat → Int32) (v_lengths : Nat → Int32) (v_fractions : Nat → Int32) (v_times : Nat → Int32) (v_energies : Nat → Int64) (v_far : Nat → Int64) (v_near : Nat → Int64) (v_echoes : Nat → Int64) (v_draft : Nat → Int32) (r : Int32) (h : F_X6_parts v_m = some r) : Ct l yX6_parts (ws_ yX6_parts cX6_parts 1 (some .int)) rm_X6_parts Z [.ref a0] [(a0, .inr (5, [.ref a1, .ref a2, .int v_savedCount, .ref a3, .int v_scriptLength, .int v_code, .int v_lineParts, .ref a4, .ref a5, .int v_pulseMany, .ref a6, .ref a7, .ref a8, .ref a9, .ref a10, .long v_left, .long v_dropped, .int v_merged, .int v_drops, .int v_contributions, .long v_packet, .int v_peelResult, .int v_peelTime, .int v_peelSum, .int v_at, .int v_commands, .ref a11, .long v_hash])), (a1, .inl (Z.2 1, 431, .inr (.inl v_m))), (a2, .inl (Z.2 1, 1293, .inr (.inl v_saved))), (a3, .inl (Z.2 0, 120, .inl v_script)), (a4, .inl (Z.2 0, 8, .inl v_lengths)), (a5, .inl (Z.2 0, 9, .inl v_fractions)), (a6, .inl (Z.2 0, 4, .inl v_times)), (a7, .inl (Z.2 1, 4, .inr (.inl v_energies))), (a8, .inl (Z.2 1, 1809, .inr (.inl v_far))), (a9, .inl (Z.2 1, 1809, .inr (.inl v_near))), (a10, .inl (Z.2 1, 201, .inr (.inl v_echoes))), (a11, .inl (Z.2 0, 120, .inl v_draft))] [] (fun _ : Unit => (some (.int r) : Option Value)) (fun _ : Unit => ([(a0, .inr (5, [.ref a1, .ref a2, .int v_savedCount, .ref a3, .int v_scriptLength, .int v_code, .int v_lineParts, .ref a4, .ref a5, .int v_pulseMany, .ref a6, .ref a7, .ref a8, .ref a9, .ref a10, .long v_left, .long v_dropped, .int v_merged, .int v_drops, .int v_contributions, .long v_packet, .int v_peelResult, .int v_peelTime, .int v_peelSum, .int v_at, .int v_commands, .ref a11, .long v_hash])), (a1, .inl (Z.2 1, 431, .inr (.inl v_m))), (a2, .inl (Z.2 1, 1293, .inr (.inl v_saved))), (a3, .inl (Z.2 0, 120, .inl v_script)), (a4, .inl (Z.2 0, 8, .inl v_lengths)), (a5, .inl (Z.2 0, 9, .inl v_fractions)), (a6, .inl (Z.2 0, 4, .inl v_times)), (a7, .inl (Z.2 1, 4, .inr (.inl v_energies))), (a8, .inl (Z.2 1, 1809, .inr (.inl v_far))), (a9, .inl (Z.2 1, 1809, .inr (.inl v_near))), (a10, .inl (Z.2 1, 201, .inr (.inl v_echoes))), (a11, .inl (Z.2 0, 120, .inl v_draft))] : va_W)) := by
  refine Ct.of cX6_parts 1 (some .int) "LineEchoesModel" [some (.ref a0)] 0 (by decide) rfl (Nat.le_of_ble_eq_true rfl) rfl (fun p e s m args below meth c A X hin => ?_)
  unfold F_X6_parts at h
  refine g_aload_n X rfl dX6_parts_0 1 rfl ?_
  refine g_get X gC5 0 rfl 0 (by decide) q1342 (fun _ h9 => h9) rfl dX6_parts_1 4 rfl ?_
  refine g_iconst X 0 dX6_parts_4 5 rfl kI_0 ?_
  obtain ⟨hi, h⟩ := gin_e h
  refine g_lald X 1 rfl hi dX6_parts_5 6 rfl ?_
  refine g_l2i X dX6_parts_6 7 rfl ?_
  cases h
  exact g_iret X dX6_parts_7 () rfl rfl (Nat.le_of_ble_eq_true rfl) (Nat.le_of_ble_eq_true rfl)
/-! LineEchoesModel.addsPart(II)I -/
abbrev rm_X6_addsPart : Room := { frames := 1, cells := 0, slots := 0, locals := 23 }
def F_X6_addsPart (v_m : Nat → Int64) (x1 : Int32) (x2 : Int32) : Option (Int32 × (Nat → Int64)) :=
  bd1 (F_X6_parts v_m) fun r1 =>
  bd1 (F_X6_laysPart v_m r1 x1 x2) fun w2_m =>
  gin 0 431 <|
  nm ((w2_m (Int32.toNatClampNeg 0)) + 1) fun t3 =>
  gin 0 431 <|
  bd1 (F_X6_parts (vp_updL w2_m (Int32.toNatClampNeg 0) t3)) fun r4 =>
  some (r4, vp_updL w2_m (Int32.toNatClampNeg 0) t3)
theorem met_X6_addsPart (l : Launch) (Z : gZt) (a0 : Nat) (a1 : Nat) (a2 : Nat) (a3 : Nat) (a4 : Nat) (a5 : Nat) (a6 : Nat) (a7 : Nat) (a8 : Nat) (a9 : Nat) (a10 : Nat) (a11 : Nat) (v_savedCount : Int32) (v_scriptLength : Int32) (v_code : Int32) (v_lineParts : Int32) (v_pulseMany : Int32) (v_left : Int64) (v_dropped : Int64) (v_merged : Int32) (v_drops : Int32) (v_contributions : Int32) (v_packet : Int64) (v_peelResult : Int32) (v_peelTime : Int32) (v_peelSum : Int32) (v_at : Int32) (v_commands : Int32) (v_hash : Int64) (v_m : Nat → Int64) (v_saved : Nat → Int64) (v_script : Nat → Int32) (v_lengths : Nat → Int32) (v_fractions : Nat → Int32) (v_times : Nat → Int32) (v_energies : Nat → Int64) (v_far : Nat → Int64) (v_near : Nat → Int64) (v_echoes : Nat → Int64) (v_draft : Nat → Int32) (x1 : Int32) (x2 : Int32) (r : Int32) (r_m : Nat → Int64) (h : F_X6_addsPart v_m x1 x2 = some (r, r_m)) : Ct l yX6_addsPart (ws_ yX6_addsPart cX6_addsPart 3 (some .int)) rm_X6_addsPart Z [.ref a0, .int x1, .int x2] [(a0, .inr (5, [.ref a1, .ref a2, .int v_savedCount, .ref a3, .int v_scriptLength, .int v_code, .int v_lineParts, .ref a4, .ref a5, .int v_pulseMany, .ref a6, .ref a7, .ref a8, .ref a9, .ref a10, .long v_left, .long v_dropped, .int v_merged, .int v_drops, .int v_contributions, .long v_packet, .int v_peelResult, .int v_peelTime, .int v_peelSum, .int v_at, .int v_commands, .ref a11, .long v_hash])), (a1, .inl (Z.2 1, 431, .inr (.inl v_m))), (a2, .inl (Z.2 1, 1293, .inr (.inl v_saved))), (a3, .inl (Z.2 0, 120, .inl v_script)), (a4, .inl (Z.2 0, 8, .inl v_lengths)), (a5, .inl (Z.2 0, 9, .inl v_fractions)), (a6, .inl (Z.2 0, 4, .inl v_times)), (a7, .inl (Z.2 1, 4, .inr (.inl v_energies))), (a8, .inl (Z.2 1, 1809, .inr (.inl v_far))), (a9, .inl (Z.2 1, 1809, .inr (.inl v_near))), (a10, .inl (Z.2 1, 201, .inr (.inl v_echoes))), (a11, .inl (Z.2 0, 120, .inl v_draft))] [] (fun _ : Unit => (some (.int r) : Option Value)) (fun _ : Unit => ([(a0, .inr (5, [.ref a1, .ref a2, .int v_savedCount, .ref a3, .int v_scriptLength, .int v_code, .int v_lineParts, .ref a4, .ref a5, .int v_pulseMany, .ref a6, .ref a7, .ref a8, .ref a9, .ref a10, .long v_left, .long v_dropped, .int v_merged, .int v_drops, .int v_contributions, .long v_packet, .int v_peelResult, .int v_peelTime, .int v_peelSum, .int v_at, .int v_commands, .ref a11, .long v_hash])), (a1, .inl (Z.2 1, 431, .inr (.inl r_m))), (a2, .inl (Z.2 1, 1293, .inr (.inl v_saved))), (a3, .inl (Z.2 0, 120, .inl v_script)), (a4, .inl (Z.2 0, 8, .inl v_lengths)), (a5, .inl (Z.2 0, 9, .inl v_fractions)), (a6, .inl (Z.2 0, 4, .inl v_times)), (a7, .inl (Z.2 1, 4, .inr (.inl v_energies))), (a8, .inl (Z.2 1, 1809, .inr (.inl v_far))), (a9, .inl (Z.2 1, 1809, .inr (.inl v_near))), (a10, .inl (Z.2 1, 201, .inr (.inl v_echoes))), (a11, .inl (Z.2 0, 120, .inl v_draft))] : va_W)) := by
  refine Ct.of cX6_addsPart 3 (some .int) "LineEchoesModel" [some (.ref a0), some (.int x1), some (.int x2)] 0 (by decide) rfl (Nat.le_of_ble_eq_true rfl) rfl (fun p e s m args below meth c A X hin => ?_)
  unfold F_X6_addsPart at h
  refine g_aload_n X rfl dX6_addsPart_0 1 rfl ?_
  refine g_aload_n X rfl dX6_addsPart_1 2 rfl ?_
  obtain ⟨r1, hcl, h⟩ := bd1_e h
  refine g_callV1W X (met_X6_parts l Z a0 a1 a2 a3 a4 a5 a6 a7 a8 a9 a10 a11 v_savedCount v_scriptLength v_code v_lineParts v_pulseMany v_left v_dropped v_merged v_drops v_contributions v_packet v_peelResult v_peelTime v_peelSum v_at v_commands v_hash v_m v_saved v_script v_lengths v_fractions v_times v_energies v_far v_near v_echoes v_draft  r1 hcl) rfl 0 gC5 rfl rfl (lw_V q1447 q1449 qs22 q74 q1450) md_X6_parts ⟨(Nat.le_of_ble_eq_true rfl), (Nat.le_of_ble_eq_true rfl)⟩ rfl dX6_addsPart_2 5 rfl 0 0 rfl rfl (Nat.le_of_ble_eq_true rfl) (Nat.le_of_ble_eq_true rfl) (st := [.ref a0]) rfl (Nat.le_of_ble_eq_true rfl) (fun _ => rfl) (fun _ => ?_)
  refine g_iload_n X rfl dX6_addsPart_5 6 rfl ?_
  refine g_iload_n X rfl dX6_addsPart_6 7 rfl ?_
  obtain ⟨w2_m, hcl, h⟩ := bd1_e h
  refine g_callV0W X (met_X6_laysPart l Z a0 a1 a2 a3 a4 a5 a6 a7 a8 a9 a10 a11 v_savedCount v_scriptLength v_code v_lineParts v_pulseMany v_left v_dropped v_merged v_drops v_contributions v_packet v_peelResult v_peelTime v_peelSum v_at v_commands v_hash v_m v_saved v_script v_lengths v_fractions v_times v_energies v_far v_near v_echoes v_draft r1 x1 x2 w2_m hcl) rfl 0 gC5 rfl rfl (lw_V q1459 q1461 qs25 q74 q1462) md_X6_laysPart ⟨(Nat.le_of_ble_eq_true rfl), (Nat.le_of_ble_eq_true rfl)⟩ rfl dX6_addsPart_7 10 rfl 0 0 rfl rfl (Nat.le_of_ble_eq_true rfl) (Nat.le_of_ble_eq_true rfl) (st := []) rfl (Nat.le_of_ble_eq_true rfl) (fun _ => rfl) (fun _ => ?_)
  refine g_aload_n X rfl dX6_addsPart_10 11 rfl ?_
  refine g_get X gC5 0 rfl 0 (by decide) q1342 (fun _ h9 => h9) rfl dX6_addsPart_11 14 rfl ?_
  refine g_iconst X 0 dX6_addsPart_14 15 rfl kI_0 ?_
  refine g_dup2 X dX6_addsPart_15 16 rfl rfl rfl ?_
  obtain ⟨hi, h⟩ := gin_e h
  refine g_lald X 1 rfl hi dX6_addsPart_16 17 rfl ?_
  refine g_lconst X 1 dX6_addsPart_17 18 rfl rfl ?_
  refine g_ladd X dX6_addsPart_18 19 rfl ?_
  refine g_topl (fun t3 et3 => ?_)
  replace h := nm_at et3 h
  obtain ⟨hi, h⟩ := gin_e h
  refine g_last X 1 rfl hi dX6_addsPart_19 20 rfl ?_
  refine g_aload_n X rfl dX6_addsPart_20 21 rfl ?_
  obtain ⟨r4, hcl, h⟩ := bd1_e h
  refine g_callV1W X (met_X6_parts l Z a0 a1 a2 a3 a4 a5 a6 a7 a8 a9 a10 a11 v_savedCount v_scriptLength v_code v_lineParts v_pulseMany v_left v_dropped v_merged v_drops v_contributions v_packet v_peelResult v_peelTime v_peelSum v_at v_commands v_hash (vp_updL w2_m (Int32.toNatClampNeg 0) t3) v_saved v_script v_lengths v_fractions v_times v_energies v_far v_near v_echoes v_draft  r4 hcl) rfl 0 gC5 rfl rfl (lw_V q1447 q1449 qs22 q74 q1450) md_X6_parts ⟨(Nat.le_of_ble_eq_true rfl), (Nat.le_of_ble_eq_true rfl)⟩ rfl dX6_addsPart_21 24 rfl 0 0 rfl rfl (Nat.le_of_ble_eq_true rfl) (Nat.le_of_ble_eq_true rfl) (st := []) rfl (Nat.le_of_ble_eq_true rfl) (fun _ => rfl) (fun _ => ?_)
  cases h
  exact g_iret X dX6_addsPart_24 () rfl rfl (Nat.le_of_ble_eq_true rfl) (Nat.le_of_ble_eq_true rfl)
/-! LineEchoesModel.keep()V -/
abbrev rm_X6_keep : Room := { frames := 0, cells := 0, slots := 0, locals := 0 }
def B_X6_keep_51 (K51 : (Int32) → (Nat → Int64) → (Nat → Int64) → (Int32) → Option (Int32 × (Nat → Int64))) (v_savedCount : Int32) (v_m : Nat → Int64) (v_saved : Nat → Int64) (x1 : Int32) : Option (Int32 × (Nat → Int64)) :=
  if 431 ≤ x1 then
    (some (v_savedCount + 1, v_saved))
  else
    (gin x1 431 <|
    gin ((431 * v_savedCount) + x1) 1293 <|
    K51 v_savedCount v_m (vp_updL v_saved ((431 * v_savedCount) + x1).toNatClampNeg (v_m x1.toNatClampNeg)) (x1 + 1))
def F_X6_keep_51 : Nat → (Int32) → (Nat → Int64) → (Nat → Int64) → (Int32) → Option (Int32 × (Nat → Int64))
  | 0 => fun _ _ _ _ => none
  | n + 1 => B_X6_keep_51 (F_X6_keep_51 n)
def F_X6_keep_49 (v_savedCount : Int32) (v_m : Nat → Int64) (v_saved : Nat → Int64) : Option (Int32 × (Nat → Int64)) :=
  F_X6_keep_51 gFU v_savedCount v_m v_saved 0
def B_X6_keep_10 (K10 : (Int32) → (Nat → Int64) → (Nat → Int64) → (Int32) → Option (Int32 × (Nat → Int64))) (v_savedCount : Int32) (v_m : Nat → Int64) (v_saved : Nat → Int64) (x1 : Int32) : Option (Int32 × (Nat → Int64)) :=
  if 862 ≤ x1 then
    (F_X6_keep_49 (v_savedCount - 1) v_m v_saved)
  else
    (gin (x1 + 431) 1293 <|
    nm (v_saved (x1 + 431).toNatClampNeg) fun t1 =>
    gin x1 1293 <|
    K10 v_savedCount v_m (vp_updL v_saved x1.toNatClampNeg t1) (x1 + 1))
def F_X6_keep_10 : Nat → (Int32) → (Nat → Int64) → (Nat → Int64) → (Int32) → Option (Int32 × (Nat → Int64))
  | 0 => fun _ _ _ _ => none
  | n + 1 => B_X6_keep_10 (F_X6_keep_10 n)
def F_X6_keep (v_savedCount : Int32) (v_m : Nat → Int64) (v_saved : Nat → Int64) : Option (Int32 × (Nat → Int64)) :=
  if v_savedCount = 3 then
    (F_X6_keep_10 gFU v_savedCount v_m v_saved 0)
  else
    (F_X6_keep_49 v_savedCount v_m v_saved)
theorem w_X6_keep_51 {p : Program} {l : Launch} {e : Env} {s : State} {m : MethodId} {args : Array Value} {below : List Frame} {meth : Method} {c : Code} {Z : gZt} {A : Nat → Prop} (a0 : Nat) (a1 : Nat) (a2 : Nat) (a3 : Nat) (a4 : Nat) (a5 : Nat) (a6 : Nat) (a7 : Nat) (a8 : Nat) (a9 : Nat) (a10 : Nat) (a11 : Nat) (X : gX p s m args meth c Z A cX6_keep "LineEchoesModel" 2 none []) (r_savedCount : Int32) (r_saved : Nat → Int64)  : ∀ (n : Nat) (v_savedCount : Int32) (v_scriptLength : Int32) (v_code : Int32) (v_lineParts : Int32) (v_pulseMany : Int32) (v_left : Int64) (v_dropped : Int64) (v_merged : Int32) (v_drops : Int32) (v_contributions : Int32) (v_packet : Int64) (v_peelResult : Int32) (v_peelTime : Int32) (v_peelSum : Int32) (v_at : Int32) (v_commands : Int32) (v_hash : Int64) (v_m : Nat → Int64) (v_saved : Nat → Int64) (v_script : Nat → Int32) (v_lengths : Nat → Int32) (v_fractions : Nat → Int32) (v_times : Nat → Int32) (v_energies : Nat → Int64) (v_far : Nat → Int64) (v_near : Nat → Int64) (v_echoes : Nat → Int64) (v_draft : Nat → Int32) (x1 : Int32), F_X6_keep_51 n v_savedCount v_m v_saved x1 = some (r_savedCount, r_saved) → G p l e rm_X6_keep s m args below meth c Z A 2 (MQ below (gPost Z A (fun _ : Unit => (none : Option Value)) (fun _ : Unit => ([(a0, .inr (5, [.ref a1, .ref a2, .int r_savedCount, .ref a3, .int v_scriptLength, .int v_code, .int v_lineParts, .ref a4, .ref a5, .int v_pulseMany, .ref a6, .ref a7, .ref a8, .ref a9, .ref a10, .long v_left, .long v_dropped, .int v_merged, .int v_drops, .int v_contributions, .long v_packet, .int v_peelResult, .int v_peelTime, .int v_peelSum, .int v_at, .int v_commands, .ref a11, .long v_hash])), (a1, .inl (Z.2 1, 431, .inr (.inl v_m))), (a2, .inl (Z.2 1, 1293, .inr (.inl r_saved))), (a3, .inl (Z.2 0, 120, .inl v_script)), (a4, .inl (Z.2 0, 8, .inl v_lengths)), (a5, .inl (Z.2 0, 9, .inl v_fractions)), (a6, .inl (Z.2 0, 4, .inl v_times)), (a7, .inl (Z.2 1, 4, .inr (.inl v_energies))), (a8, .inl (Z.2 1, 1809, .inr (.inl v_far))), (a9, .inl (Z.2 1, 1809, .inr (.inl v_near))), (a10, .inl (Z.2 1, 201, .inr (.inl v_echoes))), (a11, .inl (Z.2 0, 120, .inl v_draft))] : va_W))) args s 0 0 A) [(a0, .inr (5, [.ref a1, .ref a2, .int v_savedCount, .ref a3, .int v_scriptLength, .int v_code, .int v_lineParts, .ref a4, .ref a5, .int v_pulseMany, .ref a6, .ref a7, .ref a8, .ref a9, .ref a10, .long v_left, .long v_dropped, .int v_merged, .int v_drops, .int v_contributions, .long v_packet, .int v_peelResult, .int v_peelTime, .int v_peelSum, .int v_at, .int v_commands, .ref a11, .long v_hash])), (a1, .inl (Z.2 1, 431, .inr (.inl v_m))), (a2, .inl (Z.2 1, 1293, .inr (.inl v_saved))), (a3, .inl (Z.2 0, 120, .inl v_script)), (a4, .inl (Z.2 0, 8, .inl v_lengths)), (a5, .inl (Z.2 0, 9, .inl v_fractions)), (a6, .inl (Z.2 0, 4, .inl v_times)), (a7, .inl (Z.2 1, 4, .inr (.inl v_energies))), (a8, .inl (Z.2 1, 1809, .inr (.inl v_far))), (a9, .inl (Z.2 1, 1809, .inr (.inl v_near))), (a10, .inl (Z.2 1, 201, .inr (.inl v_echoes))), (a11, .inl (Z.2 0, 120, .inl v_draft))] 0 0 51 [some (.ref a0), some (.int x1)] [] := by
  intro n
  induction n with
  | zero =>
    intro v_savedCount v_scriptLength v_code v_lineParts v_pulseMany v_left v_dropped v_merged v_drops v_contributions v_packet v_peelResult v_peelTime v_peelSum v_at v_commands v_hash v_m v_saved v_script v_lengths v_fractions v_times v_energies v_far v_near v_echoes v_draft x1 h
    cases h
  | succ n hK51 =>
    intro v_savedCount v_scriptLength v_code v_lineParts v_pulseMany v_left v_dropped v_merged v_drops v_contributions v_packet v_peelResult v_peelTime v_peelSum v_at v_commands v_hash v_m v_saved v_script v_lengths v_fractions v_times v_energies v_far v_near v_echoes v_draft x1 h
    replace h : B_X6_keep_51 (F_X6_keep_51 n) v_savedCount v_m v_saved x1 = some (r_savedCount, r_saved) := h
    unfold B_X6_keep_51 at h
    refine g_iload_n X rfl dX6_keep_51 52 rfl ?_
    refine g_sipush X 431 dX6_keep_52 55 rfl kS_431 ?_
    refine g_icmp_ge X dX6_keep_55 85 (by decide) 58 rfl (fun hc => ?_) (fun hc => ?_)
    · replace h := if_t hc h
      refine g_aload_n X rfl dX6_keep_85 86 rfl ?_
      refine g_dup X dX6_keep_86 87 rfl rfl ?_
      refine g_get X gC5 0 rfl 2 (by decide) q1344 (fun _ h9 => h9) rfl dX6_keep_87 90 rfl ?_
      refine g_iconst X 1 dX6_keep_90 91 rfl kI_1 ?_
      refine g_iadd X dX6_keep_91 92 rfl ?_
      refine g_put X gC5 0 rfl 2 (by decide) q1344 (fun _ h9 => h9) rfl rfl rfl (Nat.le_of_ble_eq_true rfl) dX6_keep_92 95 rfl ?_
      cases h
      exact g_vret X dX6_keep_95 () rfl rfl (Nat.le_of_ble_eq_true rfl) (Nat.le_of_ble_eq_true rfl)
    · replace h := if_f hc h
      refine g_aload_n X rfl dX6_keep_58 59 rfl ?_
      refine g_get X gC5 0 rfl 1 (by decide) q1343 (fun _ h9 => h9) rfl dX6_keep_59 62 rfl ?_
      refine g_sipush X 431 dX6_keep_62 65 rfl kS_431 ?_
      refine g_aload_n X rfl dX6_keep_65 66 rfl ?_
      refine g_get X gC5 0 rfl 2 (by decide) q1344 (fun _ h9 => h9) rfl dX6_keep_66 69 rfl ?_
      refine g_imul X dX6_keep_69 70 rfl ?_
      refine g_iload_n X rfl dX6_keep_70 71 rfl ?_
      refine g_iadd X dX6_keep_71 72 rfl ?_
      refine g_aload_n X rfl dX6_keep_72 73 rfl ?_
      refine g_get X gC5 0 rfl 0 (by decide) q1342 (fun _ h9 => h9) rfl dX6_keep_73 76 rfl ?_
      refine g_iload_n X rfl dX6_keep_76 77 rfl ?_
      obtain ⟨hi, h⟩ := gin_e h
      refine g_lald X 1 rfl hi dX6_keep_77 78 rfl ?_
      obtain ⟨hi, h⟩ := gin_e h
      refine g_last X 2 rfl hi dX6_keep_78 79 rfl ?_
      refine g_iinc X 1 rfl dX6_keep_79 82 rfl kI_1 (Nat.le_of_ble_eq_true rfl) rfl [some (.ref a0), some (.int (x1 + 1))] rfl ?_
      refine g_goto X dX6_keep_82 51 (by decide) ?_
      exact hK51 v_savedCount v_scriptLength v_code v_lineParts v_pulseMany v_left v_dropped v_merged v_drops v_contributions v_packet v_peelResult v_peelTime v_peelSum v_at v_commands v_hash v_m (vp_updL v_saved ((431 * v_savedCount) + x1).toNatClampNeg (v_m x1.toNatClampNeg)) v_script v_lengths v_fractions v_times v_energies v_far v_near v_echoes v_draft (x1 + 1) h
theorem w_X6_keep_49 {p : Program} {l : Launch} {e : Env} {s : State} {m : MethodId} {args : Array Value} {below : List Frame} {meth : Method} {c : Code} {Z : gZt} {A : Nat → Prop} (a0 : Nat) (a1 : Nat) (a2 : Nat) (a3 : Nat) (a4 : Nat) (a5 : Nat) (a6 : Nat) (a7 : Nat) (a8 : Nat) (a9 : Nat) (a10 : Nat) (a11 : Nat) (X : gX p s m args meth c Z A cX6_keep "LineEchoesModel" 2 none []) (r_savedCount : Int32) (r_saved : Nat → Int64)  (v_savedCount : Int32) (v_scriptLength : Int32) (v_code : Int32) (v_lineParts : Int32) (v_pulseMany : Int32) (v_left : Int64) (v_dropped : Int64) (v_merged : Int32) (v_drops : Int32) (v_contributions : Int32) (v_packet : Int64) (v_peelResult : Int32) (v_peelTime : Int32) (v_peelSum : Int32) (v_at : Int32) (v_commands : Int32) (v_hash : Int64) (v_m : Nat → Int64) (v_saved : Nat → Int64) (v_script : Nat → Int32) (v_lengths : Nat → Int32) (v_fractions : Nat → Int32) (v_times : Nat → Int32) (v_energies : Nat → Int64) (v_far : Nat → Int64) (v_near : Nat → Int64) (v_echoes : Nat → Int64) (v_draft : Nat → Int32) (h : F_X6_keep_49 v_savedCount v_m v_saved = some (r_savedCount, r_saved)) : G p l e rm_X6_keep s m args below meth c Z A 2 (MQ below (gPost Z A (fun _ : Unit => (none : Option Value)) (fun _ : Unit => ([(a0, .inr (5, [.ref a1, .ref a2, .int r_savedCount, .ref a3, .int v_scriptLength, .int v_code, .int v_lineParts, .ref a4, .ref a5, .int v_pulseMany, .ref a6, .ref a7, .ref a8, .ref a9, .ref a10, .long v_left, .long v_dropped, .int v_merged, .int v_drops, .int v_contributions, .long v_packet, .int v_peelResult, .int v_peelTime, .int v_peelSum, .int v_at, .int v_commands, .ref a11, .long v_hash])), (a1, .inl (Z.2 1, 431, .inr (.inl v_m))), (a2, .inl (Z.2 1, 1293, .inr (.inl r_saved))), (a3, .inl (Z.2 0, 120, .inl v_script)), (a4, .inl (Z.2 0, 8, .inl v_lengths)), (a5, .inl (Z.2 0, 9, .inl v_fractions)), (a6, .inl (Z.2 0, 4, .inl v_times)), (a7, .inl (Z.2 1, 4, .inr (.inl v_energies))), (a8, .inl (Z.2 1, 1809, .inr (.inl v_far))), (a9, .inl (Z.2 1, 1809, .inr (.inl v_near))), (a10, .inl (Z.2 1, 201, .inr (.inl v_echoes))), (a11, .inl (Z.2 0, 120, .inl v_draft))] : va_W))) args s 0 0 A) [(a0, .inr (5, [.ref a1, .ref a2, .int v_savedCount, .ref a3, .int v_scriptLength, .int v_code, .int v_lineParts, .ref a4, .ref a5, .int v_pulseMany, .ref a6, .ref a7, .ref a8, .ref a9, .ref a10, .long v_left, .long v_dropped, .int v_merged, .int v_drops, .int v_contributions, .long v_packet, .int v_peelResult, .int v_peelTime, .int v_peelSum, .int v_at, .int v_commands, .ref a11, .long v_hash])), (a1, .inl (Z.2 1, 431, .inr (.inl v_m))), (a2, .inl (Z.2 1, 1293, .inr (.inl v_saved))), (a3, .inl (Z.2 0, 120, .inl v_script)), (a4, .inl (Z.2 0, 8, .inl v_lengths)), (a5, .inl (Z.2 0, 9, .inl v_fractions)), (a6, .inl (Z.2 0, 4, .inl v_times)), (a7, .inl (Z.2 1, 4, .inr (.inl v_energies))), (a8, .inl (Z.2 1, 1809, .inr (.inl v_far))), (a9, .inl (Z.2 1, 1809, .inr (.inl v_near))), (a10, .inl (Z.2 1, 201, .inr (.inl v_echoes))), (a11, .inl (Z.2 0, 120, .inl v_draft))] 0 0 49 [some (.ref a0), none] [] := by
  unfold F_X6_keep_49 at h
  refine g_iconst X 0 dX6_keep_49 50 rfl kI_0 ?_
  refine g_istore_n X dX6_keep_50 51 rfl (Nat.le_of_ble_eq_true rfl) rfl [some (.ref a0), some (.int 0)] rfl ?_
  exact w_X6_keep_51 a0 a1 a2 a3 a4 a5 a6 a7 a8 a9 a10 a11  X  r_savedCount r_saved    gFU v_savedCount v_scriptLength v_code v_lineParts v_pulseMany v_left v_dropped v_merged v_drops v_contributions v_packet v_peelResult v_peelTime v_peelSum v_at v_commands v_hash v_m v_saved v_script v_lengths v_fractions v_times v_energies v_far v_near v_echoes v_draft 0 h
theorem w_X6_keep_10 {p : Program} {l : Launch} {e : Env} {s : State} {m : MethodId} {args : Array Value} {below : List Frame} {meth : Method} {c : Code} {Z : gZt} {A : Nat → Prop} (a0 : Nat) (a1 : Nat) (a2 : Nat) (a3 : Nat) (a4 : Nat) (a5 : Nat) (a6 : Nat) (a7 : Nat) (a8 : Nat) (a9 : Nat) (a10 : Nat) (a11 : Nat) (X : gX p s m args meth c Z A cX6_keep "LineEchoesModel" 2 none []) (r_savedCount : Int32) (r_saved : Nat → Int64)  : ∀ (n : Nat) (v_savedCount : Int32) (v_scriptLength : Int32) (v_code : Int32) (v_lineParts : Int32) (v_pulseMany : Int32) (v_left : Int64) (v_dropped : Int64) (v_merged : Int32) (v_drops : Int32) (v_contributions : Int32) (v_packet : Int64) (v_peelResult : Int32) (v_peelTime : Int32) (v_peelSum : Int32) (v_at : Int32) (v_commands : Int32) (v_hash : Int64) (v_m : Nat → Int64) (v_saved : Nat → Int64) (v_script : Nat → Int32) (v_lengths : Nat → Int32) (v_fractions : Nat → Int32) (v_times : Nat → Int32) (v_energies : Nat → Int64) (v_far : Nat → Int64) (v_near : Nat → Int64) (v_echoes : Nat → Int64) (v_draft : Nat → Int32) (x1 : Int32), F_X6_keep_10 n v_savedCount v_m v_saved x1 = some (r_savedCount, r_saved) → G p l e rm_X6_keep s m args below meth c Z A 2 (MQ below (gPost Z A (fun _ : Unit => (none : Option Value)) (fun _ : Unit => ([(a0, .inr (5, [.ref a1, .ref a2, .int r_savedCount, .ref a3, .int v_scriptLength, .int v_code, .int v_lineParts, .ref a4, .ref a5, .int v_pulseMany, .ref a6, .ref a7, .ref a8, .ref a9, .ref a10, .long v_left, .long v_dropped, .int v_merged, .int v_drops, .int v_contributions, .long v_packet, .int v_peelResult, .int v_peelTime, .int v_peelSum, .int v_at, .int v_commands, .ref a11, .long v_hash])), (a1, .inl (Z.2 1, 431, .inr (.inl v_m))), (a2, .inl (Z.2 1, 1293, .inr (.inl r_saved))), (a3, .inl (Z.2 0, 120, .inl v_script)), (a4, .inl (Z.2 0, 8, .inl v_lengths)), (a5, .inl (Z.2 0, 9, .inl v_fractions)), (a6, .inl (Z.2 0, 4, .inl v_times)), (a7, .inl (Z.2 1, 4, .inr (.inl v_energies))), (a8, .inl (Z.2 1, 1809, .inr (.inl v_far))), (a9, .inl (Z.2 1, 1809, .inr (.inl v_near))), (a10, .inl (Z.2 1, 201, .inr (.inl v_echoes))), (a11, .inl (Z.2 0, 120, .inl v_draft))] : va_W))) args s 0 0 A) [(a0, .inr (5, [.ref a1, .ref a2, .int v_savedCount, .ref a3, .int v_scriptLength, .int v_code, .int v_lineParts, .ref a4, .ref a5, .int v_pulseMany, .ref a6, .ref a7, .ref a8, .ref a9, .ref a10, .long v_left, .long v_dropped, .int v_merged, .int v_drops, .int v_contributions, .long v_packet, .int v_peelResult, .int v_peelTime, .int v_peelSum, .int v_at, .int v_commands, .ref a11, .long v_hash])), (a1, .inl (Z.2 1, 431, .inr (.inl v_m))), (a2, .inl (Z.2 1, 1293, .inr (.inl v_saved))), (a3, .inl (Z.2 0, 120, .inl v_script)), (a4, .inl (Z.2 0, 8, .inl v_lengths)), (a5, .inl (Z.2 0, 9, .inl v_fractions)), (a6, .inl (Z.2 0, 4, .inl v_times)), (a7, .inl (Z.2 1, 4, .inr (.inl v_energies))), (a8, .inl (Z.2 1, 1809, .inr (.inl v_far))), (a9, .inl (Z.2 1, 1809, .inr (.inl v_near))), (a10, .inl (Z.2 1, 201, .inr (.inl v_echoes))), (a11, .inl (Z.2 0, 120, .inl v_draft))] 0 0 10 [some (.ref a0), some (.int x1)] [] := by
  intro n
  induction n with
  | zero =>
    intro v_savedCount v_scriptLength v_code v_lineParts v_pulseMany v_left v_dropped v_merged v_drops v_contributions v_packet v_peelResult v_peelTime v_peelSum v_at v_commands v_hash v_m v_saved v_script v_lengths v_fractions v_times v_energies v_far v_near v_echoes v_draft x1 h
    cases h
  | succ n hK10 =>
    intro v_savedCount v_scriptLength v_code v_lineParts v_pulseMany v_left v_dropped v_merged v_drops v_contributions v_packet v_peelResult v_peelTime v_peelSum v_at v_commands v_hash v_m v_saved v_script v_lengths v_fractions v_times v_energies v_far v_near v_echoes v_draft x1 h
    replace h : B_X6_keep_10 (F_X6_keep_10 n) v_savedCount v_m v_saved x1 = some (r_savedCount, r_saved) := h
    unfold B_X6_keep_10 at h
    refine g_iload_n X rfl dX6_keep_10 11 rfl ?_
    refine g_sipush X 862 dX6_keep_11 14 rfl kS_862 ?_
    refine g_icmp_ge X dX6_keep_14 39 (by decide) 17 rfl (fun hc => ?_) (fun hc => ?_)
    · replace h := if_t hc h
      refine g_aload_n X rfl dX6_keep_39 40 rfl ?_
      refine g_dup X dX6_keep_40 41 rfl rfl ?_
      refine g_get X gC5 0 rfl 2 (by decide) q1344 (fun _ h9 => h9) rfl dX6_keep_41 44 rfl ?_
      refine g_iconst X 1 dX6_keep_44 45 rfl kI_1 ?_
      refine g_isub X dX6_keep_45 46 rfl ?_
      refine g_put X gC5 0 rfl 2 (by decide) q1344 (fun _ h9 => h9) rfl rfl rfl (Nat.le_of_ble_eq_true rfl) dX6_keep_46 49 rfl ?_
      refine g_kill (j := 1) [some (.ref a0), none] rfl ?_
      exact w_X6_keep_49 a0 a1 a2 a3 a4 a5 a6 a7 a8 a9 a10 a11  X  r_savedCount r_saved    (v_savedCount - 1) v_scriptLength v_code v_lineParts v_pulseMany v_left v_dropped v_merged v_drops v_contributions v_packet v_peelResult v_peelTime v_peelSum v_at v_commands v_hash v_m v_saved v_script v_lengths v_fractions v_times v_energies v_far v_near v_echoes v_draft h
    · replace h := if_f hc h
      refine g_aload_n X rfl dX6_keep_17 18 rfl ?_
      refine g_get X gC5 0 rfl 1 (by decide) q1343 (fun _ h9 => h9) rfl dX6_keep_18 21 rfl ?_
      refine g_iload_n X rfl dX6_keep_21 22 rfl ?_
      refine g_aload_n X rfl dX6_keep_22 23 rfl ?_
      refine g_get X gC5 0 rfl 1 (by decide) q1343 (fun _ h9 => h9) rfl dX6_keep_23 26 rfl ?_
      refine g_iload_n X rfl dX6_keep_26 27 rfl ?_
      refine g_sipush X 431 dX6_keep_27 30 rfl kS_431 ?_
      refine g_iadd X dX6_keep_30 31 rfl ?_
      obtain ⟨hi, h⟩ := gin_e h
      refine g_lald X 2 rfl hi dX6_keep_31 32 rfl ?_
      refine g_topl (fun t1 et1 => ?_)
      replace h := nm_at et1 h
      obtain ⟨hi, h⟩ := gin_e h
      refine g_last X 2 rfl hi dX6_keep_32 33 rfl ?_
      refine g_iinc X 1 rfl dX6_keep_33 36 rfl kI_1 (Nat.le_of_ble_eq_true rfl) rfl [some (.ref a0), some (.int (x1 + 1))] rfl ?_
      refine g_goto X dX6_keep_36 10 (by decide) ?_
      exact hK10 v_savedCount v_scriptLength v_code v_lineParts v_pulseMany v_left v_dropped v_merged v_drops v_contributions v_packet v_peelResult v_peelTime v_peelSum v_at v_commands v_hash v_m (vp_updL v_saved x1.toNatClampNeg t1) v_script v_lengths v_fractions v_times v_energies v_far v_near v_echoes v_draft (x1 + 1) h
theorem met_X6_keep (l : Launch) (Z : gZt) (a0 : Nat) (a1 : Nat) (a2 : Nat) (a3 : Nat) (a4 : Nat) (a5 : Nat) (a6 : Nat) (a7 : Nat) (a8 : Nat) (a9 : Nat) (a10 : Nat) (a11 : Nat) (v_savedCount : Int32) (v_scriptLength : Int32) (v_code : Int32) (v_lineParts : Int32) (v_pulseMany : Int32) (v_left : Int64) (v_dropped : Int64) (v_merged : Int32) (v_drops : Int32) (v_contributions : Int32) (v_packet : Int64) (v_peelResult : Int32) (v_peelTime : Int32) (v_peelSum : Int32) (v_at : Int32) (v_commands : Int32) (v_hash : Int64) (v_m : Nat → Int64) (v_saved : Nat → Int64) (v_script : Nat → Int32) (v_lengths : Nat → Int32) (v_fractions : Nat → Int32) (v_times : Nat → Int32) (v_energies : Nat → Int64) (v_far : Nat → Int64) (v_near : Nat → Int64) (v_echoes : Nat → Int64) (v_draft : Nat → Int32) (r_savedCount : Int32) (r_saved : Nat → Int64) (h : F_X6_keep v_savedCount v_m v_saved = some (r_savedCount, r_saved)) : Ct l yX6_keep (ws_ yX6_keep cX6_keep 2 none) rm_X6_keep Z [.ref a0] [(a0, .inr (5, [.ref a1, .ref a2, .int v_savedCount, .ref a3, .int v_scriptLength, .int v_code, .int v_lineParts, .ref a4, .ref a5, .int v_pulseMany, .ref a6, .ref a7, .ref a8, .ref a9, .ref a10, .long v_left, .long v_dropped, .int v_merged, .int v_drops, .int v_contributions, .long v_packet, .int v_peelResult, .int v_peelTime, .int v_peelSum, .int v_at, .int v_commands, .ref a11, .long v_hash])), (a1, .inl (Z.2 1, 431, .inr (.inl v_m))), (a2, .inl (Z.2 1, 1293, .inr (.inl v_saved))), (a3, .inl (Z.2 0, 120, .inl v_script)), (a4, .inl (Z.2 0, 8, .inl v_lengths)), (a5, .inl (Z.2 0, 9, .inl v_fractions)), (a6, .inl (Z.2 0, 4, .inl v_times)), (a7, .inl (Z.2 1, 4, .inr (.inl v_energies))), (a8, .inl (Z.2 1, 1809, .inr (.inl v_far))), (a9, .inl (Z.2 1, 1809, .inr (.inl v_near))), (a10, .inl (Z.2 1, 201, .inr (.inl v_echoes))), (a11, .inl (Z.2 0, 120, .inl v_draft))] [] (fun _ : Unit => (none : Option Value)) (fun _ : Unit => ([(a0, .inr (5, [.ref a1, .ref a2, .int r_savedCount, .ref a3, .int v_scriptLength, .int v_code, .int v_lineParts, .ref a4, .ref a5, .int v_pulseMany, .ref a6, .ref a7, .ref a8, .ref a9, .ref a10, .long v_left, .long v_dropped, .int v_merged, .int v_drops, .int v_contributions, .long v_packet, .int v_peelResult, .int v_peelTime, .int v_peelSum, .int v_at, .int v_commands, .ref a11, .long v_hash])), (a1, .inl (Z.2 1, 431, .inr (.inl v_m))), (a2, .inl (Z.2 1, 1293, .inr (.inl r_saved))), (a3, .inl (Z.2 0, 120, .inl v_script)), (a4, .inl (Z.2 0, 8, .inl v_lengths)), (a5, .inl (Z.2 0, 9, .inl v_fractions)), (a6, .inl (Z.2 0, 4, .inl v_times)), (a7, .inl (Z.2 1, 4, .inr (.inl v_energies))), (a8, .inl (Z.2 1, 1809, .inr (.inl v_far))), (a9, .inl (Z.2 1, 1809, .inr (.inl v_near))), (a10, .inl (Z.2 1, 201, .inr (.inl v_echoes))), (a11, .inl (Z.2 0, 120, .inl v_draft))] : va_W)) := by
  refine Ct.of cX6_keep 2 none "LineEchoesModel" [some (.ref a0), none] 1 (by decide) rfl (Nat.le_of_ble_eq_true rfl) rfl (fun p e s m args below meth c A X hin => ?_)
  unfold F_X6_keep at h
  refine g_aload_n X rfl dX6_keep_0 1 rfl ?_
  refine g_get X gC5 0 rfl 2 (by decide) q1344 (fun _ h9 => h9) rfl dX6_keep_1 4 rfl ?_
  refine g_iconst X 3 dX6_keep_4 5 rfl kI_3 ?_
  refine g_icmp_ne X dX6_keep_5 49 (by decide) 8 rfl (fun hc => ?_) (fun hc => ?_)
  · replace h := if_f hc h
    exact w_X6_keep_49 a0 a1 a2 a3 a4 a5 a6 a7 a8 a9 a10 a11  X  r_savedCount r_saved    v_savedCount v_scriptLength v_code v_lineParts v_pulseMany v_left v_dropped v_merged v_drops v_contributions v_packet v_peelResult v_peelTime v_peelSum v_at v_commands v_hash v_m v_saved v_script v_lengths v_fractions v_times v_energies v_far v_near v_echoes v_draft h
  · replace h := if_t hc h
    refine g_iconst X 0 dX6_keep_8 9 rfl kI_0 ?_
    refine g_istore_n X dX6_keep_9 10 rfl (Nat.le_of_ble_eq_true rfl) rfl [some (.ref a0), some (.int 0)] rfl ?_
    exact w_X6_keep_10 a0 a1 a2 a3 a4 a5 a6 a7 a8 a9 a10 a11  X  r_savedCount r_saved    gFU v_savedCount v_scriptLength v_code v_lineParts v_pulseMany v_left v_dropped v_merged v_drops v_contributions v_packet v_peelResult v_peelTime v_peelSum v_at v_commands v_hash v_m v_saved v_script v_lengths v_fractions v_times v_energies v_far v_near v_echoes v_draft 0 h
/-! LineEchoesModel.in(JJJ)Z -/
abbrev rm_X6_in : Room := { frames := 0, cells := 0, slots := 0, locals := 0 }
def F_X6_in (x0 : Int64) (x2 : Int64) (x4 : Int64) : Option (Int32) :=
  some (if x0 < x2 then (0 : Int32) else (if x4 < x0 then (0 : Int32) else 1))
theorem met_X6_in (l : Launch) (Z : gZt) (x0 : Int64) (x2 : Int64) (x4 : Int64) (r : Int32) (h : F_X6_in x0 x2 x4 = some r) : Ct l yX6_in (ws_ yX6_in cX6_in 6 (some .boolean)) rm_X6_in Z [.long x0, .long x2, .long x4] [] [] (fun _ : Unit => (some (.int r) : Option Value)) (fun _ : Unit => ([] : va_W)) := by
  refine Ct.of cX6_in 6 (some .boolean) "LineEchoesModel" [some (.long x0), none, some (.long x2), none, some (.long x4), none] 0 (by decide) rfl (Nat.le_of_ble_eq_true rfl) rfl (fun p e s m args below meth c A X hin => ?_)
  unfold F_X6_in at h
  refine g_lload_n X rfl dX6_in_0 1 rfl ?_
  refine g_lload_n X rfl dX6_in_1 2 rfl ?_
  refine g_seli 18 [] (b := x0 < x2) 0 (if x4 < x0 then (0 : Int32) else 1) ?_ (fun hc K => ?_) (fun hc K => ?_)
  · cases h
    exact g_zret X dX6_in_18 (gb_if gb_0 (gb_if gb_0 gb_1)) () rfl rfl (Nat.le_of_ble_eq_true rfl) (Nat.le_of_ble_eq_true rfl)
  · refine g_lcmp_lt X dX6_in_2 3 rfl dX6_in_3 17 (by decide) 6 rfl (fun _ => ?_) (fun hn => absurd hc hn)
    refine g_iconst X 0 dX6_in_17 18 rfl kI_0 ?_
    exact K
  · refine g_lcmp_lt X dX6_in_2 3 rfl dX6_in_3 17 (by decide) 6 rfl (fun hn => absurd hn hc) (fun _ => ?_)
    refine g_lload_n X rfl dX6_in_6 7 rfl ?_
    refine g_lload X rfl dX6_in_7 9 rfl ?_
    refine g_lcmp_gt X dX6_in_9 10 rfl dX6_in_10 17 (by decide) 13 rfl (fun hc => ?_) (fun hc => ?_)
    · replace K := gsel_ti hc K
      refine g_iconst X 0 dX6_in_17 18 rfl kI_0 ?_
      exact K
    · replace K := gsel_fi hc K
      refine g_iconst X 1 dX6_in_13 14 rfl kI_1 ?_
      refine g_goto X dX6_in_14 18 (by decide) ?_
      exact K
/-! LineEchoesModel.arePartNumbers(II)Z -/
abbrev rm_X6_arePartNumbers : Room := { frames := 1, cells := 0, slots := 0, locals := 25 }
def F_X6_arePartNumbers_29 (s0 : Int32) : Option (Int32) :=
  gch (s0 = 0 ∨ s0 = 1) <|
  some s0
def F_X6_arePartNumbers_28 : Option (Int32) :=
  F_X6_arePartNumbers_29 0
def F_X6_arePartNumbers (x0 : Int32) (x1 : Int32) : Option (Int32) :=
  bd1 (F_X6_in x0.toInt64 1 20) fun r1 =>
  if r1 = 0 then
    (F_X6_arePartNumbers_28)
  else
    (bd1 (F_X6_in x1.toInt64 0 1000) fun r2 =>
    if r2 = 0 then
      (F_X6_arePartNumbers_28)
    else
      (F_X6_arePartNumbers_29 1))
theorem w_X6_arePartNumbers_29 {p : Program} {l : Launch} {e : Env} {s : State} {m : MethodId} {args : Array Value} {below : List Frame} {meth : Method} {c : Code} {Z : gZt} {A : Nat → Prop} (X : gX p s m args meth c Z A cX6_arePartNumbers "LineEchoesModel" 2 (some .boolean) []) (r : Int32)  (s0 : Int32) (h : F_X6_arePartNumbers_29 s0 = some r) : G p l e rm_X6_arePartNumbers s m args below meth c Z A 2 (MQ below (gPost Z A (fun _ : Unit => (some (.int r) : Option Value)) (fun _ : Unit => ([] : va_W))) args s 0 0 A) [] 0 0 29 [none, none] [.int s0] := by
  unfold F_X6_arePartNumbers_29 at h
  obtain ⟨hz, h⟩ := gch_e h
  cases h
  exact g_zret X dX6_arePartNumbers_29 (gb_01 hz) () rfl rfl (Nat.le_of_ble_eq_true rfl) (Nat.le_of_ble_eq_true rfl)
theorem w_X6_arePartNumbers_28 {p : Program} {l : Launch} {e : Env} {s : State} {m : MethodId} {args : Array Value} {below : List Frame} {meth : Method} {c : Code} {Z : gZt} {A : Nat → Prop} (X : gX p s m args meth c Z A cX6_arePartNumbers "LineEchoesModel" 2 (some .boolean) []) (r : Int32)  (h : F_X6_arePartNumbers_28 = some r) : G p l e rm_X6_arePartNumbers s m args below meth c Z A 2 (MQ below (gPost Z A (fun _ : Unit => (some (.int r) : Option Value)) (fun _ : Unit => ([] : va_W))) args s 0 0 A) [] 0 0 28 [none, none] [] := by
  unfold F_X6_arePartNumbers_28 at h
  refine g_iconst X 0 dX6_arePartNumbers_28 29 rfl kI_0 ?_
  exact w_X6_arePartNumbers_29   X  r    0 h
theorem met_X6_arePartNumbers (l : Launch) (Z : gZt) (x0 : Int32) (x1 : Int32) (r : Int32) (h : F_X6_arePartNumbers x0 x1 = some r) : Ct l yX6_arePartNumbers (ws_ yX6_arePartNumbers cX6_arePartNumbers 2 (some .boolean)) rm_X6_arePartNumbers Z [.int x0, .int x1] [] [] (fun _ : Unit => (some (.int r) : Option Value)) (fun _ : Unit => ([] : va_W)) := by
  refine Ct.of cX6_arePartNumbers 2 (some .boolean) "LineEchoesModel" [some (.int x0), some (.int x1)] 0 (by decide) rfl (Nat.le_of_ble_eq_true rfl) rfl (fun p e s m args below meth c A X hin => ?_)
  unfold F_X6_arePartNumbers at h
  refine g_iload_n X rfl dX6_arePartNumbers_0 1 rfl ?_
  refine g_i2l X dX6_arePartNumbers_1 2 rfl ?_
  refine g_lconst X 1 dX6_arePartNumbers_2 3 rfl rfl ?_
  refine g_ldc2 X q1442 dX6_arePartNumbers_3 6 rfl ?_
  obtain ⟨r1, hcl, h⟩ := bd1_e h
  refine g_callS1Z X (met_X6_in l Z   x0.toInt64 1 20 r1 hcl) (lw_S q1443 q1444 q74 q1445) md_X6_in ⟨(Nat.le_of_ble_eq_true rfl), (Nat.le_of_ble_eq_true rfl)⟩ rfl dX6_arePartNumbers_6 9 rfl 0 0 rfl rfl (Nat.le_of_ble_eq_true rfl) (Nat.le_of_ble_eq_true rfl) (st := []) rfl (Nat.le_of_ble_eq_true rfl) (fun _ => rfl) (fun _ => ?_)
  refine g_if_eq X dX6_arePartNumbers_9 28 (by decide) 12 rfl (fun hc => ?_) (fun hc => ?_)
  · replace h := if_t hc h
    refine g_kill (j := 0) [none, some (.int x1)] rfl ?_
    refine g_kill (j := 1) [none, none] rfl ?_
    exact w_X6_arePartNumbers_28   X  r     h
  · replace h := if_f hc h
    refine g_iload_n X rfl dX6_arePartNumbers_12 13 rfl ?_
    refine g_i2l X dX6_arePartNumbers_13 14 rfl ?_
    refine g_lconst X 0 dX6_arePartNumbers_14 15 rfl rfl ?_
    refine g_ldc2 X q1446 dX6_arePartNumbers_15 18 rfl ?_
    obtain ⟨r2, hcl, h⟩ := bd1_e h
    refine g_callS1Z X (met_X6_in l Z   x1.toInt64 0 1000 r2 hcl) (lw_S q1443 q1444 q74 q1445) md_X6_in ⟨(Nat.le_of_ble_eq_true rfl), (Nat.le_of_ble_eq_true rfl)⟩ rfl dX6_arePartNumbers_18 21 rfl 0 0 rfl rfl (Nat.le_of_ble_eq_true rfl) (Nat.le_of_ble_eq_true rfl) (st := []) rfl (Nat.le_of_ble_eq_true rfl) (fun _ => rfl) (fun _ => ?_)
    refine g_if_eq X dX6_arePartNumbers_21 28 (by decide) 24 rfl (fun hc => ?_) (fun hc => ?_)
    · replace h := if_t hc h
      refine g_kill (j := 0) [none, some (.int x1)] rfl ?_
      refine g_kill (j := 1) [none, none] rfl ?_
      exact w_X6_arePartNumbers_28   X  r     h
    · replace h := if_f hc h
      refine g_iconst X 1 dX6_arePartNumbers_24 25 rfl kI_1 ?_
      refine g_goto X dX6_arePartNumbers_25 29 (by decide) ?_
      refine g_kill (j := 0) [none, some (.int x1)] rfl ?_
      refine g_kill (j := 1) [none, none] rfl ?_
      exact w_X6_arePartNumbers_29   X  r    1 h
/-! LineEchoesModel.whyNoPart(II)I -/
abbrev rm_X6_whyNoPart : Room := { frames := 2, cells := 0, slots := 0, locals := 46 }
def F_X6_whyNoPart_26 (s0 : Int32) : Option (Int32) :=
  some s0
def F_X6_whyNoPart (v_m : Nat → Int64) (x1 : Int32) (x2 : Int32) : Option (Int32) :=
  bd1 (F_X6_arePartNumbers x1 x2) fun r1 =>
  if r1 = 0 then
    (F_X6_whyNoPart_26 1)
  else
    (bd1 (F_X6_parts v_m) fun r2 =>
    F_X6_whyNoPart_26 (if r2 = 8 then (2 : Int32) else 0))
theorem w_X6_whyNoPart_26 {p : Program} {l : Launch} {e : Env} {s : State} {m : MethodId} {args : Array Value} {below : List Frame} {meth : Method} {c : Code} {Z : gZt} {A : Nat → Prop} (a0 : Nat) (a1 : Nat) (a2 : Nat) (a3 : Nat) (a4 : Nat) (a5 : Nat) (a6 : Nat) (a7 : Nat) (a8 : Nat) (a9 : Nat) (a10 : Nat) (a11 : Nat) (X : gX p s m args meth c Z A cX6_whyNoPart "LineEchoesModel" 3 (some .int) []) (r : Int32)  (v_savedCount : Int32) (v_scriptLength : Int32) (v_code : Int32) (v_lineParts : Int32) (v_pulseMany : Int32) (v_left : Int64) (v_dropped : Int64) (v_merged : Int32) (v_drops : Int32) (v_contributions : Int32) (v_packet : Int64) (v_peelResult : Int32) (v_peelTime : Int32) (v_peelSum : Int32) (v_at : Int32) (v_commands : Int32) (v_hash : Int64) (v_m : Nat → Int64) (v_saved : Nat → Int64) (v_script : Nat → Int32) (v_lengths : Nat → Int32) (v_fractions : Nat → Int32) (v_times : Nat → Int32) (v_energies : Nat → Int64) (v_far : Nat → Int64) (v_near : Nat → Int64) (v_echoes : Nat → Int64) (v_draft : Nat → Int32) (s0 : Int32) (h : F_X6_whyNoPart_26 s0 = some r) : G p l e rm_X6_whyNoPart s m args below meth c Z A 3 (MQ below (gPost Z A (fun _ : Unit => (some (.int r) : Option Value)) (fun _ : Unit => ([(a0, .inr (5, [.ref a1, .ref a2, .int v_savedCount, .ref a3, .int v_scriptLength, .int v_code, .int v_lineParts, .ref a4, .ref a5, .int v_pulseMany, .ref a6, .ref a7, .ref a8, .ref a9, .ref a10, .long v_left, .long v_dropped, .int v_merged, .int v_drops, .int v_contributions, .long v_packet, .int v_peelResult, .int v_peelTime, .int v_peelSum, .int v_at, .int v_commands, .ref a11, .long v_hash])), (a1, .inl (Z.2 1, 431, .inr (.inl v_m))), (a2, .inl (Z.2 1, 1293, .inr (.inl v_saved))), (a3, .inl (Z.2 0, 120, .inl v_script)), (a4, .inl (Z.2 0, 8, .inl v_lengths)), (a5, .inl (Z.2 0, 9, .inl v_fractions)), (a6, .inl (Z.2 0, 4, .inl v_times)), (a7, .inl (Z.2 1, 4, .inr (.inl v_energies))), (a8, .inl (Z.2 1, 1809, .inr (.inl v_far))), (a9, .inl (Z.2 1, 1809, .inr (.inl v_near))), (a10, .inl (Z.2 1, 201, .inr (.inl v_echoes))), (a11, .inl (Z.2 0, 120, .inl v_draft))] : va_W))) args s 0 0 A) [(a0, .inr (5, [.ref a1, .ref a2, .int v_savedCount, .ref a3, .int v_scriptLength, .int v_code, .int v_lineParts, .ref a4, .ref a5, .int v_pulseMany, .ref a6, .ref a7, .ref a8, .ref a9, .ref a10, .long v_left, .long v_dropped, .int v_merged, .int v_drops, .int v_contributions, .long v_packet, .int v_peelResult, .int v_peelTime, .int v_peelSum, .int v_at, .int v_commands, .ref a11, .long v_hash])), (a1, .inl (Z.2 1, 431, .inr (.inl v_m))), (a2, .inl (Z.2 1, 1293, .inr (.inl v_saved))), (a3, .inl (Z.2 0, 120, .inl v_script)), (a4, .inl (Z.2 0, 8, .inl v_lengths)), (a5, .inl (Z.2 0, 9, .inl v_fractions)), (a6, .inl (Z.2 0, 4, .inl v_times)), (a7, .inl (Z.2 1, 4, .inr (.inl v_energies))), (a8, .inl (Z.2 1, 1809, .inr (.inl v_far))), (a9, .inl (Z.2 1, 1809, .inr (.inl v_near))), (a10, .inl (Z.2 1, 201, .inr (.inl v_echoes))), (a11, .inl (Z.2 0, 120, .inl v_draft))] 0 0 26 [none, none, none] [.int s0] := by
  unfold F_X6_whyNoPart_26 at h
  cases h
  exact g_iret X dX6_whyNoPart_26 () rfl rfl (Nat.le_of_ble_eq_true rfl) (Nat.le_of_ble_eq_true rfl)
theorem met_X6_whyNoPart (l : Launch) (Z : gZt) (a0 : Nat) (a1 : Nat) (a2 : Nat) (a3 : Nat) (a4 : Nat) (a5 : Nat) (a6 : Nat) (a7 : Nat) (a8 : Nat) (a9 : Nat) (a10 : Nat) (a11 : Nat) (v_savedCount : Int32) (v_scriptLength : Int32) (v_code : Int32) (v_lineParts : Int32) (v_pulseMany : Int32) (v_left : Int64) (v_dropped : Int64) (v_merged : Int32) (v_drops : Int32) (v_contributions : Int32) (v_packet : Int64) (v_peelResult : Int32) (v_peelTime : Int32) (v_peelSum : Int32) (v_at : Int32) (v_commands : Int32) (v_hash : Int64) (v_m : Nat → Int64) (v_saved : Nat → Int64) (v_script : Nat → Int32) (v_lengths : Nat → Int32) (v_fractions : Nat → Int32) (v_times : Nat → Int32) (v_energies : Nat → Int64) (v_far : Nat → Int64) (v_near : Nat → Int64) (v_echoes : Nat → Int64) (v_draft : Nat → Int32) (x1 : Int32) (x2 : Int32) (r : Int32) (h : F_X6_whyNoPart v_m x1 x2 = some r) : Ct l yX6_whyNoPart (ws_ yX6_whyNoPart cX6_whyNoPart 3 (some .int)) rm_X6_whyNoPart Z [.ref a0, .int x1, .int x2] [(a0, .inr (5, [.ref a1, .ref a2, .int v_savedCount, .ref a3, .int v_scriptLength, .int v_code, .int v_lineParts, .ref a4, .ref a5, .int v_pulseMany, .ref a6, .ref a7, .ref a8, .ref a9, .ref a10, .long v_left, .long v_dropped, .int v_merged, .int v_drops, .int v_contributions, .long v_packet, .int v_peelResult, .int v_peelTime, .int v_peelSum, .int v_at, .int v_commands, .ref a11, .long v_hash])), (a1, .inl (Z.2 1, 431, .inr (.inl v_m))), (a2, .inl (Z.2 1, 1293, .inr (.inl v_saved))), (a3, .inl (Z.2 0, 120, .inl v_script)), (a4, .inl (Z.2 0, 8, .inl v_lengths)), (a5, .inl (Z.2 0, 9, .inl v_fractions)), (a6, .inl (Z.2 0, 4, .inl v_times)), (a7, .inl (Z.2 1, 4, .inr (.inl v_energies))), (a8, .inl (Z.2 1, 1809, .inr (.inl v_far))), (a9, .inl (Z.2 1, 1809, .inr (.inl v_near))), (a10, .inl (Z.2 1, 201, .inr (.inl v_echoes))), (a11, .inl (Z.2 0, 120, .inl v_draft))] [] (fun _ : Unit => (some (.int r) : Option Value)) (fun _ : Unit => ([(a0, .inr (5, [.ref a1, .ref a2, .int v_savedCount, .ref a3, .int v_scriptLength, .int v_code, .int v_lineParts, .ref a4, .ref a5, .int v_pulseMany, .ref a6, .ref a7, .ref a8, .ref a9, .ref a10, .long v_left, .long v_dropped, .int v_merged, .int v_drops, .int v_contributions, .long v_packet, .int v_peelResult, .int v_peelTime, .int v_peelSum, .int v_at, .int v_commands, .ref a11, .long v_hash])), (a1, .inl (Z.2 1, 431, .inr (.inl v_m))), (a2, .inl (Z.2 1, 1293, .inr (.inl v_saved))), (a3, .inl (Z.2 0, 120, .inl v_script)), (a4, .inl (Z.2 0, 8, .inl v_lengths)), (a5, .inl (Z.2 0, 9, .inl v_fractions)), (a6, .inl (Z.2 0, 4, .inl v_times)), (a7, .inl (Z.2 1, 4, .inr (.inl v_energies))), (a8, .inl (Z.2 1, 1809, .inr (.inl v_far))), (a9, .inl (Z.2 1, 1809, .inr (.inl v_near))), (a10, .inl (Z.2 1, 201, .inr (.inl v_echoes))), (a11, .inl (Z.2 0, 120, .inl v_draft))] : va_W)) := by
  refine Ct.of cX6_whyNoPart 3 (some .int) "LineEchoesModel" [some (.ref a0), some (.int x1), some (.int x2)] 0 (by decide) rfl (Nat.le_of_ble_eq_true rfl) rfl (fun p e s m args below meth c A X hin => ?_)
  unfold F_X6_whyNoPart at h
  refine g_iload_n X rfl dX6_whyNoPart_0 1 rfl ?_
  refine g_iload_n X rfl dX6_whyNoPart_1 2 rfl ?_
  obtain ⟨r1, hcl, h⟩ := bd1_e h
  refine g_callS1Z X (met_X6_arePartNumbers l Z   x1 x2 r1 hcl) (lw_S q1439 q1440 q74 q1441) md_X6_arePartNumbers ⟨(Nat.le_of_ble_eq_true rfl), (Nat.le_of_ble_eq_true rfl)⟩ rfl dX6_whyNoPart_2 5 rfl 0 0 rfl rfl (Nat.le_of_ble_eq_true rfl) (Nat.le_of_ble_eq_true rfl) (st := []) rfl (Nat.le_of_ble_eq_true rfl) (fun _ => rfl) (fun _ => ?_)
  refine g_if_ne X dX6_whyNoPart_5 12 (by decide) 8 rfl (fun hc => ?_) (fun hc => ?_)
  · replace h := if_f hc h
    refine g_aload_n X rfl dX6_whyNoPart_12 13 rfl ?_
    obtain ⟨r2, hcl, h⟩ := bd1_e h
    refine g_callV1W X (met_X6_parts l Z a0 a1 a2 a3 a4 a5 a6 a7 a8 a9 a10 a11 v_savedCount v_scriptLength v_code v_lineParts v_pulseMany v_left v_dropped v_merged v_drops v_contributions v_packet v_peelResult v_peelTime v_peelSum v_at v_commands v_hash v_m v_saved v_script v_lengths v_fractions v_times v_energies v_far v_near v_echoes v_draft  r2 hcl) rfl 0 gC5 rfl rfl (lw_V q1447 q1449 qs22 q74 q1450) md_X6_parts ⟨(Nat.le_of_ble_eq_true rfl), (Nat.le_of_ble_eq_true rfl)⟩ rfl dX6_whyNoPart_13 16 rfl 0 0 rfl rfl (Nat.le_of_ble_eq_true rfl) (Nat.le_of_ble_eq_true rfl) (st := []) rfl (Nat.le_of_ble_eq_true rfl) (fun _ => rfl) (fun _ => ?_)
    refine g_bipush X 8 dX6_whyNoPart_16 18 rfl kB_8 ?_
    refine g_seli 26 [] (b := r2 = 8) 2 0 ?_ (fun hc K => ?_) (fun hc K => ?_)
    · refine g_kill (j := 0) [none, some (.int x1), some (.int x2)] rfl ?_
      refine g_kill (j := 1) [none, none, some (.int x2)] rfl ?_
      refine g_kill (j := 2) [none, none, none] rfl ?_
      exact w_X6_whyNoPart_26 a0 a1 a2 a3 a4 a5 a6 a7 a8 a9 a10 a11  X  r    v_savedCount v_scriptLength v_code v_lineParts v_pulseMany v_left v_dropped v_merged v_drops v_contributions v_packet v_peelResult v_peelTime v_peelSum v_at v_commands v_hash v_m v_saved v_script v_lengths v_fractions v_times v_energies v_far v_near v_echoes v_draft (if r2 = 8 then (2 : Int32) else 0) h
    · refine g_icmp_ne X dX6_whyNoPart_18 25 (by decide) 21 rfl (fun hn => absurd hc hn) (fun _ => ?_)
      refine g_iconst X 2 dX6_whyNoPart_21 22 rfl kI_2 ?_
      refine g_goto X dX6_whyNoPart_22 26 (by decide) ?_
      exact K
    · refine g_icmp_ne X dX6_whyNoPart_18 25 (by decide) 21 rfl (fun _ => ?_) (fun hn => absurd hn hc)
      refine g_iconst X 0 dX6_whyNoPart_25 26 rfl kI_0 ?_
      exact K
  · replace h := if_t hc h
    refine g_iconst X 1 dX6_whyNoPart_8 9 rfl kI_1 ?_
    refine g_goto X dX6_whyNoPart_9 26 (by decide) ?_
    refine g_kill (j := 0) [none, some (.int x1), some (.int x2)] rfl ?_
    refine g_kill (j := 1) [none, none, some (.int x2)] rfl ?_
    refine g_kill (j := 2) [none, none, none] rfl ?_
    exact w_X6_whyNoPart_26 a0 a1 a2 a3 a4 a5 a6 a7 a8 a9 a10 a11  X  r    v_savedCount v_scriptLength v_code v_lineParts v_pulseMany v_left v_dropped v_merged v_drops v_contributions v_packet v_peelResult v_peelTime v_peelSum v_at v_commands v_hash v_m v_saved v_script v_lengths v_fractions v_times v_energies v_far v_near v_echoes v_draft 1 h
/-! LineEchoesModel.addPart(II)I -/
abbrev rm_X6_addPart : Room := { frames := 3, cells := 0, slots := 0, locals := 68 }
def F_X6_addPart (v_savedCount : Int32) (v_m : Nat → Int64) (v_saved : Nat → Int64) (x1 : Int32) (x2 : Int32) : Option (Int32 × Int32 × Int32 × (Nat → Int64) × (Nat → Int64)) :=
  bd1 (F_X6_whyNoPart v_m x1 x2) fun r1 =>
  if r1 = 0 then
    (bd2 (F_X6_keep v_savedCount v_m v_saved) fun w2_savedCount w3_saved =>
    bd2 (F_X6_addsPart v_m x1 x2) fun r4 w5_m =>
    some (r4, w2_savedCount, r1, w5_m, w3_saved))
  else
    (some (0, v_savedCount, r1, v_m, v_saved))
theorem met_X6_addPart (l : Launch) (Z : gZt) (a0 : Nat) (a1 : Nat) (a2 : Nat) (a3 : Nat) (a4 : Nat) (a5 : Nat) (a6 : Nat) (a7 : Nat) (a8 : Nat) (a9 : Nat) (a10 : Nat) (a11 : Nat) (v_savedCount : Int32) (v_scriptLength : Int32) (v_code : Int32) (v_lineParts : Int32) (v_pulseMany : Int32) (v_left : Int64) (v_dropped : Int64) (v_merged : Int32) (v_drops : Int32) (v_contributions : Int32) (v_packet : Int64) (v_peelResult : Int32) (v_peelTime : Int32) (v_peelSum : Int32) (v_at : Int32) (v_commands : Int32) (v_hash : Int64) (v_m : Nat → Int64) (v_saved : Nat → Int64) (v_script : Nat → Int32) (v_lengths : Nat → Int32) (v_fractions : Nat → Int32) (v_times : Nat → Int32) (v_energies : Nat → Int64) (v_far : Nat → Int64) (v_near : Nat → Int64) (v_echoes : Nat → Int64) (v_draft : Nat → Int32) (x1 : Int32) (x2 : Int32) (r : Int32) (r_savedCount : Int32) (r_code : Int32) (r_m : Nat → Int64) (r_saved : Nat → Int64) (h : F_X6_addPart v_savedCount v_m v_saved x1 x2 = some (r, r_savedCount, r_code, r_m, r_saved)) : Ct l yX6_addPart (ws_ yX6_addPart cX6_addPart 3 (some .int)) rm_X6_addPart Z [.ref a0, .int x1, .int x2] [(a0, .inr (5, [.ref a1, .ref a2, .int v_savedCount, .ref a3, .int v_scriptLength, .int v_code, .int v_lineParts, .ref a4, .ref a5, .int v_pulseMany, .ref a6, .ref a7, .ref a8, .ref a9, .ref a10, .long v_left, .long v_dropped, .int v_merged, .int v_drops, .int v_contributions, .long v_packet, .int v_peelResult, .int v_peelTime, .int v_peelSum, .int v_at, .int v_commands, .ref a11, .long v_hash])), (a1, .inl (Z.2 1, 431, .inr (.inl v_m))), (a2, .inl (Z.2 1, 1293, .inr (.inl v_saved))), (a3, .inl (Z.2 0, 120, .inl v_script)), (a4, .inl (Z.2 0, 8, .inl v_lengths)), (a5, .inl (Z.2 0, 9, .inl v_fractions)), (a6, .inl (Z.2 0, 4, .inl v_times)), (a7, .inl (Z.2 1, 4, .inr (.inl v_energies))), (a8, .inl (Z.2 1, 1809, .inr (.inl v_far))), (a9, .inl (Z.2 1, 1809, .inr (.inl v_near))), (a10, .inl (Z.2 1, 201, .inr (.inl v_echoes))), (a11, .inl (Z.2 0, 120, .inl v_draft))] [] (fun _ : Unit => (some (.int r) : Option Value)) (fun _ : Unit => ([(a0, .inr (5, [.ref a1, .ref a2, .int r_savedCount, .ref a3, .int v_scriptLength, .int r_code, .int v_lineParts, .ref a4, .ref a5, .int v_pulseMany, .ref a6, .ref a7, .ref a8, .ref a9, .ref a10, .long v_left, .long v_dropped, .int v_merged, .int v_drops, .int v_contributions, .long v_packet, .int v_peelResult, .int v_peelTime, .int v_peelSum, .int v_at, .int v_commands, .ref a11, .long v_hash])), (a1, .inl (Z.2 1, 431, .inr (.inl r_m))), (a2, .inl (Z.2 1, 1293, .inr (.inl r_saved))), (a3, .inl (Z.2 0, 120, .inl v_script)), (a4, .inl (Z.2 0, 8, .inl v_lengths)), (a5, .inl (Z.2 0, 9, .inl v_fractions)), (a6, .inl (Z.2 0, 4, .inl v_times)), (a7, .inl (Z.2 1, 4, .inr (.inl v_energies))), (a8, .inl (Z.2 1, 1809, .inr (.inl v_far))), (a9, .inl (Z.2 1, 1809, .inr (.inl v_near))), (a10, .inl (Z.2 1, 201, .inr (.inl v_echoes))), (a11, .inl (Z.2 0, 120, .inl v_draft))] : va_W)) := by
  refine Ct.of cX6_addPart 3 (some .int) "LineEchoesModel" [some (.ref a0), some (.int x1), some (.int x2)] 0 (by decide) rfl (Nat.le_of_ble_eq_true rfl) rfl (fun p e s m args below meth c A X hin => ?_)
  unfold F_X6_addPart at h
  refine g_aload_n X rfl dX6_addPart_0 1 rfl ?_
  refine g_aload_n X rfl dX6_addPart_1 2 rfl ?_
  refine g_iload_n X rfl dX6_addPart_2 3 rfl ?_
  refine g_iload_n X rfl dX6_addPart_3 4 rfl ?_
  obtain ⟨r1, hcl, h⟩ := bd1_e h
  refine g_callV1W X (met_X6_whyNoPart l Z a0 a1 a2 a3 a4 a5 a6 a7 a8 a9 a10 a11 v_savedCount v_scriptLength v_code v_lineParts v_pulseMany v_left v_dropped v_merged v_drops v_contributions v_packet v_peelResult v_peelTime v_peelSum v_at v_commands v_hash v_m v_saved v_script v_lengths v_fractions v_times v_energies v_far v_near v_echoes v_draft x1 x2 r1 hcl) rfl 0 gC5 rfl rfl (lw_V q1435 q1437 qs21 q74 q1438) md_X6_whyNoPart ⟨(Nat.le_of_ble_eq_true rfl), (Nat.le_of_ble_eq_true rfl)⟩ rfl dX6_addPart_4 7 rfl 0 0 rfl rfl (Nat.le_of_ble_eq_true rfl) (Nat.le_of_ble_eq_true rfl) (st := [.ref a0]) rfl (Nat.le_of_ble_eq_true rfl) (fun _ => rfl) (fun _ => ?_)
  refine g_put X gC5 0 rfl 5 (by decide) q1347 (fun _ h9 => h9) rfl rfl rfl (Nat.le_of_ble_eq_true rfl) dX6_addPart_7 10 rfl ?_
  refine g_aload_n X rfl dX6_addPart_10 11 rfl ?_
  refine g_get X gC5 0 rfl 5 (by decide) q1347 (fun _ h9 => h9) rfl dX6_addPart_11 14 rfl ?_
  refine g_if_eq X dX6_addPart_14 19 (by decide) 17 rfl (fun hc => ?_) (fun hc => ?_)
  · replace h := if_t hc h
    refine g_aload_n X rfl dX6_addPart_19 20 rfl ?_
    obtain ⟨w2_savedCount, w3_saved, hcl, h⟩ := bd2_e h
    refine g_callV0W X (met_X6_keep l Z a0 a1 a2 a3 a4 a5 a6 a7 a8 a9 a10 a11 v_savedCount v_scriptLength r1 v_lineParts v_pulseMany v_left v_dropped v_merged v_drops v_contributions v_packet v_peelResult v_peelTime v_peelSum v_at v_commands v_hash v_m v_saved v_script v_lengths v_fractions v_times v_energies v_far v_near v_echoes v_draft  w2_savedCount w3_saved hcl) rfl 0 gC5 rfl rfl (lw_V q1451 q1453 qs23 q74 q1454) md_X6_keep ⟨(Nat.le_of_ble_eq_true rfl), (Nat.le_of_ble_eq_true rfl)⟩ rfl dX6_addPart_20 23 rfl 0 0 rfl rfl (Nat.le_of_ble_eq_true rfl) (Nat.le_of_ble_eq_true rfl) (st := []) rfl (Nat.le_of_ble_eq_true rfl) (fun _ => rfl) (fun _ => ?_)
    refine g_aload_n X rfl dX6_addPart_23 24 rfl ?_
    refine g_iload_n X rfl dX6_addPart_24 25 rfl ?_
    refine g_iload_n X rfl dX6_addPart_25 26 rfl ?_
    obtain ⟨r4, w5_m, hcl, h⟩ := bd2_e h
    refine g_callV1W X (met_X6_addsPart l Z a0 a1 a2 a3 a4 a5 a6 a7 a8 a9 a10 a11 w2_savedCount v_scriptLength r1 v_lineParts v_pulseMany v_left v_dropped v_merged v_drops v_contributions v_packet v_peelResult v_peelTime v_peelSum v_at v_commands v_hash v_m w3_saved v_script v_lengths v_fractions v_times v_energies v_far v_near v_echoes v_draft x1 x2 r4 w5_m hcl) rfl 0 gC5 rfl rfl (lw_V q1455 q1457 qs24 q74 q1458) md_X6_addsPart ⟨(Nat.le_of_ble_eq_true rfl), (Nat.le_of_ble_eq_true rfl)⟩ rfl dX6_addPart_26 29 rfl 0 0 rfl rfl (Nat.le_of_ble_eq_true rfl) (Nat.le_of_ble_eq_true rfl) (st := []) rfl (Nat.le_of_ble_eq_true rfl) (fun _ => rfl) (fun _ => ?_)
    cases h
    exact g_iret X dX6_addPart_29 () rfl rfl (Nat.le_of_ble_eq_true rfl) (Nat.le_of_ble_eq_true rfl)
  · replace h := if_f hc h
    refine g_iconst X 0 dX6_addPart_17 18 rfl kI_0 ?_
    cases h
    exact g_iret X dX6_addPart_18 () rfl rfl (Nat.le_of_ble_eq_true rfl) (Nat.le_of_ble_eq_true rfl)
/-! LineEchoesModel.setsPart(III)I -/
abbrev rm_X6_setsPart : Room := { frames := 1, cells := 0, slots := 0, locals := 23 }
def F_X6_setsPart (v_m : Nat → Int64) (x1 : Int32) (x2 : Int32) (x3 : Int32) : Option (Int32 × (Nat → Int64)) :=
  gin (9 + x1) 431 <|
  nm ((v_m (9 + x1).toNatClampNeg).toInt32) fun t1 =>
  bd1 (F_X6_laysPart v_m x1 x2 x3) fun w2_m =>
  some (t1, w2_m)
theorem met_X6_setsPart (l : Launch) (Z : gZt) (a0 : Nat) (a1 : Nat) (a2 : Nat) (a3 : Nat) (a4 : Nat) (a5 : Nat) (a6 : Nat) (a7 : Nat) (a8 : Nat) (a9 : Nat) (a10 : Nat) (a11 : Nat) (v_savedCount : Int32) (v_scriptLength : Int32) (v_code : Int32) (v_lineParts : Int32) (v_pulseMany : Int32) (v_left : Int64) (v_dropped : Int64) (v_merged : Int32) (v_drops : Int32) (v_contributions : Int32) (v_packet : Int64) (v_peelResult : Int32) (v_peelTime : Int32) (v_peelSum : Int32) (v_at : Int32) (v_commands : Int32) (v_hash : Int64) (v_m : Nat → Int64) (v_saved : Nat → Int64) (v_script : Nat → Int32) (v_lengths : Nat → Int32) (v_fractions : Nat → Int32) (v_times : Nat → Int32) (v_energies : Nat → Int64) (v_far : Nat → Int64) (v_near : Nat → Int64) (v_echoes : Nat → Int64) (v_draft : Nat → Int32) (x1 : Int32) (x2 : Int32) (x3 : Int32) (r : Int32) (r_m : Nat → Int64) (h : F_X6_setsPart v_m x1 x2 x3 = some (r, r_m)) : Ct l yX6_setsPart (ws_ yX6_setsPart cX6_setsPart 5 (some .int)) rm_X6_setsPart Z [.ref a0, .int x1, .int x2, .int x3] [(a0, .inr (5, [.ref a1, .ref a2, .int v_savedCount, .ref a3, .int v_scriptLength, .int v_code, .int v_lineParts, .ref a4, .ref a5, .int v_pulseMany, .ref a6, .ref a7, .ref a8, .ref a9, .ref a10, .long v_left, .long v_dropped, .int v_merged, .int v_drops, .int v_contributions, .long v_packet, .int v_peelResult, .int v_peelTime, .int v_peelSum, .int v_at, .int v_commands, .ref a11, .long v_hash])), (a1, .inl (Z.2 1, 431, .inr (.inl v_m))), (a2, .inl (Z.2 1, 1293, .inr (.inl v_saved))), (a3, .inl (Z.2 0, 120, .inl v_script)), (a4, .inl (Z.2 0, 8, .inl v_lengths)), (a5, .inl (Z.2 0, 9, .inl v_fractions)), (a6, .inl (Z.2 0, 4, .inl v_times)), (a7, .inl (Z.2 1, 4, .inr (.inl v_energies))), (a8, .inl (Z.2 1, 1809, .inr (.inl v_far))), (a9, .inl (Z.2 1, 1809, .inr (.inl v_near))), (a10, .inl (Z.2 1, 201, .inr (.inl v_echoes))), (a11, .inl (Z.2 0, 120, .inl v_draft))] [] (fun _ : Unit => (some (.int r) : Option Value)) (fun _ : Unit => ([(a0, .inr (5, [.ref a1, .ref a2, .int v_savedCount, .ref a3, .int v_scriptLength, .int v_code, .int v_lineParts, .ref a4, .ref a5, .int v_pulseMany, .ref a6, .ref a7, .ref a8, .ref a9, .ref a10, .long v_left, .long v_dropped, .int v_merged, .int v_drops, .int v_contributions, .long v_packet, .int v_peelResult, .int v_peelTime, .int v_peelSum, .int v_at, .int v_commands, .ref a11, .long v_hash])), (a1, .inl (Z.2 1, 431, .inr (.inl r_m))), (a2, .inl (Z.2 1, 1293, .inr (.inl v_saved))), (a3, .inl (Z.2 0, 120, .inl v_script)), (a4, .inl (Z.2 0, 8, .inl v_lengths)), (a5, .inl (Z.2 0, 9, .inl v_fractions)), (a6, .inl (Z.2 0, 4, .inl v_times)), (a7, .inl (Z.2 1, 4, .inr (.inl v_energies))), (a8, .inl (Z.2 1, 1809, .inr (.inl v_far))), (a9, .inl (Z.2 1, 1809, .inr (.inl v_near))), (a10, .inl (Z.2 1, 201, .inr (.inl v_echoes))), (a11, .inl (Z.2 0, 120, .inl v_draft))] : va_W)) := by
  refine Ct.of cX6_setsPart 5 (some .int) "LineEchoesModel" [some (.ref a0), some (.int x1), some (.int x2), some (.int x3), none] 1 (by decide) rfl (Nat.le_of_ble_eq_true rfl) rfl (fun p e s m args below meth c A X hin => ?_)
  unfold F_X6_setsPart at h
  refine g_aload_n X rfl dX6_setsPart_0 1 rfl ?_
  refine g_get X gC5 0 rfl 0 (by decide) q1342 (fun _ h9 => h9) rfl dX6_setsPart_1 4 rfl ?_
  refine g_bipush X 9 dX6_setsPart_4 6 rfl kB_9 ?_
  refine g_iload_n X rfl dX6_setsPart_6 7 rfl ?_
  refine g_iadd X dX6_setsPart_7 8 rfl ?_
  obtain ⟨hi, h⟩ := gin_e h
  refine g_lald X 1 rfl hi dX6_setsPart_8 9 rfl ?_
  refine g_l2i X dX6_setsPart_9 10 rfl ?_
  refine g_topi (fun t1 et1 => ?_)
  replace h := nm_at et1 h
  refine g_istore X dX6_setsPart_10 12 rfl (Nat.le_of_ble_eq_true rfl) rfl [some (.ref a0), some (.int x1), some (.int x2), some (.int x3), some (.int t1)] rfl ?_
  refine g_aload_n X rfl dX6_setsPart_12 13 rfl ?_
  refine g_iload_n X rfl dX6_setsPart_13 14 rfl ?_
  refine g_iload_n X rfl dX6_setsPart_14 15 rfl ?_
  refine g_iload_n X rfl dX6_setsPart_15 16 rfl ?_
  obtain ⟨w2_m, hcl, h⟩ := bd1_e h
  refine g_callV0W X (met_X6_laysPart l Z a0 a1 a2 a3 a4 a5 a6 a7 a8 a9 a10 a11 v_savedCount v_scriptLength v_code v_lineParts v_pulseMany v_left v_dropped v_merged v_drops v_contributions v_packet v_peelResult v_peelTime v_peelSum v_at v_commands v_hash v_m v_saved v_script v_lengths v_fractions v_times v_energies v_far v_near v_echoes v_draft x1 x2 x3 w2_m hcl) rfl 0 gC5 rfl rfl (lw_V q1459 q1461 qs25 q74 q1462) md_X6_laysPart ⟨(Nat.le_of_ble_eq_true rfl), (Nat.le_of_ble_eq_true rfl)⟩ rfl dX6_setsPart_16 19 rfl 0 0 rfl rfl (Nat.le_of_ble_eq_true rfl) (Nat.le_of_ble_eq_true rfl) (st := []) rfl (Nat.le_of_ble_eq_true rfl) (fun _ => rfl) (fun _ => ?_)
  refine g_iload X rfl dX6_setsPart_19 21 rfl ?_
  cases h
  exact g_iret X dX6_setsPart_21 () rfl rfl (Nat.le_of_ble_eq_true rfl) (Nat.le_of_ble_eq_true rfl)
/-! LineEchoesModel.isPart(I)Z -/
abbrev rm_X6_isPart : Room := { frames := 1, cells := 0, slots := 0, locals := 25 }
def F_X6_isPart (v_m : Nat → Int64) (x1 : Int32) : Option (Int32) :=
  bd1 (F_X6_parts v_m) fun r1 =>
  bd1 (F_X6_in x1.toInt64 0 ((r1 - 1).toInt64)) fun r2 =>
  gch (r2 = 0 ∨ r2 = 1) <|
  some r2
theorem met_X6_isPart (l : Launch) (Z : gZt) (a0 : Nat) (a1 : Nat) (a2 : Nat) (a3 : Nat) (a4 : Nat) (a5 : Nat) (a6 : Nat) (a7 : Nat) (a8 : Nat) (a9 : Nat) (a10 : Nat) (a11 : Nat) (v_savedCount : Int32) (v_scriptLength : Int32) (v_code : Int32) (v_lineParts : Int32) (v_pulseMany : Int32) (v_left : Int64) (v_dropped : Int64) (v_merged : Int32) (v_drops : Int32) (v_contributions : Int32) (v_packet : Int64) (v_peelResult : Int32) (v_peelTime : Int32) (v_peelSum : Int32) (v_at : Int32) (v_commands : Int32) (v_hash : Int64) (v_m : Nat → Int64) (v_saved : Nat → Int64) (v_script : Nat → Int32) (v_lengths : Nat → Int32) (v_fractions : Nat → Int32) (v_times : Nat → Int32) (v_energies : Nat → Int64) (v_far : Nat → Int64) (v_near : Nat → Int64) (v_echoes : Nat → Int64) (v_draft : Nat → Int32) (x1 : Int32) (r : Int32) (h : F_X6_isPart v_m x1 = some r) : Ct l yX6_isPart (ws_ yX6_isPart cX6_isPart 2 (some .boolean)) rm_X6_isPart Z [.ref a0, .int x1] [(a0, .inr (5, [.ref a1, .ref a2, .int v_savedCount, .ref a3, .int v_scriptLength, .int v_code, .int v_lineParts, .ref a4, .ref a5, .int v_pulseMany, .ref a6, .ref a7, .ref a8, .ref a9, .ref a10, .long v_left, .long v_dropped, .int v_merged, .int v_drops, .int v_contributions, .long v_packet, .int v_peelResult, .int v_peelTime, .int v_peelSum, .int v_at, .int v_commands, .ref a11, .long v_hash])), (a1, .inl (Z.2 1, 431, .inr (.inl v_m))), (a2, .inl (Z.2 1, 1293, .inr (.inl v_saved))), (a3, .inl (Z.2 0, 120, .inl v_script)), (a4, .inl (Z.2 0, 8, .inl v_lengths)), (a5, .inl (Z.2 0, 9, .inl v_fractions)), (a6, .inl (Z.2 0, 4, .inl v_times)), (a7, .inl (Z.2 1, 4, .inr (.inl v_energies))), (a8, .inl (Z.2 1, 1809, .inr (.inl v_far))), (a9, .inl (Z.2 1, 1809, .inr (.inl v_near))), (a10, .inl (Z.2 1, 201, .inr (.inl v_echoes))), (a11, .inl (Z.2 0, 120, .inl v_draft))] [] (fun _ : Unit => (some (.int r) : Option Value)) (fun _ : Unit => ([(a0, .inr (5, [.ref a1, .ref a2, .int v_savedCount, .ref a3, .int v_scriptLength, .int v_code, .int v_lineParts, .ref a4, .ref a5, .int v_pulseMany, .ref a6, .ref a7, .ref a8, .ref a9, .ref a10, .long v_left, .long v_dropped, .int v_merged, .int v_drops, .int v_contributions, .long v_packet, .int v_peelResult, .int v_peelTime, .int v_peelSum, .int v_at, .int v_commands, .ref a11, .long v_hash])), (a1, .inl (Z.2 1, 431, .inr (.inl v_m))), (a2, .inl (Z.2 1, 1293, .inr (.inl v_saved))), (a3, .inl (Z.2 0, 120, .inl v_script)), (a4, .inl (Z.2 0, 8, .inl v_lengths)), (a5, .inl (Z.2 0, 9, .inl v_fractions)), (a6, .inl (Z.2 0, 4, .inl v_times)), (a7, .inl (Z.2 1, 4, .inr (.inl v_energies))), (a8, .inl (Z.2 1, 1809, .inr (.inl v_far))), (a9, .inl (Z.2 1, 1809, .inr (.inl v_near))), (a10, .inl (Z.2 1, 201, .inr (.inl v_echoes))), (a11, .inl (Z.2 0, 120, .inl v_draft))] : va_W)) := by
  refine Ct.of cX6_isPart 2 (some .boolean) "LineEchoesModel" [some (.ref a0), some (.int x1)] 0 (by decide) rfl (Nat.le_of_ble_eq_true rfl) rfl (fun p e s m args below meth c A X hin => ?_)
  unfold F_X6_isPart at h
  refine g_iload_n X rfl dX6_isPart_0 1 rfl ?_
  refine g_i2l X dX6_isPart_1 2 rfl ?_
  refine g_lconst X 0 dX6_isPart_2 3 rfl rfl ?_
  refine g_aload_n X rfl dX6_isPart_3 4 rfl ?_
  obtain ⟨r1, hcl, h⟩ := bd1_e h
  refine g_callV1W X (met_X6_parts l Z a0 a1 a2 a3 a4 a5 a6 a7 a8 a9 a10 a11 v_savedCount v_scriptLength v_code v_lineParts v_pulseMany v_left v_dropped v_merged v_drops v_contributions v_packet v_peelResult v_peelTime v_peelSum v_at v_commands v_hash v_m v_saved v_script v_lengths v_fractions v_times v_energies v_far v_near v_echoes v_draft  r1 hcl) rfl 0 gC5 rfl rfl (lw_V q1447 q1449 qs22 q74 q1450) md_X6_parts ⟨(Nat.le_of_ble_eq_true rfl), (Nat.le_of_ble_eq_true rfl)⟩ rfl dX6_isPart_4 7 rfl 0 0 rfl rfl (Nat.le_of_ble_eq_true rfl) (Nat.le_of_ble_eq_true rfl) (st := [.long 0, .long x1.toInt64]) rfl (Nat.le_of_ble_eq_true rfl) (fun _ => rfl) (fun _ => ?_)
  refine g_iconst X 1 dX6_isPart_7 8 rfl kI_1 ?_
  refine g_isub X dX6_isPart_8 9 rfl ?_
  refine g_i2l X dX6_isPart_9 10 rfl ?_
  obtain ⟨r2, hcl, h⟩ := bd1_e h
  refine g_callS1Z X (met_X6_in l Z   x1.toInt64 0 ((r1 - 1).toInt64) r2 hcl) (lw_S q1443 q1444 q74 q1445) md_X6_in ⟨(Nat.le_of_ble_eq_true rfl), (Nat.le_of_ble_eq_true rfl)⟩ rfl dX6_isPart_10 13 rfl 0 0 rfl rfl (Nat.le_of_ble_eq_true rfl) (Nat.le_of_ble_eq_true rfl) (st := []) rfl (Nat.le_of_ble_eq_true rfl) (fun _ => rfl) (fun _ => ?_)
  obtain ⟨hz, h⟩ := gch_e h
  cases h
  exact g_zret X dX6_isPart_13 (gb_01 hz) () rfl rfl (Nat.le_of_ble_eq_true rfl) (Nat.le_of_ble_eq_true rfl)
/-! LineEchoesModel.whyNotSet(III)I -/
abbrev rm_X6_whyNotSet : Room := { frames := 2, cells := 0, slots := 0, locals := 46 }
def F_X6_whyNotSet_25 (s0 : Int32) : Option (Int32) :=
  some s0
def F_X6_whyNotSet (v_m : Nat → Int64) (x1 : Int32) (x2 : Int32) (x3 : Int32) : Option (Int32) :=
  bd1 (F_X6_isPart v_m x1) fun r1 =>
  if r1 = 0 then
    (F_X6_whyNotSet_25 1)
  else
    (bd1 (F_X6_arePartNumbers x2 x3) fun r2 =>
    F_X6_whyNotSet_25 (if r2 = 0 then (2 : Int32) else 0))
theorem w_X6_whyNotSet_25 {p : Program} {l : Launch} {e : Env} {s : State} {m : MethodId} {args : Array Value} {below : List Frame} {meth : Method} {c : Code} {Z : gZt} {A : Nat → Prop} (a0 : Nat) (a1 : Nat) (a2 : Nat) (a3 : Nat) (a4 : Nat) (a5 : Nat) (a6 : Nat) (a7 : Nat) (a8 : Nat) (a9 : Nat) (a10 : Nat) (a11 : Nat) (X : gX p s m args meth c Z A cX6_whyNotSet "LineEchoesModel" 4 (some .int) []) (r : Int32)  (v_savedCount : Int32) (v_scriptLength : Int32) (v_code : Int32) (v_lineParts : Int32) (v_pulseMany : Int32) (v_left : Int64) (v_dropped : Int64) (v_merged : Int32) (v_drops : Int32) (v_contributions : Int32) (v_packet : Int64) (v_peelResult : Int32) (v_peelTime : Int32) (v_peelSum : Int32) (v_at : Int32) (v_commands : Int32) (v_hash : Int64) (v_m : Nat → Int64) (v_saved : Nat → Int64) (v_script : Nat → Int32) (v_lengths : Nat → Int32) (v_fractions : Nat → Int32) (v_times : Nat → Int32) (v_energies : Nat → Int64) (v_far : Nat → Int64) (v_near : Nat → Int64) (v_echoes : Nat → Int64) (v_draft : Nat → Int32) (s0 : Int32) (h : F_X6_whyNotSet_25 s0 = some r) : G p l e rm_X6_whyNotSet s m args below meth c Z A 4 (MQ below (gPost Z A (fun _ : Unit => (some (.int r) : Option Value)) (fun _ : Unit => ([(a0, .inr (5, [.ref a1, .ref a2, .int v_savedCount, .ref a3, .int v_scriptLength, .int v_code, .int v_lineParts, .ref a4, .ref a5, .int v_pulseMany, .ref a6, .ref a7, .ref a8, .ref a9, .ref a10, .long v_left, .long v_dropped, .int v_merged, .int v_drops, .int v_contributions, .long v_packet, .int v_peelResult, .int v_peelTime, .int v_peelSum, .int v_at, .int v_commands, .ref a11, .long v_hash])), (a1, .inl (Z.2 1, 431, .inr (.inl v_m))), (a2, .inl (Z.2 1, 1293, .inr (.inl v_saved))), (a3, .inl (Z.2 0, 120, .inl v_script)), (a4, .inl (Z.2 0, 8, .inl v_lengths)), (a5, .inl (Z.2 0, 9, .inl v_fractions)), (a6, .inl (Z.2 0, 4, .inl v_times)), (a7, .inl (Z.2 1, 4, .inr (.inl v_energies))), (a8, .inl (Z.2 1, 1809, .inr (.inl v_far))), (a9, .inl (Z.2 1, 1809, .inr (.inl v_near))), (a10, .inl (Z.2 1, 201, .inr (.inl v_echoes))), (a11, .inl (Z.2 0, 120, .inl v_draft))] : va_W))) args s 0 0 A) [(a0, .inr (5, [.ref a1, .ref a2, .int v_savedCount, .ref a3, .int v_scriptLength, .int v_code, .int v_lineParts, .ref a4, .ref a5, .int v_pulseMany, .ref a6, .ref a7, .ref a8, .ref a9, .ref a10, .long v_left, .long v_dropped, .int v_merged, .int v_drops, .int v_contributions, .long v_packet, .int v_peelResult, .int v_peelTime, .int v_peelSum, .int v_at, .int v_commands, .ref a11, .long v_hash])), (a1, .inl (Z.2 1, 431, .inr (.inl v_m))), (a2, .inl (Z.2 1, 1293, .inr (.inl v_saved))), (a3, .inl (Z.2 0, 120, .inl v_script)), (a4, .inl (Z.2 0, 8, .inl v_lengths)), (a5, .inl (Z.2 0, 9, .inl v_fractions)), (a6, .inl (Z.2 0, 4, .inl v_times)), (a7, .inl (Z.2 1, 4, .inr (.inl v_energies))), (a8, .inl (Z.2 1, 1809, .inr (.inl v_far))), (a9, .inl (Z.2 1, 1809, .inr (.inl v_near))), (a10, .inl (Z.2 1, 201, .inr (.inl v_echoes))), (a11, .inl (Z.2 0, 120, .inl v_draft))] 0 0 25 [none, none, none, none] [.int s0] := by
  unfold F_X6_whyNotSet_25 at h
  cases h
  exact g_iret X dX6_whyNotSet_25 () rfl rfl (Nat.le_of_ble_eq_true rfl) (Nat.le_of_ble_eq_true rfl)
theorem met_X6_whyNotSet (l : Launch) (Z : gZt) (a0 : Nat) (a1 : Nat) (a2 : Nat) (a3 : Nat) (a4 : Nat) (a5 : Nat) (a6 : Nat) (a7 : Nat) (a8 : Nat) (a9 : Nat) (a10 : Nat) (a11 : Nat) (v_savedCount : Int32) (v_scriptLength : Int32) (v_code : Int32) (v_lineParts : Int32) (v_pulseMany : Int32) (v_left : Int64) (v_dropped : Int64) (v_merged : Int32) (v_drops : Int32) (v_contributions : Int32) (v_packet : Int64) (v_peelResult : Int32) (v_peelTime : Int32) (v_peelSum : Int32) (v_at : Int32) (v_commands : Int32) (v_hash : Int64) (v_m : Nat → Int64) (v_saved : Nat → Int64) (v_script : Nat → Int32) (v_lengths : Nat → Int32) (v_fractions : Nat → Int32) (v_times : Nat → Int32) (v_energies : Nat → Int64) (v_far : Nat → Int64) (v_near : Nat → Int64) (v_echoes : Nat → Int64) (v_draft : Nat → Int32) (x1 : Int32) (x2 : Int32) (x3 : Int32) (r : Int32) (h : F_X6_whyNotSet v_m x1 x2 x3 = some r) : Ct l yX6_whyNotSet (ws_ yX6_whyNotSet cX6_whyNotSet 4 (some .int)) rm_X6_whyNotSet Z [.ref a0, .int x1, .int x2, .int x3] [(a0, .inr (5, [.ref a1, .ref a2, .int v_savedCount, .ref a3, .int v_scriptLength, .int v_code, .int v_lineParts, .ref a4, .ref a5, .int v_pulseMany, .ref a6, .ref a7, .ref a8, .ref a9, .ref a10, .long v_left, .long v_dropped, .int v_merged, .int v_drops, .int v_contributions, .long v_packet, .int v_peelResult, .int v_peelTime, .int v_peelSum, .int v_at, .int v_commands, .ref a11, .long v_hash])), (a1, .inl (Z.2 1, 431, .inr (.inl v_m))), (a2, .inl (Z.2 1, 1293, .inr (.inl v_saved))), (a3, .inl (Z.2 0, 120, .inl v_script)), (a4, .inl (Z.2 0, 8, .inl v_lengths)), (a5, .inl (Z.2 0, 9, .inl v_fractions)), (a6, .inl (Z.2 0, 4, .inl v_times)), (a7, .inl (Z.2 1, 4, .inr (.inl v_energies))), (a8, .inl (Z.2 1, 1809, .inr (.inl v_far))), (a9, .inl (Z.2 1, 1809, .inr (.inl v_near))), (a10, .inl (Z.2 1, 201, .inr (.inl v_echoes))), (a11, .inl (Z.2 0, 120, .inl v_draft))] [] (fun _ : Unit => (some (.int r) : Option Value)) (fun _ : Unit => ([(a0, .inr (5, [.ref a1, .ref a2, .int v_savedCount, .ref a3, .int v_scriptLength, .int v_code, .int v_lineParts, .ref a4, .ref a5, .int v_pulseMany, .ref a6, .ref a7, .ref a8, .ref a9, .ref a10, .long v_left, .long v_dropped, .int v_merged, .int v_drops, .int v_contributions, .long v_packet, .int v_peelResult, .int v_peelTime, .int v_peelSum, .int v_at, .int v_commands, .ref a11, .long v_hash])), (a1, .inl (Z.2 1, 431, .inr (.inl v_m))), (a2, .inl (Z.2 1, 1293, .inr (.inl v_saved))), (a3, .inl (Z.2 0, 120, .inl v_script)), (a4, .inl (Z.2 0, 8, .inl v_lengths)), (a5, .inl (Z.2 0, 9, .inl v_fractions)), (a6, .inl (Z.2 0, 4, .inl v_times)), (a7, .inl (Z.2 1, 4, .inr (.inl v_energies))), (a8, .inl (Z.2 1, 1809, .inr (.inl v_far))), (a9, .inl (Z.2 1, 1809, .inr (.inl v_near))), (a10, .inl (Z.2 1, 201, .inr (.inl v_echoes))), (a11, .inl (Z.2 0, 120, .inl v_draft))] : va_W)) := by
  refine Ct.of cX6_whyNotSet 4 (some .int) "LineEchoesModel" [some (.ref a0), some (.int x1), some (.int x2), some (.int x3)] 0 (by decide) rfl (Nat.le_of_ble_eq_true rfl) rfl (fun p e s m args below meth c A X hin => ?_)
  unfold F_X6_whyNotSet at h
  refine g_aload_n X rfl dX6_whyNotSet_0 1 rfl ?_
  refine g_iload_n X rfl dX6_whyNotSet_1 2 rfl ?_
  obtain ⟨r1, hcl, h⟩ := bd1_e h
  refine g_callV1W X (met_X6_isPart l Z a0 a1 a2 a3 a4 a5 a6 a7 a8 a9 a10 a11 v_savedCount v_scriptLength v_code v_lineParts v_pulseMany v_left v_dropped v_merged v_drops v_contributions v_packet v_peelResult v_peelTime v_peelSum v_at v_commands v_hash v_m v_saved v_script v_lengths v_fractions v_times v_energies v_far v_near v_echoes v_draft x1 r1 hcl) rfl 0 gC5 rfl rfl (lw_V q1471 q1473 qs27 q74 q1474) md_X6_isPart ⟨(Nat.le_of_ble_eq_true rfl), (Nat.le_of_ble_eq_true rfl)⟩ rfl dX6_whyNotSet_2 5 rfl 0 0 rfl rfl (Nat.le_of_ble_eq_true rfl) (Nat.le_of_ble_eq_true rfl) (st := []) rfl (Nat.le_of_ble_eq_true rfl) (fun _ => rfl) (fun _ => ?_)
  refine g_if_ne X dX6_whyNotSet_5 12 (by decide) 8 rfl (fun hc => ?_) (fun hc => ?_)
  · replace h := if_f hc h
    refine g_iload_n X rfl dX6_whyNotSet_12 13 rfl ?_
    refine g_iload_n X rfl dX6_whyNotSet_13 14 rfl ?_
    obtain ⟨r2, hcl, h⟩ := bd1_e h
    refine g_callS1Z X (met_X6_arePartNumbers l Z   x2 x3 r2 hcl) (lw_S q1439 q1440 q74 q1441) md_X6_arePartNumbers ⟨(Nat.le_of_ble_eq_true rfl), (Nat.le_of_ble_eq_true rfl)⟩ rfl dX6_whyNotSet_14 17 rfl 0 0 rfl rfl (Nat.le_of_ble_eq_true rfl) (Nat.le_of_ble_eq_true rfl) (st := []) rfl (Nat.le_of_ble_eq_true rfl) (fun _ => rfl) (fun _ => ?_)
    refine g_seli 25 [] (b := r2 = 0) 2 0 ?_ (fun hc K => ?_) (fun hc K => ?_)
    · refine g_kill (j := 0) [none, some (.int x1), some (.int x2), some (.int x3)] rfl ?_
      refine g_kill (j := 1) [none, none, some (.int x2), some (.int x3)] rfl ?_
      refine g_kill (j := 2) [none, none, none, some (.int x3)] rfl ?_
      refine g_kill (j := 3) [none, none, none, none] rfl ?_
      exact w_X6_whyNotSet_25 a0 a1 a2 a3 a4 a5 a6 a7 a8 a9 a10 a11  X  r    v_savedCount v_scriptLength v_code v_lineParts v_pulseMany v_left v_dropped v_merged v_drops v_contributions v_packet v_peelResult v_peelTime v_peelSum v_at v_commands v_hash v_m v_saved v_script v_lengths v_fractions v_times v_energies v_far v_near v_echoes v_draft (if r2 = 0 then (2 : Int32) else 0) h
    · refine g_if_eq X dX6_whyNotSet_17 24 (by decide) 20 rfl (fun _ => ?_) (fun hn => absurd hc hn)
      refine g_iconst X 2 dX6_whyNotSet_24 25 rfl kI_2 ?_
      exact K
    · refine g_if_eq X dX6_whyNotSet_17 24 (by decide) 20 rfl (fun hn => absurd hn hc) (fun _ => ?_)
      refine g_iconst X 0 dX6_whyNotSet_20 21 rfl kI_0 ?_
      refine g_goto X dX6_whyNotSet_21 25 (by decide) ?_
      exact K
  · replace h := if_t hc h
    refine g_iconst X 1 dX6_whyNotSet_8 9 rfl kI_1 ?_
    refine g_goto X dX6_whyNotSet_9 25 (by decide) ?_
    refine g_kill (j := 0) [none, some (.int x1), some (.int x2), some (.int x3)] rfl ?_
    refine g_kill (j := 1) [none, none, some (.int x2), some (.int x3)] rfl ?_
    refine g_kill (j := 2) [none, none, none, some (.int x3)] rfl ?_
    refine g_kill (j := 3) [none, none, none, none] rfl ?_
    exact w_X6_whyNotSet_25 a0 a1 a2 a3 a4 a5 a6 a7 a8 a9 a10 a11  X  r    v_savedCount v_scriptLength v_code v_lineParts v_pulseMany v_left v_dropped v_merged v_drops v_contributions v_packet v_peelResult v_peelTime v_peelSum v_at v_commands v_hash v_m v_saved v_script v_lengths v_fractions v_times v_energies v_far v_near v_echoes v_draft 1 h
/-! LineEchoesModel.setPart(III)I -/
abbrev rm_X6_setPart : Room := { frames := 3, cells := 0, slots := 0, locals := 69 }
def F_X6_setPart (v_savedCount : Int32) (v_m : Nat → Int64) (v_saved : Nat → Int64) (x1 : Int32) (x2 : Int32) (x3 : Int32) : Option (Int32 × Int32 × Int32 × (Nat → Int64) × (Nat → Int64)) :=
  bd1 (F_X6_whyNotSet v_m x1 x2 x3) fun r1 =>
  if r1 = 0 then
    (bd2 (F_X6_keep v_savedCount v_m v_saved) fun w2_savedCount w3_saved =>
    bd2 (F_X6_setsPart v_m x1 x2 x3) fun r4 w5_m =>
    some (r4, w2_savedCount, r1, w5_m, w3_saved))
  else
    (some (0, v_savedCount, r1, v_m, v_saved))
theorem met_X6_setPart (l : Launch) (Z : gZt) (a0 : Nat) (a1 : Nat) (a2 : Nat) (a3 : Nat) (a4 : Nat) (a5 : Nat) (a6 : Nat) (a7 : Nat) (a8 : Nat) (a9 : Nat) (a10 : Nat) (a11 : Nat) (v_savedCount : Int32) (v_scriptLength : Int32) (v_code : Int32) (v_lineParts : Int32) (v_pulseMany : Int32) (v_left : Int64) (v_dropped : Int64) (v_merged : Int32) (v_drops : Int32) (v_contributions : Int32) (v_packet : Int64) (v_peelResult : Int32) (v_peelTime : Int32) (v_peelSum : Int32) (v_at : Int32) (v_commands : Int32) (v_hash : Int64) (v_m : Nat → Int64) (v_saved : Nat → Int64) (v_script : Nat → Int32) (v_lengths : Nat → Int32) (v_fractions : Nat → Int32) (v_times : Nat → Int32) (v_energies : Nat → Int64) (v_far : Nat → Int64) (v_near : Nat → Int64) (v_echoes : Nat → Int64) (v_draft : Nat → Int32) (x1 : Int32) (x2 : Int32) (x3 : Int32) (r : Int32) (r_savedCount : Int32) (r_code : Int32) (r_m : Nat → Int64) (r_saved : Nat → Int64) (h : F_X6_setPart v_savedCount v_m v_saved x1 x2 x3 = some (r, r_savedCount, r_code, r_m, r_saved)) : Ct l yX6_setPart (ws_ yX6_setPart cX6_setPart 4 (some .int)) rm_X6_setPart Z [.ref a0, .int x1, .int x2, .int x3] [(a0, .inr (5, [.ref a1, .ref a2, .int v_savedCount, .ref a3, .int v_scriptLength, .int v_code, .int v_lineParts, .ref a4, .ref a5, .int v_pulseMany, .ref a6, .ref a7, .ref a8, .ref a9, .ref a10, .long v_left, .long v_dropped, .int v_merged, .int v_drops, .int v_contributions, .long v_packet, .int v_peelResult, .int v_peelTime, .int v_peelSum, .int v_at, .int v_commands, .ref a11, .long v_hash])), (a1, .inl (Z.2 1, 431, .inr (.inl v_m))), (a2, .inl (Z.2 1, 1293, .inr (.inl v_saved))), (a3, .inl (Z.2 0, 120, .inl v_script)), (a4, .inl (Z.2 0, 8, .inl v_lengths)), (a5, .inl (Z.2 0, 9, .inl v_fractions)), (a6, .inl (Z.2 0, 4, .inl v_times)), (a7, .inl (Z.2 1, 4, .inr (.inl v_energies))), (a8, .inl (Z.2 1, 1809, .inr (.inl v_far))), (a9, .inl (Z.2 1, 1809, .inr (.inl v_near))), (a10, .inl (Z.2 1, 201, .inr (.inl v_echoes))), (a11, .inl (Z.2 0, 120, .inl v_draft))] [] (fun _ : Unit => (some (.int r) : Option Value)) (fun _ : Unit => ([(a0, .inr (5, [.ref a1, .ref a2, .int r_savedCount, .ref a3, .int v_scriptLength, .int r_code, .int v_lineParts, .ref a4, .ref a5, .int v_pulseMany, .ref a6, .ref a7, .ref a8, .ref a9, .ref a10, .long v_left, .long v_dropped, .int v_merged, .int v_drops, .int v_contributions, .long v_packet, .int v_peelResult, .int v_peelTime, .int v_peelSum, .int v_at, .int v_commands, .ref a11, .long v_hash])), (a1, .inl (Z.2 1, 431, .inr (.inl r_m))), (a2, .inl (Z.2 1, 1293, .inr (.inl r_saved))), (a3, .inl (Z.2 0, 120, .inl v_script)), (a4, .inl (Z.2 0, 8, .inl v_lengths)), (a5, .inl (Z.2 0, 9, .inl v_fractions)), (a6, .inl (Z.2 0, 4, .inl v_times)), (a7, .inl (Z.2 1, 4, .inr (.inl v_energies))), (a8, .inl (Z.2 1, 1809, .inr (.inl v_far))), (a9, .inl (Z.2 1, 1809, .inr (.inl v_near))), (a10, .inl (Z.2 1, 201, .inr (.inl v_echoes))), (a11, .inl (Z.2 0, 120, .inl v_draft))] : va_W)) := by
  refine Ct.of cX6_setPart 4 (some .int) "LineEchoesModel" [some (.ref a0), some (.int x1), some (.int x2), some (.int x3)] 0 (by decide) rfl (Nat.le_of_ble_eq_true rfl) rfl (fun p e s m args below meth c A X hin => ?_)
  unfold F_X6_setPart at h
  refine g_aload_n X rfl dX6_setPart_0 1 rfl ?_
  refine g_aload_n X rfl dX6_setPart_1 2 rfl ?_
  refine g_iload_n X rfl dX6_setPart_2 3 rfl ?_
  refine g_iload_n X rfl dX6_setPart_3 4 rfl ?_
  refine g_iload_n X rfl dX6_setPart_4 5 rfl ?_
  obtain ⟨r1, hcl, h⟩ := bd1_e h
  refine g_callV1W X (met_X6_whyNotSet l Z a0 a1 a2 a3 a4 a5 a6 a7 a8 a9 a10 a11 v_savedCount v_scriptLength v_code v_lineParts v_pulseMany v_left v_dropped v_merged v_drops v_contributions v_packet v_peelResult v_peelTime v_peelSum v_at v_commands v_hash v_m v_saved v_script v_lengths v_fractions v_times v_energies v_far v_near v_echoes v_draft x1 x2 x3 r1 hcl) rfl 0 gC5 rfl rfl (lw_V q1467 q1469 qs26 q74 q1470) md_X6_whyNotSet ⟨(Nat.le_of_ble_eq_true rfl), (Nat.le_of_ble_eq_true rfl)⟩ rfl dX6_setPart_5 8 rfl 0 0 rfl rfl (Nat.le_of_ble_eq_true rfl) (Nat.le_of_ble_eq_true rfl) (st := [.ref a0]) rfl (Nat.le_of_ble_eq_true rfl) (fun _ => rfl) (fun _ => ?_)
  refine g_put X gC5 0 rfl 5 (by decide) q1347 (fun _ h9 => h9) rfl rfl rfl (Nat.le_of_ble_eq_true rfl) dX6_setPart_8 11 rfl ?_
  refine g_aload_n X rfl dX6_setPart_11 12 rfl ?_
  refine g_get X gC5 0 rfl 5 (by decide) q1347 (fun _ h9 => h9) rfl dX6_setPart_12 15 rfl ?_
  refine g_if_eq X dX6_setPart_15 20 (by decide) 18 rfl (fun hc => ?_) (fun hc => ?_)
  · replace h := if_t hc h
    refine g_aload_n X rfl dX6_setPart_20 21 rfl ?_
    obtain ⟨w2_savedCount, w3_saved, hcl, h⟩ := bd2_e h
    refine g_callV0W X (met_X6_keep l Z a0 a1 a2 a3 a4 a5 a6 a7 a8 a9 a10 a11 v_savedCount v_scriptLength r1 v_lineParts v_pulseMany v_left v_dropped v_merged v_drops v_contributions v_packet v_peelResult v_peelTime v_peelSum v_at v_commands v_hash v_m v_saved v_script v_lengths v_fractions v_times v_energies v_far v_near v_echoes v_draft  w2_savedCount w3_saved hcl) rfl 0 gC5 rfl rfl (lw_V q1451 q1453 qs23 q74 q1454) md_X6_keep ⟨(Nat.le_of_ble_eq_true rfl), (Nat.le_of_ble_eq_true rfl)⟩ rfl dX6_setPart_21 24 rfl 0 0 rfl rfl (Nat.le_of_ble_eq_true rfl) (Nat.le_of_ble_eq_true rfl) (st := []) rfl (Nat.le_of_ble_eq_true rfl) (fun _ => rfl) (fun _ => ?_)
    refine g_aload_n X rfl dX6_setPart_24 25 rfl ?_
    refine g_iload_n X rfl dX6_setPart_25 26 rfl ?_
    refine g_iload_n X rfl dX6_setPart_26 27 rfl ?_
    refine g_iload_n X rfl dX6_setPart_27 28 rfl ?_
    obtain ⟨r4, w5_m, hcl, h⟩ := bd2_e h
    refine g_callV1W X (met_X6_setsPart l Z a0 a1 a2 a3 a4 a5 a6 a7 a8 a9 a10 a11 w2_savedCount v_scriptLength r1 v_lineParts v_pulseMany v_left v_dropped v_merged v_drops v_contributions v_packet v_peelResult v_peelTime v_peelSum v_at v_commands v_hash v_m w3_saved v_script v_lengths v_fractions v_times v_energies v_far v_near v_echoes v_draft x1 x2 x3 r4 w5_m hcl) rfl 0 gC5 rfl rfl (lw_V q1475 q1477 qs28 q74 q1478) md_X6_setsPart ⟨(Nat.le_of_ble_eq_true rfl), (Nat.le_of_ble_eq_true rfl)⟩ rfl dX6_setPart_28 31 rfl 0 0 rfl rfl (Nat.le_of_ble_eq_true rfl) (Nat.le_of_ble_eq_true rfl) (st := []) rfl (Nat.le_of_ble_eq_true rfl) (fun _ => rfl) (fun _ => ?_)
    cases h
    exact g_iret X dX6_setPart_31 () rfl rfl (Nat.le_of_ble_eq_true rfl) (Nat.le_of_ble_eq_true rfl)
  · replace h := if_f hc h
    refine g_iconst X 0 dX6_setPart_18 19 rfl kI_0 ?_
    cases h
    exact g_iret X dX6_setPart_19 () rfl rfl (Nat.le_of_ble_eq_true rfl) (Nat.le_of_ble_eq_true rfl)
/-! LineEchoesModel.removesPart(I)I -/
abbrev rm_X6_removesPart : Room := { frames := 1, cells := 0, slots := 0, locals := 20 }
def B_X6_removesPart_12 (K12 : (Nat → Int64) → (Int32) → Option (Int32 × (Nat → Int64))) (v_m : Nat → Int64) (x2 : Int32) : Option (Int32 × (Nat → Int64)) :=
  bd1 (F_X6_parts v_m) fun r1 =>
  if r1 ≤ x2 then
    (bd1 (F_X6_parts v_m) fun r2 =>
    some (r2, v_m))
  else
    (gin ((1 + x2) + 1) 431 <|
    nm (v_m ((1 + x2) + 1).toNatClampNeg) fun t3 =>
    gin (1 + x2) 431 <|
    gin ((9 + x2) + 1) 431 <|
    nm ((vp_updL v_m (1 + x2).toNatClampNeg t3) ((9 + x2) + 1).toNatClampNeg) fun t4 =>
    gin (9 + x2) 431 <|
    K12 (vp_updL (vp_updL v_m (1 + x2).toNatClampNeg t3) (9 + x2).toNatClampNeg t4) (x2 + 1))
def F_X6_removesPart_12 : Nat → (Nat → Int64) → (Int32) → Option (Int32 × (Nat → Int64))
  | 0 => fun _ _ => none
  | n + 1 => B_X6_removesPart_12 (F_X6_removesPart_12 n)
def F_X6_removesPart (v_m : Nat → Int64) (x1 : Int32) : Option (Int32 × (Nat → Int64)) :=
  gin 0 431 <|
  nm ((v_m (Int32.toNatClampNeg 0)) - 1) fun t1 =>
  gin 0 431 <|
  F_X6_removesPart_12 gFU (vp_updL v_m (Int32.toNatClampNeg 0) t1) x1
theorem w_X6_removesPart_12 {p : Program} {l : Launch} {e : Env} {s : State} {m : MethodId} {args : Array Value} {below : List Frame} {meth : Method} {c : Code} {Z : gZt} {A : Nat → Prop} (a0 : Nat) (a1 : Nat) (a2 : Nat) (a3 : Nat) (a4 : Nat) (a5 : Nat) (a6 : Nat) (a7 : Nat) (a8 : Nat) (a9 : Nat) (a10 : Nat) (a11 : Nat) (X : gX p s m args meth c Z A cX6_removesPart "LineEchoesModel" 3 (some .int) []) (r : Int32) (r_m : Nat → Int64)  : ∀ (n : Nat) (v_savedCount : Int32) (v_scriptLength : Int32) (v_code : Int32) (v_lineParts : Int32) (v_pulseMany : Int32) (v_left : Int64) (v_dropped : Int64) (v_merged : Int32) (v_drops : Int32) (v_contributions : Int32) (v_packet : Int64) (v_peelResult : Int32) (v_peelTime : Int32) (v_peelSum : Int32) (v_at : Int32) (v_commands : Int32) (v_hash : Int64) (v_m : Nat → Int64) (v_saved : Nat → Int64) (v_script : Nat → Int32) (v_lengths : Nat → Int32) (v_fractions : Nat → Int32) (v_times : Nat → Int32) (v_energies : Nat → Int64) (v_far : Nat → Int64) (v_near : Nat → Int64) (v_echoes : Nat → Int64) (v_draft : Nat → Int32) (x2 : Int32), F_X6_removesPart_12 n v_m x2 = some (r, r_m) → G p l e rm_X6_removesPart s m args below meth c Z A 3 (MQ below (gPost Z A (fun _ : Unit => (some (.int r) : Option Value)) (fun _ : Unit => ([(a0, .inr (5, [.ref a1, .ref a2, .int v_savedCount, .ref a3, .int v_scriptLength, .int v_code, .int v_lineParts, .ref a4, .ref a5, .int v_pulseMany, .ref a6, .ref a7, .ref a8, .ref a9, .ref a10, .long v_left, .long v_dropped, .int v_merged, .int v_drops, .int v_contributions, .long v_packet, .int v_peelResult, .int v_peelTime, .int v_peelSum, .int v_at, .int v_commands, .ref a11, .long v_hash])), (a1, .inl (Z.2 1, 431, .inr (.inl r_m))), (a2, .inl (Z.2 1, 1293, .inr (.inl v_saved))), (a3, .inl (Z.2 0, 120, .inl v_script)), (a4, .inl (Z.2 0, 8, .inl v_lengths)), (a5, .inl (Z.2 0, 9, .inl v_fractions)), (a6, .inl (Z.2 0, 4, .inl v_times)), (a7, .inl (Z.2 1, 4, .inr (.inl v_energies))), (a8, .inl (Z.2 1, 1809, .inr (.inl v_far))), (a9, .inl (Z.2 1, 1809, .inr (.inl v_near))), (a10, .inl (Z.2 1, 201, .inr (.inl v_echoes))), (a11, .inl (Z.2 0, 120, .inl v_draft))] : va_W))) args s 0 0 A) [(a0, .inr (5, [.ref a1, .ref a2, .int v_savedCount, .ref a3, .int v_scriptLength, .int v_code, .int v_lineParts, .ref a4, .ref a5, .int v_pulseMany, .ref a6, .ref a7, .ref a8, .ref a9, .ref a10, .long v_left, .long v_dropped, .int v_merged, .int v_drops, .int v_contributions, .long v_packet, .int v_peelResult, .int v_peelTime, .int v_peelSum, .int v_at, .int v_commands, .ref a11, .long v_hash])), (a1, .inl (Z.2 1, 431, .inr (.inl v_m))), (a2, .inl (Z.2 1, 1293, .inr (.inl v_saved))), (a3, .inl (Z.2 0, 120, .inl v_script)), (a4, .inl (Z.2 0, 8, .inl v_lengths)), (a5, .inl (Z.2 0, 9, .inl v_fractions)), (a6, .inl (Z.2 0, 4, .inl v_times)), (a7, .inl (Z.2 1, 4, .inr (.inl v_energies))), (a8, .inl (Z.2 1, 1809, .inr (.inl v_far))), (a9, .inl (Z.2 1, 1809, .inr (.inl v_near))), (a10, .inl (Z.2 1, 201, .inr (.inl v_echoes))), (a11, .inl (Z.2 0, 120, .inl v_draft))] 0 0 12 [some (.ref a0), none, some (.int x2)] [] := by
  intro n
  induction n with
  | zero =>
    intro v_savedCount v_scriptLength v_code v_lineParts v_pulseMany v_left v_dropped v_merged v_drops v_contributions v_packet v_peelResult v_peelTime v_peelSum v_at v_commands v_hash v_m v_saved v_script v_lengths v_fractions v_times v_energies v_far v_near v_echoes v_draft x2 h
    cases h
  | succ n hK12 =>
    intro v_savedCount v_scriptLength v_code v_lineParts v_pulseMany v_left v_dropped v_merged v_drops v_contributions v_packet v_peelResult v_peelTime v_peelSum v_at v_commands v_hash v_m v_saved v_script v_lengths v_fractions v_times v_energies v_far v_near v_echoes v_draft x2 h
    replace h : B_X6_removesPart_12 (F_X6_removesPart_12 n) v_m x2 = some (r, r_m) := h
    unfold B_X6_removesPart_12 at h
    refine g_iload_n X rfl dX6_removesPart_12 13 rfl ?_
    refine g_aload_n X rfl dX6_removesPart_13 14 rfl ?_
    obtain ⟨r1, hcl, h⟩ := bd1_e h
    refine g_callV1W X (met_X6_parts l Z a0 a1 a2 a3 a4 a5 a6 a7 a8 a9 a10 a11 v_savedCount v_scriptLength v_code v_lineParts v_pulseMany v_left v_dropped v_merged v_drops v_contributions v_packet v_peelResult v_peelTime v_peelSum v_at v_commands v_hash v_m v_saved v_script v_lengths v_fractions v_times v_energies v_far v_near v_echoes v_draft  r1 hcl) rfl 0 gC5 rfl rfl (lw_V q1447 q1449 qs22 q74 q1450) md_X6_parts ⟨(Nat.le_of_ble_eq_true rfl), (Nat.le_of_ble_eq_true rfl)⟩ rfl dX6_removesPart_14 17 rfl 0 0 rfl rfl (Nat.le_of_ble_eq_true rfl) (Nat.le_of_ble_eq_true rfl) (st := [.int x2]) rfl (Nat.le_of_ble_eq_true rfl) (fun _ => rfl) (fun _ => ?_)
    refine g_icmp_ge X dX6_removesPart_17 64 (by decide) 20 rfl (fun hc => ?_) (fun hc => ?_)
    · replace h := if_t hc h
      refine g_aload_n X rfl dX6_removesPart_64 65 rfl ?_
      obtain ⟨r2, hcl, h⟩ := bd1_e h
      refine g_callV1W X (met_X6_parts l Z a0 a1 a2 a3 a4 a5 a6 a7 a8 a9 a10 a11 v_savedCount v_scriptLength v_code v_lineParts v_pulseMany v_left v_dropped v_merged v_drops v_contributions v_packet v_peelResult v_peelTime v_peelSum v_at v_commands v_hash v_m v_saved v_script v_lengths v_fractions v_times v_energies v_far v_near v_echoes v_draft  r2 hcl) rfl 0 gC5 rfl rfl (lw_V q1447 q1449 qs22 q74 q1450) md_X6_parts ⟨(Nat.le_of_ble_eq_true rfl), (Nat.le_of_ble_eq_true rfl)⟩ rfl dX6_removesPart_65 68 rfl 0 0 rfl rfl (Nat.le_of_ble_eq_true rfl) (Nat.le_of_ble_eq_true rfl) (st := []) rfl (Nat.le_of_ble_eq_true rfl) (fun _ => rfl) (fun _ => ?_)
      cases h
      exact g_iret X dX6_removesPart_68 () rfl rfl (Nat.le_of_ble_eq_true rfl) (Nat.le_of_ble_eq_true rfl)
    · replace h := if_f hc h
      refine g_aload_n X rfl dX6_removesPart_20 21 rfl ?_
      refine g_get X gC5 0 rfl 0 (by decide) q1342 (fun _ h9 => h9) rfl dX6_removesPart_21 24 rfl ?_
      refine g_iconst X 1 dX6_removesPart_24 25 rfl kI_1 ?_
      refine g_iload_n X rfl dX6_removesPart_25 26 rfl ?_
      refine g_iadd X dX6_removesPart_26 27 rfl ?_
      refine g_aload_n X rfl dX6_removesPart_27 28 rfl ?_
      refine g_get X gC5 0 rfl 0 (by decide) q1342 (fun _ h9 => h9) rfl dX6_removesPart_28 31 rfl ?_
      refine g_iconst X 1 dX6_removesPart_31 32 rfl kI_1 ?_
      refine g_iload_n X rfl dX6_removesPart_32 33 rfl ?_
      refine g_iadd X dX6_removesPart_33 34 rfl ?_
      refine g_iconst X 1 dX6_removesPart_34 35 rfl kI_1 ?_
      refine g_iadd X dX6_removesPart_35 36 rfl ?_
      obtain ⟨hi, h⟩ := gin_e h
      refine g_lald X 1 rfl hi dX6_removesPart_36 37 rfl ?_
      refine g_topl (fun t3 et3 => ?_)
      replace h := nm_at et3 h
      obtain ⟨hi, h⟩ := gin_e h
      refine g_last X 1 rfl hi dX6_removesPart_37 38 rfl ?_
      refine g_aload_n X rfl dX6_removesPart_38 39 rfl ?_
      refine g_get X gC5 0 rfl 0 (by decide) q1342 (fun _ h9 => h9) rfl dX6_removesPart_39 42 rfl ?_
      refine g_bipush X 9 dX6_removesPart_42 44 rfl kB_9 ?_
      refine g_iload_n X rfl dX6_removesPart_44 45 rfl ?_
      refine g_iadd X dX6_removesPart_45 46 rfl ?_
      refine g_aload_n X rfl dX6_removesPart_46 47 rfl ?_
      refine g_get X gC5 0 rfl 0 (by decide) q1342 (fun _ h9 => h9) rfl dX6_removesPart_47 50 rfl ?_
      refine g_bipush X 9 dX6_removesPart_50 52 rfl kB_9 ?_
      refine g_iload_n X rfl dX6_removesPart_52 53 rfl ?_
      refine g_iadd X dX6_removesPart_53 54 rfl ?_
      refine g_iconst X 1 dX6_removesPart_54 55 rfl kI_1 ?_
      refine g_iadd X dX6_removesPart_55 56 rfl ?_
      obtain ⟨hi, h⟩ := gin_e h
      refine g_lald X 1 rfl hi dX6_removesPart_56 57 rfl ?_
      refine g_topl (fun t4 et4 => ?_)
      replace h := nm_at et4 h
      obtain ⟨hi, h⟩ := gin_e h
      refine g_last X 1 rfl hi dX6_removesPart_57 58 rfl ?_
      refine g_iinc X 1 rfl dX6_removesPart_58 61 rfl kI_1 (Nat.le_of_ble_eq_true rfl) rfl [some (.ref a0), none, some (.int (x2 + 1))] rfl ?_
      refine g_goto X dX6_removesPart_61 12 (by decide) ?_
      exact hK12 v_savedCount v_scriptLength v_code v_lineParts v_pulseMany v_left v_dropped v_merged v_drops v_contributions v_packet v_peelResult v_peelTime v_peelSum v_at v_commands v_hash (vp_updL (vp_updL v_m (1 + x2).toNatClampNeg t3) (9 + x2).toNatClampNeg t4) v_saved v_script v_lengths v_fractions v_times v_energies v_far v_near v_echoes v_draft (x2 + 1) h
theorem met_X6_removesPart (l : Launch) (Z : gZt) (a0 : Nat) (a1 : Nat) (a2 : Nat) (a3 : Nat) (a4 : Nat) (a5 : Nat) (a6 : Nat) (a7 : Nat) (a8 : Nat) (a9 : Nat) (a10 : Nat) (a11 : Nat) (v_savedCount : Int32) (v_scriptLength : Int32) (v_code : Int32) (v_lineParts : Int32) (v_pulseMany : Int32) (v_left : Int64) (v_dropped : Int64) (v_merged : Int32) (v_drops : Int32) (v_contributions : Int32) (v_packet : Int64) (v_peelResult : Int32) (v_peelTime : Int32) (v_peelSum : Int32) (v_at : Int32) (v_commands : Int32) (v_hash : Int64) (v_m : Nat → Int64) (v_saved : Nat → Int64) (v_script : Nat → Int32) (v_lengths : Nat → Int32) (v_fractions : Nat → Int32) (v_times : Nat → Int32) (v_energies : Nat → Int64) (v_far : Nat → Int64) (v_near : Nat → Int64) (v_echoes : Nat → Int64) (v_draft : Nat → Int32) (x1 : Int32) (r : Int32) (r_m : Nat → Int64) (h : F_X6_removesPart v_m x1 = some (r, r_m)) : Ct l yX6_removesPart (ws_ yX6_removesPart cX6_removesPart 3 (some .int)) rm_X6_removesPart Z [.ref a0, .int x1] [(a0, .inr (5, [.ref a1, .ref a2, .int v_savedCount, .ref a3, .int v_scriptLength, .int v_code, .int v_lineParts, .ref a4, .ref a5, .int v_pulseMany, .ref a6, .ref a7, .ref a8, .ref a9, .ref a10, .long v_left, .long v_dropped, .int v_merged, .int v_drops, .int v_contributions, .long v_packet, .int v_peelResult, .int v_peelTime, .int v_peelSum, .int v_at, .int v_commands, .ref a11, .long v_hash])), (a1, .inl (Z.2 1, 431, .inr (.inl v_m))), (a2, .inl (Z.2 1, 1293, .inr (.inl v_saved))), (a3, .inl (Z.2 0, 120, .inl v_script)), (a4, .inl (Z.2 0, 8, .inl v_lengths)), (a5, .inl (Z.2 0, 9, .inl v_fractions)), (a6, .inl (Z.2 0, 4, .inl v_times)), (a7, .inl (Z.2 1, 4, .inr (.inl v_energies))), (a8, .inl (Z.2 1, 1809, .inr (.inl v_far))), (a9, .inl (Z.2 1, 1809, .inr (.inl v_near))), (a10, .inl (Z.2 1, 201, .inr (.inl v_echoes))), (a11, .inl (Z.2 0, 120, .inl v_draft))] [] (fun _ : Unit => (some (.int r) : Option Value)) (fun _ : Unit => ([(a0, .inr (5, [.ref a1, .ref a2, .int v_savedCount, .ref a3, .int v_scriptLength, .int v_code, .int v_lineParts, .ref a4, .ref a5, .int v_pulseMany, .ref a6, .ref a7, .ref a8, .ref a9, .ref a10, .long v_left, .long v_dropped, .int v_merged, .int v_drops, .int v_contributions, .long v_packet, .int v_peelResult, .int v_peelTime, .int v_peelSum, .int v_at, .int v_commands, .ref a11, .long v_hash])), (a1, .inl (Z.2 1, 431, .inr (.inl r_m))), (a2, .inl (Z.2 1, 1293, .inr (.inl v_saved))), (a3, .inl (Z.2 0, 120, .inl v_script)), (a4, .inl (Z.2 0, 8, .inl v_lengths)), (a5, .inl (Z.2 0, 9, .inl v_fractions)), (a6, .inl (Z.2 0, 4, .inl v_times)), (a7, .inl (Z.2 1, 4, .inr (.inl v_energies))), (a8, .inl (Z.2 1, 1809, .inr (.inl v_far))), (a9, .inl (Z.2 1, 1809, .inr (.inl v_near))), (a10, .inl (Z.2 1, 201, .inr (.inl v_echoes))), (a11, .inl (Z.2 0, 120, .inl v_draft))] : va_W)) := by
  refine Ct.of cX6_removesPart 3 (some .int) "LineEchoesModel" [some (.ref a0), some (.int x1), none] 1 (by decide) rfl (Nat.le_of_ble_eq_true rfl) rfl (fun p e s m args below meth c A X hin => ?_)
  unfold F_X6_removesPart at h
  refine g_aload_n X rfl dX6_removesPart_0 1 rfl ?_
  refine g_get X gC5 0 rfl 0 (by decide) q1342 (fun _ h9 => h9) rfl dX6_removesPart_1 4 rfl ?_
  refine g_iconst X 0 dX6_removesPart_4 5 rfl kI_0 ?_
  refine g_dup2 X dX6_removesPart_5 6 rfl rfl rfl ?_
  obtain ⟨hi, h⟩ := gin_e h
  refine g_lald X 1 rfl hi dX6_removesPart_6 7 rfl ?_
  refine g_lconst X 1 dX6_removesPart_7 8 rfl rfl ?_
  refine g_lsub X dX6_removesPart_8 9 rfl ?_
  refine g_topl (fun t1 et1 => ?_)
  replace h := nm_at et1 h
  obtain ⟨hi, h⟩ := gin_e h
  refine g_last X 1 rfl hi dX6_removesPart_9 10 rfl ?_
  refine g_iload_n X rfl dX6_removesPart_10 11 rfl ?_
  refine g_istore_n X dX6_removesPart_11 12 rfl (Nat.le_of_ble_eq_true rfl) rfl [some (.ref a0), some (.int x1), some (.int x1)] rfl ?_
  refine g_kill (j := 1) [some (.ref a0), none, some (.int x1)] rfl ?_
  exact w_X6_removesPart_12 a0 a1 a2 a3 a4 a5 a6 a7 a8 a9 a10 a11  X  r r_m    gFU v_savedCount v_scriptLength v_code v_lineParts v_pulseMany v_left v_dropped v_merged v_drops v_contributions v_packet v_peelResult v_peelTime v_peelSum v_at v_commands v_hash (vp_updL v_m (Int32.toNatClampNeg 0) t1) v_saved v_script v_lengths v_fractions v_times v_energies v_far v_near v_echoes v_draft x1 h
/-! LineEchoesModel.removePart(I)I -/
abbrev rm_X6_removePart : Room := { frames := 2, cells := 0, slots := 0, locals := 46 }
def F_X6_removePart (v_savedCount : Int32) (v_m : Nat → Int64) (v_saved : Nat → Int64) (x1 : Int32) : Option (Int32 × Int32 × Int32 × (Nat → Int64) × (Nat → Int64)) :=
  bd1 (F_X6_isPart v_m x1) fun r1 =>
  if (if r1 = 0 then (1 : Int32) else 0) = 0 then
    (bd2 (F_X6_keep v_savedCount v_m v_saved) fun w2_savedCount w3_saved =>
    bd2 (F_X6_removesPart v_m x1) fun r4 w5_m =>
    some (r4, w2_savedCount, (if r1 = 0 then (1 : Int32) else 0), w5_m, w3_saved))
  else
    (some (0, v_savedCount, (if r1 = 0 then (1 : Int32) else 0), v_m, v_saved))
theorem met_X6_removePart (l : Launch) (Z : gZt) (a0 : Nat) (a1 : Nat) (a2 : Nat) (a3 : Nat) (a4 : Nat) (a5 : Nat) (a6 : Nat) (a7 : Nat) (a8 : Nat) (a9 : Nat) (a10 : Nat) (a11 : Nat) (v_savedCount : Int32) (v_scriptLength : Int32) (v_code : Int32) (v_lineParts : Int32) (v_pulseMany : Int32) (v_left : Int64) (v_dropped : Int64) (v_merged : Int32) (v_drops : Int32) (v_contributions : Int32) (v_packet : Int64) (v_peelResult : Int32) (v_peelTime : Int32) (v_peelSum : Int32) (v_at : Int32) (v_commands : Int32) (v_hash : Int64) (v_m : Nat → Int64) (v_saved : Nat → Int64) (v_script : Nat → Int32) (v_lengths : Nat → Int32) (v_fractions : Nat → Int32) (v_times : Nat → Int32) (v_energies : Nat → Int64) (v_far : Nat → Int64) (v_near : Nat → Int64) (v_echoes : Nat → Int64) (v_draft : Nat → Int32) (x1 : Int32) (r : Int32) (r_savedCount : Int32) (r_code : Int32) (r_m : Nat → Int64) (r_saved : Nat → Int64) (h : F_X6_removePart v_savedCount v_m v_saved x1 = some (r, r_savedCount, r_code, r_m, r_saved)) : Ct l yX6_removePart (ws_ yX6_removePart cX6_removePart 2 (some .int)) rm_X6_removePart Z [.ref a0, .int x1] [(a0, .inr (5, [.ref a1, .ref a2, .int v_savedCount, .ref a3, .int v_scriptLength, .int v_code, .int v_lineParts, .ref a4, .ref a5, .int v_pulseMany, .ref a6, .ref a7, .ref a8, .ref a9, .ref a10, .long v_left, .long v_dropped, .int v_merged, .int v_drops, .int v_contributions, .long v_packet, .int v_peelResult, .int v_peelTime, .int v_peelSum, .int v_at, .int v_commands, .ref a11, .long v_hash])), (a1, .inl (Z.2 1, 431, .inr (.inl v_m))), (a2, .inl (Z.2 1, 1293, .inr (.inl v_saved))), (a3, .inl (Z.2 0, 120, .inl v_script)), (a4, .inl (Z.2 0, 8, .inl v_lengths)), (a5, .inl (Z.2 0, 9, .inl v_fractions)), (a6, .inl (Z.2 0, 4, .inl v_times)), (a7, .inl (Z.2 1, 4, .inr (.inl v_energies))), (a8, .inl (Z.2 1, 1809, .inr (.inl v_far))), (a9, .inl (Z.2 1, 1809, .inr (.inl v_near))), (a10, .inl (Z.2 1, 201, .inr (.inl v_echoes))), (a11, .inl (Z.2 0, 120, .inl v_draft))] [] (fun _ : Unit => (some (.int r) : Option Value)) (fun _ : Unit => ([(a0, .inr (5, [.ref a1, .ref a2, .int r_savedCount, .ref a3, .int v_scriptLength, .int r_code, .int v_lineParts, .ref a4, .ref a5, .int v_pulseMany, .ref a6, .ref a7, .ref a8, .ref a9, .ref a10, .long v_left, .long v_dropped, .int v_merged, .int v_drops, .int v_contributions, .long v_packet, .int v_peelResult, .int v_peelTime, .int v_peelSum, .int v_at, .int v_commands, .ref a11, .long v_hash])), (a1, .inl (Z.2 1, 431, .inr (.inl r_m))), (a2, .inl (Z.2 1, 1293, .inr (.inl r_saved))), (a3, .inl (Z.2 0, 120, .inl v_script)), (a4, .inl (Z.2 0, 8, .inl v_lengths)), (a5, .inl (Z.2 0, 9, .inl v_fractions)), (a6, .inl (Z.2 0, 4, .inl v_times)), (a7, .inl (Z.2 1, 4, .inr (.inl v_energies))), (a8, .inl (Z.2 1, 1809, .inr (.inl v_far))), (a9, .inl (Z.2 1, 1809, .inr (.inl v_near))), (a10, .inl (Z.2 1, 201, .inr (.inl v_echoes))), (a11, .inl (Z.2 0, 120, .inl v_draft))] : va_W)) := by
  refine Ct.of cX6_removePart 2 (some .int) "LineEchoesModel" [some (.ref a0), some (.int x1)] 0 (by decide) rfl (Nat.le_of_ble_eq_true rfl) rfl (fun p e s m args below meth c A X hin => ?_)
  unfold F_X6_removePart at h
  refine g_aload_n X rfl dX6_removePart_0 1 rfl ?_
  refine g_aload_n X rfl dX6_removePart_1 2 rfl ?_
  refine g_iload_n X rfl dX6_removePart_2 3 rfl ?_
  obtain ⟨r1, hcl, h⟩ := bd1_e h
  refine g_callV1W X (met_X6_isPart l Z a0 a1 a2 a3 a4 a5 a6 a7 a8 a9 a10 a11 v_savedCount v_scriptLength v_code v_lineParts v_pulseMany v_left v_dropped v_merged v_drops v_contributions v_packet v_peelResult v_peelTime v_peelSum v_at v_commands v_hash v_m v_saved v_script v_lengths v_fractions v_times v_energies v_far v_near v_echoes v_draft x1 r1 hcl) rfl 0 gC5 rfl rfl (lw_V q1471 q1473 qs27 q74 q1474) md_X6_isPart ⟨(Nat.le_of_ble_eq_true rfl), (Nat.le_of_ble_eq_true rfl)⟩ rfl dX6_removePart_3 6 rfl 0 0 rfl rfl (Nat.le_of_ble_eq_true rfl) (Nat.le_of_ble_eq_true rfl) (st := [.ref a0]) rfl (Nat.le_of_ble_eq_true rfl) (fun _ => rfl) (fun _ => ?_)
  refine g_seli 14 [.ref a0] (b := r1 = 0) 1 0 ?_ (fun hc K => ?_) (fun hc K => ?_)
  · refine g_put X gC5 0 rfl 5 (by decide) q1347 (fun _ h9 => h9) rfl rfl rfl (Nat.le_of_ble_eq_true rfl) dX6_removePart_14 17 rfl ?_
    refine g_aload_n X rfl dX6_removePart_17 18 rfl ?_
    refine g_get X gC5 0 rfl 5 (by decide) q1347 (fun _ h9 => h9) rfl dX6_removePart_18 21 rfl ?_
    refine g_if_eq X dX6_removePart_21 26 (by decide) 24 rfl (fun hc => ?_) (fun hc => ?_)
    · replace h := if_t hc h
      refine g_aload_n X rfl dX6_removePart_26 27 rfl ?_
      obtain ⟨w2_savedCount, w3_saved, hcl, h⟩ := bd2_e h
      refine g_callV0W X (met_X6_keep l Z a0 a1 a2 a3 a4 a5 a6 a7 a8 a9 a10 a11 v_savedCount v_scriptLength (if r1 = 0 then (1 : Int32) else 0) v_lineParts v_pulseMany v_left v_dropped v_merged v_drops v_contributions v_packet v_peelResult v_peelTime v_peelSum v_at v_commands v_hash v_m v_saved v_script v_lengths v_fractions v_times v_energies v_far v_near v_echoes v_draft  w2_savedCount w3_saved hcl) rfl 0 gC5 rfl rfl (lw_V q1451 q1453 qs23 q74 q1454) md_X6_keep ⟨(Nat.le_of_ble_eq_true rfl), (Nat.le_of_ble_eq_true rfl)⟩ rfl dX6_removePart_27 30 rfl 0 0 rfl rfl (Nat.le_of_ble_eq_true rfl) (Nat.le_of_ble_eq_true rfl) (st := []) rfl (Nat.le_of_ble_eq_true rfl) (fun _ => rfl) (fun _ => ?_)
      refine g_aload_n X rfl dX6_removePart_30 31 rfl ?_
      refine g_iload_n X rfl dX6_removePart_31 32 rfl ?_
      obtain ⟨r4, w5_m, hcl, h⟩ := bd2_e h
      refine g_callV1W X (met_X6_removesPart l Z a0 a1 a2 a3 a4 a5 a6 a7 a8 a9 a10 a11 w2_savedCount v_scriptLength (if r1 = 0 then (1 : Int32) else 0) v_lineParts v_pulseMany v_left v_dropped v_merged v_drops v_contributions v_packet v_peelResult v_peelTime v_peelSum v_at v_commands v_hash v_m w3_saved v_script v_lengths v_fractions v_times v_energies v_far v_near v_echoes v_draft x1 r4 w5_m hcl) rfl 0 gC5 rfl rfl (lw_V q1483 q1485 qs29 q74 q1486) md_X6_removesPart ⟨(Nat.le_of_ble_eq_true rfl), (Nat.le_of_ble_eq_true rfl)⟩ rfl dX6_removePart_32 35 rfl 0 0 rfl rfl (Nat.le_of_ble_eq_true rfl) (Nat.le_of_ble_eq_true rfl) (st := []) rfl (Nat.le_of_ble_eq_true rfl) (fun _ => rfl) (fun _ => ?_)
      cases h
      exact g_iret X dX6_removePart_35 () rfl rfl (Nat.le_of_ble_eq_true rfl) (Nat.le_of_ble_eq_true rfl)
    · replace h := if_f hc h
      refine g_iconst X 0 dX6_removePart_24 25 rfl kI_0 ?_
      cases h
      exact g_iret X dX6_removePart_25 () rfl rfl (Nat.le_of_ble_eq_true rfl) (Nat.le_of_ble_eq_true rfl)
  · refine g_if_eq X dX6_removePart_6 13 (by decide) 9 rfl (fun _ => ?_) (fun hn => absurd hc hn)
    refine g_iconst X 1 dX6_removePart_13 14 rfl kI_1 ?_
    exact K
  · refine g_if_eq X dX6_removePart_6 13 (by decide) 9 rfl (fun hn => absurd hn hc) (fun _ => ?_)
    refine g_iconst X 0 dX6_removePart_9 10 rfl kI_0 ?_
    refine g_goto X dX6_removePart_10 14 (by decide) ?_
    exact K
/-! LineEchoesModel.splitsPart(III)I -/
abbrev rm_X6_splitsPart : Room := { frames := 1, cells := 0, slots := 0, locals := 23 }
def B_X6_splitsPart_6 (K6 : (Nat → Int64) → (Int32) → (Int32) → (Int32) → (Int32) → Option (Int32 × (Nat → Int64))) (v_m : Nat → Int64) (x1 : Int32) (x2 : Int32) (x3 : Int32) (x4 : Int32) : Option (Int32 × (Nat → Int64)) :=
  if x4 ≤ x1 then
    (gin 0 431 <|
    nm ((v_m (Int32.toNatClampNeg 0)) + 1) fun t1 =>
    gin 0 431 <|
    gin ((1 + x1) + 1) 431 <|
    nm (((vp_updL v_m (Int32.toNatClampNeg 0) t1) ((1 + x1) + 1).toNatClampNeg) - x2.toInt64) fun t2 =>
    gin ((1 + x1) + 1) 431 <|
    bd1 (F_X6_laysPart (vp_updL (vp_updL v_m (Int32.toNatClampNeg 0) t1) ((1 + x1) + 1).toNatClampNeg t2) x1 x2 x3) fun w3_m =>
    bd1 (F_X6_parts w3_m) fun r4 =>
    some (r4, w3_m))
  else
    (gin ((1 + x4) - 1) 431 <|
    nm (v_m ((1 + x4) - 1).toNatClampNeg) fun t5 =>
    gin (1 + x4) 431 <|
    gin ((9 + x4) - 1) 431 <|
    nm ((vp_updL v_m (1 + x4).toNatClampNeg t5) ((9 + x4) - 1).toNatClampNeg) fun t6 =>
    gin (9 + x4) 431 <|
    K6 (vp_updL (vp_updL v_m (1 + x4).toNatClampNeg t5) (9 + x4).toNatClampNeg t6) x1 x2 x3 (x4 + (-1)))
def F_X6_splitsPart_6 : Nat → (Nat → Int64) → (Int32) → (Int32) → (Int32) → (Int32) → Option (Int32 × (Nat → Int64))
  | 0 => fun _ _ _ _ _ => none
  | n + 1 => B_X6_splitsPart_6 (F_X6_splitsPart_6 n)
def F_X6_splitsPart (v_m : Nat → Int64) (x1 : Int32) (x2 : Int32) (x3 : Int32) : Option (Int32 × (Nat → Int64)) :=
  bd1 (F_X6_parts v_m) fun r1 =>
  F_X6_splitsPart_6 gFU v_m x1 x2 x3 r1
theorem w_X6_splitsPart_6 {p : Program} {l : Launch} {e : Env} {s : State} {m : MethodId} {args : Array Value} {below : List Frame} {meth : Method} {c : Code} {Z : gZt} {A : Nat → Prop} (a0 : Nat) (a1 : Nat) (a2 : Nat) (a3 : Nat) (a4 : Nat) (a5 : Nat) (a6 : Nat) (a7 : Nat) (a8 : Nat) (a9 : Nat) (a10 : Nat) (a11 : Nat) (X : gX p s m args meth c Z A cX6_splitsPart "LineEchoesModel" 5 (some .int) []) (r : Int32) (r_m : Nat → Int64)  : ∀ (n : Nat) (v_savedCount : Int32) (v_scriptLength : Int32) (v_code : Int32) (v_lineParts : Int32) (v_pulseMany : Int32) (v_left : Int64) (v_dropped : Int64) (v_merged : Int32) (v_drops : Int32) (v_contributions : Int32) (v_packet : Int64) (v_peelResult : Int32) (v_peelTime : Int32) (v_peelSum : Int32) (v_at : Int32) (v_commands : Int32) (v_hash : Int64) (v_m : Nat → Int64) (v_saved : Nat → Int64) (v_script : Nat → Int32) (v_lengths : Nat → Int32) (v_fractions : Nat → Int32) (v_times : Nat → Int32) (v_energies : Nat → Int64) (v_far : Nat → Int64) (v_near : Nat → Int64) (v_echoes : Nat → Int64) (v_draft : Nat → Int32) (x1 : Int32) (x2 : Int32) (x3 : Int32) (x4 : Int32), F_X6_splitsPart_6 n v_m x1 x2 x3 x4 = some (r, r_m) → G p l e rm_X6_splitsPart s m args below meth c Z A 5 (MQ below (gPost Z A (fun _ : Unit => (some (.int r) : Option Value)) (fun _ : Unit => ([(a0, .inr (5, [.ref a1, .ref a2, .int v_savedCount, .ref a3, .int v_scriptLength, .int v_code, .int v_lineParts, .ref a4, .ref a5, .int v_pulseMany, .ref a6, .ref a7, .ref a8, .ref a9, .ref a10, .long v_left, .long v_dropped, .int v_merged, .int v_drops, .int v_contributions, .long v_packet, .int v_peelResult, .int v_peelTime, .int v_peelSum, .int v_at, .int v_commands, .ref a11, .long v_hash])), (a1, .inl (Z.2 1, 431, .inr (.inl r_m))), (a2, .inl (Z.2 1, 1293, .inr (.inl v_saved))), (a3, .inl (Z.2 0, 120, .inl v_script)), (a4, .inl (Z.2 0, 8, .inl v_lengths)), (a5, .inl (Z.2 0, 9, .inl v_fractions)), (a6, .inl (Z.2 0, 4, .inl v_times)), (a7, .inl (Z.2 1, 4, .inr (.inl v_energies))), (a8, .inl (Z.2 1, 1809, .inr (.inl v_far))), (a9, .inl (Z.2 1, 1809, .inr (.inl v_near))), (a10, .inl (Z.2 1, 201, .inr (.inl v_echoes))), (a11, .inl (Z.2 0, 120, .inl v_draft))] : va_W))) args s 0 0 A) [(a0, .inr (5, [.ref a1, .ref a2, .int v_savedCount, .ref a3, .int v_scriptLength, .int v_code, .int v_lineParts, .ref a4, .ref a5, .int v_pulseMany, .ref a6, .ref a7, .ref a8, .ref a9, .ref a10, .long v_left, .long v_dropped, .int v_merged, .int v_drops, .int v_contributions, .long v_packet, .int v_peelResult, .int v_peelTime, .int v_peelSum, .int v_at, .int v_commands, .ref a11, .long v_hash])), (a1, .inl (Z.2 1, 431, .inr (.inl v_m))), (a2, .inl (Z.2 1, 1293, .inr (.inl v_saved))), (a3, .inl (Z.2 0, 120, .inl v_script)), (a4, .inl (Z.2 0, 8, .inl v_lengths)), (a5, .inl (Z.2 0, 9, .inl v_fractions)), (a6, .inl (Z.2 0, 4, .inl v_times)), (a7, .inl (Z.2 1, 4, .inr (.inl v_energies))), (a8, .inl (Z.2 1, 1809, .inr (.inl v_far))), (a9, .inl (Z.2 1, 1809, .inr (.inl v_near))), (a10, .inl (Z.2 1, 201, .inr (.inl v_echoes))), (a11, .inl (Z.2 0, 120, .inl v_draft))] 0 0 6 [some (.ref a0), some (.int x1), some (.int x2), some (.int x3), some (.int x4)] [] := by
  intro n
  induction n with
  | zero =>
    intro v_savedCount v_scriptLength v_code v_lineParts v_pulseMany v_left v_dropped v_merged v_drops v_contributions v_packet v_peelResult v_peelTime v_peelSum v_at v_commands v_hash v_m v_saved v_script v_lengths v_fractions v_times v_energies v_far v_near v_echoes v_draft x1 x2 x3 x4 h
    cases h
  | succ n hK6 =>
    intro v_savedCount v_scriptLength v_code v_lineParts v_pulseMany v_left v_dropped v_merged v_drops v_contributions v_packet v_peelResult v_peelTime v_peelSum v_at v_commands v_hash v_m v_saved v_script v_lengths v_fractions v_times v_energies v_far v_near v_echoes v_draft x1 x2 x3 x4 h
    replace h : B_X6_splitsPart_6 (F_X6_splitsPart_6 n) v_m x1 x2 x3 x4 = some (r, r_m) := h
    unfold B_X6_splitsPart_6 at h
    refine g_iload X rfl dX6_splitsPart_6 8 rfl ?_
    refine g_iload_n X rfl dX6_splitsPart_8 9 rfl ?_
    refine g_icmp_le X dX6_splitsPart_9 60 (by decide) 12 rfl (fun hc => ?_) (fun hc => ?_)
    · replace h := if_t hc h
      refine g_aload_n X rfl dX6_splitsPart_60 61 rfl ?_
      refine g_get X gC5 0 rfl 0 (by decide) q1342 (fun _ h9 => h9) rfl dX6_splitsPart_61 64 rfl ?_
      refine g_iconst X 0 dX6_splitsPart_64 65 rfl kI_0 ?_
      refine g_dup2 X dX6_splitsPart_65 66 rfl rfl rfl ?_
      obtain ⟨hi, h⟩ := gin_e h
      refine g_lald X 1 rfl hi dX6_splitsPart_66 67 rfl ?_
      refine g_lconst X 1 dX6_splitsPart_67 68 rfl rfl ?_
      refine g_ladd X dX6_splitsPart_68 69 rfl ?_
      refine g_topl (fun t1 et1 => ?_)
      replace h := nm_at et1 h
      obtain ⟨hi, h⟩ := gin_e h
      refine g_last X 1 rfl hi dX6_splitsPart_69 70 rfl ?_
      refine g_aload_n X rfl dX6_splitsPart_70 71 rfl ?_
      refine g_get X gC5 0 rfl 0 (by decide) q1342 (fun _ h9 => h9) rfl dX6_splitsPart_71 74 rfl ?_
      refine g_iconst X 1 dX6_splitsPart_74 75 rfl kI_1 ?_
      refine g_iload_n X rfl dX6_splitsPart_75 76 rfl ?_
      refine g_iadd X dX6_splitsPart_76 77 rfl ?_
      refine g_iconst X 1 dX6_splitsPart_77 78 rfl kI_1 ?_
      refine g_iadd X dX6_splitsPart_78 79 rfl ?_
      refine g_dup2 X dX6_splitsPart_79 80 rfl rfl rfl ?_
      obtain ⟨hi, h⟩ := gin_e h
      refine g_lald X 1 rfl hi dX6_splitsPart_80 81 rfl ?_
      refine g_iload_n X rfl dX6_splitsPart_81 82 rfl ?_
      refine g_i2l X dX6_splitsPart_82 83 rfl ?_
      refine g_lsub X dX6_splitsPart_83 84 rfl ?_
      refine g_topl (fun t2 et2 => ?_)
      replace h := nm_at et2 h
      obtain ⟨hi, h⟩ := gin_e h
      refine g_last X 1 rfl hi dX6_splitsPart_84 85 rfl ?_
      refine g_aload_n X rfl dX6_splitsPart_85 86 rfl ?_
      refine g_iload_n X rfl dX6_splitsPart_86 87 rfl ?_
      refine g_iload_n X rfl dX6_splitsPart_87 88 rfl ?_
      refine g_iload_n X rfl dX6_splitsPart_88 89 rfl ?_
      obtain ⟨w3_m, hcl, h⟩ := bd1_e h
      refine g_callV0W X (met_X6_laysPart l Z a0 a1 a2 a3 a4 a5 a6 a7 a8 a9 a10 a11 v_savedCount v_scriptLength v_code v_lineParts v_pulseMany v_left v_dropped v_merged v_drops v_contributions v_packet v_peelResult v_peelTime v_peelSum v_at v_commands v_hash (vp_updL (vp_updL v_m (Int32.toNatClampNeg 0) t1) ((1 + x1) + 1).toNatClampNeg t2) v_saved v_script v_lengths v_fractions v_times v_energies v_far v_near v_echoes v_draft x1 x2 x3 w3_m hcl) rfl 0 gC5 rfl rfl (lw_V q1459 q1461 qs25 q74 q1462) md_X6_laysPart ⟨(Nat.le_of_ble_eq_true rfl), (Nat.le_of_ble_eq_true rfl)⟩ rfl dX6_splitsPart_89 92 rfl 0 0 rfl rfl (Nat.le_of_ble_eq_true rfl) (Nat.le_of_ble_eq_true rfl) (st := []) rfl (Nat.le_of_ble_eq_true rfl) (fun _ => rfl) (fun _ => ?_)
      refine g_aload_n X rfl dX6_splitsPart_92 93 rfl ?_
      obtain ⟨r4, hcl, h⟩ := bd1_e h
      refine g_callV1W X (met_X6_parts l Z a0 a1 a2 a3 a4 a5 a6 a7 a8 a9 a10 a11 v_savedCount v_scriptLength v_code v_lineParts v_pulseMany v_left v_dropped v_merged v_drops v_contributions v_packet v_peelResult v_peelTime v_peelSum v_at v_commands v_hash w3_m v_saved v_script v_lengths v_fractions v_times v_energies v_far v_near v_echoes v_draft  r4 hcl) rfl 0 gC5 rfl rfl (lw_V q1447 q1449 qs22 q74 q1450) md_X6_parts ⟨(Nat.le_of_ble_eq_true rfl), (Nat.le_of_ble_eq_true rfl)⟩ rfl dX6_splitsPart_93 96 rfl 0 0 rfl rfl (Nat.le_of_ble_eq_true rfl) (Nat.le_of_ble_eq_true rfl) (st := []) rfl (Nat.le_of_ble_eq_true rfl) (fun _ => rfl) (fun _ => ?_)
      cases h
      exact g_iret X dX6_splitsPart_96 () rfl rfl (Nat.le_of_ble_eq_true rfl) (Nat.le_of_ble_eq_true rfl)
    · replace h := if_f hc h
      refine g_aload_n X rfl dX6_splitsPart_12 13 rfl ?_
      refine g_get X gC5 0 rfl 0 (by decide) q1342 (fun _ h9 => h9) rfl dX6_splitsPart_13 16 rfl ?_
      refine g_iconst X 1 dX6_splitsPart_16 17 rfl kI_1 ?_
      refine g_iload X rfl dX6_splitsPart_17 19 rfl ?_
      refine g_iadd X dX6_splitsPart_19 20 rfl ?_
      refine g_aload_n X rfl dX6_splitsPart_20 21 rfl ?_
      refine g_get X gC5 0 rfl 0 (by decide) q1342 (fun _ h9 => h9) rfl dX6_splitsPart_21 24 rfl ?_
      refine g_iconst X 1 dX6_splitsPart_24 25 rfl kI_1 ?_
      refine g_iload X rfl dX6_splitsPart_25 27 rfl ?_
      refine g_iadd X dX6_splitsPart_27 28 rfl ?_
      refine g_iconst X 1 dX6_splitsPart_28 29 rfl kI_1 ?_
      refine g_isub X dX6_splitsPart_29 30 rfl ?_
      obtain ⟨hi, h⟩ := gin_e h
      refine g_lald X 1 rfl hi dX6_splitsPart_30 31 rfl ?_
      refine g_topl (fun t5 et5 => ?_)
      replace h := nm_at et5 h
      obtain ⟨hi, h⟩ := gin_e h
      refine g_last X 1 rfl hi dX6_splitsPart_31 32 rfl ?_
      refine g_aload_n X rfl dX6_splitsPart_32 33 rfl ?_
      refine g_get X gC5 0 rfl 0 (by decide) q1342 (fun _ h9 => h9) rfl dX6_splitsPart_33 36 rfl ?_
      refine g_bipush X 9 dX6_splitsPart_36 38 rfl kB_9 ?_
      refine g_iload X rfl dX6_splitsPart_38 40 rfl ?_
      refine g_iadd X dX6_splitsPart_40 41 rfl ?_
      refine g_aload_n X rfl dX6_splitsPart_41 42 rfl ?_
      refine g_get X gC5 0 rfl 0 (by decide) q1342 (fun _ h9 => h9) rfl dX6_splitsPart_42 45 rfl ?_
      refine g_bipush X 9 dX6_splitsPart_45 47 rfl kB_9 ?_
      refine g_iload X rfl dX6_splitsPart_47 49 rfl ?_
      refine g_iadd X dX6_splitsPart_49 50 rfl ?_
      refine g_iconst X 1 dX6_splitsPart_50 51 rfl kI_1 ?_
      refine g_isub X dX6_splitsPart_51 52 rfl ?_
      obtain ⟨hi, h⟩ := gin_e h
      refine g_lald X 1 rfl hi dX6_splitsPart_52 53 rfl ?_
      refine g_topl (fun t6 et6 => ?_)
      replace h := nm_at et6 h
      obtain ⟨hi, h⟩ := gin_e h
      refine g_last X 1 rfl hi dX6_splitsPart_53 54 rfl ?_
      refine g_iinc X (-1) rfl dX6_splitsPart_54 57 rfl kI_m1 (Nat.le_of_ble_eq_true rfl) rfl [some (.ref a0), some (.int x1), some (.int x2), some (.int x3), some (.int (x4 + (-1)))] rfl ?_
      refine g_goto X dX6_splitsPart_57 6 (by decide) ?_
      exact hK6 v_savedCount v_scriptLength v_code v_lineParts v_pulseMany v_left v_dropped v_merged v_drops v_contributions v_packet v_peelResult v_peelTime v_peelSum v_at v_commands v_hash (vp_updL (vp_updL v_m (1 + x4).toNatClampNeg t5) (9 + x4).toNatClampNeg t6) v_saved v_script v_lengths v_fractions v_times v_energies v_far v_near v_echoes v_draft x1 x2 x3 (x4 + (-1)) h
theorem met_X6_splitsPart (l : Launch) (Z : gZt) (a0 : Nat) (a1 : Nat) (a2 : Nat) (a3 : Nat) (a4 : Nat) (a5 : Nat) (a6 : Nat) (a7 : Nat) (a8 : Nat) (a9 : Nat) (a10 : Nat) (a11 : Nat) (v_savedCount : Int32) (v_scriptLength : Int32) (v_code : Int32) (v_lineParts : Int32) (v_pulseMany : Int32) (v_left : Int64) (v_dropped : Int64) (v_merged : Int32) (v_drops : Int32) (v_contributions : Int32) (v_packet : Int64) (v_peelResult : Int32) (v_peelTime : Int32) (v_peelSum : Int32) (v_at : Int32) (v_commands : Int32) (v_hash : Int64) (v_m : Nat → Int64) (v_saved : Nat → Int64) (v_script : Nat → Int32) (v_lengths : Nat → Int32) (v_fractions : Nat → Int32) (v_times : Nat → Int32) (v_energies : Nat → Int64) (v_far : Nat → Int64) (v_near : Nat → Int64) (v_echoes : Nat → Int64) (v_draft : Nat → Int32) (x1 : Int32) (x2 : Int32) (x3 : Int32) (r : Int32) (r_m : Nat → Int64) (h : F_X6_splitsPart v_m x1 x2 x3 = some (r, r_m)) : Ct l yX6_splitsPart (ws_ yX6_splitsPart cX6_splitsPart 5 (some .int)) rm_X6_splitsPart Z [.ref a0, .int x1, .int x2, .int x3] [(a0, .inr (5, [.ref a1, .ref a2, .int v_savedCount, .ref a3, .int v_scriptLength, .int v_code, .int v_lineParts, .ref a4, .ref a5, .int v_pulseMany, .ref a6, .ref a7, .ref a8, .ref a9, .ref a10, .long v_left, .long v_dropped, .int v_merged, .int v_drops, .int v_contributions, .long v_packet, .int v_peelResult, .int v_peelTime, .int v_peelSum, .int v_at, .int v_commands, .ref a11, .long v_hash])), (a1, .inl (Z.2 1, 431, .inr (.inl v_m))), (a2, .inl (Z.2 1, 1293, .inr (.inl v_saved))), (a3, .inl (Z.2 0, 120, .inl v_script)), (a4, .inl (Z.2 0, 8, .inl v_lengths)), (a5, .inl (Z.2 0, 9, .inl v_fractions)), (a6, .inl (Z.2 0, 4, .inl v_times)), (a7, .inl (Z.2 1, 4, .inr (.inl v_energies))), (a8, .inl (Z.2 1, 1809, .inr (.inl v_far))), (a9, .inl (Z.2 1, 1809, .inr (.inl v_near))), (a10, .inl (Z.2 1, 201, .inr (.inl v_echoes))), (a11, .inl (Z.2 0, 120, .inl v_draft))] [] (fun _ : Unit => (some (.int r) : Option Value)) (fun _ : Unit => ([(a0, .inr (5, [.ref a1, .ref a2, .int v_savedCount, .ref a3, .int v_scriptLength, .int v_code, .int v_lineParts, .ref a4, .ref a5, .int v_pulseMany, .ref a6, .ref a7, .ref a8, .ref a9, .ref a10, .long v_left, .long v_dropped, .int v_merged, .int v_drops, .int v_contributions, .long v_packet, .int v_peelResult, .int v_peelTime, .int v_peelSum, .int v_at, .int v_commands, .ref a11, .long v_hash])), (a1, .inl (Z.2 1, 431, .inr (.inl r_m))), (a2, .inl (Z.2 1, 1293, .inr (.inl v_saved))), (a3, .inl (Z.2 0, 120, .inl v_script)), (a4, .inl (Z.2 0, 8, .inl v_lengths)), (a5, .inl (Z.2 0, 9, .inl v_fractions)), (a6, .inl (Z.2 0, 4, .inl v_times)), (a7, .inl (Z.2 1, 4, .inr (.inl v_energies))), (a8, .inl (Z.2 1, 1809, .inr (.inl v_far))), (a9, .inl (Z.2 1, 1809, .inr (.inl v_near))), (a10, .inl (Z.2 1, 201, .inr (.inl v_echoes))), (a11, .inl (Z.2 0, 120, .inl v_draft))] : va_W)) := by
  refine Ct.of cX6_splitsPart 5 (some .int) "LineEchoesModel" [some (.ref a0), some (.int x1), some (.int x2), some (.int x3), none] 1 (by decide) rfl (Nat.le_of_ble_eq_true rfl) rfl (fun p e s m args below meth c A X hin => ?_)
  unfold F_X6_splitsPart at h
  refine g_aload_n X rfl dX6_splitsPart_0 1 rfl ?_
  obtain ⟨r1, hcl, h⟩ := bd1_e h
  refine g_callV1W X (met_X6_parts l Z a0 a1 a2 a3 a4 a5 a6 a7 a8 a9 a10 a11 v_savedCount v_scriptLength v_code v_lineParts v_pulseMany v_left v_dropped v_merged v_drops v_contributions v_packet v_peelResult v_peelTime v_peelSum v_at v_commands v_hash v_m v_saved v_script v_lengths v_fractions v_times v_energies v_far v_near v_echoes v_draft  r1 hcl) rfl 0 gC5 rfl rfl (lw_V q1447 q1449 qs22 q74 q1450) md_X6_parts ⟨(Nat.le_of_ble_eq_true rfl), (Nat.le_of_ble_eq_true rfl)⟩ rfl dX6_splitsPart_1 4 rfl 0 0 rfl rfl (Nat.le_of_ble_eq_true rfl) (Nat.le_of_ble_eq_true rfl) (st := []) rfl (Nat.le_of_ble_eq_true rfl) (fun _ => rfl) (fun _ => ?_)
  refine g_istore X dX6_splitsPart_4 6 rfl (Nat.le_of_ble_eq_true rfl) rfl [some (.ref a0), some (.int x1), some (.int x2), some (.int x3), some (.int r1)] rfl ?_
  exact w_X6_splitsPart_6 a0 a1 a2 a3 a4 a5 a6 a7 a8 a9 a10 a11  X  r r_m    gFU v_savedCount v_scriptLength v_code v_lineParts v_pulseMany v_left v_dropped v_merged v_drops v_contributions v_packet v_peelResult v_peelTime v_peelSum v_at v_commands v_hash v_m v_saved v_script v_lengths v_fractions v_times v_energies v_far v_near v_echoes v_draft x1 x2 x3 r1 h
/-! LineEchoesModel.whyNotSplit(III)I -/
abbrev rm_X6_whyNotSplit : Room := { frames := 2, cells := 0, slots := 0, locals := 46 }
def F_X6_whyNotSplit_59 (s0 : Int32) : Option (Int32) :=
  some s0
def F_X6_whyNotSplit_41 : Option (Int32) :=
  F_X6_whyNotSplit_59 2
def F_X6_whyNotSplit (v_m : Nat → Int64) (x1 : Int32) (x2 : Int32) (x3 : Int32) : Option (Int32) :=
  bd1 (F_X6_isPart v_m x1) fun r1 =>
  if r1 = 0 then
    (some 1)
  else
    (gin (1 + x1) 431 <|
    bd1 (F_X6_in x2.toInt64 1 ((v_m (1 + x1).toNatClampNeg) - 1)) fun r2 =>
    if r2 = 0 then
      (F_X6_whyNotSplit_41)
    else
      (bd1 (F_X6_in x3.toInt64 0 1000) fun r3 =>
      if r3 = 0 then
        (F_X6_whyNotSplit_41)
      else
        (bd1 (F_X6_parts v_m) fun r4 =>
        F_X6_whyNotSplit_59 (if r4 = 8 then (3 : Int32) else 0))))
theorem w_X6_whyNotSplit_59 {p : Program} {l : Launch} {e : Env} {s : State} {m : MethodId} {args : Array Value} {below : List Frame} {meth : Method} {c : Code} {Z : gZt} {A : Nat → Prop} (a0 : Nat) (a1 : Nat) (a2 : Nat) (a3 : Nat) (a4 : Nat) (a5 : Nat) (a6 : Nat) (a7 : Nat) (a8 : Nat) (a9 : Nat) (a10 : Nat) (a11 : Nat) (X : gX p s m args meth c Z A cX6_whyNotSplit "LineEchoesModel" 4 (some .int) []) (r : Int32)  (v_savedCount : Int32) (v_scriptLength : Int32) (v_code : Int32) (v_lineParts : Int32) (v_pulseMany : Int32) (v_left : Int64) (v_dropped : Int64) (v_merged : Int32) (v_drops : Int32) (v_contributions : Int32) (v_packet : Int64) (v_peelResult : Int32) (v_peelTime : Int32) (v_peelSum : Int32) (v_at : Int32) (v_commands : Int32) (v_hash : Int64) (v_m : Nat → Int64) (v_saved : Nat → Int64) (v_script : Nat → Int32) (v_lengths : Nat → Int32) (v_fractions : Nat → Int32) (v_times : Nat → Int32) (v_energies : Nat → Int64) (v_far : Nat → Int64) (v_near : Nat → Int64) (v_echoes : Nat → Int64) (v_draft : Nat → Int32) (s0 : Int32) (h : F_X6_whyNotSplit_59 s0 = some r) : G p l e rm_X6_whyNotSplit s m args below meth c Z A 4 (MQ below (gPost Z A (fun _ : Unit => (some (.int r) : Option Value)) (fun _ : Unit => ([(a0, .inr (5, [.ref a1, .ref a2, .int v_savedCount, .ref a3, .int v_scriptLength, .int v_code, .int v_lineParts, .ref a4, .ref a5, .int v_pulseMany, .ref a6, .ref a7, .ref a8, .ref a9, .ref a10, .long v_left, .long v_dropped, .int v_merged, .int v_drops, .int v_contributions, .long v_packet, .int v_peelResult, .int v_peelTime, .int v_peelSum, .int v_at, .int v_commands, .ref a11, .long v_hash])), (a1, .inl (Z.2 1, 431, .inr (.inl v_m))), (a2, .inl (Z.2 1, 1293, .inr (.inl v_saved))), (a3, .inl (Z.2 0, 120, .inl v_script)), (a4, .inl (Z.2 0, 8, .inl v_lengths)), (a5, .inl (Z.2 0, 9, .inl v_fractions)), (a6, .inl (Z.2 0, 4, .inl v_times)), (a7, .inl (Z.2 1, 4, .inr (.inl v_energies))), (a8, .inl (Z.2 1, 1809, .inr (.inl v_far))), (a9, .inl (Z.2 1, 1809, .inr (.inl v_near))), (a10, .inl (Z.2 1, 201, .inr (.inl v_echoes))), (a11, .inl (Z.2 0, 120, .inl v_draft))] : va_W))) args s 0 0 A) [(a0, .inr (5, [.ref a1, .ref a2, .int v_savedCount, .ref a3, .int v_scriptLength, .int v_code, .int v_lineParts, .ref a4, .ref a5, .int v_pulseMany, .ref a6, .ref a7, .ref a8, .ref a9, .ref a10, .long v_left, .long v_dropped, .int v_merged, .int v_drops, .int v_contributions, .long v_packet, .int v_peelResult, .int v_peelTime, .int v_peelSum, .int v_at, .int v_commands, .ref a11, .long v_hash])), (a1, .inl (Z.2 1, 431, .inr (.inl v_m))), (a2, .inl (Z.2 1, 1293, .inr (.inl v_saved))), (a3, .inl (Z.2 0, 120, .inl v_script)), (a4, .inl (Z.2 0, 8, .inl v_lengths)), (a5, .inl (Z.2 0, 9, .inl v_fractions)), (a6, .inl (Z.2 0, 4, .inl v_times)), (a7, .inl (Z.2 1, 4, .inr (.inl v_energies))), (a8, .inl (Z.2 1, 1809, .inr (.inl v_far))), (a9, .inl (Z.2 1, 1809, .inr (.inl v_near))), (a10, .inl (Z.2 1, 201, .inr (.inl v_echoes))), (a11, .inl (Z.2 0, 120, .inl v_draft))] 0 0 59 [none, none, none, none] [.int s0] := by
  unfold F_X6_whyNotSplit_59 at h
  cases h
  exact g_iret X dX6_whyNotSplit_59 () rfl rfl (Nat.le_of_ble_eq_true rfl) (Nat.le_of_ble_eq_true rfl)
theorem w_X6_whyNotSplit_41 {p : Program} {l : Launch} {e : Env} {s : State} {m : MethodId} {args : Array Value} {below : List Frame} {meth : Method} {c : Code} {Z : gZt} {A : Nat → Prop} (a0 : Nat) (a1 : Nat) (a2 : Nat) (a3 : Nat) (a4 : Nat) (a5 : Nat) (a6 : Nat) (a7 : Nat) (a8 : Nat) (a9 : Nat) (a10 : Nat) (a11 : Nat) (X : gX p s m args meth c Z A cX6_whyNotSplit "LineEchoesModel" 4 (some .int) []) (r : Int32)  (v_savedCount : Int32) (v_scriptLength : Int32) (v_code : Int32) (v_lineParts : Int32) (v_pulseMany : Int32) (v_left : Int64) (v_dropped : Int64) (v_merged : Int32) (v_drops : Int32) (v_contributions : Int32) (v_packet : Int64) (v_peelResult : Int32) (v_peelTime : Int32) (v_peelSum : Int32) (v_at : Int32) (v_commands : Int32) (v_hash : Int64) (v_m : Nat → Int64) (v_saved : Nat → Int64) (v_script : Nat → Int32) (v_lengths : Nat → Int32) (v_fractions : Nat → Int32) (v_times : Nat → Int32) (v_energies : Nat → Int64) (v_far : Nat → Int64) (v_near : Nat → Int64) (v_echoes : Nat → Int64) (v_draft : Nat → Int32) (h : F_X6_whyNotSplit_41 = some r) : G p l e rm_X6_whyNotSplit s m args below meth c Z A 4 (MQ below (gPost Z A (fun _ : Unit => (some (.int r) : Option Value)) (fun _ : Unit => ([(a0, .inr (5, [.ref a1, .ref a2, .int v_savedCount, .ref a3, .int v_scriptLength, .int v_code, .int v_lineParts, .ref a4, .ref a5, .int v_pulseMany, .ref a6, .ref a7, .ref a8, .ref a9, .ref a10, .long v_left, .long v_dropped, .int v_merged, .int v_drops, .int v_contributions, .long v_packet, .int v_peelResult, .int v_peelTime, .int v_peelSum, .int v_at, .int v_commands, .ref a11, .long v_hash])), (a1, .inl (Z.2 1, 431, .inr (.inl v_m))), (a2, .inl (Z.2 1, 1293, .inr (.inl v_saved))), (a3, .inl (Z.2 0, 120, .inl v_script)), (a4, .inl (Z.2 0, 8, .inl v_lengths)), (a5, .inl (Z.2 0, 9, .inl v_fractions)), (a6, .inl (Z.2 0, 4, .inl v_times)), (a7, .inl (Z.2 1, 4, .inr (.inl v_energies))), (a8, .inl (Z.2 1, 1809, .inr (.inl v_far))), (a9, .inl (Z.2 1, 1809, .inr (.inl v_near))), (a10, .inl (Z.2 1, 201, .inr (.inl v_echoes))), (a11, .inl (Z.2 0, 120, .inl v_draft))] : va_W))) args s 0 0 A) [(a0, .inr (5, [.ref a1, .ref a2, .int v_savedCount, .ref a3, .int v_scriptLength, .int v_code, .int v_lineParts, .ref a4, .ref a5, .int v_pulseMany, .ref a6, .ref a7, .ref a8, .ref a9, .ref a10, .long v_left, .long v_dropped, .int v_merged, .int v_drops, .int v_contributions, .long v_packet, .int v_peelResult, .int v_peelTime, .int v_peelSum, .int v_at, .int v_commands, .ref a11, .long v_hash])), (a1, .inl (Z.2 1, 431, .inr (.inl v_m))), (a2, .inl (Z.2 1, 1293, .inr (.inl v_saved))), (a3, .inl (Z.2 0, 120, .inl v_script)), (a4, .inl (Z.2 0, 8, .inl v_lengths)), (a5, .inl (Z.2 0, 9, .inl v_fractions)), (a6, .inl (Z.2 0, 4, .inl v_times)), (a7, .inl (Z.2 1, 4, .inr (.inl v_energies))), (a8, .inl (Z.2 1, 1809, .inr (.inl v_far))), (a9, .inl (Z.2 1, 1809, .inr (.inl v_near))), (a10, .inl (Z.2 1, 201, .inr (.inl v_echoes))), (a11, .inl (Z.2 0, 120, .inl v_draft))] 0 0 41 [none, none, none, none] [] := by
  unfold F_X6_whyNotSplit_41 at h
  refine g_iconst X 2 dX6_whyNotSplit_41 42 rfl kI_2 ?_
  refine g_goto X dX6_whyNotSplit_42 59 (by decide) ?_
  exact w_X6_whyNotSplit_59 a0 a1 a2 a3 a4 a5 a6 a7 a8 a9 a10 a11  X  r    v_savedCount v_scriptLength v_code v_lineParts v_pulseMany v_left v_dropped v_merged v_drops v_contributions v_packet v_peelResult v_peelTime v_peelSum v_at v_commands v_hash v_m v_saved v_script v_lengths v_fractions v_times v_energies v_far v_near v_echoes v_draft 2 h
theorem met_X6_whyNotSplit (l : Launch) (Z : gZt) (a0 : Nat) (a1 : Nat) (a2 : Nat) (a3 : Nat) (a4 : Nat) (a5 : Nat) (a6 : Nat) (a7 : Nat) (a8 : Nat) (a9 : Nat) (a10 : Nat) (a11 : Nat) (v_savedCount : Int32) (v_scriptLength : Int32) (v_code : Int32) (v_lineParts : Int32) (v_pulseMany : Int32) (v_left : Int64) (v_dropped : Int64) (v_merged : Int32) (v_drops : Int32) (v_contributions : Int32) (v_packet : Int64) (v_peelResult : Int32) (v_peelTime : Int32) (v_peelSum : Int32) (v_at : Int32) (v_commands : Int32) (v_hash : Int64) (v_m : Nat → Int64) (v_saved : Nat → Int64) (v_script : Nat → Int32) (v_lengths : Nat → Int32) (v_fractions : Nat → Int32) (v_times : Nat → Int32) (v_energies : Nat → Int64) (v_far : Nat → Int64) (v_near : Nat → Int64) (v_echoes : Nat → Int64) (v_draft : Nat → Int32) (x1 : Int32) (x2 : Int32) (x3 : Int32) (r : Int32) (h : F_X6_whyNotSplit v_m x1 x2 x3 = some r) : Ct l yX6_whyNotSplit (ws_ yX6_whyNotSplit cX6_whyNotSplit 4 (some .int)) rm_X6_whyNotSplit Z [.ref a0, .int x1, .int x2, .int x3] [(a0, .inr (5, [.ref a1, .ref a2, .int v_savedCount, .ref a3, .int v_scriptLength, .int v_code, .int v_lineParts, .ref a4, .ref a5, .int v_pulseMany, .ref a6, .ref a7, .ref a8, .ref a9, .ref a10, .long v_left, .long v_dropped, .int v_merged, .int v_drops, .int v_contributions, .long v_packet, .int v_peelResult, .int v_peelTime, .int v_peelSum, .int v_at, .int v_commands, .ref a11, .long v_hash])), (a1, .inl (Z.2 1, 431, .inr (.inl v_m))), (a2, .inl (Z.2 1, 1293, .inr (.inl v_saved))), (a3, .inl (Z.2 0, 120, .inl v_script)), (a4, .inl (Z.2 0, 8, .inl v_lengths)), (a5, .inl (Z.2 0, 9, .inl v_fractions)), (a6, .inl (Z.2 0, 4, .inl v_times)), (a7, .inl (Z.2 1, 4, .inr (.inl v_energies))), (a8, .inl (Z.2 1, 1809, .inr (.inl v_far))), (a9, .inl (Z.2 1, 1809, .inr (.inl v_near))), (a10, .inl (Z.2 1, 201, .inr (.inl v_echoes))), (a11, .inl (Z.2 0, 120, .inl v_draft))] [] (fun _ : Unit => (some (.int r) : Option Value)) (fun _ : Unit => ([(a0, .inr (5, [.ref a1, .ref a2, .int v_savedCount, .ref a3, .int v_scriptLength, .int v_code, .int v_lineParts, .ref a4, .ref a5, .int v_pulseMany, .ref a6, .ref a7, .ref a8, .ref a9, .ref a10, .long v_left, .long v_dropped, .int v_merged, .int v_drops, .int v_contributions, .long v_packet, .int v_peelResult, .int v_peelTime, .int v_peelSum, .int v_at, .int v_commands, .ref a11, .long v_hash])), (a1, .inl (Z.2 1, 431, .inr (.inl v_m))), (a2, .inl (Z.2 1, 1293, .inr (.inl v_saved))), (a3, .inl (Z.2 0, 120, .inl v_script)), (a4, .inl (Z.2 0, 8, .inl v_lengths)), (a5, .inl (Z.2 0, 9, .inl v_fractions)), (a6, .inl (Z.2 0, 4, .inl v_times)), (a7, .inl (Z.2 1, 4, .inr (.inl v_energies))), (a8, .inl (Z.2 1, 1809, .inr (.inl v_far))), (a9, .inl (Z.2 1, 1809, .inr (.inl v_near))), (a10, .inl (Z.2 1, 201, .inr (.inl v_echoes))), (a11, .inl (Z.2 0, 120, .inl v_draft))] : va_W)) := by
  refine Ct.of cX6_whyNotSplit 4 (some .int) "LineEchoesModel" [some (.ref a0), some (.int x1), some (.int x2), some (.int x3)] 0 (by decide) rfl (Nat.le_of_ble_eq_true rfl) rfl (fun p e s m args below meth c A X hin => ?_)
  unfold F_X6_whyNotSplit at h
  refine g_aload_n X rfl dX6_whyNotSplit_0 1 rfl ?_
  refine g_iload_n X rfl dX6_whyNotSplit_1 2 rfl ?_
  obtain ⟨r1, hcl, h⟩ := bd1_e h
  refine g_callV1W X (met_X6_isPart l Z a0 a1 a2 a3 a4 a5 a6 a7 a8 a9 a10 a11 v_savedCount v_scriptLength v_code v_lineParts v_pulseMany v_left v_dropped v_merged v_drops v_contributions v_packet v_peelResult v_peelTime v_peelSum v_at v_commands v_hash v_m v_saved v_script v_lengths v_fractions v_times v_energies v_far v_near v_echoes v_draft x1 r1 hcl) rfl 0 gC5 rfl rfl (lw_V q1471 q1473 qs27 q74 q1474) md_X6_isPart ⟨(Nat.le_of_ble_eq_true rfl), (Nat.le_of_ble_eq_true rfl)⟩ rfl dX6_whyNotSplit_2 5 rfl 0 0 rfl rfl (Nat.le_of_ble_eq_true rfl) (Nat.le_of_ble_eq_true rfl) (st := []) rfl (Nat.le_of_ble_eq_true rfl) (fun _ => rfl) (fun _ => ?_)
  refine g_if_ne X dX6_whyNotSplit_5 10 (by decide) 8 rfl (fun hc => ?_) (fun hc => ?_)
  · replace h := if_f hc h
    refine g_iload_n X rfl dX6_whyNotSplit_10 11 rfl ?_
    refine g_i2l X dX6_whyNotSplit_11 12 rfl ?_
    refine g_lconst X 1 dX6_whyNotSplit_12 13 rfl rfl ?_
    refine g_aload_n X rfl dX6_whyNotSplit_13 14 rfl ?_
    refine g_get X gC5 0 rfl 0 (by decide) q1342 (fun _ h9 => h9) rfl dX6_whyNotSplit_14 17 rfl ?_
    refine g_iconst X 1 dX6_whyNotSplit_17 18 rfl kI_1 ?_
    refine g_iload_n X rfl dX6_whyNotSplit_18 19 rfl ?_
    refine g_iadd X dX6_whyNotSplit_19 20 rfl ?_
    obtain ⟨hi, h⟩ := gin_e h
    refine g_lald X 1 rfl hi dX6_whyNotSplit_20 21 rfl ?_
    refine g_lconst X 1 dX6_whyNotSplit_21 22 rfl rfl ?_
    refine g_lsub X dX6_whyNotSplit_22 23 rfl ?_
    obtain ⟨r2, hcl, h⟩ := bd1_e h
    refine g_callS1Z X (met_X6_in l Z   x2.toInt64 1 ((v_m (1 + x1).toNatClampNeg) - 1) r2 hcl) (lw_S q1443 q1444 q74 q1445) md_X6_in ⟨(Nat.le_of_ble_eq_true rfl), (Nat.le_of_ble_eq_true rfl)⟩ rfl dX6_whyNotSplit_23 26 rfl 0 0 rfl rfl (Nat.le_of_ble_eq_true rfl) (Nat.le_of_ble_eq_true rfl) (st := []) rfl (Nat.le_of_ble_eq_true rfl) (fun _ => rfl) (fun _ => ?_)
    refine g_if_eq X dX6_whyNotSplit_26 41 (by decide) 29 rfl (fun hc => ?_) (fun hc => ?_)
    · replace h := if_t hc h
      refine g_kill (j := 0) [none, some (.int x1), some (.int x2), some (.int x3)] rfl ?_
      refine g_kill (j := 1) [none, none, some (.int x2), some (.int x3)] rfl ?_
      refine g_kill (j := 2) [none, none, none, some (.int x3)] rfl ?_
      refine g_kill (j := 3) [none, none, none, none] rfl ?_
      exact w_X6_whyNotSplit_41 a0 a1 a2 a3 a4 a5 a6 a7 a8 a9 a10 a11  X  r    v_savedCount v_scriptLength v_code v_lineParts v_pulseMany v_left v_dropped v_merged v_drops v_contributions v_packet v_peelResult v_peelTime v_peelSum v_at v_commands v_hash v_m v_saved v_script v_lengths v_fractions v_times v_energies v_far v_near v_echoes v_draft h
    · replace h := if_f hc h
      refine g_iload_n X rfl dX6_whyNotSplit_29 30 rfl ?_
      refine g_i2l X dX6_whyNotSplit_30 31 rfl ?_
      refine g_lconst X 0 dX6_whyNotSplit_31 32 rfl rfl ?_
      refine g_ldc2 X q1446 dX6_whyNotSplit_32 35 rfl ?_
      obtain ⟨r3, hcl, h⟩ := bd1_e h
      refine g_callS1Z X (met_X6_in l Z   x3.toInt64 0 1000 r3 hcl) (lw_S q1443 q1444 q74 q1445) md_X6_in ⟨(Nat.le_of_ble_eq_true rfl), (Nat.le_of_ble_eq_true rfl)⟩ rfl dX6_whyNotSplit_35 38 rfl 0 0 rfl rfl (Nat.le_of_ble_eq_true rfl) (Nat.le_of_ble_eq_true rfl) (st := []) rfl (Nat.le_of_ble_eq_true rfl) (fun _ => rfl) (fun _ => ?_)
      refine g_if_ne X dX6_whyNotSplit_38 45 (by decide) 41 rfl (fun hc => ?_) (fun hc => ?_)
      · replace h := if_f hc h
        refine g_aload_n X rfl dX6_whyNotSplit_45 46 rfl ?_
        obtain ⟨r4, hcl, h⟩ := bd1_e h
        refine g_callV1W X (met_X6_parts l Z a0 a1 a2 a3 a4 a5 a6 a7 a8 a9 a10 a11 v_savedCount v_scriptLength v_code v_lineParts v_pulseMany v_left v_dropped v_merged v_drops v_contributions v_packet v_peelResult v_peelTime v_peelSum v_at v_commands v_hash v_m v_saved v_script v_lengths v_fractions v_times v_energies v_far v_near v_echoes v_draft  r4 hcl) rfl 0 gC5 rfl rfl (lw_V q1447 q1449 qs22 q74 q1450) md_X6_parts ⟨(Nat.le_of_ble_eq_true rfl), (Nat.le_of_ble_eq_true rfl)⟩ rfl dX6_whyNotSplit_46 49 rfl 0 0 rfl rfl (Nat.le_of_ble_eq_true rfl) (Nat.le_of_ble_eq_true rfl) (st := []) rfl (Nat.le_of_ble_eq_true rfl) (fun _ => rfl) (fun _ => ?_)
        refine g_bipush X 8 dX6_whyNotSplit_49 51 rfl kB_8 ?_
        refine g_seli 59 [] (b := r4 = 8) 3 0 ?_ (fun hc K => ?_) (fun hc K => ?_)
        · refine g_kill (j := 0) [none, some (.int x1), some (.int x2), some (.int x3)] rfl ?_
          refine g_kill (j := 1) [none, none, some (.int x2), some (.int x3)] rfl ?_
          refine g_kill (j := 2) [none, none, none, some (.int x3)] rfl ?_
          refine g_kill (j := 3) [none, none, none, none] rfl ?_
          exact w_X6_whyNotSplit_59 a0 a1 a2 a3 a4 a5 a6 a7 a8 a9 a10 a11  X  r    v_savedCount v_scriptLength v_code v_lineParts v_pulseMany v_left v_dropped v_merged v_drops v_contributions v_packet v_peelResult v_peelTime v_peelSum v_at v_commands v_hash v_m v_saved v_script v_lengths v_fractions v_times v_energies v_far v_near v_echoes v_draft (if r4 = 8 then (3 : Int32) else 0) h
        · refine g_icmp_ne X dX6_whyNotSplit_51 58 (by decide) 54 rfl (fun hn => absurd hc hn) (fun _ => ?_)
          refine g_iconst X 3 dX6_whyNotSplit_54 55 rfl kI_3 ?_
          refine g_goto X dX6_whyNotSplit_55 59 (by decide) ?_
          exact K
        · refine g_icmp_ne X dX6_whyNotSplit_51 58 (by decide) 54 rfl (fun _ => ?_) (fun hn => absurd hn hc)
          refine g_iconst X 0 dX6_whyNotSplit_58 59 rfl kI_0 ?_
          exact K
      · replace h := if_t hc h
        refine g_kill (j := 0) [none, some (.int x1), some (.int x2), some (.int x3)] rfl ?_
        refine g_kill (j := 1) [none, none, some (.int x2), some (.int x3)] rfl ?_
        refine g_kill (j := 2) [none, none, none, some (.int x3)] rfl ?_
        refine g_kill (j := 3) [none, none, none, none] rfl ?_
        exact w_X6_whyNotSplit_41 a0 a1 a2 a3 a4 a5 a6 a7 a8 a9 a10 a11  X  r    v_savedCount v_scriptLength v_code v_lineParts v_pulseMany v_left v_dropped v_merged v_drops v_contributions v_packet v_peelResult v_peelTime v_peelSum v_at v_commands v_hash v_m v_saved v_script v_lengths v_fractions v_times v_energies v_far v_near v_echoes v_draft h
  · replace h := if_t hc h
    refine g_iconst X 1 dX6_whyNotSplit_8 9 rfl kI_1 ?_
    cases h
    exact g_iret X dX6_whyNotSplit_9 () rfl rfl (Nat.le_of_ble_eq_true rfl) (Nat.le_of_ble_eq_true rfl)
/-! LineEchoesModel.splitPart(III)I -/
abbrev rm_X6_splitPart : Room := { frames := 3, cells := 0, slots := 0, locals := 69 }
def F_X6_splitPart (v_savedCount : Int32) (v_m : Nat → Int64) (v_saved : Nat → Int64) (x1 : Int32) (x2 : Int32) (x3 : Int32) : Option (Int32 × Int32 × Int32 × (Nat → Int64) × (Nat → Int64)) :=
  bd1 (F_X6_whyNotSplit v_m x1 x2 x3) fun r1 =>
  if r1 = 0 then
    (bd2 (F_X6_keep v_savedCount v_m v_saved) fun w2_savedCount w3_saved =>
    bd2 (F_X6_splitsPart v_m x1 x2 x3) fun r4 w5_m =>
    some (r4, w2_savedCount, r1, w5_m, w3_saved))
  else
    (some (0, v_savedCount, r1, v_m, v_saved))
theorem met_X6_splitPart (l : Launch) (Z : gZt) (a0 : Nat) (a1 : Nat) (a2 : Nat) (a3 : Nat) (a4 : Nat) (a5 : Nat) (a6 : Nat) (a7 : Nat) (a8 : Nat) (a9 : Nat) (a10 : Nat) (a11 : Nat) (v_savedCount : Int32) (v_scriptLength : Int32) (v_code : Int32) (v_lineParts : Int32) (v_pulseMany : Int32) (v_left : Int64) (v_dropped : Int64) (v_merged : Int32) (v_drops : Int32) (v_contributions : Int32) (v_packet : Int64) (v_peelResult : Int32) (v_peelTime : Int32) (v_peelSum : Int32) (v_at : Int32) (v_commands : Int32) (v_hash : Int64) (v_m : Nat → Int64) (v_saved : Nat → Int64) (v_script : Nat → Int32) (v_lengths : Nat → Int32) (v_fractions : Nat → Int32) (v_times : Nat → Int32) (v_energies : Nat → Int64) (v_far : Nat → Int64) (v_near : Nat → Int64) (v_echoes : Nat → Int64) (v_draft : Nat → Int32) (x1 : Int32) (x2 : Int32) (x3 : Int32) (r : Int32) (r_savedCount : Int32) (r_code : Int32) (r_m : Nat → Int64) (r_saved : Nat → Int64) (h : F_X6_splitPart v_savedCount v_m v_saved x1 x2 x3 = some (r, r_savedCount, r_code, r_m, r_saved)) : Ct l yX6_splitPart (ws_ yX6_splitPart cX6_splitPart 4 (some .int)) rm_X6_splitPart Z [.ref a0, .int x1, .int x2, .int x3] [(a0, .inr (5, [.ref a1, .ref a2, .int v_savedCount, .ref a3, .int v_scriptLength, .int v_code, .int v_lineParts, .ref a4, .ref a5, .int v_pulseMany, .ref a6, .ref a7, .ref a8, .ref a9, .ref a10, .long v_left, .long v_dropped, .int v_merged, .int v_drops, .int v_contributions, .long v_packet, .int v_peelResult, .int v_peelTime, .int v_peelSum, .int v_at, .int v_commands, .ref a11, .long v_hash])), (a1, .inl (Z.2 1, 431, .inr (.inl v_m))), (a2, .inl (Z.2 1, 1293, .inr (.inl v_saved))), (a3, .inl (Z.2 0, 120, .inl v_script)), (a4, .inl (Z.2 0, 8, .inl v_lengths)), (a5, .inl (Z.2 0, 9, .inl v_fractions)), (a6, .inl (Z.2 0, 4, .inl v_times)), (a7, .inl (Z.2 1, 4, .inr (.inl v_energies))), (a8, .inl (Z.2 1, 1809, .inr (.inl v_far))), (a9, .inl (Z.2 1, 1809, .inr (.inl v_near))), (a10, .inl (Z.2 1, 201, .inr (.inl v_echoes))), (a11, .inl (Z.2 0, 120, .inl v_draft))] [] (fun _ : Unit => (some (.int r) : Option Value)) (fun _ : Unit => ([(a0, .inr (5, [.ref a1, .ref a2, .int r_savedCount, .ref a3, .int v_scriptLength, .int r_code, .int v_lineParts, .ref a4, .ref a5, .int v_pulseMany, .ref a6, .ref a7, .ref a8, .ref a9, .ref a10, .long v_left, .long v_dropped, .int v_merged, .int v_drops, .int v_contributions, .long v_packet, .int v_peelResult, .int v_peelTime, .int v_peelSum, .int v_at, .int v_commands, .ref a11, .long v_hash])), (a1, .inl (Z.2 1, 431, .inr (.inl r_m))), (a2, .inl (Z.2 1, 1293, .inr (.inl r_saved))), (a3, .inl (Z.2 0, 120, .inl v_script)), (a4, .inl (Z.2 0, 8, .inl v_lengths)), (a5, .inl (Z.2 0, 9, .inl v_fractions)), (a6, .inl (Z.2 0, 4, .inl v_times)), (a7, .inl (Z.2 1, 4, .inr (.inl v_energies))), (a8, .inl (Z.2 1, 1809, .inr (.inl v_far))), (a9, .inl (Z.2 1, 1809, .inr (.inl v_near))), (a10, .inl (Z.2 1, 201, .inr (.inl v_echoes))), (a11, .inl (Z.2 0, 120, .inl v_draft))] : va_W)) := by
  refine Ct.of cX6_splitPart 4 (some .int) "LineEchoesModel" [some (.ref a0), some (.int x1), some (.int x2), some (.int x3)] 0 (by decide) rfl (Nat.le_of_ble_eq_true rfl) rfl (fun p e s m args below meth c A X hin => ?_)
  unfold F_X6_splitPart at h
  refine g_aload_n X rfl dX6_splitPart_0 1 rfl ?_
  refine g_aload_n X rfl dX6_splitPart_1 2 rfl ?_
  refine g_iload_n X rfl dX6_splitPart_2 3 rfl ?_
  refine g_iload_n X rfl dX6_splitPart_3 4 rfl ?_
  refine g_iload_n X rfl dX6_splitPart_4 5 rfl ?_
  obtain ⟨r1, hcl, h⟩ := bd1_e h
  refine g_callV1W X (met_X6_whyNotSplit l Z a0 a1 a2 a3 a4 a5 a6 a7 a8 a9 a10 a11 v_savedCount v_scriptLength v_code v_lineParts v_pulseMany v_left v_dropped v_merged v_drops v_contributions v_packet v_peelResult v_peelTime v_peelSum v_at v_commands v_hash v_m v_saved v_script v_lengths v_fractions v_times v_energies v_far v_near v_echoes v_draft x1 x2 x3 r1 hcl) rfl 0 gC5 rfl rfl (lw_V q1491 q1493 qs30 q74 q1494) md_X6_whyNotSplit ⟨(Nat.le_of_ble_eq_true rfl), (Nat.le_of_ble_eq_true rfl)⟩ rfl dX6_splitPart_5 8 rfl 0 0 rfl rfl (Nat.le_of_ble_eq_true rfl) (Nat.le_of_ble_eq_true rfl) (st := [.ref a0]) rfl (Nat.le_of_ble_eq_true rfl) (fun _ => rfl) (fun _ => ?_)
  refine g_put X gC5 0 rfl 5 (by decide) q1347 (fun _ h9 => h9) rfl rfl rfl (Nat.le_of_ble_eq_true rfl) dX6_splitPart_8 11 rfl ?_
  refine g_aload_n X rfl dX6_splitPart_11 12 rfl ?_
  refine g_get X gC5 0 rfl 5 (by decide) q1347 (fun _ h9 => h9) rfl dX6_splitPart_12 15 rfl ?_
  refine g_if_eq X dX6_splitPart_15 20 (by decide) 18 rfl (fun hc => ?_) (fun hc => ?_)
  · replace h := if_t hc h
    refine g_aload_n X rfl dX6_splitPart_20 21 rfl ?_
    obtain ⟨w2_savedCount, w3_saved, hcl, h⟩ := bd2_e h
    refine g_callV0W X (met_X6_keep l Z a0 a1 a2 a3 a4 a5 a6 a7 a8 a9 a10 a11 v_savedCount v_scriptLength r1 v_lineParts v_pulseMany v_left v_dropped v_merged v_drops v_contributions v_packet v_peelResult v_peelTime v_peelSum v_at v_commands v_hash v_m v_saved v_script v_lengths v_fractions v_times v_energies v_far v_near v_echoes v_draft  w2_savedCount w3_saved hcl) rfl 0 gC5 rfl rfl (lw_V q1451 q1453 qs23 q74 q1454) md_X6_keep ⟨(Nat.le_of_ble_eq_true rfl), (Nat.le_of_ble_eq_true rfl)⟩ rfl dX6_splitPart_21 24 rfl 0 0 rfl rfl (Nat.le_of_ble_eq_true rfl) (Nat.le_of_ble_eq_true rfl) (st := []) rfl (Nat.le_of_ble_eq_true rfl) (fun _ => rfl) (fun _ => ?_)
    refine g_aload_n X rfl dX6_splitPart_24 25 rfl ?_
    refine g_iload_n X rfl dX6_splitPart_25 26 rfl ?_
    refine g_iload_n X rfl dX6_splitPart_26 27 rfl ?_
    refine g_iload_n X rfl dX6_splitPart_27 28 rfl ?_
    obtain ⟨r4, w5_m, hcl, h⟩ := bd2_e h
    refine g_callV1W X (met_X6_splitsPart l Z a0 a1 a2 a3 a4 a5 a6 a7 a8 a9 a10 a11 w2_savedCount v_scriptLength r1 v_lineParts v_pulseMany v_left v_dropped v_merged v_drops v_contributions v_packet v_peelResult v_peelTime v_peelSum v_at v_commands v_hash v_m w3_saved v_script v_lengths v_fractions v_times v_energies v_far v_near v_echoes v_draft x1 x2 x3 r4 w5_m hcl) rfl 0 gC5 rfl rfl (lw_V q1495 q1497 qs31 q74 q1498) md_X6_splitsPart ⟨(Nat.le_of_ble_eq_true rfl), (Nat.le_of_ble_eq_true rfl)⟩ rfl dX6_splitPart_28 31 rfl 0 0 rfl rfl (Nat.le_of_ble_eq_true rfl) (Nat.le_of_ble_eq_true rfl) (st := []) rfl (Nat.le_of_ble_eq_true rfl) (fun _ => rfl) (fun _ => ?_)
    cases h
    exact g_iret X dX6_splitPart_31 () rfl rfl (Nat.le_of_ble_eq_true rfl) (Nat.le_of_ble_eq_true rfl)
  · replace h := if_f hc h
    refine g_iconst X 0 dX6_splitPart_18 19 rfl kI_0 ?_
    cases h
    exact g_iret X dX6_splitPart_19 () rfl rfl (Nat.le_of_ble_eq_true rfl) (Nat.le_of_ble_eq_true rfl)
/-! LineEchoesModel.exchange(II)V -/
abbrev rm_X6_exchange : Room := { frames := 0, cells := 0, slots := 0, locals := 0 }
def F_X6_exchange (v_m : Nat → Int64) (x1 : Int32) (x2 : Int32) : Option ((Nat → Int64)) :=
  gin x1 431 <|
  gin x2 431 <|
  gin x1 431 <|
  gin x2 431 <|
  some (vp_updL (vp_updL v_m x1.toNatClampNeg (v_m x2.toNatClampNeg)) x2.toNatClampNeg (v_m x1.toNatClampNeg))
theorem met_X6_exchange (l : Launch) (Z : gZt) (a0 : Nat) (a1 : Nat) (a2 : Nat) (a3 : Nat) (a4 : Nat) (a5 : Nat) (a6 : Nat) (a7 : Nat) (a8 : Nat) (a9 : Nat) (a10 : Nat) (a11 : Nat) (v_savedCount : Int32) (v_scriptLength : Int32) (v_code : Int32) (v_lineParts : Int32) (v_pulseMany : Int32) (v_left : Int64) (v_dropped : Int64) (v_merged : Int32) (v_drops : Int32) (v_contributions : Int32) (v_packet : Int64) (v_peelResult : Int32) (v_peelTime : Int32) (v_peelSum : Int32) (v_at : Int32) (v_commands : Int32) (v_hash : Int64) (v_m : Nat → Int64) (v_saved : Nat → Int64) (v_script : Nat → Int32) (v_lengths : Nat → Int32) (v_fractions : Nat → Int32) (v_times : Nat → Int32) (v_energies : Nat → Int64) (v_far : Nat → Int64) (v_near : Nat → Int64) (v_echoes : Nat → Int64) (v_draft : Nat → Int32) (x1 : Int32) (x2 : Int32) (r_m : Nat → Int64) (h : F_X6_exchange v_m x1 x2 = some r_m) : Ct l yX6_exchange (ws_ yX6_exchange cX6_exchange 5 none) rm_X6_exchange Z [.ref a0, .int x1, .int x2] [(a0, .inr (5, [.ref a1, .ref a2, .int v_savedCount, .ref a3, .int v_scriptLength, .int v_code, .int v_lineParts, .ref a4, .ref a5, .int v_pulseMany, .ref a6, .ref a7, .ref a8, .ref a9, .ref a10, .long v_left, .long v_dropped, .int v_merged, .int v_drops, .int v_contributions, .long v_packet, .int v_peelResult, .int v_peelTime, .int v_peelSum, .int v_at, .int v_commands, .ref a11, .long v_hash])), (a1, .inl (Z.2 1, 431, .inr (.inl v_m))), (a2, .inl (Z.2 1, 1293, .inr (.inl v_saved))), (a3, .inl (Z.2 0, 120, .inl v_script)), (a4, .inl (Z.2 0, 8, .inl v_lengths)), (a5, .inl (Z.2 0, 9, .inl v_fractions)), (a6, .inl (Z.2 0, 4, .inl v_times)), (a7, .inl (Z.2 1, 4, .inr (.inl v_energies))), (a8, .inl (Z.2 1, 1809, .inr (.inl v_far))), (a9, .inl (Z.2 1, 1809, .inr (.inl v_near))), (a10, .inl (Z.2 1, 201, .inr (.inl v_echoes))), (a11, .inl (Z.2 0, 120, .inl v_draft))] [] (fun _ : Unit => (none : Option Value)) (fun _ : Unit => ([(a0, .inr (5, [.ref a1, .ref a2, .int v_savedCount, .ref a3, .int v_scriptLength, .int v_code, .int v_lineParts, .ref a4, .ref a5, .int v_pulseMany, .ref a6, .ref a7, .ref a8, .ref a9, .ref a10, .long v_left, .long v_dropped, .int v_merged, .int v_drops, .int v_contributions, .long v_packet, .int v_peelResult, .int v_peelTime, .int v_peelSum, .int v_at, .int v_commands, .ref a11, .long v_hash])), (a1, .inl (Z.2 1, 431, .inr (.inl r_m))), (a2, .inl (Z.2 1, 1293, .inr (.inl v_saved))), (a3, .inl (Z.2 0, 120, .inl v_script)), (a4, .inl (Z.2 0, 8, .inl v_lengths)), (a5, .inl (Z.2 0, 9, .inl v_fractions)), (a6, .inl (Z.2 0, 4, .inl v_times)), (a7, .inl (Z.2 1, 4, .inr (.inl v_energies))), (a8, .inl (Z.2 1, 1809, .inr (.inl v_far))), (a9, .inl (Z.2 1, 1809, .inr (.inl v_near))), (a10, .inl (Z.2 1, 201, .inr (.inl v_echoes))), (a11, .inl (Z.2 0, 120, .inl v_draft))] : va_W)) := by
  refine Ct.of cX6_exchange 5 none "LineEchoesModel" [some (.ref a0), some (.int x1), some (.int x2), none, none] 2 (by decide) rfl (Nat.le_of_ble_eq_true rfl) rfl (fun p e s m args below meth c A X hin => ?_)
  unfold F_X6_exchange at h
  refine g_aload_n X rfl dX6_exchange_0 1 rfl ?_
  refine g_get X gC5 0 rfl 0 (by decide) q1342 (fun _ h9 => h9) rfl dX6_exchange_1 4 rfl ?_
  refine g_iload_n X rfl dX6_exchange_4 5 rfl ?_
  obtain ⟨hi, h⟩ := gin_e h
  refine g_lald X 1 rfl hi dX6_exchange_5 6 rfl ?_
  refine g_lstore_n X dX6_exchange_6 7 rfl (Nat.le_of_ble_eq_true rfl) rfl [some (.ref a0), some (.int x1), some (.int x2), some (.long (v_m x1.toNatClampNeg)), none] rfl ?_
  refine g_aload_n X rfl dX6_exchange_7 8 rfl ?_
  refine g_get X gC5 0 rfl 0 (by decide) q1342 (fun _ h9 => h9) rfl dX6_exchange_8 11 rfl ?_
  refine g_iload_n X rfl dX6_exchange_11 12 rfl ?_
  refine g_aload_n X rfl dX6_exchange_12 13 rfl ?_
  refine g_get X gC5 0 rfl 0 (by decide) q1342 (fun _ h9 => h9) rfl dX6_exchange_13 16 rfl ?_
  refine g_iload_n X rfl dX6_exchange_16 17 rfl ?_
  obtain ⟨hi, h⟩ := gin_e h
  refine g_lald X 1 rfl hi dX6_exchange_17 18 rfl ?_
  obtain ⟨hi, h⟩ := gin_e h
  refine g_last X 1 rfl hi dX6_exchange_18 19 rfl ?_
  refine g_aload_n X rfl dX6_exchange_19 20 rfl ?_
  refine g_get X gC5 0 rfl 0 (by decide) q1342 (fun _ h9 => h9) rfl dX6_exchange_20 23 rfl ?_
  refine g_iload_n X rfl dX6_exchange_23 24 rfl ?_
  refine g_lload_n X rfl dX6_exchange_24 25 rfl ?_
  obtain ⟨hi, h⟩ := gin_e h
  refine g_last X 1 rfl hi dX6_exchange_25 26 rfl ?_
  cases h
  exact g_vret X dX6_exchange_26 () rfl rfl (Nat.le_of_ble_eq_true rfl) (Nat.le_of_ble_eq_true rfl)
/-! LineEchoesModel.sumOfLengths()I -/
abbrev rm_X6_sumOfLengths : Room := { frames := 1, cells := 0, slots := 0, locals := 20 }
def B_X6_sumOfLengths_4 (K4 : (Nat → Int64) → (Int32) → (Int32) → Option (Int32)) (v_m : Nat → Int64) (x1 : Int32) (x2 : Int32) : Option (Int32) :=
  bd1 (F_X6_parts v_m) fun r1 =>
  if r1 ≤ x2 then
    (some x1)
  else
    (gin (1 + x2) 431 <|
    nm (x1 + ((v_m (1 + x2).toNatClampNeg).toInt32)) fun t2 =>
    K4 v_m t2 (x2 + 1))
def F_X6_sumOfLengths_4 : Nat → (Nat → Int64) → (Int32) → (Int32) → Option (Int32)
  | 0 => fun _ _ _ => none
  | n + 1 => B_X6_sumOfLengths_4 (F_X6_sumOfLengths_4 n)
def F_X6_sumOfLengths (v_m : Nat → Int64) : Option (Int32) :=
  F_X6_sumOfLengths_4 gFU v_m 0 0
theorem w_X6_sumOfLengths_4 {p : Program} {l : Launch} {e : Env} {s : State} {m : MethodId} {args : Array Value} {below : List Frame} {meth : Method} {c : Code} {Z : gZt} {A : Nat → Prop} (a0 : Nat) (a1 : Nat) (a2 : Nat) (a3 : Nat) (a4 : Nat) (a5 : Nat) (a6 : Nat) (a7 : Nat) (a8 : Nat) (a9 : Nat) (a10 : Nat) (a11 : Nat) (X : gX p s m args meth c Z A cX6_sumOfLengths "LineEchoesModel" 3 (some .int) []) (r : Int32)  : ∀ (n : Nat) (v_savedCount : Int32) (v_scriptLength : Int32) (v_code : Int32) (v_lineParts : Int32) (v_pulseMany : Int32) (v_left : Int64) (v_dropped : Int64) (v_merged : Int32) (v_drops : Int32) (v_contributions : Int32) (v_packet : Int64) (v_peelResult : Int32) (v_peelTime : Int32) (v_peelSum : Int32) (v_at : Int32) (v_commands : Int32) (v_hash : Int64) (v_m : Nat → Int64) (v_saved : Nat → Int64) (v_script : Nat → Int32) (v_lengths : Nat → Int32) (v_fractions : Nat → Int32) (v_times : Nat → Int32) (v_energies : Nat → Int64) (v_far : Nat → Int64) (v_near : Nat → Int64) (v_echoes : Nat → Int64) (v_draft : Nat → Int32) (x1 : Int32) (x2 : Int32), F_X6_sumOfLengths_4 n v_m x1 x2 = some r → G p l e rm_X6_sumOfLengths s m args below meth c Z A 3 (MQ below (gPost Z A (fun _ : Unit => (some (.int r) : Option Value)) (fun _ : Unit => ([(a0, .inr (5, [.ref a1, .ref a2, .int v_savedCount, .ref a3, .int v_scriptLength, .int v_code, .int v_lineParts, .ref a4, .ref a5, .int v_pulseMany, .ref a6, .ref a7, .ref a8, .ref a9, .ref a10, .long v_left, .long v_dropped, .int v_merged, .int v_drops, .int v_contributions, .long v_packet, .int v_peelResult, .int v_peelTime, .int v_peelSum, .int v_at, .int v_commands, .ref a11, .long v_hash])), (a1, .inl (Z.2 1, 431, .inr (.inl v_m))), (a2, .inl (Z.2 1, 1293, .inr (.inl v_saved))), (a3, .inl (Z.2 0, 120, .inl v_script)), (a4, .inl (Z.2 0, 8, .inl v_lengths)), (a5, .inl (Z.2 0, 9, .inl v_fractions)), (a6, .inl (Z.2 0, 4, .inl v_times)), (a7, .inl (Z.2 1, 4, .inr (.inl v_energies))), (a8, .inl (Z.2 1, 1809, .inr (.inl v_far))), (a9, .inl (Z.2 1, 1809, .inr (.inl v_near))), (a10, .inl (Z.2 1, 201, .inr (.inl v_echoes))), (a11, .inl (Z.2 0, 120, .inl v_draft))] : va_W))) args s 0 0 A) [(a0, .inr (5, [.ref a1, .ref a2, .int v_savedCount, .ref a3, .int v_scriptLength, .int v_code, .int v_lineParts, .ref a4, .ref a5, .int v_pulseMany, .ref a6, .ref a7, .ref a8, .ref a9, .ref a10, .long v_left, .long v_dropped, .int v_merged, .int v_drops, .int v_contributions, .long v_packet, .int v_peelResult, .int v_peelTime, .int v_peelSum, .int v_at, .int v_commands, .ref a11, .long v_hash])), (a1, .inl (Z.2 1, 431, .inr (.inl v_m))), (a2, .inl (Z.2 1, 1293, .inr (.inl v_saved))), (a3, .inl (Z.2 0, 120, .inl v_script)), (a4, .inl (Z.2 0, 8, .inl v_lengths)), (a5, .inl (Z.2 0, 9, .inl v_fractions)), (a6, .inl (Z.2 0, 4, .inl v_times)), (a7, .inl (Z.2 1, 4, .inr (.inl v_energies))), (a8, .inl (Z.2 1, 1809, .inr (.inl v_far))), (a9, .inl (Z.2 1, 1809, .inr (.inl v_near))), (a10, .inl (Z.2 1, 201, .inr (.inl v_echoes))), (a11, .inl (Z.2 0, 120, .inl v_draft))] 0 0 4 [some (.ref a0), some (.int x1), some (.int x2)] [] := by
  intro n
  induction n with
  | zero =>
    intro v_savedCount v_scriptLength v_code v_lineParts v_pulseMany v_left v_dropped v_merged v_drops v_contributions v_packet v_peelResult v_peelTime v_peelSum v_at v_commands v_hash v_m v_saved v_script v_lengths v_fractions v_times v_energies v_far v_near v_echoes v_draft x1 x2 h
    cases h
  | succ n hK4 =>
    intro v_savedCount v_scriptLength v_code v_lineParts v_pulseMany v_left v_dropped v_merged v_drops v_contributions v_packet v_peelResult v_peelTime v_peelSum v_at v_commands v_hash v_m v_saved v_script v_lengths v_fractions v_times v_energies v_far v_near v_echoes v_draft x1 x2 h
    replace h : B_X6_sumOfLengths_4 (F_X6_sumOfLengths_4 n) v_m x1 x2 = some r := h
    unfold B_X6_sumOfLengths_4 at h
    refine g_iload_n X rfl dX6_sumOfLengths_4 5 rfl ?_
    refine g_aload_n X rfl dX6_sumOfLengths_5 6 rfl ?_
    obtain ⟨r1, hcl, h⟩ := bd1_e h
    refine g_callV1W X (met_X6_parts l Z a0 a1 a2 a3 a4 a5 a6 a7 a8 a9 a10 a11 v_savedCount v_scriptLength v_code v_lineParts v_pulseMany v_left v_dropped v_merged v_drops v_contributions v_packet v_peelResult v_peelTime v_peelSum v_at v_commands v_hash v_m v_saved v_script v_lengths v_fractions v_times v_energies v_far v_near v_echoes v_draft  r1 hcl) rfl 0 gC5 rfl rfl (lw_V q1447 q1449 qs22 q74 q1450) md_X6_parts ⟨(Nat.le_of_ble_eq_true rfl), (Nat.le_of_ble_eq_true rfl)⟩ rfl dX6_sumOfLengths_6 9 rfl 0 0 rfl rfl (Nat.le_of_ble_eq_true rfl) (Nat.le_of_ble_eq_true rfl) (st := [.int x2]) rfl (Nat.le_of_ble_eq_true rfl) (fun _ => rfl) (fun _ => ?_)
    refine g_icmp_ge X dX6_sumOfLengths_9 30 (by decide) 12 rfl (fun hc => ?_) (fun hc => ?_)
    · replace h := if_t hc h
      refine g_iload_n X rfl dX6_sumOfLengths_30 31 rfl ?_
      cases h
      exact g_iret X dX6_sumOfLengths_31 () rfl rfl (Nat.le_of_ble_eq_true rfl) (Nat.le_of_ble_eq_true rfl)
    · replace h := if_f hc h
      refine g_iload_n X rfl dX6_sumOfLengths_12 13 rfl ?_
      refine g_aload_n X rfl dX6_sumOfLengths_13 14 rfl ?_
      refine g_get X gC5 0 rfl 0 (by decide) q1342 (fun _ h9 => h9) rfl dX6_sumOfLengths_14 17 rfl ?_
      refine g_iconst X 1 dX6_sumOfLengths_17 18 rfl kI_1 ?_
      refine g_iload_n X rfl dX6_sumOfLengths_18 19 rfl ?_
      refine g_iadd X dX6_sumOfLengths_19 20 rfl ?_
      obtain ⟨hi, h⟩ := gin_e h
      refine g_lald X 1 rfl hi dX6_sumOfLengths_20 21 rfl ?_
      refine g_l2i X dX6_sumOfLengths_21 22 rfl ?_
      refine g_iadd X dX6_sumOfLengths_22 23 rfl ?_
      refine g_topi (fun t2 et2 => ?_)
      replace h := nm_at et2 h
      refine g_istore_n X dX6_sumOfLengths_23 24 rfl (Nat.le_of_ble_eq_true rfl) rfl [some (.ref a0), some (.int t2), some (.int x2)] rfl ?_
      refine g_iinc X 1 rfl dX6_sumOfLengths_24 27 rfl kI_1 (Nat.le_of_ble_eq_true rfl) rfl [some (.ref a0), some (.int t2), some (.int (x2 + 1))] rfl ?_
      refine g_goto X dX6_sumOfLengths_27 4 (by decide) ?_
      exact hK4 v_savedCount v_scriptLength v_code v_lineParts v_pulseMany v_left v_dropped v_merged v_drops v_contributions v_packet v_peelResult v_peelTime v_peelSum v_at v_commands v_hash v_m v_saved v_script v_lengths v_fractions v_times v_energies v_far v_near v_echoes v_draft t2 (x2 + 1) h
theorem met_X6_sumOfLengths (l : Launch) (Z : gZt) (a0 : Nat) (a1 : Nat) (a2 : Nat) (a3 : Nat) (a4 : Nat) (a5 : Nat) (a6 : Nat) (a7 : Nat) (a8 : Nat) (a9 : Nat) (a10 : Nat) (a11 : Nat) (v_savedCount : Int32) (v_scriptLength : Int32) (v_code : Int32) (v_lineParts : Int32) (v_pulseMany : Int32) (v_left : Int64) (v_dropped : Int64) (v_merged : Int32) (v_drops : Int32) (v_contributions : Int32) (v_packet : Int64) (v_peelResult : Int32) (v_peelTime : Int32) (v_peelSum : Int32) (v_at : Int32) (v_commands : Int32) (v_hash : Int64) (v_m : Nat → Int64) (v_saved : Nat → Int64) (v_script : Nat → Int32) (v_lengths : Nat → Int32) (v_fractions : Nat → Int32) (v_times : Nat → Int32) (v_energies : Nat → Int64) (v_far : Nat → Int64) (v_near : Nat → Int64) (v_echoes : Nat → Int64) (v_draft : Nat → Int32) (r : Int32) (h : F_X6_sumOfLengths v_m = some r) : Ct l yX6_sumOfLengths (ws_ yX6_sumOfLengths cX6_sumOfLengths 3 (some .int)) rm_X6_sumOfLengths Z [.ref a0] [(a0, .inr (5, [.ref a1, .ref a2, .int v_savedCount, .ref a3, .int v_scriptLength, .int v_code, .int v_lineParts, .ref a4, .ref a5, .int v_pulseMany, .ref a6, .ref a7, .ref a8, .ref a9, .ref a10, .long v_left, .long v_dropped, .int v_merged, .int v_drops, .int v_contributions, .long v_packet, .int v_peelResult, .int v_peelTime, .int v_peelSum, .int v_at, .int v_commands, .ref a11, .long v_hash])), (a1, .inl (Z.2 1, 431, .inr (.inl v_m))), (a2, .inl (Z.2 1, 1293, .inr (.inl v_saved))), (a3, .inl (Z.2 0, 120, .inl v_script)), (a4, .inl (Z.2 0, 8, .inl v_lengths)), (a5, .inl (Z.2 0, 9, .inl v_fractions)), (a6, .inl (Z.2 0, 4, .inl v_times)), (a7, .inl (Z.2 1, 4, .inr (.inl v_energies))), (a8, .inl (Z.2 1, 1809, .inr (.inl v_far))), (a9, .inl (Z.2 1, 1809, .inr (.inl v_near))), (a10, .inl (Z.2 1, 201, .inr (.inl v_echoes))), (a11, .inl (Z.2 0, 120, .inl v_draft))] [] (fun _ : Unit => (some (.int r) : Option Value)) (fun _ : Unit => ([(a0, .inr (5, [.ref a1, .ref a2, .int v_savedCount, .ref a3, .int v_scriptLength, .int v_code, .int v_lineParts, .ref a4, .ref a5, .int v_pulseMany, .ref a6, .ref a7, .ref a8, .ref a9, .ref a10, .long v_left, .long v_dropped, .int v_merged, .int v_drops, .int v_contributions, .long v_packet, .int v_peelResult, .int v_peelTime, .int v_peelSum, .int v_at, .int v_commands, .ref a11, .long v_hash])), (a1, .inl (Z.2 1, 431, .inr (.inl v_m))), (a2, .inl (Z.2 1, 1293, .inr (.inl v_saved))), (a3, .inl (Z.2 0, 120, .inl v_script)), (a4, .inl (Z.2 0, 8, .inl v_lengths)), (a5, .inl (Z.2 0, 9, .inl v_fractions)), (a6, .inl (Z.2 0, 4, .inl v_times)), (a7, .inl (Z.2 1, 4, .inr (.inl v_energies))), (a8, .inl (Z.2 1, 1809, .inr (.inl v_far))), (a9, .inl (Z.2 1, 1809, .inr (.inl v_near))), (a10, .inl (Z.2 1, 201, .inr (.inl v_echoes))), (a11, .inl (Z.2 0, 120, .inl v_draft))] : va_W)) := by
  refine Ct.of cX6_sumOfLengths 3 (some .int) "LineEchoesModel" [some (.ref a0), none, none] 2 (by decide) rfl (Nat.le_of_ble_eq_true rfl) rfl (fun p e s m args below meth c A X hin => ?_)
  unfold F_X6_sumOfLengths at h
  refine g_iconst X 0 dX6_sumOfLengths_0 1 rfl kI_0 ?_
  refine g_istore_n X dX6_sumOfLengths_1 2 rfl (Nat.le_of_ble_eq_true rfl) rfl [some (.ref a0), some (.int 0), none] rfl ?_
  refine g_iconst X 0 dX6_sumOfLengths_2 3 rfl kI_0 ?_
  refine g_istore_n X dX6_sumOfLengths_3 4 rfl (Nat.le_of_ble_eq_true rfl) rfl [some (.ref a0), some (.int 0), some (.int 0)] rfl ?_
  exact w_X6_sumOfLengths_4 a0 a1 a2 a3 a4 a5 a6 a7 a8 a9 a10 a11  X  r    gFU v_savedCount v_scriptLength v_code v_lineParts v_pulseMany v_left v_dropped v_merged v_drops v_contributions v_packet v_peelResult v_peelTime v_peelSum v_at v_commands v_hash v_m v_saved v_script v_lengths v_fractions v_times v_energies v_far v_near v_echoes v_draft 0 0 h
/-! LineEchoesModel.reverse()I -/
abbrev rm_X6_reverse : Room := { frames := 2, cells := 0, slots := 0, locals := 42 }
def B_X6_reverse_47 (K47 : (Int32) → (Int32) → (Nat → Int64) → (Nat → Int64) → (Int32) → (Int32) → Option (Int32 × Int32 × Int32 × (Nat → Int64) × (Nat → Int64))) (v_savedCount : Int32) (v_code : Int32) (v_m : Nat → Int64) (v_saved : Nat → Int64) (x1 : Int32) (x2 : Int32) : Option (Int32 × Int32 × Int32 × (Nat → Int64) × (Nat → Int64)) :=
  if (x1 - 2) ≤ (2 * x2) then
    (bd1 (F_X6_sumOfLengths v_m) fun r1 =>
    some (r1, v_savedCount, v_code, v_m, v_saved))
  else
    (bd1 (F_X6_exchange v_m (9 + x2) (((9 + x1) - 2) - x2)) fun w2_m =>
    K47 v_savedCount v_code w2_m v_saved x1 (x2 + 1))
def F_X6_reverse_47 : Nat → (Int32) → (Int32) → (Nat → Int64) → (Nat → Int64) → (Int32) → (Int32) → Option (Int32 × Int32 × Int32 × (Nat → Int64) × (Nat → Int64))
  | 0 => fun _ _ _ _ _ _ => none
  | n + 1 => B_X6_reverse_47 (F_X6_reverse_47 n)
def B_X6_reverse_16 (K16 : (Int32) → (Int32) → (Nat → Int64) → (Nat → Int64) → (Int32) → (Int32) → Option (Int32 × Int32 × Int32 × (Nat → Int64) × (Nat → Int64))) (v_savedCount : Int32) (v_code : Int32) (v_m : Nat → Int64) (v_saved : Nat → Int64) (x1 : Int32) (x2 : Int32) : Option (Int32 × Int32 × Int32 × (Nat → Int64) × (Nat → Int64)) :=
  if (x1 - 1) ≤ (2 * x2) then
    (F_X6_reverse_47 gFU v_savedCount v_code v_m v_saved x1 0)
  else
    (bd1 (F_X6_exchange v_m (1 + x2) (((1 + x1) - 1) - x2)) fun w1_m =>
    K16 v_savedCount v_code w1_m v_saved x1 (x2 + 1))
def F_X6_reverse_16 : Nat → (Int32) → (Int32) → (Nat → Int64) → (Nat → Int64) → (Int32) → (Int32) → Option (Int32 × Int32 × Int32 × (Nat → Int64) × (Nat → Int64))
  | 0 => fun _ _ _ _ _ _ => none
  | n + 1 => B_X6_reverse_16 (F_X6_reverse_16 n)
def F_X6_reverse (v_savedCount : Int32) (v_m : Nat → Int64) (v_saved : Nat → Int64) : Option (Int32 × Int32 × Int32 × (Nat → Int64) × (Nat → Int64)) :=
  bd2 (F_X6_keep v_savedCount v_m v_saved) fun w1_savedCount w2_saved =>
  bd1 (F_X6_parts v_m) fun r3 =>
  F_X6_reverse_16 gFU w1_savedCount 0 v_m w2_saved r3 0
theorem w_X6_reverse_47 {p : Program} {l : Launch} {e : Env} {s : State} {m : MethodId} {args : Array Value} {below : List Frame} {meth : Method} {c : Code} {Z : gZt} {A : Nat → Prop} (a0 : Nat) (a1 : Nat) (a2 : Nat) (a3 : Nat) (a4 : Nat) (a5 : Nat) (a6 : Nat) (a7 : Nat) (a8 : Nat) (a9 : Nat) (a10 : Nat) (a11 : Nat) (X : gX p s m args meth c Z A cX6_reverse "LineEchoesModel" 3 (some .int) []) (r : Int32) (r_savedCount : Int32) (r_code : Int32) (r_m : Nat → Int64) (r_saved : Nat → Int64)  : ∀ (n : Nat) (v_savedCount : Int32) (v_scriptLength : Int32) (v_code : Int32) (v_lineParts : Int32) (v_pulseMany : Int32) (v_left : Int64) (v_dropped : Int64) (v_merged : Int32) (v_drops : Int32) (v_contributions : Int32) (v_packet : Int64) (v_peelResult : Int32) (v_peelTime : Int32) (v_peelSum : Int32) (v_at : Int32) (v_commands : Int32) (v_hash : Int64) (v_m : Nat → Int64) (v_saved : Nat → Int64) (v_script : Nat → Int32) (v_lengths : Nat → Int32) (v_fractions : Nat → Int32) (v_times : Nat → Int32) (v_energies : Nat → Int64) (v_far : Nat → Int64) (v_near : Nat → Int64) (v_echoes : Nat → Int64) (v_draft : Nat → Int32) (x1 : Int32) (x2 : Int32), F_X6_reverse_47 n v_savedCount v_code v_m v_saved x1 x2 = some (r, r_savedCount, r_code, r_m, r_saved) → G p l e rm_X6_reverse s m args below meth c Z A 3 (MQ below (gPost Z A (fun _ : Unit => (some (.int r) : Option Value)) (fun _ : Unit => ([(a0, .inr (5, [.ref a1, .ref a2, .int r_savedCount, .ref a3, .int v_scriptLength, .int r_code, .int v_lineParts, .ref a4, .ref a5, .int v_pulseMany, .ref a6, .ref a7, .ref a8, .ref a9, .ref a10, .long v_left, .long v_dropped, .int v_merged, .int v_drops, .int v_contributions, .long v_packet, .int v_peelResult, .int v_peelTime, .int v_peelSum, .int v_at, .int v_commands, .ref a11, .long v_hash])), (a1, .inl (Z.2 1, 431, .inr (.inl r_m))), (a2, .inl (Z.2 1, 1293, .inr (.inl r_saved))), (a3, .inl (Z.2 0, 120, .inl v_script)), (a4, .inl (Z.2 0, 8, .inl v_lengths)), (a5, .inl (Z.2 0, 9, .inl v_fractions)), (a6, .inl (Z.2 0, 4, .inl v_times)), (a7, .inl (Z.2 1, 4, .inr (.inl v_energies))), (a8, .inl (Z.2 1, 1809, .inr (.inl v_far))), (a9, .inl (Z.2 1, 1809, .inr (.inl v_near))), (a10, .inl (Z.2 1, 201, .inr (.inl v_echoes))), (a11, .inl (Z.2 0, 120, .inl v_draft))] : va_W))) args s 0 0 A) [(a0, .inr (5, [.ref a1, .ref a2, .int v_savedCount, .ref a3, .int v_scriptLength, .int v_code, .int v_lineParts, .ref a4, .ref a5, .int v_pulseMany, .ref a6, .ref a7, .ref a8, .ref a9, .ref a10, .long v_left, .long v_dropped, .int v_merged, .int v_drops, .int v_contributions, .long v_packet, .int v_peelResult, .int v_peelTime, .int v_peelSum, .int v_at, .int v_commands, .ref a11, .long v_hash])), (a1, .inl (Z.2 1, 431, .inr (.inl v_m))), (a2, .inl (Z.2 1, 1293, .inr (.inl v_saved))), (a3, .inl (Z.2 0, 120, .inl v_script)), (a4, .inl (Z.2 0, 8, .inl v_lengths)), (a5, .inl (Z.2 0, 9, .inl v_fractions)), (a6, .inl (Z.2 0, 4, .inl v_times)), (a7, .inl (Z.2 1, 4, .inr (.inl v_energies))), (a8, .inl (Z.2 1, 1809, .inr (.inl v_far))), (a9, .inl (Z.2 1, 1809, .inr (.inl v_near))), (a10, .inl (Z.2 1, 201, .inr (.inl v_echoes))), (a11, .inl (Z.2 0, 120, .inl v_draft))] 0 0 47 [some (.ref a0), some (.int x1), some (.int x2)] [] := by
  intro n
  induction n with
  | zero =>
    intro v_savedCount v_scriptLength v_code v_lineParts v_pulseMany v_left v_dropped v_merged v_drops v_contributions v_packet v_peelResult v_peelTime v_peelSum v_at v_commands v_hash v_m v_saved v_script v_lengths v_fractions v_times v_energies v_far v_near v_echoes v_draft x1 x2 h
    cases h
  | succ n hK47 =>
    intro v_savedCount v_scriptLength v_code v_lineParts v_pulseMany v_left v_dropped v_merged v_drops v_contributions v_packet v_peelResult v_peelTime v_peelSum v_at v_commands v_hash v_m v_saved v_script v_lengths v_fractions v_times v_energies v_far v_near v_echoes v_draft x1 x2 h
    replace h : B_X6_reverse_47 (F_X6_reverse_47 n) v_savedCount v_code v_m v_saved x1 x2 = some (r, r_savedCount, r_code, r_m, r_saved) := h
    unfold B_X6_reverse_47 at h
    refine g_iconst X 2 dX6_reverse_47 48 rfl kI_2 ?_
    refine g_iload_n X rfl dX6_reverse_48 49 rfl ?_
    refine g_imul X dX6_reverse_49 50 rfl ?_
    refine g_iload_n X rfl dX6_reverse_50 51 rfl ?_
    refine g_iconst X 2 dX6_reverse_51 52 rfl kI_2 ?_
    refine g_isub X dX6_reverse_52 53 rfl ?_
    refine g_icmp_ge X dX6_reverse_53 78 (by decide) 56 rfl (fun hc => ?_) (fun hc => ?_)
    · replace h := if_t hc h
      refine g_aload_n X rfl dX6_reverse_78 79 rfl ?_
      obtain ⟨r1, hcl, h⟩ := bd1_e h
      refine g_callV1W X (met_X6_sumOfLengths l Z a0 a1 a2 a3 a4 a5 a6 a7 a8 a9 a10 a11 v_savedCount v_scriptLength v_code v_lineParts v_pulseMany v_left v_dropped v_merged v_drops v_contributions v_packet v_peelResult v_peelTime v_peelSum v_at v_commands v_hash v_m v_saved v_script v_lengths v_fractions v_times v_energies v_far v_near v_echoes v_draft  r1 hcl) rfl 0 gC5 rfl rfl (lw_V q1507 q1509 qs33 q74 q1510) md_X6_sumOfLengths ⟨(Nat.le_of_ble_eq_true rfl), (Nat.le_of_ble_eq_true rfl)⟩ rfl dX6_reverse_79 82 rfl 0 0 rfl rfl (Nat.le_of_ble_eq_true rfl) (Nat.le_of_ble_eq_true rfl) (st := []) rfl (Nat.le_of_ble_eq_true rfl) (fun _ => rfl) (fun _ => ?_)
      cases h
      exact g_iret X dX6_reverse_82 () rfl rfl (Nat.le_of_ble_eq_true rfl) (Nat.le_of_ble_eq_true rfl)
    · replace h := if_f hc h
      refine g_aload_n X rfl dX6_reverse_56 57 rfl ?_
      refine g_bipush X 9 dX6_reverse_57 59 rfl kB_9 ?_
      refine g_iload_n X rfl dX6_reverse_59 60 rfl ?_
      refine g_iadd X dX6_reverse_60 61 rfl ?_
      refine g_bipush X 9 dX6_reverse_61 63 rfl kB_9 ?_
      refine g_iload_n X rfl dX6_reverse_63 64 rfl ?_
      refine g_iadd X dX6_reverse_64 65 rfl ?_
      refine g_iconst X 2 dX6_reverse_65 66 rfl kI_2 ?_
      refine g_isub X dX6_reverse_66 67 rfl ?_
      refine g_iload_n X rfl dX6_reverse_67 68 rfl ?_
      refine g_isub X dX6_reverse_68 69 rfl ?_
      obtain ⟨w2_m, hcl, h⟩ := bd1_e h
      refine g_callV0W X (met_X6_exchange l Z a0 a1 a2 a3 a4 a5 a6 a7 a8 a9 a10 a11 v_savedCount v_scriptLength v_code v_lineParts v_pulseMany v_left v_dropped v_merged v_drops v_contributions v_packet v_peelResult v_peelTime v_peelSum v_at v_commands v_hash v_m v_saved v_script v_lengths v_fractions v_times v_energies v_far v_near v_echoes v_draft (9 + x2) (((9 + x1) - 2) - x2) w2_m hcl) rfl 0 gC5 rfl rfl (lw_V q1503 q1505 qs32 q74 q1506) md_X6_exchange ⟨(Nat.le_of_ble_eq_true rfl), (Nat.le_of_ble_eq_true rfl)⟩ rfl dX6_reverse_69 72 rfl 0 0 rfl rfl (Nat.le_of_ble_eq_true rfl) (Nat.le_of_ble_eq_true rfl) (st := []) rfl (Nat.le_of_ble_eq_true rfl) (fun _ => rfl) (fun _ => ?_)
      refine g_iinc X 1 rfl dX6_reverse_72 75 rfl kI_1 (Nat.le_of_ble_eq_true rfl) rfl [some (.ref a0), some (.int x1), some (.int (x2 + 1))] rfl ?_
      refine g_goto X dX6_reverse_75 47 (by decide) ?_
      exact hK47 v_savedCount v_scriptLength v_code v_lineParts v_pulseMany v_left v_dropped v_merged v_drops v_contributions v_packet v_peelResult v_peelTime v_peelSum v_at v_commands v_hash w2_m v_saved v_script v_lengths v_fractions v_times v_energies v_far v_near v_echoes v_draft x1 (x2 + 1) h
theorem w_X6_reverse_16 {p : Program} {l : Launch} {e : Env} {s : State} {m : MethodId} {args : Array Value} {below : List Frame} {meth : Method} {c : Code} {Z : gZt} {A : Nat → Prop} (a0 : Nat) (a1 : Nat) (a2 : Nat) (a3 : Nat) (a4 : Nat) (a5 : Nat) (a6 : Nat) (a7 : Nat) (a8 : Nat) (a9 : Nat) (a10 : Nat) (a11 : Nat) (X : gX p s m args meth c Z A cX6_reverse "LineEchoesModel" 3 (some .int) []) (r : Int32) (r_savedCount : Int32) (r_code : Int32) (r_m : Nat → Int64) (r_saved : Nat → Int64)  : ∀ (n : Nat) (v_savedCount : Int32) (v_scriptLength : Int32) (v_code : Int32) (v_lineParts : Int32) (v_pulseMany : Int32) (v_left : Int64) (v_dropped : Int64) (v_merged : Int32) (v_drops : Int32) (v_contributions : Int32) (v_packet : Int64) (v_peelResult : Int32) (v_peelTime : Int32) (v_peelSum : Int32) (v_at : Int32) (v_commands : Int32) (v_hash : Int64) (v_m : Nat → Int64) (v_saved : Nat → Int64) (v_script : Nat → Int32) (v_lengths : Nat → Int32) (v_fractions : Nat → Int32) (v_times : Nat → Int32) (v_energies : Nat → Int64) (v_far : Nat → Int64) (v_near : Nat → Int64) (v_echoes : Nat → Int64) (v_draft : Nat → Int32) (x1 : Int32) (x2 : Int32), F_X6_reverse_16 n v_savedCount v_code v_m v_saved x1 x2 = some (r, r_savedCount, r_code, r_m, r_saved) → G p l e rm_X6_reverse s m args below meth c Z A 3 (MQ below (gPost Z A (fun _ : Unit => (some (.int r) : Option Value)) (fun _ : Unit => ([(a0, .inr (5, [.ref a1, .ref a2, .int r_savedCount, .ref a3, .int v_scriptLength, .int r_code, .int v_lineParts, .ref a4, .ref a5, .int v_pulseMany, .ref a6, .ref a7, .ref a8, .ref a9, .ref a10, .long v_left, .long v_dropped, .int v_merged, .int v_drops, .int v_contributions, .long v_packet, .int v_peelResult, .int v_peelTime, .int v_peelSum, .int v_at, .int v_commands, .ref a11, .long v_hash])), (a1, .inl (Z.2 1, 431, .inr (.inl r_m))), (a2, .inl (Z.2 1, 1293, .inr (.inl r_saved))), (a3, .inl (Z.2 0, 120, .inl v_script)), (a4, .inl (Z.2 0, 8, .inl v_lengths)), (a5, .inl (Z.2 0, 9, .inl v_fractions)), (a6, .inl (Z.2 0, 4, .inl v_times)), (a7, .inl (Z.2 1, 4, .inr (.inl v_energies))), (a8, .inl (Z.2 1, 1809, .inr (.inl v_far))), (a9, .inl (Z.2 1, 1809, .inr (.inl v_near))), (a10, .inl (Z.2 1, 201, .inr (.inl v_echoes))), (a11, .inl (Z.2 0, 120, .inl v_draft))] : va_W))) args s 0 0 A) [(a0, .inr (5, [.ref a1, .ref a2, .int v_savedCount, .ref a3, .int v_scriptLength, .int v_code, .int v_lineParts, .ref a4, .ref a5, .int v_pulseMany, .ref a6, .ref a7, .ref a8, .ref a9, .ref a10, .long v_left, .long v_dropped, .int v_merged, .int v_drops, .int v_contributions, .long v_packet, .int v_peelResult, .int v_peelTime, .int v_peelSum, .int v_at, .int v_commands, .ref a11, .long v_hash])), (a1, .inl (Z.2 1, 431, .inr (.inl v_m))), (a2, .inl (Z.2 1, 1293, .inr (.inl v_saved))), (a3, .inl (Z.2 0, 120, .inl v_script)), (a4, .inl (Z.2 0, 8, .inl v_lengths)), (a5, .inl (Z.2 0, 9, .inl v_fractions)), (a6, .inl (Z.2 0, 4, .inl v_times)), (a7, .inl (Z.2 1, 4, .inr (.inl v_energies))), (a8, .inl (Z.2 1, 1809, .inr (.inl v_far))), (a9, .inl (Z.2 1, 1809, .inr (.inl v_near))), (a10, .inl (Z.2 1, 201, .inr (.inl v_echoes))), (a11, .inl (Z.2 0, 120, .inl v_draft))] 0 0 16 [some (.ref a0), some (.int x1), some (.int x2)] [] := by
  intro n
  induction n with
  | zero =>
    intro v_savedCount v_scriptLength v_code v_lineParts v_pulseMany v_left v_dropped v_merged v_drops v_contributions v_packet v_peelResult v_peelTime v_peelSum v_at v_commands v_hash v_m v_saved v_script v_lengths v_fractions v_times v_energies v_far v_near v_echoes v_draft x1 x2 h
    cases h
  | succ n hK16 =>
    intro v_savedCount v_scriptLength v_code v_lineParts v_pulseMany v_left v_dropped v_merged v_drops v_contributions v_packet v_peelResult v_peelTime v_peelSum v_at v_commands v_hash v_m v_saved v_script v_lengths v_fractions v_times v_energies v_far v_near v_echoes v_draft x1 x2 h
    replace h : B_X6_reverse_16 (F_X6_reverse_16 n) v_savedCount v_code v_m v_saved x1 x2 = some (r, r_savedCount, r_code, r_m, r_saved) := h
    unfold B_X6_reverse_16 at h
    refine g_iconst X 2 dX6_reverse_16 17 rfl kI_2 ?_
    refine g_iload_n X rfl dX6_reverse_17 18 rfl ?_
    refine g_imul X dX6_reverse_18 19 rfl ?_
    refine g_iload_n X rfl dX6_reverse_19 20 rfl ?_
    refine g_iconst X 1 dX6_reverse_20 21 rfl kI_1 ?_
    refine g_isub X dX6_reverse_21 22 rfl ?_
    refine g_icmp_ge X dX6_reverse_22 45 (by decide) 25 rfl (fun hc => ?_) (fun hc => ?_)
    · replace h := if_t hc h
      refine g_iconst X 0 dX6_reverse_45 46 rfl kI_0 ?_
      refine g_istore_n X dX6_reverse_46 47 rfl (Nat.le_of_ble_eq_true rfl) rfl [some (.ref a0), some (.int x1), some (.int 0)] rfl ?_
      exact w_X6_reverse_47 a0 a1 a2 a3 a4 a5 a6 a7 a8 a9 a10 a11  X  r r_savedCount r_code r_m r_saved    gFU v_savedCount v_scriptLength v_code v_lineParts v_pulseMany v_left v_dropped v_merged v_drops v_contributions v_packet v_peelResult v_peelTime v_peelSum v_at v_commands v_hash v_m v_saved v_script v_lengths v_fractions v_times v_energies v_far v_near v_echoes v_draft x1 0 h
    · replace h := if_f hc h
      refine g_aload_n X rfl dX6_reverse_25 26 rfl ?_
      refine g_iconst X 1 dX6_reverse_26 27 rfl kI_1 ?_
      refine g_iload_n X rfl dX6_reverse_27 28 rfl ?_
      refine g_iadd X dX6_reverse_28 29 rfl ?_
      refine g_iconst X 1 dX6_reverse_29 30 rfl kI_1 ?_
      refine g_iload_n X rfl dX6_reverse_30 31 rfl ?_
      refine g_iadd X dX6_reverse_31 32 rfl ?_
      refine g_iconst X 1 dX6_reverse_32 33 rfl kI_1 ?_
      refine g_isub X dX6_reverse_33 34 rfl ?_
      refine g_iload_n X rfl dX6_reverse_34 35 rfl ?_
      refine g_isub X dX6_reverse_35 36 rfl ?_
      obtain ⟨w1_m, hcl, h⟩ := bd1_e h
      refine g_callV0W X (met_X6_exchange l Z a0 a1 a2 a3 a4 a5 a6 a7 a8 a9 a10 a11 v_savedCount v_scriptLength v_code v_lineParts v_pulseMany v_left v_dropped v_merged v_drops v_contributions v_packet v_peelResult v_peelTime v_peelSum v_at v_commands v_hash v_m v_saved v_script v_lengths v_fractions v_times v_energies v_far v_near v_echoes v_draft (1 + x2) (((1 + x1) - 1) - x2) w1_m hcl) rfl 0 gC5 rfl rfl (lw_V q1503 q1505 qs32 q74 q1506) md_X6_exchange ⟨(Nat.le_of_ble_eq_true rfl), (Nat.le_of_ble_eq_true rfl)⟩ rfl dX6_reverse_36 39 rfl 0 0 rfl rfl (Nat.le_of_ble_eq_true rfl) (Nat.le_of_ble_eq_true rfl) (st := []) rfl (Nat.le_of_ble_eq_true rfl) (fun _ => rfl) (fun _ => ?_)
      refine g_iinc X 1 rfl dX6_reverse_39 42 rfl kI_1 (Nat.le_of_ble_eq_true rfl) rfl [some (.ref a0), some (.int x1), some (.int (x2 + 1))] rfl ?_
      refine g_goto X dX6_reverse_42 16 (by decide) ?_
      exact hK16 v_savedCount v_scriptLength v_code v_lineParts v_pulseMany v_left v_dropped v_merged v_drops v_contributions v_packet v_peelResult v_peelTime v_peelSum v_at v_commands v_hash w1_m v_saved v_script v_lengths v_fractions v_times v_energies v_far v_near v_echoes v_draft x1 (x2 + 1) h
theorem met_X6_reverse (l : Launch) (Z : gZt) (a0 : Nat) (a1 : Nat) (a2 : Nat) (a3 : Nat) (a4 : Nat) (a5 : Nat) (a6 : Nat) (a7 : Nat) (a8 : Nat) (a9 : Nat) (a10 : Nat) (a11 : Nat) (v_savedCount : Int32) (v_scriptLength : Int32) (v_code : Int32) (v_lineParts : Int32) (v_pulseMany : Int32) (v_left : Int64) (v_dropped : Int64) (v_merged : Int32) (v_drops : Int32) (v_contributions : Int32) (v_packet : Int64) (v_peelResult : Int32) (v_peelTime : Int32) (v_peelSum : Int32) (v_at : Int32) (v_commands : Int32) (v_hash : Int64) (v_m : Nat → Int64) (v_saved : Nat → Int64) (v_script : Nat → Int32) (v_lengths : Nat → Int32) (v_fractions : Nat → Int32) (v_times : Nat → Int32) (v_energies : Nat → Int64) (v_far : Nat → Int64) (v_near : Nat → Int64) (v_echoes : Nat → Int64) (v_draft : Nat → Int32) (r : Int32) (r_savedCount : Int32) (r_code : Int32) (r_m : Nat → Int64) (r_saved : Nat → Int64) (h : F_X6_reverse v_savedCount v_m v_saved = some (r, r_savedCount, r_code, r_m, r_saved)) : Ct l yX6_reverse (ws_ yX6_reverse cX6_reverse 3 (some .int)) rm_X6_reverse Z [.ref a0] [(a0, .inr (5, [.ref a1, .ref a2, .int v_savedCount, .ref a3, .int v_scriptLength, .int v_code, .int v_lineParts, .ref a4, .ref a5, .int v_pulseMany, .ref a6, .ref a7, .ref a8, .ref a9, .ref a10, .long v_left, .long v_dropped, .int v_merged, .int v_drops, .int v_contributions, .long v_packet, .int v_peelResult, .int v_peelTime, .int v_peelSum, .int v_at, .int v_commands, .ref a11, .long v_hash])), (a1, .inl (Z.2 1, 431, .inr (.inl v_m))), (a2, .inl (Z.2 1, 1293, .inr (.inl v_saved))), (a3, .inl (Z.2 0, 120, .inl v_script)), (a4, .inl (Z.2 0, 8, .inl v_lengths)), (a5, .inl (Z.2 0, 9, .inl v_fractions)), (a6, .inl (Z.2 0, 4, .inl v_times)), (a7, .inl (Z.2 1, 4, .inr (.inl v_energies))), (a8, .inl (Z.2 1, 1809, .inr (.inl v_far))), (a9, .inl (Z.2 1, 1809, .inr (.inl v_near))), (a10, .inl (Z.2 1, 201, .inr (.inl v_echoes))), (a11, .inl (Z.2 0, 120, .inl v_draft))] [] (fun _ : Unit => (some (.int r) : Option Value)) (fun _ : Unit => ([(a0, .inr (5, [.ref a1, .ref a2, .int r_savedCount, .ref a3, .int v_scriptLength, .int r_code, .int v_lineParts, .ref a4, .ref a5, .int v_pulseMany, .ref a6, .ref a7, .ref a8, .ref a9, .ref a10, .long v_left, .long v_dropped, .int v_merged, .int v_drops, .int v_contributions, .long v_packet, .int v_peelResult, .int v_peelTime, .int v_peelSum, .int v_at, .int v_commands, .ref a11, .long v_hash])), (a1, .inl (Z.2 1, 431, .inr (.inl r_m))), (a2, .inl (Z.2 1, 1293, .inr (.inl r_saved))), (a3, .inl (Z.2 0, 120, .inl v_script)), (a4, .inl (Z.2 0, 8, .inl v_lengths)), (a5, .inl (Z.2 0, 9, .inl v_fractions)), (a6, .inl (Z.2 0, 4, .inl v_times)), (a7, .inl (Z.2 1, 4, .inr (.inl v_energies))), (a8, .inl (Z.2 1, 1809, .inr (.inl v_far))), (a9, .inl (Z.2 1, 1809, .inr (.inl v_near))), (a10, .inl (Z.2 1, 201, .inr (.inl v_echoes))), (a11, .inl (Z.2 0, 120, .inl v_draft))] : va_W)) := by
  refine Ct.of cX6_reverse 3 (some .int) "LineEchoesModel" [some (.ref a0), none, none] 2 (by decide) rfl (Nat.le_of_ble_eq_true rfl) rfl (fun p e s m args below meth c A X hin => ?_)
  unfold F_X6_reverse at h
  refine g_aload_n X rfl dX6_reverse_0 1 rfl ?_
  refine g_iconst X 0 dX6_reverse_1 2 rfl kI_0 ?_
  refine g_put X gC5 0 rfl 5 (by decide) q1347 (fun _ h9 => h9) rfl rfl rfl (Nat.le_of_ble_eq_true rfl) dX6_reverse_2 5 rfl ?_
  refine g_aload_n X rfl dX6_reverse_5 6 rfl ?_
  obtain ⟨w1_savedCount, w2_saved, hcl, h⟩ := bd2_e h
  refine g_callV0W X (met_X6_keep l Z a0 a1 a2 a3 a4 a5 a6 a7 a8 a9 a10 a11 v_savedCount v_scriptLength 0 v_lineParts v_pulseMany v_left v_dropped v_merged v_drops v_contributions v_packet v_peelResult v_peelTime v_peelSum v_at v_commands v_hash v_m v_saved v_script v_lengths v_fractions v_times v_energies v_far v_near v_echoes v_draft  w1_savedCount w2_saved hcl) rfl 0 gC5 rfl rfl (lw_V q1451 q1453 qs23 q74 q1454) md_X6_keep ⟨(Nat.le_of_ble_eq_true rfl), (Nat.le_of_ble_eq_true rfl)⟩ rfl dX6_reverse_6 9 rfl 0 0 rfl rfl (Nat.le_of_ble_eq_true rfl) (Nat.le_of_ble_eq_true rfl) (st := []) rfl (Nat.le_of_ble_eq_true rfl) (fun _ => rfl) (fun _ => ?_)
  refine g_aload_n X rfl dX6_reverse_9 10 rfl ?_
  obtain ⟨r3, hcl, h⟩ := bd1_e h
  refine g_callV1W X (met_X6_parts l Z a0 a1 a2 a3 a4 a5 a6 a7 a8 a9 a10 a11 w1_savedCount v_scriptLength 0 v_lineParts v_pulseMany v_left v_dropped v_merged v_drops v_contributions v_packet v_peelResult v_peelTime v_peelSum v_at v_commands v_hash v_m w2_saved v_script v_lengths v_fractions v_times v_energies v_far v_near v_echoes v_draft  r3 hcl) rfl 0 gC5 rfl rfl (lw_V q1447 q1449 qs22 q74 q1450) md_X6_parts ⟨(Nat.le_of_ble_eq_true rfl), (Nat.le_of_ble_eq_true rfl)⟩ rfl dX6_reverse_10 13 rfl 0 0 rfl rfl (Nat.le_of_ble_eq_true rfl) (Nat.le_of_ble_eq_true rfl) (st := []) rfl (Nat.le_of_ble_eq_true rfl) (fun _ => rfl) (fun _ => ?_)
  refine g_istore_n X dX6_reverse_13 14 rfl (Nat.le_of_ble_eq_true rfl) rfl [some (.ref a0), some (.int r3), none] rfl ?_
  refine g_iconst X 0 dX6_reverse_14 15 rfl kI_0 ?_
  refine g_istore_n X dX6_reverse_15 16 rfl (Nat.le_of_ble_eq_true rfl) rfl [some (.ref a0), some (.int r3), some (.int 0)] rfl ?_
  exact w_X6_reverse_16 a0 a1 a2 a3 a4 a5 a6 a7 a8 a9 a10 a11  X  r r_savedCount r_code r_m r_saved    gFU w1_savedCount v_scriptLength 0 v_lineParts v_pulseMany v_left v_dropped v_merged v_drops v_contributions v_packet v_peelResult v_peelTime v_peelSum v_at v_commands v_hash v_m w2_saved v_script v_lengths v_fractions v_times v_energies v_far v_near v_echoes v_draft r3 0 h
/-! LineEchoesModel.window()I -/
abbrev rm_X6_window : Room := { frames := 0, cells := 0, slots := 0, locals := 0 }
def F_X6_window (v_m : Nat → Int64) : Option (Int32) :=
  gin 19 431 <|
  some ((v_m (Int32.toNatClampNeg 19)).toInt32)
theorem met_X6_window (l : Launch) (Z : gZt) (a0 : Nat) (a1 : Nat) (a2 : Nat) (a3 : Nat) (a4 : Nat) (a5 : Nat) (a6 : Nat) (a7 : Nat) (a8 : Nat) (a9 : Nat) (a10 : Nat) (a11 : Nat) (v_savedCount : Int32) (v_scriptLength : Int32) (v_code : Int32) (v_lineParts : Int32) (v_pulseMany : Int32) (v_left : Int64) (v_dropped : Int64) (v_merged : Int32) (v_drops : Int32) (v_contributions : Int32) (v_packet : Int64) (v_peelResult : Int32) (v_peelTime : Int32) (v_peelSum : Int32) (v_at : Int32) (v_commands : Int32) (v_hash : Int64) (v_m : Nat → Int64) (v_saved : Nat → Int64) (v_script : Nat → Int32) (v_lengths : Nat → Int32) (v_fractions : Nat → Int32) (v_times : Nat → Int32) (v_energies : Nat → Int64) (v_far : Nat → Int64) (v_near : Nat → Int64) (v_echoes : Nat → Int64) (v_draft : Nat → Int32) (r : Int32) (h : F_X6_window v_m = some r) : Ct l yX6_window (ws_ yX6_window cX6_window 1 (some .int)) rm_X6_window Z [.ref a0] [(a0, .inr (5, [.ref a1, .ref a2, .int v_savedCount, .ref a3, .int v_scriptLength, .int v_code, .int v_lineParts, .ref a4, .ref a5, .int v_pulseMany, .ref a6, .ref a7, .ref a8, .ref a9, .ref a10, .long v_left, .long v_dropped, .int v_merged, .int v_drops, .int v_contributions, .long v_packet, .int v_peelResult, .int v_peelTime, .int v_peelSum, .int v_at, .int v_commands, .ref a11, .long v_hash])), (a1, .inl (Z.2 1, 431, .inr (.inl v_m))), (a2, .inl (Z.2 1, 1293, .inr (.inl v_saved))), (a3, .inl (Z.2 0, 120, .inl v_script)), (a4, .inl (Z.2 0, 8, .inl v_lengths)), (a5, .inl (Z.2 0, 9, .inl v_fractions)), (a6, .inl (Z.2 0, 4, .inl v_times)), (a7, .inl (Z.2 1, 4, .inr (.inl v_energies))), (a8, .inl (Z.2 1, 1809, .inr (.inl v_far))), (a9, .inl (Z.2 1, 1809, .inr (.inl v_near))), (a10, .inl (Z.2 1, 201, .inr (.inl v_echoes))), (a11, .inl (Z.2 0, 120, .inl v_draft))] [] (fun _ : Unit => (some (.int r) : Option Value)) (fun _ : Unit => ([(a0, .inr (5, [.ref a1, .ref a2, .int v_savedCount, .ref a3, .int v_scriptLength, .int v_code, .int v_lineParts, .ref a4, .ref a5, .int v_pulseMany, .ref a6, .ref a7, .ref a8, .ref a9, .ref a10, .long v_left, .long v_dropped, .int v_merged, .int v_drops, .int v_contributions, .long v_packet, .int v_peelResult, .int v_peelTime, .int v_peelSum, .int v_at, .int v_commands, .ref a11, .long v_hash])), (a1, .inl (Z.2 1, 431, .inr (.inl v_m))), (a2, .inl (Z.2 1, 1293, .inr (.inl v_saved))), (a3, .inl (Z.2 0, 120, .inl v_script)), (a4, .inl (Z.2 0, 8, .inl v_lengths)), (a5, .inl (Z.2 0, 9, .inl v_fractions)), (a6, .inl (Z.2 0, 4, .inl v_times)), (a7, .inl (Z.2 1, 4, .inr (.inl v_energies))), (a8, .inl (Z.2 1, 1809, .inr (.inl v_far))), (a9, .inl (Z.2 1, 1809, .inr (.inl v_near))), (a10, .inl (Z.2 1, 201, .inr (.inl v_echoes))), (a11, .inl (Z.2 0, 120, .inl v_draft))] : va_W)) := by
  refine Ct.of cX6_window 1 (some .int) "LineEchoesModel" [some (.ref a0)] 0 (by decide) rfl (Nat.le_of_ble_eq_true rfl) rfl (fun p e s m args below meth c A X hin => ?_)
  unfold F_X6_window at h
  refine g_aload_n X rfl dX6_window_0 1 rfl ?_
  refine g_get X gC5 0 rfl 0 (by decide) q1342 (fun _ h9 => h9) rfl dX6_window_1 4 rfl ?_
  refine g_bipush X 19 dX6_window_4 6 rfl kB_19 ?_
  obtain ⟨hi, h⟩ := gin_e h
  refine g_lald X 1 rfl hi dX6_window_6 7 rfl ?_
  refine g_l2i X dX6_window_7 8 rfl ?_
  cases h
  exact g_iret X dX6_window_8 () rfl rfl (Nat.le_of_ble_eq_true rfl) (Nat.le_of_ble_eq_true rfl)
/-! LineEchoesModel.setBench(III)I -/
abbrev rm_X6_setBench : Room := { frames := 1, cells := 0, slots := 0, locals := 25 }
def F_X6_setBench_42 (v_savedCount : Int32) (v_m : Nat → Int64) (v_saved : Nat → Int64) (x1 : Int32) (x2 : Int32) (x3 : Int32) (s1 : Int32) : Option (Int32 × Int32 × Int32 × (Nat → Int64) × (Nat → Int64)) :=
  if s1 = 0 then
    (bd2 (F_X6_keep v_savedCount v_m v_saved) fun w1_savedCount w2_saved =>
    bd1 (F_X6_window v_m) fun r3 =>
    gin 17 431 <|
    gin 18 431 <|
    gin 19 431 <|
    some (r3, w1_savedCount, s1, vp_updL (vp_updL (vp_updL v_m (Int32.toNatClampNeg 17) x1.toInt64) (Int32.toNatClampNeg 18) x2.toInt64) (Int32.toNatClampNeg 19) x3.toInt64, w2_saved))
  else
    (some (0, v_savedCount, s1, v_m, v_saved))
def F_X6_setBench_41 (v_savedCount : Int32) (v_m : Nat → Int64) (v_saved : Nat → Int64) (x1 : Int32) (x2 : Int32) (x3 : Int32) : Option (Int32 × Int32 × Int32 × (Nat → Int64) × (Nat → Int64)) :=
  F_X6_setBench_42 v_savedCount v_m v_saved x1 x2 x3 1
def F_X6_setBench (v_savedCount : Int32) (v_m : Nat → Int64) (v_saved : Nat → Int64) (x1 : Int32) (x2 : Int32) (x3 : Int32) : Option (Int32 × Int32 × Int32 × (Nat → Int64) × (Nat → Int64)) :=
  bd1 (F_X6_in x1.toInt64 0 999) fun r1 =>
  if r1 = 0 then
    (F_X6_setBench_41 v_savedCount v_m v_saved x1 x2 x3)
  else
    (bd1 (F_X6_in x2.toInt64 0 1000) fun r2 =>
    if r2 = 0 then
      (F_X6_setBench_41 v_savedCount v_m v_saved x1 x2 x3)
    else
      (bd1 (F_X6_in x3.toInt64 1 200) fun r3 =>
      if r3 = 0 then
        (F_X6_setBench_41 v_savedCount v_m v_saved x1 x2 x3)
      else
        (F_X6_setBench_42 v_savedCount v_m v_saved x1 x2 x3 0)))
theorem w_X6_setBench_42 {p : Program} {l : Launch} {e : Env} {s : State} {m : MethodId} {args : Array Value} {below : List Frame} {meth : Method} {c : Code} {Z : gZt} {A : Nat → Prop} (a0 : Nat) (a1 : Nat) (a2 : Nat) (a3 : Nat) (a4 : Nat) (a5 : Nat) (a6 : Nat) (a7 : Nat) (a8 : Nat) (a9 : Nat) (a10 : Nat) (a11 : Nat) (X : gX p s m args meth c Z A cX6_setBench "LineEchoesModel" 5 (some .int) []) (r : Int32) (r_savedCount : Int32) (r_code : Int32) (r_m : Nat → Int64) (r_saved : Nat → Int64)  (v_savedCount : Int32) (v_scriptLength : Int32) (v_code : Int32) (v_lineParts : Int32) (v_pulseMany : Int32) (v_left : Int64) (v_dropped : Int64) (v_merged : Int32) (v_drops : Int32) (v_contributions : Int32) (v_packet : Int64) (v_peelResult : Int32) (v_peelTime : Int32) (v_peelSum : Int32) (v_at : Int32) (v_commands : Int32) (v_hash : Int64) (v_m : Nat → Int64) (v_saved : Nat → Int64) (v_script : Nat → Int32) (v_lengths : Nat → Int32) (v_fractions : Nat → Int32) (v_times : Nat → Int32) (v_energies : Nat → Int64) (v_far : Nat → Int64) (v_near : Nat → Int64) (v_echoes : Nat → Int64) (v_draft : Nat → Int32) (x1 : Int32) (x2 : Int32) (x3 : Int32) (s1 : Int32) (h : F_X6_setBench_42 v_savedCount v_m v_saved x1 x2 x3 s1 = some (r, r_savedCount, r_code, r_m, r_saved)) : G p l e rm_X6_setBench s m args below meth c Z A 5 (MQ below (gPost Z A (fun _ : Unit => (some (.int r) : Option Value)) (fun _ : Unit => ([(a0, .inr (5, [.ref a1, .ref a2, .int r_savedCount, .ref a3, .int v_scriptLength, .int r_code, .int v_lineParts, .ref a4, .ref a5, .int v_pulseMany, .ref a6, .ref a7, .ref a8, .ref a9, .ref a10, .long v_left, .long v_dropped, .int v_merged, .int v_drops, .int v_contributions, .long v_packet, .int v_peelResult, .int v_peelTime, .int v_peelSum, .int v_at, .int v_commands, .ref a11, .long v_hash])), (a1, .inl (Z.2 1, 431, .inr (.inl r_m))), (a2, .inl (Z.2 1, 1293, .inr (.inl r_saved))), (a3, .inl (Z.2 0, 120, .inl v_script)), (a4, .inl (Z.2 0, 8, .inl v_lengths)), (a5, .inl (Z.2 0, 9, .inl v_fractions)), (a6, .inl (Z.2 0, 4, .inl v_times)), (a7, .inl (Z.2 1, 4, .inr (.inl v_energies))), (a8, .inl (Z.2 1, 1809, .inr (.inl v_far))), (a9, .inl (Z.2 1, 1809, .inr (.inl v_near))), (a10, .inl (Z.2 1, 201, .inr (.inl v_echoes))), (a11, .inl (Z.2 0, 120, .inl v_draft))] : va_W))) args s 0 0 A) [(a0, .inr (5, [.ref a1, .ref a2, .int v_savedCount, .ref a3, .int v_scriptLength, .int v_code, .int v_lineParts, .ref a4, .ref a5, .int v_pulseMany, .ref a6, .ref a7, .ref a8, .ref a9, .ref a10, .long v_left, .long v_dropped, .int v_merged, .int v_drops, .int v_contributions, .long v_packet, .int v_peelResult, .int v_peelTime, .int v_peelSum, .int v_at, .int v_commands, .ref a11, .long v_hash])), (a1, .inl (Z.2 1, 431, .inr (.inl v_m))), (a2, .inl (Z.2 1, 1293, .inr (.inl v_saved))), (a3, .inl (Z.2 0, 120, .inl v_script)), (a4, .inl (Z.2 0, 8, .inl v_lengths)), (a5, .inl (Z.2 0, 9, .inl v_fractions)), (a6, .inl (Z.2 0, 4, .inl v_times)), (a7, .inl (Z.2 1, 4, .inr (.inl v_energies))), (a8, .inl (Z.2 1, 1809, .inr (.inl v_far))), (a9, .inl (Z.2 1, 1809, .inr (.inl v_near))), (a10, .inl (Z.2 1, 201, .inr (.inl v_echoes))), (a11, .inl (Z.2 0, 120, .inl v_draft))] 0 0 42 [some (.ref a0), some (.int x1), some (.int x2), some (.int x3), none] [.int s1, .ref a0] := by
  unfold F_X6_setBench_42 at h
  refine g_put X gC5 0 rfl 5 (by decide) q1347 (fun _ h9 => h9) rfl rfl rfl (Nat.le_of_ble_eq_true rfl) dX6_setBench_42 45 rfl ?_
  refine g_aload_n X rfl dX6_setBench_45 46 rfl ?_
  refine g_get X gC5 0 rfl 5 (by decide) q1347 (fun _ h9 => h9) rfl dX6_setBench_46 49 rfl ?_
  refine g_if_eq X dX6_setBench_49 54 (by decide) 52 rfl (fun hc => ?_) (fun hc => ?_)
  · replace h := if_t hc h
    refine g_aload_n X rfl dX6_setBench_54 55 rfl ?_
    obtain ⟨w1_savedCount, w2_saved, hcl, h⟩ := bd2_e h
    refine g_callV0W X (met_X6_keep l Z a0 a1 a2 a3 a4 a5 a6 a7 a8 a9 a10 a11 v_savedCount v_scriptLength s1 v_lineParts v_pulseMany v_left v_dropped v_merged v_drops v_contributions v_packet v_peelResult v_peelTime v_peelSum v_at v_commands v_hash v_m v_saved v_script v_lengths v_fractions v_times v_energies v_far v_near v_echoes v_draft  w1_savedCount w2_saved hcl) rfl 0 gC5 rfl rfl (lw_V q1451 q1453 qs23 q74 q1454) md_X6_keep ⟨(Nat.le_of_ble_eq_true rfl), (Nat.le_of_ble_eq_true rfl)⟩ rfl dX6_setBench_55 58 rfl 0 0 rfl rfl (Nat.le_of_ble_eq_true rfl) (Nat.le_of_ble_eq_true rfl) (st := []) rfl (Nat.le_of_ble_eq_true rfl) (fun _ => rfl) (fun _ => ?_)
    refine g_aload_n X rfl dX6_setBench_58 59 rfl ?_
    obtain ⟨r3, hcl, h⟩ := bd1_e h
    refine g_callV1W X (met_X6_window l Z a0 a1 a2 a3 a4 a5 a6 a7 a8 a9 a10 a11 w1_savedCount v_scriptLength s1 v_lineParts v_pulseMany v_left v_dropped v_merged v_drops v_contributions v_packet v_peelResult v_peelTime v_peelSum v_at v_commands v_hash v_m w2_saved v_script v_lengths v_fractions v_times v_energies v_far v_near v_echoes v_draft  r3 hcl) rfl 0 gC5 rfl rfl (lw_V q1517 q1519 qs34 q74 q1520) md_X6_window ⟨(Nat.le_of_ble_eq_true rfl), (Nat.le_of_ble_eq_true rfl)⟩ rfl dX6_setBench_59 62 rfl 0 0 rfl rfl (Nat.le_of_ble_eq_true rfl) (Nat.le_of_ble_eq_true rfl) (st := []) rfl (Nat.le_of_ble_eq_true rfl) (fun _ => rfl) (fun _ => ?_)
    refine g_istore X dX6_setBench_62 64 rfl (Nat.le_of_ble_eq_true rfl) rfl [some (.ref a0), some (.int x1), some (.int x2), some (.int x3), some (.int r3)] rfl ?_
    refine g_aload_n X rfl dX6_setBench_64 65 rfl ?_
    refine g_get X gC5 0 rfl 0 (by decide) q1342 (fun _ h9 => h9) rfl dX6_setBench_65 68 rfl ?_
    refine g_bipush X 17 dX6_setBench_68 70 rfl kB_17 ?_
    refine g_iload_n X rfl dX6_setBench_70 71 rfl ?_
    refine g_i2l X dX6_setBench_71 72 rfl ?_
    obtain ⟨hi, h⟩ := gin_e h
    refine g_last X 1 rfl hi dX6_setBench_72 73 rfl ?_
    refine g_aload_n X rfl dX6_setBench_73 74 rfl ?_
    refine g_get X gC5 0 rfl 0 (by decide) q1342 (fun _ h9 => h9) rfl dX6_setBench_74 77 rfl ?_
    refine g_bipush X 18 dX6_setBench_77 79 rfl kB_18 ?_
    refine g_iload_n X rfl dX6_setBench_79 80 rfl ?_
    refine g_i2l X dX6_setBench_80 81 rfl ?_
    obtain ⟨hi, h⟩ := gin_e h
    refine g_last X 1 rfl hi dX6_setBench_81 82 rfl ?_
    refine g_aload_n X rfl dX6_setBench_82 83 rfl ?_
    refine g_get X gC5 0 rfl 0 (by decide) q1342 (fun _ h9 => h9) rfl dX6_setBench_83 86 rfl ?_
    refine g_bipush X 19 dX6_setBench_86 88 rfl kB_19 ?_
    refine g_iload_n X rfl dX6_setBench_88 89 rfl ?_
    refine g_i2l X dX6_setBench_89 90 rfl ?_
    obtain ⟨hi, h⟩ := gin_e h
    refine g_last X 1 rfl hi dX6_setBench_90 91 rfl ?_
    refine g_iload X rfl dX6_setBench_91 93 rfl ?_
    cases h
    exact g_iret X dX6_setBench_93 () rfl rfl (Nat.le_of_ble_eq_true rfl) (Nat.le_of_ble_eq_true rfl)
  · replace h := if_f hc h
    refine g_iconst X 0 dX6_setBench_52 53 rfl kI_0 ?_
    cases h
    exact g_iret X dX6_setBench_53 () rfl rfl (Nat.le_of_ble_eq_true rfl) (Nat.le_of_ble_eq_true rfl)
theorem w_X6_setBench_41 {p : Program} {l : Launch} {e : Env} {s : State} {m : MethodId} {args : Array Value} {below : List Frame} {meth : Method} {c : Code} {Z : gZt} {A : Nat → Prop} (a0 : Nat) (a1 : Nat) (a2 : Nat) (a3 : Nat) (a4 : Nat) (a5 : Nat) (a6 : Nat) (a7 : Nat) (a8 : Nat) (a9 : Nat) (a10 : Nat) (a11 : Nat) (X : gX p s m args meth c Z A cX6_setBench "LineEchoesModel" 5 (some .int) []) (r : Int32) (r_savedCount : Int32) (r_code : Int32) (r_m : Nat → Int64) (r_saved : Nat → Int64)  (v_savedCount : Int32) (v_scriptLength : Int32) (v_code : Int32) (v_lineParts : Int32) (v_pulseMany : Int32) (v_left : Int64) (v_dropped : Int64) (v_merged : Int32) (v_drops : Int32) (v_contributions : Int32) (v_packet : Int64) (v_peelResult : Int32) (v_peelTime : Int32) (v_peelSum : Int32) (v_at : Int32) (v_commands : Int32) (v_hash : Int64) (v_m : Nat → Int64) (v_saved : Nat → Int64) (v_script : Nat → Int32) (v_lengths : Nat → Int32) (v_fractions : Nat → Int32) (v_times : Nat → Int32) (v_energies : Nat → Int64) (v_far : Nat → Int64) (v_near : Nat → Int64) (v_echoes : Nat → Int64) (v_draft : Nat → Int32) (x1 : Int32) (x2 : Int32) (x3 : Int32) (h : F_X6_setBench_41 v_savedCount v_m v_saved x1 x2 x3 = some (r, r_savedCount, r_code, r_m, r_saved)) : G p l e rm_X6_setBench s m args below meth c Z A 5 (MQ below (gPost Z A (fun _ : Unit => (some (.int r) : Option Value)) (fun _ : Unit => ([(a0, .inr (5, [.ref a1, .ref a2, .int r_savedCount, .ref a3, .int v_scriptLength, .int r_code, .int v_lineParts, .ref a4, .ref a5, .int v_pulseMany, .ref a6, .ref a7, .ref a8, .ref a9, .ref a10, .long v_left, .long v_dropped, .int v_merged, .int v_drops, .int v_contributions, .long v_packet, .int v_peelResult, .int v_peelTime, .int v_peelSum, .int v_at, .int v_commands, .ref a11, .long v_hash])), (a1, .inl (Z.2 1, 431, .inr (.inl r_m))), (a2, .inl (Z.2 1, 1293, .inr (.inl r_saved))), (a3, .inl (Z.2 0, 120, .inl v_script)), (a4, .inl (Z.2 0, 8, .inl v_lengths)), (a5, .inl (Z.2 0, 9, .inl v_fractions)), (a6, .inl (Z.2 0, 4, .inl v_times)), (a7, .inl (Z.2 1, 4, .inr (.inl v_energies))), (a8, .inl (Z.2 1, 1809, .inr (.inl v_far))), (a9, .inl (Z.2 1, 1809, .inr (.inl v_near))), (a10, .inl (Z.2 1, 201, .inr (.inl v_echoes))), (a11, .inl (Z.2 0, 120, .inl v_draft))] : va_W))) args s 0 0 A) [(a0, .inr (5, [.ref a1, .ref a2, .int v_savedCount, .ref a3, .int v_scriptLength, .int v_code, .int v_lineParts, .ref a4, .ref a5, .int v_pulseMany, .ref a6, .ref a7, .ref a8, .ref a9, .ref a10, .long v_left, .long v_dropped, .int v_merged, .int v_drops, .int v_contributions, .long v_packet, .int v_peelResult, .int v_peelTime, .int v_peelSum, .int v_at, .int v_commands, .ref a11, .long v_hash])), (a1, .inl (Z.2 1, 431, .inr (.inl v_m))), (a2, .inl (Z.2 1, 1293, .inr (.inl v_saved))), (a3, .inl (Z.2 0, 120, .inl v_script)), (a4, .inl (Z.2 0, 8, .inl v_lengths)), (a5, .inl (Z.2 0, 9, .inl v_fractions)), (a6, .inl (Z.2 0, 4, .inl v_times)), (a7, .inl (Z.2 1, 4, .inr (.inl v_energies))), (a8, .inl (Z.2 1, 1809, .inr (.inl v_far))), (a9, .inl (Z.2 1, 1809, .inr (.inl v_near))), (a10, .inl (Z.2 1, 201, .inr (.inl v_echoes))), (a11, .inl (Z.2 0, 120, .inl v_draft))] 0 0 41 [some (.ref a0), some (.int x1), some (.int x2), some (.int x3), none] [.ref a0] := by
  unfold F_X6_setBench_41 at h
  refine g_iconst X 1 dX6_setBench_41 42 rfl kI_1 ?_
  exact w_X6_setBench_42 a0 a1 a2 a3 a4 a5 a6 a7 a8 a9 a10 a11  X  r r_savedCount r_code r_m r_saved    v_savedCount v_scriptLength v_code v_lineParts v_pulseMany v_left v_dropped v_merged v_drops v_contributions v_packet v_peelResult v_peelTime v_peelSum v_at v_commands v_hash v_m v_saved v_script v_lengths v_fractions v_times v_energies v_far v_near v_echoes v_draft x1 x2 x3 1 h
theorem met_X6_setBench (l : Launch) (Z : gZt) (a0 : Nat) (a1 : Nat) (a2 : Nat) (a3 : Nat) (a4 : Nat) (a5 : Nat) (a6 : Nat) (a7 : Nat) (a8 : Nat) (a9 : Nat) (a10 : Nat) (a11 : Nat) (v_savedCount : Int32) (v_scriptLength : Int32) (v_code : Int32) (v_lineParts : Int32) (v_pulseMany : Int32) (v_left : Int64) (v_dropped : Int64) (v_merged : Int32) (v_drops : Int32) (v_contributions : Int32) (v_packet : Int64) (v_peelResult : Int32) (v_peelTime : Int32) (v_peelSum : Int32) (v_at : Int32) (v_commands : Int32) (v_hash : Int64) (v_m : Nat → Int64) (v_saved : Nat → Int64) (v_script : Nat → Int32) (v_lengths : Nat → Int32) (v_fractions : Nat → Int32) (v_times : Nat → Int32) (v_energies : Nat → Int64) (v_far : Nat → Int64) (v_near : Nat → Int64) (v_echoes : Nat → Int64) (v_draft : Nat → Int32) (x1 : Int32) (x2 : Int32) (x3 : Int32) (r : Int32) (r_savedCount : Int32) (r_code : Int32) (r_m : Nat → Int64) (r_saved : Nat → Int64) (h : F_X6_setBench v_savedCount v_m v_saved x1 x2 x3 = some (r, r_savedCount, r_code, r_m, r_saved)) : Ct l yX6_setBench (ws_ yX6_setBench cX6_setBench 5 (some .int)) rm_X6_setBench Z [.ref a0, .int x1, .int x2, .int x3] [(a0, .inr (5, [.ref a1, .ref a2, .int v_savedCount, .ref a3, .int v_scriptLength, .int v_code, .int v_lineParts, .ref a4, .ref a5, .int v_pulseMany, .ref a6, .ref a7, .ref a8, .ref a9, .ref a10, .long v_left, .long v_dropped, .int v_merged, .int v_drops, .int v_contributions, .long v_packet, .int v_peelResult, .int v_peelTime, .int v_peelSum, .int v_at, .int v_commands, .ref a11, .long v_hash])), (a1, .inl (Z.2 1, 431, .inr (.inl v_m))), (a2, .inl (Z.2 1, 1293, .inr (.inl v_saved))), (a3, .inl (Z.2 0, 120, .inl v_script)), (a4, .inl (Z.2 0, 8, .inl v_lengths)), (a5, .inl (Z.2 0, 9, .inl v_fractions)), (a6, .inl (Z.2 0, 4, .inl v_times)), (a7, .inl (Z.2 1, 4, .inr (.inl v_energies))), (a8, .inl (Z.2 1, 1809, .inr (.inl v_far))), (a9, .inl (Z.2 1, 1809, .inr (.inl v_near))), (a10, .inl (Z.2 1, 201, .inr (.inl v_echoes))), (a11, .inl (Z.2 0, 120, .inl v_draft))] [] (fun _ : Unit => (some (.int r) : Option Value)) (fun _ : Unit => ([(a0, .inr (5, [.ref a1, .ref a2, .int r_savedCount, .ref a3, .int v_scriptLength, .int r_code, .int v_lineParts, .ref a4, .ref a5, .int v_pulseMany, .ref a6, .ref a7, .ref a8, .ref a9, .ref a10, .long v_left, .long v_dropped, .int v_merged, .int v_drops, .int v_contributions, .long v_packet, .int v_peelResult, .int v_peelTime, .int v_peelSum, .int v_at, .int v_commands, .ref a11, .long v_hash])), (a1, .inl (Z.2 1, 431, .inr (.inl r_m))), (a2, .inl (Z.2 1, 1293, .inr (.inl r_saved))), (a3, .inl (Z.2 0, 120, .inl v_script)), (a4, .inl (Z.2 0, 8, .inl v_lengths)), (a5, .inl (Z.2 0, 9, .inl v_fractions)), (a6, .inl (Z.2 0, 4, .inl v_times)), (a7, .inl (Z.2 1, 4, .inr (.inl v_energies))), (a8, .inl (Z.2 1, 1809, .inr (.inl v_far))), (a9, .inl (Z.2 1, 1809, .inr (.inl v_near))), (a10, .inl (Z.2 1, 201, .inr (.inl v_echoes))), (a11, .inl (Z.2 0, 120, .inl v_draft))] : va_W)) := by
  refine Ct.of cX6_setBench 5 (some .int) "LineEchoesModel" [some (.ref a0), some (.int x1), some (.int x2), some (.int x3), none] 1 (by decide) rfl (Nat.le_of_ble_eq_true rfl) rfl (fun p e s m args below meth c A X hin => ?_)
  unfold F_X6_setBench at h
  refine g_aload_n X rfl dX6_setBench_0 1 rfl ?_
  refine g_iload_n X rfl dX6_setBench_1 2 rfl ?_
  refine g_i2l X dX6_setBench_2 3 rfl ?_
  refine g_lconst X 0 dX6_setBench_3 4 rfl rfl ?_
  refine g_ldc2 X q1515 dX6_setBench_4 7 rfl ?_
  obtain ⟨r1, hcl, h⟩ := bd1_e h
  refine g_callS1Z X (met_X6_in l Z   x1.toInt64 0 999 r1 hcl) (lw_S q1443 q1444 q74 q1445) md_X6_in ⟨(Nat.le_of_ble_eq_true rfl), (Nat.le_of_ble_eq_true rfl)⟩ rfl dX6_setBench_7 10 rfl 0 0 rfl rfl (Nat.le_of_ble_eq_true rfl) (Nat.le_of_ble_eq_true rfl) (st := [.ref a0]) rfl (Nat.le_of_ble_eq_true rfl) (fun _ => rfl) (fun _ => ?_)
  refine g_if_eq X dX6_setBench_10 41 (by decide) 13 rfl (fun hc => ?_) (fun hc => ?_)
  · replace h := if_t hc h
    exact w_X6_setBench_41 a0 a1 a2 a3 a4 a5 a6 a7 a8 a9 a10 a11  X  r r_savedCount r_code r_m r_saved    v_savedCount v_scriptLength v_code v_lineParts v_pulseMany v_left v_dropped v_merged v_drops v_contributions v_packet v_peelResult v_peelTime v_peelSum v_at v_commands v_hash v_m v_saved v_script v_lengths v_fractions v_times v_energies v_far v_near v_echoes v_draft x1 x2 x3 h
  · replace h := if_f hc h
    refine g_iload_n X rfl dX6_setBench_13 14 rfl ?_
    refine g_i2l X dX6_setBench_14 15 rfl ?_
    refine g_lconst X 0 dX6_setBench_15 16 rfl rfl ?_
    refine g_ldc2 X q1446 dX6_setBench_16 19 rfl ?_
    obtain ⟨r2, hcl, h⟩ := bd1_e h
    refine g_callS1Z X (met_X6_in l Z   x2.toInt64 0 1000 r2 hcl) (lw_S q1443 q1444 q74 q1445) md_X6_in ⟨(Nat.le_of_ble_eq_true rfl), (Nat.le_of_ble_eq_true rfl)⟩ rfl dX6_setBench_19 22 rfl 0 0 rfl rfl (Nat.le_of_ble_eq_true rfl) (Nat.le_of_ble_eq_true rfl) (st := [.ref a0]) rfl (Nat.le_of_ble_eq_true rfl) (fun _ => rfl) (fun _ => ?_)
    refine g_if_eq X dX6_setBench_22 41 (by decide) 25 rfl (fun hc => ?_) (fun hc => ?_)
    · replace h := if_t hc h
      exact w_X6_setBench_41 a0 a1 a2 a3 a4 a5 a6 a7 a8 a9 a10 a11  X  r r_savedCount r_code r_m r_saved    v_savedCount v_scriptLength v_code v_lineParts v_pulseMany v_left v_dropped v_merged v_drops v_contributions v_packet v_peelResult v_peelTime v_peelSum v_at v_commands v_hash v_m v_saved v_script v_lengths v_fractions v_times v_energies v_far v_near v_echoes v_draft x1 x2 x3 h
    · replace h := if_f hc h
      refine g_iload_n X rfl dX6_setBench_25 26 rfl ?_
      refine g_i2l X dX6_setBench_26 27 rfl ?_
      refine g_lconst X 1 dX6_setBench_27 28 rfl rfl ?_
      refine g_ldc2 X q1516 dX6_setBench_28 31 rfl ?_
      obtain ⟨r3, hcl, h⟩ := bd1_e h
      refine g_callS1Z X (met_X6_in l Z   x3.toInt64 1 200 r3 hcl) (lw_S q1443 q1444 q74 q1445) md_X6_in ⟨(Nat.le_of_ble_eq_true rfl), (Nat.le_of_ble_eq_true rfl)⟩ rfl dX6_setBench_31 34 rfl 0 0 rfl rfl (Nat.le_of_ble_eq_true rfl) (Nat.le_of_ble_eq_true rfl) (st := [.ref a0]) rfl (Nat.le_of_ble_eq_true rfl) (fun _ => rfl) (fun _ => ?_)
      refine g_if_eq X dX6_setBench_34 41 (by decide) 37 rfl (fun hc => ?_) (fun hc => ?_)
      · replace h := if_t hc h
        exact w_X6_setBench_41 a0 a1 a2 a3 a4 a5 a6 a7 a8 a9 a10 a11  X  r r_savedCount r_code r_m r_saved    v_savedCount v_scriptLength v_code v_lineParts v_pulseMany v_left v_dropped v_merged v_drops v_contributions v_packet v_peelResult v_peelTime v_peelSum v_at v_commands v_hash v_m v_saved v_script v_lengths v_fractions v_times v_energies v_far v_near v_echoes v_draft x1 x2 x3 h
      · replace h := if_f hc h
        refine g_iconst X 0 dX6_setBench_37 38 rfl kI_0 ?_
        refine g_goto X dX6_setBench_38 42 (by decide) ?_
        exact w_X6_setBench_42 a0 a1 a2 a3 a4 a5 a6 a7 a8 a9 a10 a11  X  r r_savedCount r_code r_m r_saved    v_savedCount v_scriptLength v_code v_lineParts v_pulseMany v_left v_dropped v_merged v_drops v_contributions v_packet v_peelResult v_peelTime v_peelSum v_at v_commands v_hash v_m v_saved v_script v_lengths v_fractions v_times v_energies v_far v_near v_echoes v_draft x1 x2 x3 0 h
/-! LineEchoesModel.addsPulse(II)I -/
abbrev rm_X6_addsPulse : Room := { frames := 0, cells := 0, slots := 0, locals := 0 }
def F_X6_addsPulse (v_m : Nat → Int64) (x1 : Int32) (x2 : Int32) : Option (Int32 × (Nat → Int64)) :=
  gin 20 431 <|
  nm (21 + (2 * ((v_m (Int32.toNatClampNeg 20)).toInt32))) fun t1 =>
  gin t1 431 <|
  gin (t1 + 1) 431 <|
  gin 20 431 <|
  nm (((vp_updL (vp_updL v_m t1.toNatClampNeg x1.toInt64) (t1 + 1).toNatClampNeg x2.toInt64) (Int32.toNatClampNeg 20)) + 1) fun t2 =>
  gin 20 431 <|
  gin 20 431 <|
  some (((vp_updL (vp_updL (vp_updL v_m t1.toNatClampNeg x1.toInt64) (t1 + 1).toNatClampNeg x2.toInt64) (Int32.toNatClampNeg 20) t2) (Int32.toNatClampNeg 20)).toInt32, vp_updL (vp_updL (vp_updL v_m t1.toNatClampNeg x1.toInt64) (t1 + 1).toNatClampNeg x2.toInt64) (Int32.toNatClampNeg 20) t2)
theorem met_X6_addsPulse (l : Launch) (Z : gZt) (a0 : Nat) (a1 : Nat) (a2 : Nat) (a3 : Nat) (a4 : Nat) (a5 : Nat) (a6 : Nat) (a7 : Nat) (a8 : Nat) (a9 : Nat) (a10 : Nat) (a11 : Nat) (v_savedCount : Int32) (v_scriptLength : Int32) (v_code : Int32) (v_lineParts : Int32) (v_pulseMany : Int32) (v_left : Int64) (v_dropped : Int64) (v_merged : Int32) (v_drops : Int32) (v_contributions : Int32) (v_packet : Int64) (v_peelResult : Int32) (v_peelTime : Int32) (v_peelSum : Int32) (v_at : Int32) (v_commands : Int32) (v_hash : Int64) (v_m : Nat → Int64) (v_saved : Nat → Int64) (v_script : Nat → Int32) (v_lengths : Nat → Int32) (v_fractions : Nat → Int32) (v_times : Nat → Int32) (v_energies : Nat → Int64) (v_far : Nat → Int64) (v_near : Nat → Int64) (v_echoes : Nat → Int64) (v_draft : Nat → Int32) (x1 : Int32) (x2 : Int32) (r : Int32) (r_m : Nat → Int64) (h : F_X6_addsPulse v_m x1 x2 = some (r, r_m)) : Ct l yX6_addsPulse (ws_ yX6_addsPulse cX6_addsPulse 4 (some .int)) rm_X6_addsPulse Z [.ref a0, .int x1, .int x2] [(a0, .inr (5, [.ref a1, .ref a2, .int v_savedCount, .ref a3, .int v_scriptLength, .int v_code, .int v_lineParts, .ref a4, .ref a5, .int v_pulseMany, .ref a6, .ref a7, .ref a8, .ref a9, .ref a10, .long v_left, .long v_dropped, .int v_merged, .int v_drops, .int v_contributions, .long v_packet, .int v_peelResult, .int v_peelTime, .int v_peelSum, .int v_at, .int v_commands, .ref a11, .long v_hash])), (a1, .inl (Z.2 1, 431, .inr (.inl v_m))), (a2, .inl (Z.2 1, 1293, .inr (.inl v_saved))), (a3, .inl (Z.2 0, 120, .inl v_script)), (a4, .inl (Z.2 0, 8, .inl v_lengths)), (a5, .inl (Z.2 0, 9, .inl v_fractions)), (a6, .inl (Z.2 0, 4, .inl v_times)), (a7, .inl (Z.2 1, 4, .inr (.inl v_energies))), (a8, .inl (Z.2 1, 1809, .inr (.inl v_far))), (a9, .inl (Z.2 1, 1809, .inr (.inl v_near))), (a10, .inl (Z.2 1, 201, .inr (.inl v_echoes))), (a11, .inl (Z.2 0, 120, .inl v_draft))] [] (fun _ : Unit => (some (.int r) : Option Value)) (fun _ : Unit => ([(a0, .inr (5, [.ref a1, .ref a2, .int v_savedCount, .ref a3, .int v_scriptLength, .int v_code, .int v_lineParts, .ref a4, .ref a5, .int v_pulseMany, .ref a6, .ref a7, .ref a8, .ref a9, .ref a10, .long v_left, .long v_dropped, .int v_merged, .int v_drops, .int v_contributions, .long v_packet, .int v_peelResult, .int v_peelTime, .int v_peelSum, .int v_at, .int v_commands, .ref a11, .long v_hash])), (a1, .inl (Z.2 1, 431, .inr (.inl r_m))), (a2, .inl (Z.2 1, 1293, .inr (.inl v_saved))), (a3, .inl (Z.2 0, 120, .inl v_script)), (a4, .inl (Z.2 0, 8, .inl v_lengths)), (a5, .inl (Z.2 0, 9, .inl v_fractions)), (a6, .inl (Z.2 0, 4, .inl v_times)), (a7, .inl (Z.2 1, 4, .inr (.inl v_energies))), (a8, .inl (Z.2 1, 1809, .inr (.inl v_far))), (a9, .inl (Z.2 1, 1809, .inr (.inl v_near))), (a10, .inl (Z.2 1, 201, .inr (.inl v_echoes))), (a11, .inl (Z.2 0, 120, .inl v_draft))] : va_W)) := by
  refine Ct.of cX6_addsPulse 4 (some .int) "LineEchoesModel" [some (.ref a0), some (.int x1), some (.int x2), none] 1 (by decide) rfl (Nat.le_of_ble_eq_true rfl) rfl (fun p e s m args below meth c A X hin => ?_)
  unfold F_X6_addsPulse at h
  refine g_bipush X 21 dX6_addsPulse_0 2 rfl kB_21 ?_
  refine g_iconst X 2 dX6_addsPulse_2 3 rfl kI_2 ?_
  refine g_aload_n X rfl dX6_addsPulse_3 4 rfl ?_
  refine g_get X gC5 0 rfl 0 (by decide) q1342 (fun _ h9 => h9) rfl dX6_addsPulse_4 7 rfl ?_
  refine g_bipush X 20 dX6_addsPulse_7 9 rfl kB_20 ?_
  obtain ⟨hi, h⟩ := gin_e h
  refine g_lald X 1 rfl hi dX6_addsPulse_9 10 rfl ?_
  refine g_l2i X dX6_addsPulse_10 11 rfl ?_
  refine g_imul X dX6_addsPulse_11 12 rfl ?_
  refine g_iadd X dX6_addsPulse_12 13 rfl ?_
  refine g_topi (fun t1 et1 => ?_)
  replace h := nm_at et1 h
  refine g_istore_n X dX6_addsPulse_13 14 rfl (Nat.le_of_ble_eq_true rfl) rfl [some (.ref a0), some (.int x1), some (.int x2), some (.int t1)] rfl ?_
  refine g_aload_n X rfl dX6_addsPulse_14 15 rfl ?_
  refine g_get X gC5 0 rfl 0 (by decide) q1342 (fun _ h9 => h9) rfl dX6_addsPulse_15 18 rfl ?_
  refine g_iload_n X rfl dX6_addsPulse_18 19 rfl ?_
  refine g_iload_n X rfl dX6_addsPulse_19 20 rfl ?_
  refine g_i2l X dX6_addsPulse_20 21 rfl ?_
  obtain ⟨hi, h⟩ := gin_e h
  refine g_last X 1 rfl hi dX6_addsPulse_21 22 rfl ?_
  refine g_aload_n X rfl dX6_addsPulse_22 23 rfl ?_
  refine g_get X gC5 0 rfl 0 (by decide) q1342 (fun _ h9 => h9) rfl dX6_addsPulse_23 26 rfl ?_
  refine g_iload_n X rfl dX6_addsPulse_26 27 rfl ?_
  refine g_iconst X 1 dX6_addsPulse_27 28 rfl kI_1 ?_
  refine g_iadd X dX6_addsPulse_28 29 rfl ?_
  refine g_iload_n X rfl dX6_addsPulse_29 30 rfl ?_
  refine g_i2l X dX6_addsPulse_30 31 rfl ?_
  obtain ⟨hi, h⟩ := gin_e h
  refine g_last X 1 rfl hi dX6_addsPulse_31 32 rfl ?_
  refine g_aload_n X rfl dX6_addsPulse_32 33 rfl ?_
  refine g_get X gC5 0 rfl 0 (by decide) q1342 (fun _ h9 => h9) rfl dX6_addsPulse_33 36 rfl ?_
  refine g_bipush X 20 dX6_addsPulse_36 38 rfl kB_20 ?_
  refine g_dup2 X dX6_addsPulse_38 39 rfl rfl rfl ?_
  obtain ⟨hi, h⟩ := gin_e h
  refine g_lald X 1 rfl hi dX6_addsPulse_39 40 rfl ?_
  refine g_lconst X 1 dX6_addsPulse_40 41 rfl rfl ?_
  refine g_ladd X dX6_addsPulse_41 42 rfl ?_
  refine g_topl (fun t2 et2 => ?_)
  replace h := nm_at et2 h
  obtain ⟨hi, h⟩ := gin_e h
  refine g_last X 1 rfl hi dX6_addsPulse_42 43 rfl ?_
  refine g_aload_n X rfl dX6_addsPulse_43 44 rfl ?_
  refine g_get X gC5 0 rfl 0 (by decide) q1342 (fun _ h9 => h9) rfl dX6_addsPulse_44 47 rfl ?_
  refine g_bipush X 20 dX6_addsPulse_47 49 rfl kB_20 ?_
  obtain ⟨hi, h⟩ := gin_e h
  refine g_lald X 1 rfl hi dX6_addsPulse_49 50 rfl ?_
  refine g_l2i X dX6_addsPulse_50 51 rfl ?_
  cases h
  exact g_iret X dX6_addsPulse_51 () rfl rfl (Nat.le_of_ble_eq_true rfl) (Nat.le_of_ble_eq_true rfl)
/-! LineEchoesModel.whyNoPulse(II)I -/
abbrev rm_X6_whyNoPulse : Room := { frames := 1, cells := 0, slots := 0, locals := 25 }
def F_X6_whyNoPulse_47 (s0 : Int32) : Option (Int32) :=
  some s0
def F_X6_whyNoPulse_24 : Option (Int32) :=
  F_X6_whyNoPulse_47 1
def F_X6_whyNoPulse (v_m : Nat → Int64) (x1 : Int32) (x2 : Int32) : Option (Int32) :=
  bd1 (F_X6_in x1.toInt64 0 100) fun r1 =>
  if r1 = 0 then
    (F_X6_whyNoPulse_24)
  else
    (bd1 (F_X6_in x2.toInt64 1 1000000) fun r2 =>
    if r2 = 0 then
      (F_X6_whyNoPulse_24)
    else
      (gin 20 431 <|
      F_X6_whyNoPulse_47 (if (v_m (Int32.toNatClampNeg 20)) = 4 then (2 : Int32) else 0)))
theorem w_X6_whyNoPulse_47 {p : Program} {l : Launch} {e : Env} {s : State} {m : MethodId} {args : Array Value} {below : List Frame} {meth : Method} {c : Code} {Z : gZt} {A : Nat → Prop} (a0 : Nat) (a1 : Nat) (a2 : Nat) (a3 : Nat) (a4 : Nat) (a5 : Nat) (a6 : Nat) (a7 : Nat) (a8 : Nat) (a9 : Nat) (a10 : Nat) (a11 : Nat) (X : gX p s m args meth c Z A cX6_whyNoPulse "LineEchoesModel" 3 (some .int) []) (r : Int32)  (v_savedCount : Int32) (v_scriptLength : Int32) (v_code : Int32) (v_lineParts : Int32) (v_pulseMany : Int32) (v_left : Int64) (v_dropped : Int64) (v_merged : Int32) (v_drops : Int32) (v_contributions : Int32) (v_packet : Int64) (v_peelResult : Int32) (v_peelTime : Int32) (v_peelSum : Int32) (v_at : Int32) (v_commands : Int32) (v_hash : Int64) (v_m : Nat → Int64) (v_saved : Nat → Int64) (v_script : Nat → Int32) (v_lengths : Nat → Int32) (v_fractions : Nat → Int32) (v_times : Nat → Int32) (v_energies : Nat → Int64) (v_far : Nat → Int64) (v_near : Nat → Int64) (v_echoes : Nat → Int64) (v_draft : Nat → Int32) (s0 : Int32) (h : F_X6_whyNoPulse_47 s0 = some r) : G p l e rm_X6_whyNoPulse s m args below meth c Z A 3 (MQ below (gPost Z A (fun _ : Unit => (some (.int r) : Option Value)) (fun _ : Unit => ([(a0, .inr (5, [.ref a1, .ref a2, .int v_savedCount, .ref a3, .int v_scriptLength, .int v_code, .int v_lineParts, .ref a4, .ref a5, .int v_pulseMany, .ref a6, .ref a7, .ref a8, .ref a9, .ref a10, .long v_left, .long v_dropped, .int v_merged, .int v_drops, .int v_contributions, .long v_packet, .int v_peelResult, .int v_peelTime, .int v_peelSum, .int v_at, .int v_commands, .ref a11, .long v_hash])), (a1, .inl (Z.2 1, 431, .inr (.inl v_m))), (a2, .inl (Z.2 1, 1293, .inr (.inl v_saved))), (a3, .inl (Z.2 0, 120, .inl v_script)), (a4, .inl (Z.2 0, 8, .inl v_lengths)), (a5, .inl (Z.2 0, 9, .inl v_fractions)), (a6, .inl (Z.2 0, 4, .inl v_times)), (a7, .inl (Z.2 1, 4, .inr (.inl v_energies))), (a8, .inl (Z.2 1, 1809, .inr (.inl v_far))), (a9, .inl (Z.2 1, 1809, .inr (.inl v_near))), (a10, .inl (Z.2 1, 201, .inr (.inl v_echoes))), (a11, .inl (Z.2 0, 120, .inl v_draft))] : va_W))) args s 0 0 A) [(a0, .inr (5, [.ref a1, .ref a2, .int v_savedCount, .ref a3, .int v_scriptLength, .int v_code, .int v_lineParts, .ref a4, .ref a5, .int v_pulseMany, .ref a6, .ref a7, .ref a8, .ref a9, .ref a10, .long v_left, .long v_dropped, .int v_merged, .int v_drops, .int v_contributions, .long v_packet, .int v_peelResult, .int v_peelTime, .int v_peelSum, .int v_at, .int v_commands, .ref a11, .long v_hash])), (a1, .inl (Z.2 1, 431, .inr (.inl v_m))), (a2, .inl (Z.2 1, 1293, .inr (.inl v_saved))), (a3, .inl (Z.2 0, 120, .inl v_script)), (a4, .inl (Z.2 0, 8, .inl v_lengths)), (a5, .inl (Z.2 0, 9, .inl v_fractions)), (a6, .inl (Z.2 0, 4, .inl v_times)), (a7, .inl (Z.2 1, 4, .inr (.inl v_energies))), (a8, .inl (Z.2 1, 1809, .inr (.inl v_far))), (a9, .inl (Z.2 1, 1809, .inr (.inl v_near))), (a10, .inl (Z.2 1, 201, .inr (.inl v_echoes))), (a11, .inl (Z.2 0, 120, .inl v_draft))] 0 0 47 [none, none, none] [.int s0] := by
  unfold F_X6_whyNoPulse_47 at h
  cases h
  exact g_iret X dX6_whyNoPulse_47 () rfl rfl (Nat.le_of_ble_eq_true rfl) (Nat.le_of_ble_eq_true rfl)
theorem w_X6_whyNoPulse_24 {p : Program} {l : Launch} {e : Env} {s : State} {m : MethodId} {args : Array Value} {below : List Frame} {meth : Method} {c : Code} {Z : gZt} {A : Nat → Prop} (a0 : Nat) (a1 : Nat) (a2 : Nat) (a3 : Nat) (a4 : Nat) (a5 : Nat) (a6 : Nat) (a7 : Nat) (a8 : Nat) (a9 : Nat) (a10 : Nat) (a11 : Nat) (X : gX p s m args meth c Z A cX6_whyNoPulse "LineEchoesModel" 3 (some .int) []) (r : Int32)  (v_savedCount : Int32) (v_scriptLength : Int32) (v_code : Int32) (v_lineParts : Int32) (v_pulseMany : Int32) (v_left : Int64) (v_dropped : Int64) (v_merged : Int32) (v_drops : Int32) (v_contributions : Int32) (v_packet : Int64) (v_peelResult : Int32) (v_peelTime : Int32) (v_peelSum : Int32) (v_at : Int32) (v_commands : Int32) (v_hash : Int64) (v_m : Nat → Int64) (v_saved : Nat → Int64) (v_script : Nat → Int32) (v_lengths : Nat → Int32) (v_fractions : Nat → Int32) (v_times : Nat → Int32) (v_energies : Nat → Int64) (v_far : Nat → Int64) (v_near : Nat → Int64) (v_echoes : Nat → Int64) (v_draft : Nat → Int32) (h : F_X6_whyNoPulse_24 = some r) : G p l e rm_X6_whyNoPulse s m args below meth c Z A 3 (MQ below (gPost Z A (fun _ : Unit => (some (.int r) : Option Value)) (fun _ : Unit => ([(a0, .inr (5, [.ref a1, .ref a2, .int v_savedCount, .ref a3, .int v_scriptLength, .int v_code, .int v_lineParts, .ref a4, .ref a5, .int v_pulseMany, .ref a6, .ref a7, .ref a8, .ref a9, .ref a10, .long v_left, .long v_dropped, .int v_merged, .int v_drops, .int v_contributions, .long v_packet, .int v_peelResult, .int v_peelTime, .int v_peelSum, .int v_at, .int v_commands, .ref a11, .long v_hash])), (a1, .inl (Z.2 1, 431, .inr (.inl v_m))), (a2, .inl (Z.2 1, 1293, .inr (.inl v_saved))), (a3, .inl (Z.2 0, 120, .inl v_script)), (a4, .inl (Z.2 0, 8, .inl v_lengths)), (a5, .inl (Z.2 0, 9, .inl v_fractions)), (a6, .inl (Z.2 0, 4, .inl v_times)), (a7, .inl (Z.2 1, 4, .inr (.inl v_energies))), (a8, .inl (Z.2 1, 1809, .inr (.inl v_far))), (a9, .inl (Z.2 1, 1809, .inr (.inl v_near))), (a10, .inl (Z.2 1, 201, .inr (.inl v_echoes))), (a11, .inl (Z.2 0, 120, .inl v_draft))] : va_W))) args s 0 0 A) [(a0, .inr (5, [.ref a1, .ref a2, .int v_savedCount, .ref a3, .int v_scriptLength, .int v_code, .int v_lineParts, .ref a4, .ref a5, .int v_pulseMany, .ref a6, .ref a7, .ref a8, .ref a9, .ref a10, .long v_left, .long v_dropped, .int v_merged, .int v_drops, .int v_contributions, .long v_packet, .int v_peelResult, .int v_peelTime, .int v_peelSum, .int v_at, .int v_commands, .ref a11, .long v_hash])), (a1, .inl (Z.2 1, 431, .inr (.inl v_m))), (a2, .inl (Z.2 1, 1293, .inr (.inl v_saved))), (a3, .inl (Z.2 0, 120, .inl v_script)), (a4, .inl (Z.2 0, 8, .inl v_lengths)), (a5, .inl (Z.2 0, 9, .inl v_fractions)), (a6, .inl (Z.2 0, 4, .inl v_times)), (a7, .inl (Z.2 1, 4, .inr (.inl v_energies))), (a8, .inl (Z.2 1, 1809, .inr (.inl v_far))), (a9, .inl (Z.2 1, 1809, .inr (.inl v_near))), (a10, .inl (Z.2 1, 201, .inr (.inl v_echoes))), (a11, .inl (Z.2 0, 120, .inl v_draft))] 0 0 24 [none, none, none] [] := by
  unfold F_X6_whyNoPulse_24 at h
  refine g_iconst X 1 dX6_whyNoPulse_24 25 rfl kI_1 ?_
  refine g_goto X dX6_whyNoPulse_25 47 (by decide) ?_
  exact w_X6_whyNoPulse_47 a0 a1 a2 a3 a4 a5 a6 a7 a8 a9 a10 a11  X  r    v_savedCount v_scriptLength v_code v_lineParts v_pulseMany v_left v_dropped v_merged v_drops v_contributions v_packet v_peelResult v_peelTime v_peelSum v_at v_commands v_hash v_m v_saved v_script v_lengths v_fractions v_times v_energies v_far v_near v_echoes v_draft 1 h
theorem met_X6_whyNoPulse (l : Launch) (Z : gZt) (a0 : Nat) (a1 : Nat) (a2 : Nat) (a3 : Nat) (a4 : Nat) (a5 : Nat) (a6 : Nat) (a7 : Nat) (a8 : Nat) (a9 : Nat) (a10 : Nat) (a11 : Nat) (v_savedCount : Int32) (v_scriptLength : Int32) (v_code : Int32) (v_lineParts : Int32) (v_pulseMany : Int32) (v_left : Int64) (v_dropped : Int64) (v_merged : Int32) (v_drops : Int32) (v_contributions : Int32) (v_packet : Int64) (v_peelResult : Int32) (v_peelTime : Int32) (v_peelSum : Int32) (v_at : Int32) (v_commands : Int32) (v_hash : Int64) (v_m : Nat → Int64) (v_saved : Nat → Int64) (v_script : Nat → Int32) (v_lengths : Nat → Int32) (v_fractions : Nat → Int32) (v_times : Nat → Int32) (v_energies : Nat → Int64) (v_far : Nat → Int64) (v_near : Nat → Int64) (v_echoes : Nat → Int64) (v_draft : Nat → Int32) (x1 : Int32) (x2 : Int32) (r : Int32) (h : F_X6_whyNoPulse v_m x1 x2 = some r) : Ct l yX6_whyNoPulse (ws_ yX6_whyNoPulse cX6_whyNoPulse 3 (some .int)) rm_X6_whyNoPulse Z [.ref a0, .int x1, .int x2] [(a0, .inr (5, [.ref a1, .ref a2, .int v_savedCount, .ref a3, .int v_scriptLength, .int v_code, .int v_lineParts, .ref a4, .ref a5, .int v_pulseMany, .ref a6, .ref a7, .ref a8, .ref a9, .ref a10, .long v_left, .long v_dropped, .int v_merged, .int v_drops, .int v_contributions, .long v_packet, .int v_peelResult, .int v_peelTime, .int v_peelSum, .int v_at, .int v_commands, .ref a11, .long v_hash])), (a1, .inl (Z.2 1, 431, .inr (.inl v_m))), (a2, .inl (Z.2 1, 1293, .inr (.inl v_saved))), (a3, .inl (Z.2 0, 120, .inl v_script)), (a4, .inl (Z.2 0, 8, .inl v_lengths)), (a5, .inl (Z.2 0, 9, .inl v_fractions)), (a6, .inl (Z.2 0, 4, .inl v_times)), (a7, .inl (Z.2 1, 4, .inr (.inl v_energies))), (a8, .inl (Z.2 1, 1809, .inr (.inl v_far))), (a9, .inl (Z.2 1, 1809, .inr (.inl v_near))), (a10, .inl (Z.2 1, 201, .inr (.inl v_echoes))), (a11, .inl (Z.2 0, 120, .inl v_draft))] [] (fun _ : Unit => (some (.int r) : Option Value)) (fun _ : Unit => ([(a0, .inr (5, [.ref a1, .ref a2, .int v_savedCount, .ref a3, .int v_scriptLength, .int v_code, .int v_lineParts, .ref a4, .ref a5, .int v_pulseMany, .ref a6, .ref a7, .ref a8, .ref a9, .ref a10, .long v_left, .long v_dropped, .int v_merged, .int v_drops, .int v_contributions, .long v_packet, .int v_peelResult, .int v_peelTime, .int v_peelSum, .int v_at, .int v_commands, .ref a11, .long v_hash])), (a1, .inl (Z.2 1, 431, .inr (.inl v_m))), (a2, .inl (Z.2 1, 1293, .inr (.inl v_saved))), (a3, .inl (Z.2 0, 120, .inl v_script)), (a4, .inl (Z.2 0, 8, .inl v_lengths)), (a5, .inl (Z.2 0, 9, .inl v_fractions)), (a6, .inl (Z.2 0, 4, .inl v_times)), (a7, .inl (Z.2 1, 4, .inr (.inl v_energies))), (a8, .inl (Z.2 1, 1809, .inr (.inl v_far))), (a9, .inl (Z.2 1, 1809, .inr (.inl v_near))), (a10, .inl (Z.2 1, 201, .inr (.inl v_echoes))), (a11, .inl (Z.2 0, 120, .inl v_draft))] : va_W)) := by
  refine Ct.of cX6_whyNoPulse 3 (some .int) "LineEchoesModel" [some (.ref a0), some (.int x1), some (.int x2)] 0 (by decide) rfl (Nat.le_of_ble_eq_true rfl) rfl (fun p e s m args below meth c A X hin => ?_)
  unfold F_X6_whyNoPulse at h
  refine g_iload_n X rfl dX6_whyNoPulse_0 1 rfl ?_
  refine g_i2l X dX6_whyNoPulse_1 2 rfl ?_
  refine g_lconst X 0 dX6_whyNoPulse_2 3 rfl rfl ?_
  refine g_ldc2 X q1340 dX6_whyNoPulse_3 6 rfl ?_
  obtain ⟨r1, hcl, h⟩ := bd1_e h
  refine g_callS1Z X (met_X6_in l Z   x1.toInt64 0 100 r1 hcl) (lw_S q1443 q1444 q74 q1445) md_X6_in ⟨(Nat.le_of_ble_eq_true rfl), (Nat.le_of_ble_eq_true rfl)⟩ rfl dX6_whyNoPulse_6 9 rfl 0 0 rfl rfl (Nat.le_of_ble_eq_true rfl) (Nat.le_of_ble_eq_true rfl) (st := []) rfl (Nat.le_of_ble_eq_true rfl) (fun _ => rfl) (fun _ => ?_)
  refine g_if_eq X dX6_whyNoPulse_9 24 (by decide) 12 rfl (fun hc => ?_) (fun hc => ?_)
  · replace h := if_t hc h
    refine g_kill (j := 0) [none, some (.int x1), some (.int x2)] rfl ?_
    refine g_kill (j := 1) [none, none, some (.int x2)] rfl ?_
    refine g_kill (j := 2) [none, none, none] rfl ?_
    exact w_X6_whyNoPulse_24 a0 a1 a2 a3 a4 a5 a6 a7 a8 a9 a10 a11  X  r    v_savedCount v_scriptLength v_code v_lineParts v_pulseMany v_left v_dropped v_merged v_drops v_contributions v_packet v_peelResult v_peelTime v_peelSum v_at v_commands v_hash v_m v_saved v_script v_lengths v_fractions v_times v_energies v_far v_near v_echoes v_draft h
  · replace h := if_f hc h
    refine g_iload_n X rfl dX6_whyNoPulse_12 13 rfl ?_
    refine g_i2l X dX6_whyNoPulse_13 14 rfl ?_
    refine g_lconst X 1 dX6_whyNoPulse_14 15 rfl rfl ?_
    refine g_ldc2 X q1529 dX6_whyNoPulse_15 18 rfl ?_
    obtain ⟨r2, hcl, h⟩ := bd1_e h
    refine g_callS1Z X (met_X6_in l Z   x2.toInt64 1 1000000 r2 hcl) (lw_S q1443 q1444 q74 q1445) md_X6_in ⟨(Nat.le_of_ble_eq_true rfl), (Nat.le_of_ble_eq_true rfl)⟩ rfl dX6_whyNoPulse_18 21 rfl 0 0 rfl rfl (Nat.le_of_ble_eq_true rfl) (Nat.le_of_ble_eq_true rfl) (st := []) rfl (Nat.le_of_ble_eq_true rfl) (fun _ => rfl) (fun _ => ?_)
    refine g_if_ne X dX6_whyNoPulse_21 28 (by decide) 24 rfl (fun hc => ?_) (fun hc => ?_)
    · replace h := if_f hc h
      refine g_aload_n X rfl dX6_whyNoPulse_28 29 rfl ?_
      refine g_get X gC5 0 rfl 0 (by decide) q1342 (fun _ h9 => h9) rfl dX6_whyNoPulse_29 32 rfl ?_
      refine g_bipush X 20 dX6_whyNoPulse_32 34 rfl kB_20 ?_
      obtain ⟨hi, h⟩ := gin_e h
      refine g_lald X 1 rfl hi dX6_whyNoPulse_34 35 rfl ?_
      refine g_ldc2 X q1530 dX6_whyNoPulse_35 38 rfl ?_
      refine g_seli 47 [] (b := (v_m (Int32.toNatClampNeg 20)) = 4) 2 0 ?_ (fun hc K => ?_) (fun hc K => ?_)
      · refine g_kill (j := 0) [none, some (.int x1), some (.int x2)] rfl ?_
        refine g_kill (j := 1) [none, none, some (.int x2)] rfl ?_
        refine g_kill (j := 2) [none, none, none] rfl ?_
        exact w_X6_whyNoPulse_47 a0 a1 a2 a3 a4 a5 a6 a7 a8 a9 a10 a11  X  r    v_savedCount v_scriptLength v_code v_lineParts v_pulseMany v_left v_dropped v_merged v_drops v_contributions v_packet v_peelResult v_peelTime v_peelSum v_at v_commands v_hash v_m v_saved v_script v_lengths v_fractions v_times v_energies v_far v_near v_echoes v_draft (if (v_m (Int32.toNatClampNeg 20)) = 4 then (2 : Int32) else 0) h
      · refine g_lcmp_ne X dX6_whyNoPulse_38 39 rfl dX6_whyNoPulse_39 46 (by decide) 42 rfl (fun hn => absurd hc hn) (fun _ => ?_)
        refine g_iconst X 2 dX6_whyNoPulse_42 43 rfl kI_2 ?_
        refine g_goto X dX6_whyNoPulse_43 47 (by decide) ?_
        exact K
      · refine g_lcmp_ne X dX6_whyNoPulse_38 39 rfl dX6_whyNoPulse_39 46 (by decide) 42 rfl (fun _ => ?_) (fun hn => absurd hn hc)
        refine g_iconst X 0 dX6_whyNoPulse_46 47 rfl kI_0 ?_
        exact K
    · replace h := if_t hc h
      refine g_kill (j := 0) [none, some (.int x1), some (.int x2)] rfl ?_
      refine g_kill (j := 1) [none, none, some (.int x2)] rfl ?_
      refine g_kill (j := 2) [none, none, none] rfl ?_
      exact w_X6_whyNoPulse_24 a0 a1 a2 a3 a4 a5 a6 a7 a8 a9 a10 a11  X  r    v_savedCount v_scriptLength v_code v_lineParts v_pulseMany v_left v_dropped v_merged v_drops v_contributions v_packet v_peelResult v_peelTime v_peelSum v_at v_commands v_hash v_m v_saved v_script v_lengths v_fractions v_times v_energies v_far v_near v_echoes v_draft h
