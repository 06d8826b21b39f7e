/-! 33.wraps (printed by gen/system.py) -/
set_option maxRecDepth 100000
theorem md_X1_addPart : gMd yX1_addPart 2 := by unfold gMd; decide +kernel
theorem md_X1_addPulse : gMd yX1_addPulse 2 := by unfold gMd; decide +kernel
theorem md_X1_arrival : gMd yX1_arrival 3 := by unfold gMd; decide +kernel
theorem md_X1_bench : gMd yX1_bench 1 := by unfold gMd; decide +kernel
theorem md_X1_echo : gMd yX1_echo 1 := by unfold gMd; decide +kernel
theorem md_X1_echoByte : gMd yX1_echoByte 1 := by unfold gMd; decide +kernel
theorem md_X1_echoTime : gMd yX1_echoTime 1 := by unfold gMd; decide +kernel
theorem md_X1_fault : gMd yX1_fault 1 := by unfold gMd; decide +kernel
theorem md_X1_found : gMd yX1_found 2 := by unfold gMd; decide +kernel
theorem md_X1_observed : gMd yX1_observed 1 := by unfold gMd; decide +kernel
theorem md_X1_part : gMd yX1_part 2 := by unfold gMd; decide +kernel
theorem md_X1_peel : gMd yX1_peel 1 := by unfold gMd; decide +kernel
theorem md_X1_removePart : gMd yX1_removePart 1 := by unfold gMd; decide +kernel
theorem md_X1_removePulse : gMd yX1_removePulse 1 := by unfold gMd; decide +kernel
theorem md_X1_setBench : gMd yX1_setBench 3 := by unfold gMd; decide +kernel
theorem md_X1_setObserved : gMd yX1_setObserved 2 := by unfold gMd; decide +kernel
theorem md_X1_setPart : gMd yX1_setPart 3 := by unfold gMd; decide +kernel
theorem md_X1_splitPart : gMd yX1_splitPart 3 := by unfold gMd; decide +kernel
theorem md_X1_total : gMd yX1_total 1 := by unfold gMd; decide +kernel
theorem md_X1_type : gMd yX1_type 1 := by unfold gMd; decide +kernel
theorem md_X1_undo : gMd yX1_undo 0 := by unfold gMd; decide +kernel
/-! LineEchoesLaw.addPart(LLineEchoes;II[J)I -/
abbrev rm_L_addPart : Room := { frames := 11, cells := 17, slots := 485, locals := 187 }
def F_L_addPart (a1 : Nat) (v_depth : Int32) (v_saved : Nat → Option Nat) (v_out : Nat → Int64) (v_n : Int32) (v_pulses : Int32) (v_front : Int32) (v_least : Int32) (v_window : Int32) (v_lengths : Nat → Int32) (v_fractions : Nat → Int32) (v_pulseTimes : Nat → Int32) (v_pulseEnergies : Nat → Int32) (x1 : Int32) (x2 : Int32) : Option (Int32 × Int32 × (Nat → Option Nat) × (Nat → Int64) × Int32 × Int32 × Int32 × Int32 × Int32 × (Nat → Int32) × (Nat → Int32) × (Nat → Int32) × (Nat → Int32)) :=
  bc12 (F_X1_addPart a1 v_depth v_saved v_n v_pulses v_front v_least v_window v_lengths v_fractions v_pulseTimes v_pulseEnergies x1 x2) (fun r1 w2_depth w3_saved w4_o1_2 w5_o1_5 w6_o1_6 w7_o1_7 w8_o1_8 w9_o2 w10_o3 w11_o4 w12_o5 =>
  gin 0 1 <|
  some (0, w2_depth, w3_saved, vp_updL v_out (Int32.toNatClampNeg 0) r1.toInt64, w4_o1_2, w5_o1_5, w6_o1_6, w7_o1_7, w8_o1_8, w9_o2, w10_o3, w11_o4, w12_o5)) (fun k9 => if k9 = 1 then (none) else if k9 = 2 then (none) else none)
theorem met_L_addPart (l : Launch) (hl : l.stackTraces = false) (Z : gZt) (a0 : Nat) (a7 : Nat) (az : Nat) (a1 : Nat) (a2 : Nat) (a2_1 : Nat) (a2_2 : Nat) (a2_3 : Nat) (a2_4 : Nat) (a8 : Nat) (a4 : Nat) (a3 : Nat) (a5 : Nat) (ro : va_W) (v_depth : Int32) (v_scriptLength : Int32) (v_saved : Nat → Option Nat) (v_out : Nat → Int64) (v_n : Int32) (v_pulses : Int32) (v_front : Int32) (v_least : Int32) (v_window : Int32) (v_lengths : Nat → Int32) (v_fractions : Nat → Int32) (v_pulseTimes : Nat → Int32) (v_pulseEnergies : Nat → Int32) (x1 : Int32) (x2 : Int32) (r : Int32) (r_depth : Int32) (r_saved : Nat → Option Nat) (r_out : Nat → Int64) (o1_2 : Int32) (o1_5 : Int32) (o1_6 : Int32) (o1_7 : Int32) (o1_8 : Int32) (o2 : Nat → Int32) (o3 : Nat → Int32) (o4 : Nat → Int32) (o5 : Nat → Int32) (hsv : gSv v_saved 3 ro) (h : F_L_addPart a1 v_depth v_saved v_out v_n v_pulses v_front v_least v_window v_lengths v_fractions v_pulseTimes v_pulseEnergies x1 x2 = some (r, r_depth, r_saved, r_out, o1_2, o1_5, o1_6, o1_7, o1_8, o2, o3, o4, o5)) : Ct l yX0_addPart (wsW_ yX0_addPart cX0_addPart 5 (some .int) [(0, 10, 13, 13), (0, 10, 17, 15)]) rm_L_addPart Z [.ref a0, .int x1, .int x2, .ref az] [(a0, .inr (0, [.ref a1, .ref a7, .int v_depth, .ref a8, .int v_scriptLength, .ref a4])), (a7, .inl (Z.2 3, 3, .inr (.inr (.inr (.inr v_saved))))), (az, .inl (Z.2 1, 1, .inr (.inl v_out)))] ([(a1, .inr (1, [.ref a2, .ref a3, .ref a5])), (a2, .inr (2, [.ref a2_1, .ref a2_2, .int v_n, .ref a2_3, .ref a2_4, .int v_pulses, .int v_front, .int v_least, .int v_window])), (a2_1, .inl (Z.2 0, 8, .inl v_lengths)), (a2_2, .inl (Z.2 0, 8, .inl v_fractions)), (a2_3, .inl (Z.2 0, 4, .inl v_pulseTimes)), (a2_4, .inl (Z.2 0, 4, .inl v_pulseEnergies))] ++ ro) (fun u : Nat × Nat × Nat × Nat × Nat × Nat => (some (.int r) : Option Value)) (fun u : Nat × Nat × Nat × Nat × Nat × Nat => ([(a0, .inr (0, [.ref u.1, .ref a7, .int r_depth, .ref a8, .int v_scriptLength, .ref a4])), (a7, .inl (Z.2 3, 3, .inr (.inr (.inr (.inr r_saved))))), (az, .inl (Z.2 1, 1, .inr (.inl r_out))), (u.1, .inr (1, [.ref u.2.1, .ref a3, .ref a5])), (u.2.1, .inr (2, [.ref u.2.2.1, .ref u.2.2.2.1, .int o1_2, .ref u.2.2.2.2.1, .ref u.2.2.2.2.2, .int o1_5, .int o1_6, .int o1_7, .int o1_8])), (u.2.2.1, .inl (Z.2 0, 8, .inl o2)), (u.2.2.2.1, .inl (Z.2 0, 8, .inl o3)), (u.2.2.2.2.1, .inl (Z.2 0, 4, .inl o4)), (u.2.2.2.2.2, .inl (Z.2 0, 4, .inl o5))] : va_W)) := by
  refine Ct.ofH cX0_addPart 5 (some .int) [(0, 10, 13, 13), (0, 10, 17, 15)] "LineEchoesLaw" [some (.ref a0), some (.int x1), some (.int x2), some (.ref az), none] 1 (by decide) rfl (Nat.le_of_ble_eq_true rfl) rfl (fun p e s m args below meth c A X ht => ?_)
  unfold F_L_addPart at h
  refine g_aload_n X rfl dX0_addPart_0 1 rfl ?_
  refine g_iconst X 0 dX0_addPart_1 2 rfl kI_0 ?_
  refine g_aload_n X rfl dX0_addPart_2 3 rfl ?_
  refine g_iload_n X rfl dX0_addPart_3 4 rfl ?_
  refine g_iload_n X rfl dX0_addPart_4 5 rfl ?_
  rcases bc12_e h with ⟨k9, hcl, hg⟩ | ⟨r1, w2_depth, w3_saved, w4_o1_2, w5_o1_5, w6_o1_6, w7_o1_7, w8_o1_8, w9_o2, w10_o3, w11_o4, w12_o5, hcl, h⟩
  · by_cases hk1 : k9 = 1
    · subst hk1
      replace h := if_t rfl hg
      refine g_xcV X (met_X1_addPart l hl Z a0 a7 a1 a2 a2_1 a2_2 a2_3 a2_4 a8 a4 a3 a5 ro v_depth v_scriptLength v_saved v_n v_pulses v_front v_least v_window v_lengths v_fractions v_pulseTimes v_pulseEnergies x1 x2 _ hsv hcl).thr [0, 1] [2] _ (wr := [(az, .inl (Z.2 1, 1, .inr (.inl v_out)))]) (gAt4_tail (isO := [3, 4, 5, 6, 7, 8]) ⟨rfl, rfl, rfl, rfl, rfl, by decide, by decide⟩) 0 gC0 rfl rfl (lw_V q1087 q1088 q1089 q69 q1090) md_X1_addPart ⟨(Nat.le_of_ble_eq_true rfl), (Nat.le_of_ble_eq_true rfl)⟩ rfl dX0_addPart_5 [] ⟨0, 10, 13, 13⟩ [⟨0, 10, 17, 15⟩] ht (Nat.le_of_ble_eq_true rfl) (Nat.le_of_ble_eq_true rfl) (st := [.int 0, .ref az]) rfl (Nat.le_of_ble_eq_true rfl) (List.forall_mem_nil _) (by decide) (by decide) q1085 gCa1 rfl 17 485 rfl rfl (fun q9 => ?_)
      cases h
    replace hg := if_f hk1 hg
    by_cases hk2 : k9 = 2
    · subst hk2
      replace h := if_t rfl hg
      refine g_xcV X (met_X1_addPart l hl Z a0 a7 a1 a2 a2_1 a2_2 a2_3 a2_4 a8 a4 a3 a5 ro v_depth v_scriptLength v_saved v_n v_pulses v_front v_least v_window v_lengths v_fractions v_pulseTimes v_pulseEnergies x1 x2 _ hsv hcl).thr [0, 1] [2] _ (wr := [(az, .inl (Z.2 1, 1, .inr (.inl v_out)))]) (gAt4_tail (isO := [3, 4, 5, 6, 7, 8]) ⟨rfl, rfl, rfl, rfl, rfl, by decide, by decide⟩) 0 gC0 rfl rfl (lw_V q1087 q1088 q1089 q69 q1090) md_X1_addPart ⟨(Nat.le_of_ble_eq_true rfl), (Nat.le_of_ble_eq_true rfl)⟩ rfl dX0_addPart_5 [⟨0, 10, 13, 13⟩] ⟨0, 10, 17, 15⟩ [] ht (Nat.le_of_ble_eq_true rfl) (Nat.le_of_ble_eq_true rfl) (st := [.int 0, .ref az]) rfl (Nat.le_of_ble_eq_true rfl) (List.forall_mem_cons.mpr ⟨Or.inr ⟨by decide, _, q1085, X.kk.2.2.2.2.2.2.2.2.2.2 2 1 (by decide) (by decide) (by decide)⟩, (List.forall_mem_nil _)⟩) (by decide) (by decide) q1086 gCa2 rfl 17 485 rfl rfl (fun q9 => ?_)
      cases h
    replace hg := if_f hk2 hg
    cases hg
  refine g_callV1 X (met_X1_addPart l hl Z a0 a7 a1 a2 a2_1 a2_2 a2_3 a2_4 a8 a4 a3 a5 ro v_depth v_scriptLength v_saved v_n v_pulses v_front v_least v_window v_lengths v_fractions v_pulseTimes v_pulseEnergies x1 x2 _ hsv hcl).ret [0, 1] [2] _ (wr := [(az, .inl (Z.2 1, 1, .inr (.inl v_out)))]) (gAt4_tail (isO := [3, 4, 5, 6, 7, 8]) ⟨rfl, rfl, rfl, rfl, rfl, by decide, by decide⟩) 0 gC0 rfl rfl (lw_V q1087 q1088 q1089 q69 q1090) md_X1_addPart ⟨(Nat.le_of_ble_eq_true rfl), (Nat.le_of_ble_eq_true rfl)⟩ rfl dX0_addPart_5 8 rfl 17 485 rfl rfl (Nat.le_of_ble_eq_true rfl) (Nat.le_of_ble_eq_true rfl) (st := [.int 0, .ref az]) rfl (Nat.le_of_ble_eq_true rfl) (fun _ => rfl) (fun u => ?_)
  obtain ⟨b13, b14, b15, b16, b17, b18⟩ := u
  refine g_i2l X dX0_addPart_8 9 rfl ?_
  obtain ⟨hi, h⟩ := gin_e h
  refine g_last X 0 rfl hi dX0_addPart_9 10 rfl ?_
  refine g_goto X dX0_addPart_10 21 (by decide) ?_
  refine g_iconst X 0 dX0_addPart_21 22 rfl kI_0 ?_
  refine g_keep [1, 2, 0, 3, 4, 5, 6, 7, 8] [(a0, .inr (0, [.ref b13, .ref a7, .int w2_depth, .ref a8, .int v_scriptLength, .ref a4])), (a7, .inl (Z.2 3, 3, .inr (.inr (.inr (.inr w3_saved))))), (az, .inl (Z.2 1, 1, .inr (.inl (vp_updL v_out (Int32.toNatClampNeg 0) r1.toInt64)))), (b13, .inr (1, [.ref b14, .ref a3, .ref a5])), (b14, .inr (2, [.ref b15, .ref b16, .int w4_o1_2, .ref b17, .ref b18, .int w5_o1_5, .int w6_o1_6, .int w7_o1_7, .int w8_o1_8])), (b15, .inl (Z.2 0, 8, .inl w9_o2)), (b16, .inl (Z.2 0, 8, .inl w10_o3)), (b17, .inl (Z.2 0, 4, .inl w11_o4)), (b18, .inl (Z.2 0, 4, .inl w12_o5))] rfl rfl ?_
  obtain ⟨rfl, rfl, rfl, rfl, rfl, rfl, rfl, rfl, rfl, rfl, rfl, rfl, rfl⟩ := rt13 h
  exact g_iret X dX0_addPart_22 (b13, b14, b15, b16, b17, b18) rfl rfl (Nat.le_of_ble_eq_true rfl) (Nat.le_of_ble_eq_true rfl)
/-! LineEchoesLaw.addPart(LLineEchoes;II[J)I -/
abbrev rm_LX_addPart : Room := { frames := 11, cells := 17, slots := 485, locals := 187 }
def F_LX_addPart (a1 : Nat) (v_depth : Int32) (v_saved : Nat → Option Nat) (v_n : Int32) (v_pulses : Int32) (v_front : Int32) (v_least : Int32) (v_window : Int32) (v_lengths : Nat → Int32) (v_fractions : Nat → Int32) (v_pulseTimes : Nat → Int32) (v_pulseEnergies : Nat → Int32) (x1 : Int32) (x2 : Int32) : Option (Int32 × Int32 × (Nat → Option Nat)) :=
  bc12 (F_X1_addPart a1 v_depth v_saved v_n v_pulses v_front v_least v_window v_lengths v_fractions v_pulseTimes v_pulseEnergies x1 x2) (fun r1 w2_depth w3_saved w4_o1_2 w5_o1_5 w6_o1_6 w7_o1_7 w8_o1_8 w9_o2 w10_o3 w11_o4 w12_o5 =>
  none) (fun k9 => if k9 = 1 then (some (1, v_depth, v_saved)) else if k9 = 2 then (some (2, v_depth, v_saved)) else none)
theorem met_LX_addPart (l : Launch) (hl : l.stackTraces = false) (Z : gZt) (a0 : Nat) (a7 : Nat) (az : Nat) (a1 : Nat) (a2 : Nat) (a2_1 : Nat) (a2_2 : Nat) (a2_3 : Nat) (a2_4 : Nat) (a8 : Nat) (a4 : Nat) (a3 : Nat) (a5 : Nat) (ro : va_W) (v_depth : Int32) (v_scriptLength : Int32) (v_saved : Nat → Option Nat) (v_out : Nat → Int64) (v_n : Int32) (v_pulses : Int32) (v_front : Int32) (v_least : Int32) (v_window : Int32) (v_lengths : Nat → Int32) (v_fractions : Nat → Int32) (v_pulseTimes : Nat → Int32) (v_pulseEnergies : Nat → Int32) (x1 : Int32) (x2 : Int32) (r : Int32) (r_depth : Int32) (r_saved : Nat → Option Nat) (hsv : gSv v_saved 3 ro) (h : F_LX_addPart a1 v_depth v_saved v_n v_pulses v_front v_least v_window v_lengths v_fractions v_pulseTimes v_pulseEnergies x1 x2 = some (r, r_depth, r_saved)) : Ct l yX0_addPart (wsW_ yX0_addPart cX0_addPart 5 (some .int) [(0, 10, 13, 13), (0, 10, 17, 15)]) rm_LX_addPart Z [.ref a0, .int x1, .int x2, .ref az] [(a0, .inr (0, [.ref a1, .ref a7, .int v_depth, .ref a8, .int v_scriptLength, .ref a4])), (a7, .inl (Z.2 3, 3, .inr (.inr (.inr (.inr v_saved))))), (az, .inl (Z.2 1, 1, .inr (.inl v_out)))] ([(a1, .inr (1, [.ref a2, .ref a3, .ref a5])), (a2, .inr (2, [.ref a2_1, .ref a2_2, .int v_n, .ref a2_3, .ref a2_4, .int v_pulses, .int v_front, .int v_least, .int v_window])), (a2_1, .inl (Z.2 0, 8, .inl v_lengths)), (a2_2, .inl (Z.2 0, 8, .inl v_fractions)), (a2_3, .inl (Z.2 0, 4, .inl v_pulseTimes)), (a2_4, .inl (Z.2 0, 4, .inl v_pulseEnergies))] ++ ro) (fun _ : Unit => (some (.int r) : Option Value)) (fun _ : Unit => ([(a0, .inr (0, [.ref a1, .ref a7, .int r_depth, .ref a8, .int v_scriptLength, .ref a4])), (a7, .inl (Z.2 3, 3, .inr (.inr (.inr (.inr r_saved))))), (az, .inl (Z.2 1, 1, .inr (.inl v_out)))] : va_W)) := by
  refine Ct.ofH cX0_addPart 5 (some .int) [(0, 10, 13, 13), (0, 10, 17, 15)] "LineEchoesLaw" [some (.ref a0), some (.int x1), some (.int x2), some (.ref az), none] 1 (by decide) rfl (Nat.le_of_ble_eq_true rfl) rfl (fun p e s m args below meth c A X ht => ?_)
  unfold F_LX_addPart at h
  refine g_aload_n X rfl dX0_addPart_0 1 rfl ?_
  refine g_iconst X 0 dX0_addPart_1 2 rfl kI_0 ?_
  refine g_aload_n X rfl dX0_addPart_2 3 rfl ?_
  refine g_iload_n X rfl dX0_addPart_3 4 rfl ?_
  refine g_iload_n X rfl dX0_addPart_4 5 rfl ?_
  rcases bc12_e h with ⟨k9, hcl, hg⟩ | ⟨r1, w2_depth, w3_saved, w4_o1_2, w5_o1_5, w6_o1_6, w7_o1_7, w8_o1_8, w9_o2, w10_o3, w11_o4, w12_o5, hcl, h⟩
  · by_cases hk1 : k9 = 1
    · subst hk1
      replace h := if_t rfl hg
      refine g_xcV X (met_X1_addPart l hl Z a0 a7 a1 a2 a2_1 a2_2 a2_3 a2_4 a8 a4 a3 a5 ro v_depth v_scriptLength v_saved v_n v_pulses v_front v_least v_window v_lengths v_fractions v_pulseTimes v_pulseEnergies x1 x2 _ hsv hcl).thr [0, 1] [2] _ (wr := [(az, .inl (Z.2 1, 1, .inr (.inl v_out)))]) (gAt4_tail (isO := [3, 4, 5, 6, 7, 8]) ⟨rfl, rfl, rfl, rfl, rfl, by decide, by decide⟩) 0 gC0 rfl rfl (lw_V q1087 q1088 q1089 q69 q1090) md_X1_addPart ⟨(Nat.le_of_ble_eq_true rfl), (Nat.le_of_ble_eq_true rfl)⟩ rfl dX0_addPart_5 [] ⟨0, 10, 13, 13⟩ [⟨0, 10, 17, 15⟩] ht (Nat.le_of_ble_eq_true rfl) (Nat.le_of_ble_eq_true rfl) (st := [.int 0, .ref az]) rfl (Nat.le_of_ble_eq_true rfl) (List.forall_mem_nil _) (by decide) (by decide) q1085 gCa1 rfl 17 485 rfl rfl (fun q9 => ?_)
      refine g_astore X dX0_addPart_13 15 rfl (Nat.le_of_ble_eq_true rfl) rfl [some (.ref a0), some (.int x1), some (.int x2), some (.ref az), some (.ref q9)] rfl ?_
      refine g_iconst X 1 dX0_addPart_15 16 rfl kI_1 ?_
      refine g_keep [1, 2, 0] [(a0, .inr (0, [.ref a1, .ref a7, .int v_depth, .ref a8, .int v_scriptLength, .ref a4])), (a7, .inl (Z.2 3, 3, .inr (.inr (.inr (.inr v_saved))))), (az, .inl (Z.2 1, 1, .inr (.inl v_out)))] rfl rfl ?_
      cases h
      exact g_iret X dX0_addPart_16 () rfl rfl (Nat.le_of_ble_eq_true rfl) (Nat.le_of_ble_eq_true rfl)
    replace hg := if_f hk1 hg
    by_cases hk2 : k9 = 2
    · subst hk2
      replace h := if_t rfl hg
      refine g_xcV X (met_X1_addPart l hl Z a0 a7 a1 a2 a2_1 a2_2 a2_3 a2_4 a8 a4 a3 a5 ro v_depth v_scriptLength v_saved v_n v_pulses v_front v_least v_window v_lengths v_fractions v_pulseTimes v_pulseEnergies x1 x2 _ hsv hcl).thr [0, 1] [2] _ (wr := [(az, .inl (Z.2 1, 1, .inr (.inl v_out)))]) (gAt4_tail (isO := [3, 4, 5, 6, 7, 8]) ⟨rfl, rfl, rfl, rfl, rfl, by decide, by decide⟩) 0 gC0 rfl rfl (lw_V q1087 q1088 q1089 q69 q1090) md_X1_addPart ⟨(Nat.le_of_ble_eq_true rfl), (Nat.le_of_ble_eq_true rfl)⟩ rfl dX0_addPart_5 [⟨0, 10, 13, 13⟩] ⟨0, 10, 17, 15⟩ [] ht (Nat.le_of_ble_eq_true rfl) (Nat.le_of_ble_eq_true rfl) (st := [.int 0, .ref az]) rfl (Nat.le_of_ble_eq_true rfl) (List.forall_mem_cons.mpr ⟨Or.inr ⟨by decide, _, q1085, X.kk.2.2.2.2.2.2.2.2.2.2 2 1 (by decide) (by decide) (by decide)⟩, (List.forall_mem_nil _)⟩) (by decide) (by decide) q1086 gCa2 rfl 17 485 rfl rfl (fun q9 => ?_)
      refine g_astore X dX0_addPart_17 19 rfl (Nat.le_of_ble_eq_true rfl) rfl [some (.ref a0), some (.int x1), some (.int x2), some (.ref az), some (.ref q9)] rfl ?_
      refine g_iconst X 2 dX0_addPart_19 20 rfl kI_2 ?_
      refine g_keep [1, 2, 0] [(a0, .inr (0, [.ref a1, .ref a7, .int v_depth, .ref a8, .int v_scriptLength, .ref a4])), (a7, .inl (Z.2 3, 3, .inr (.inr (.inr (.inr v_saved))))), (az, .inl (Z.2 1, 1, .inr (.inl v_out)))] rfl rfl ?_
      cases h
      exact g_iret X dX0_addPart_20 () rfl rfl (Nat.le_of_ble_eq_true rfl) (Nat.le_of_ble_eq_true rfl)
    replace hg := if_f hk2 hg
    cases hg
  refine g_callV1 X (met_X1_addPart l hl Z a0 a7 a1 a2 a2_1 a2_2 a2_3 a2_4 a8 a4 a3 a5 ro v_depth v_scriptLength v_saved v_n v_pulses v_front v_least v_window v_lengths v_fractions v_pulseTimes v_pulseEnergies x1 x2 _ hsv hcl).ret [0, 1] [2] _ (wr := [(az, .inl (Z.2 1, 1, .inr (.inl v_out)))]) (gAt4_tail (isO := [3, 4, 5, 6, 7, 8]) ⟨rfl, rfl, rfl, rfl, rfl, by decide, by decide⟩) 0 gC0 rfl rfl (lw_V q1087 q1088 q1089 q69 q1090) md_X1_addPart ⟨(Nat.le_of_ble_eq_true rfl), (Nat.le_of_ble_eq_true rfl)⟩ rfl dX0_addPart_5 8 rfl 17 485 rfl rfl (Nat.le_of_ble_eq_true rfl) (Nat.le_of_ble_eq_true rfl) (st := [.int 0, .ref az]) rfl (Nat.le_of_ble_eq_true rfl) (fun _ => rfl) (fun u => ?_)
  obtain ⟨b13, b14, b15, b16, b17, b18⟩ := u
  cases h
/-! LineEchoesLaw.setPart(LLineEchoes;III[J)I -/
abbrev rm_L_setPart : Room := { frames := 11, cells := 17, slots := 485, locals := 190 }
def F_L_setPart (a1 : Nat) (v_depth : Int32) (v_saved : Nat → Option Nat) (v_out : Nat → Int64) (v_n : Int32) (v_pulses : Int32) (v_front : Int32) (v_least : Int32) (v_window : Int32) (v_lengths : Nat → Int32) (v_fractions : Nat → Int32) (v_pulseTimes : Nat → Int32) (v_pulseEnergies : Nat → Int32) (x1 : Int32) (x2 : Int32) (x3 : Int32) : Option (Int32 × Int32 × (Nat → Option Nat) × (Nat → Int64) × Int32 × Int32 × Int32 × Int32 × Int32 × (Nat → Int32) × (Nat → Int32) × (Nat → Int32) × (Nat → Int32)) :=
  bc12 (F_X1_setPart a1 v_depth v_saved v_n v_pulses v_front v_least v_window v_lengths v_fractions v_pulseTimes v_pulseEnergies x1 x2 x3) (fun r1 w2_depth w3_saved w4_o1_2 w5_o1_5 w6_o1_6 w7_o1_7 w8_o1_8 w9_o2 w10_o3 w11_o4 w12_o5 =>
  gin 0 1 <|
  some (0, w2_depth, w3_saved, vp_updL v_out (Int32.toNatClampNeg 0) r1.toInt64, w4_o1_2, w5_o1_5, w6_o1_6, w7_o1_7, w8_o1_8, w9_o2, w10_o3, w11_o4, w12_o5)) (fun k9 => if k9 = 0 then (none) else if k9 = 1 then (none) else none)
theorem met_L_setPart (l : Launch) (hl : l.stackTraces = false) (Z : gZt) (a0 : Nat) (a7 : Nat) (az : Nat) (a1 : Nat) (a2 : Nat) (a2_1 : Nat) (a2_2 : Nat) (a2_3 : Nat) (a2_4 : Nat) (a8 : Nat) (a4 : Nat) (a3 : Nat) (a5 : Nat) (ro : va_W) (v_depth : Int32) (v_scriptLength : Int32) (v_saved : Nat → Option Nat) (v_out : Nat → Int64) (v_n : Int32) (v_pulses : Int32) (v_front : Int32) (v_least : Int32) (v_window : Int32) (v_lengths : Nat → Int32) (v_fractions : Nat → Int32) (v_pulseTimes : Nat → Int32) (v_pulseEnergies : Nat → Int32) (x1 : Int32) (x2 : Int32) (x3 : Int32) (r : Int32) (r_depth : Int32) (r_saved : Nat → Option Nat) (r_out : Nat → Int64) (o1_2 : Int32) (o1_5 : Int32) (o1_6 : Int32) (o1_7 : Int32) (o1_8 : Int32) (o2 : Nat → Int32) (o3 : Nat → Int32) (o4 : Nat → Int32) (o5 : Nat → Int32) (hsv : gSv v_saved 3 ro) (h : F_L_setPart a1 v_depth v_saved v_out v_n v_pulses v_front v_least v_window v_lengths v_fractions v_pulseTimes v_pulseEnergies x1 x2 x3 = some (r, r_depth, r_saved, r_out, o1_2, o1_5, o1_6, o1_7, o1_8, o2, o3, o4, o5)) : Ct l yX0_setPart (wsW_ yX0_setPart cX0_setPart 6 (some .int) [(0, 12, 15, 21), (0, 12, 19, 13)]) rm_L_setPart Z [.ref a0, .int x1, .int x2, .int x3, .ref az] [(a0, .inr (0, [.ref a1, .ref a7, .int v_depth, .ref a8, .int v_scriptLength, .ref a4])), (a7, .inl (Z.2 3, 3, .inr (.inr (.inr (.inr v_saved))))), (az, .inl (Z.2 1, 1, .inr (.inl v_out)))] ([(a1, .inr (1, [.ref a2, .ref a3, .ref a5])), (a2, .inr (2, [.ref a2_1, .ref a2_2, .int v_n, .ref a2_3, .ref a2_4, .int v_pulses, .int v_front, .int v_least, .int v_window])), (a2_1, .inl (Z.2 0, 8, .inl v_lengths)), (a2_2, .inl (Z.2 0, 8, .inl v_fractions)), (a2_3, .inl (Z.2 0, 4, .inl v_pulseTimes)), (a2_4, .inl (Z.2 0, 4, .inl v_pulseEnergies))] ++ ro) (fun u : Nat × Nat × Nat × Nat × Nat × Nat => (some (.int r) : Option Value)) (fun u : Nat × Nat × Nat × Nat × Nat × Nat => ([(a0, .inr (0, [.ref u.1, .ref a7, .int r_depth, .ref a8, .int v_scriptLength, .ref a4])), (a7, .inl (Z.2 3, 3, .inr (.inr (.inr (.inr r_saved))))), (az, .inl (Z.2 1, 1, .inr (.inl r_out))), (u.1, .inr (1, [.ref u.2.1, .ref a3, .ref a5])), (u.2.1, .inr (2, [.ref u.2.2.1, .ref u.2.2.2.1, .int o1_2, .ref u.2.2.2.2.1, .ref u.2.2.2.2.2, .int o1_5, .int o1_6, .int o1_7, .int o1_8])), (u.2.2.1, .inl (Z.2 0, 8, .inl o2)), (u.2.2.2.1, .inl (Z.2 0, 8, .inl o3)), (u.2.2.2.2.1, .inl (Z.2 0, 4, .inl o4)), (u.2.2.2.2.2, .inl (Z.2 0, 4, .inl o5))] : va_W)) := by
  refine Ct.ofH cX0_setPart 6 (some .int) [(0, 12, 15, 21), (0, 12, 19, 13)] "LineEchoesLaw" [some (.ref a0), some (.int x1), some (.int x2), some (.int x3), some (.ref az), none] 1 (by decide) rfl (Nat.le_of_ble_eq_true rfl) rfl (fun p e s m args below meth c A X ht => ?_)
  unfold F_L_setPart at h
  refine g_aload X rfl dX0_setPart_0 2 rfl ?_
  refine g_iconst X 0 dX0_setPart_2 3 rfl kI_0 ?_
  refine g_aload_n X rfl dX0_setPart_3 4 rfl ?_
  refine g_iload_n X rfl dX0_setPart_4 5 rfl ?_
  refine g_iload_n X rfl dX0_setPart_5 6 rfl ?_
  refine g_iload_n X rfl dX0_setPart_6 7 rfl ?_
  rcases bc12_e h with ⟨k9, hcl, hg⟩ | ⟨r1, w2_depth, w3_saved, w4_o1_2, w5_o1_5, w6_o1_6, w7_o1_7, w8_o1_8, w9_o2, w10_o3, w11_o4, w12_o5, hcl, h⟩
  · by_cases hk0 : k9 = 0
    · subst hk0
      replace h := if_t rfl hg
      refine g_xcV X (met_X1_setPart l hl Z a0 a7 a1 a2 a2_1 a2_2 a2_3 a2_4 a8 a4 a3 a5 ro v_depth v_scriptLength v_saved v_n v_pulses v_front v_least v_window v_lengths v_fractions v_pulseTimes v_pulseEnergies x1 x2 x3 _ hsv hcl).thr [0, 1] [2] _ (wr := [(az, .inl (Z.2 1, 1, .inr (.inl v_out)))]) (gAt4_tail (isO := [3, 4, 5, 6, 7, 8]) ⟨rfl, rfl, rfl, rfl, rfl, by decide, by decide⟩) 0 gC0 rfl rfl (lw_V q1095 q1096 q1097 q69 q1098) md_X1_setPart ⟨(Nat.le_of_ble_eq_true rfl), (Nat.le_of_ble_eq_true rfl)⟩ rfl dX0_setPart_7 [] ⟨0, 12, 15, 21⟩ [⟨0, 12, 19, 13⟩] ht (Nat.le_of_ble_eq_true rfl) (Nat.le_of_ble_eq_true rfl) (st := [.int 0, .ref az]) rfl (Nat.le_of_ble_eq_true rfl) (List.forall_mem_nil _) (by decide) (by decide) q1094 gCa0 rfl 17 485 rfl rfl (fun q9 => ?_)
      cases h
    replace hg := if_f hk0 hg
    by_cases hk1 : k9 = 1
    · subst hk1
      replace h := if_t rfl hg
      refine g_xcV X (met_X1_setPart l hl Z a0 a7 a1 a2 a2_1 a2_2 a2_3 a2_4 a8 a4 a3 a5 ro v_depth v_scriptLength v_saved v_n v_pulses v_front v_least v_window v_lengths v_fractions v_pulseTimes v_pulseEnergies x1 x2 x3 _ hsv hcl).thr [0, 1] [2] _ (wr := [(az, .inl (Z.2 1, 1, .inr (.inl v_out)))]) (gAt4_tail (isO := [3, 4, 5, 6, 7, 8]) ⟨rfl, rfl, rfl, rfl, rfl, by decide, by decide⟩) 0 gC0 rfl rfl (lw_V q1095 q1096 q1097 q69 q1098) md_X1_setPart ⟨(Nat.le_of_ble_eq_true rfl), (Nat.le_of_ble_eq_true rfl)⟩ rfl dX0_setPart_7 [⟨0, 12, 15, 21⟩] ⟨0, 12, 19, 13⟩ [] ht (Nat.le_of_ble_eq_true rfl) (Nat.le_of_ble_eq_true rfl) (st := [.int 0, .ref az]) rfl (Nat.le_of_ble_eq_true rfl) (List.forall_mem_cons.mpr ⟨Or.inr ⟨by decide, _, q1094, X.kk.2.2.2.2.2.2.2.2.2.2 1 0 (by decide) (by decide) (by decide)⟩, (List.forall_mem_nil _)⟩) (by decide) (by decide) q1085 gCa1 rfl 17 485 rfl rfl (fun q9 => ?_)
      cases h
    replace hg := if_f hk1 hg
    cases hg
  refine g_callV1 X (met_X1_setPart l hl Z a0 a7 a1 a2 a2_1 a2_2 a2_3 a2_4 a8 a4 a3 a5 ro v_depth v_scriptLength v_saved v_n v_pulses v_front v_least v_window v_lengths v_fractions v_pulseTimes v_pulseEnergies x1 x2 x3 _ hsv hcl).ret [0, 1] [2] _ (wr := [(az, .inl (Z.2 1, 1, .inr (.inl v_out)))]) (gAt4_tail (isO := [3, 4, 5, 6, 7, 8]) ⟨rfl, rfl, rfl, rfl, rfl, by decide, by decide⟩) 0 gC0 rfl rfl (lw_V q1095 q1096 q1097 q69 q1098) md_X1_setPart ⟨(Nat.le_of_ble_eq_true rfl), (Nat.le_of_ble_eq_true rfl)⟩ rfl dX0_setPart_7 10 rfl 17 485 rfl rfl (Nat.le_of_ble_eq_true rfl) (Nat.le_of_ble_eq_true rfl) (st := [.int 0, .ref az]) rfl (Nat.le_of_ble_eq_true rfl) (fun _ => rfl) (fun u => ?_)
  obtain ⟨b13, b14, b15, b16, b17, b18⟩ := u
  refine g_i2l X dX0_setPart_10 11 rfl ?_
  obtain ⟨hi, h⟩ := gin_e h
  refine g_last X 0 rfl hi dX0_setPart_11 12 rfl ?_
  refine g_goto X dX0_setPart_12 23 (by decide) ?_
  refine g_iconst X 0 dX0_setPart_23 24 rfl kI_0 ?_
  refine g_keep [1, 2, 0, 3, 4, 5, 6, 7, 8] [(a0, .inr (0, [.ref b13, .ref a7, .int w2_depth, .ref a8, .int v_scriptLength, .ref a4])), (a7, .inl (Z.2 3, 3, .inr (.inr (.inr (.inr w3_saved))))), (az, .inl (Z.2 1, 1, .inr (.inl (vp_updL v_out (Int32.toNatClampNeg 0) r1.toInt64)))), (b13, .inr (1, [.ref b14, .ref a3, .ref a5])), (b14, .inr (2, [.ref b15, .ref b16, .int w4_o1_2, .ref b17, .ref b18, .int w5_o1_5, .int w6_o1_6, .int w7_o1_7, .int w8_o1_8])), (b15, .inl (Z.2 0, 8, .inl w9_o2)), (b16, .inl (Z.2 0, 8, .inl w10_o3)), (b17, .inl (Z.2 0, 4, .inl w11_o4)), (b18, .inl (Z.2 0, 4, .inl w12_o5))] rfl rfl ?_
  obtain ⟨rfl, rfl, rfl, rfl, rfl, rfl, rfl, rfl, rfl, rfl, rfl, rfl, rfl⟩ := rt13 h
  exact g_iret X dX0_setPart_24 (b13, b14, b15, b16, b17, b18) rfl rfl (Nat.le_of_ble_eq_true rfl) (Nat.le_of_ble_eq_true rfl)
/-! LineEchoesLaw.setPart(LLineEchoes;III[J)I -/
abbrev rm_LX_setPart : Room := { frames := 11, cells := 17, slots := 485, locals := 190 }
def F_LX_setPart (a1 : Nat) (v_depth : Int32) (v_saved : Nat → Option Nat) (v_n : Int32) (v_pulses : Int32) (v_front : Int32) (v_least : Int32) (v_window : Int32) (v_lengths : Nat → Int32) (v_fractions : Nat → Int32) (v_pulseTimes : Nat → Int32) (v_pulseEnergies : Nat → Int32) (x1 : Int32) (x2 : Int32) (x3 : Int32) : Option (Int32 × Int32 × (Nat → Option Nat)) :=
  bc12 (F_X1_setPart a1 v_depth v_saved v_n v_pulses v_front v_least v_window v_lengths v_fractions v_pulseTimes v_pulseEnergies x1 x2 x3) (fun r1 w2_depth w3_saved w4_o1_2 w5_o1_5 w6_o1_6 w7_o1_7 w8_o1_8 w9_o2 w10_o3 w11_o4 w12_o5 =>
  none) (fun k9 => if k9 = 0 then (some (1, v_depth, v_saved)) else if k9 = 1 then (some (2, v_depth, v_saved)) else none)
theorem met_LX_setPart (l : Launch) (hl : l.stackTraces = false) (Z : gZt) (a0 : Nat) (a7 : Nat) (az : Nat) (a1 : Nat) (a2 : Nat) (a2_1 : Nat) (a2_2 : Nat) (a2_3 : Nat) (a2_4 : Nat) (a8 : Nat) (a4 : Nat) (a3 : Nat) (a5 : Nat) (ro : va_W) (v_depth : Int32) (v_scriptLength : Int32) (v_saved : Nat → Option Nat) (v_out : Nat → Int64) (v_n : Int32) (v_pulses : Int32) (v_front : Int32) (v_least : Int32) (v_window : Int32) (v_lengths : Nat → Int32) (v_fractions : Nat → Int32) (v_pulseTimes : Nat → Int32) (v_pulseEnergies : Nat → Int32) (x1 : Int32) (x2 : Int32) (x3 : Int32) (r : Int32) (r_depth : Int32) (r_saved : Nat → Option Nat) (hsv : gSv v_saved 3 ro) (h : F_LX_setPart a1 v_depth v_saved v_n v_pulses v_front v_least v_window v_lengths v_fractions v_pulseTimes v_pulseEnergies x1 x2 x3 = some (r, r_depth, r_saved)) : Ct l yX0_setPart (wsW_ yX0_setPart cX0_setPart 6 (some .int) [(0, 12, 15, 21), (0, 12, 19, 13)]) rm_LX_setPart Z [.ref a0, .int x1, .int x2, .int x3, .ref az] [(a0, .inr (0, [.ref a1, .ref a7, .int v_depth, .ref a8, .int v_scriptLength, .ref a4])), (a7, .inl (Z.2 3, 3, .inr (.inr (.inr (.inr v_saved))))), (az, .inl (Z.2 1, 1, .inr (.inl v_out)))] ([(a1, .inr (1, [.ref a2, .ref a3, .ref a5])), (a2, .inr (2, [.ref a2_1, .ref a2_2, .int v_n, .ref a2_3, .ref a2_4, .int v_pulses, .int v_front, .int v_least, .int v_window])), (a2_1, .inl (Z.2 0, 8, .inl v_lengths)), (a2_2, .inl (Z.2 0, 8, .inl v_fractions)), (a2_3, .inl (Z.2 0, 4, .inl v_pulseTimes)), (a2_4, .inl (Z.2 0, 4, .inl v_pulseEnergies))] ++ ro) (fun _ : Unit => (some (.int r) : Option Value)) (fun _ : Unit => ([(a0, .inr (0, [.ref a1, .ref a7, .int r_depth, .ref a8, .int v_scriptLength, .ref a4])), (a7, .inl (Z.2 3, 3, .inr (.inr (.inr (.inr r_saved))))), (az, .inl (Z.2 1, 1, .inr (.inl v_out)))] : va_W)) := by
  refine Ct.ofH cX0_setPart 6 (some .int) [(0, 12, 15, 21), (0, 12, 19, 13)] "LineEchoesLaw" [some (.ref a0), some (.int x1), some (.int x2), some (.int x3), some (.ref az), none] 1 (by decide) rfl (Nat.le_of_ble_eq_true rfl) rfl (fun p e s m args below meth c A X ht => ?_)
  unfold F_LX_setPart at h
  refine g_aload X rfl dX0_setPart_0 2 rfl ?_
  refine g_iconst X 0 dX0_setPart_2 3 rfl kI_0 ?_
  refine g_aload_n X rfl dX0_setPart_3 4 rfl ?_
  refine g_iload_n X rfl dX0_setPart_4 5 rfl ?_
  refine g_iload_n X rfl dX0_setPart_5 6 rfl ?_
  refine g_iload_n X rfl dX0_setPart_6 7 rfl ?_
  rcases bc12_e h with ⟨k9, hcl, hg⟩ | ⟨r1, w2_depth, w3_saved, w4_o1_2, w5_o1_5, w6_o1_6, w7_o1_7, w8_o1_8, w9_o2, w10_o3, w11_o4, w12_o5, hcl, h⟩
  · by_cases hk0 : k9 = 0
    · subst hk0
      replace h := if_t rfl hg
      refine g_xcV X (met_X1_setPart l hl Z a0 a7 a1 a2 a2_1 a2_2 a2_3 a2_4 a8 a4 a3 a5 ro v_depth v_scriptLength v_saved v_n v_pulses v_front v_least v_window v_lengths v_fractions v_pulseTimes v_pulseEnergies x1 x2 x3 _ hsv hcl).thr [0, 1] [2] _ (wr := [(az, .inl (Z.2 1, 1, .inr (.inl v_out)))]) (gAt4_tail (isO := [3, 4, 5, 6, 7, 8]) ⟨rfl, rfl, rfl, rfl, rfl, by decide, by decide⟩) 0 gC0 rfl rfl (lw_V q1095 q1096 q1097 q69 q1098) md_X1_setPart ⟨(Nat.le_of_ble_eq_true rfl), (Nat.le_of_ble_eq_true rfl)⟩ rfl dX0_setPart_7 [] ⟨0, 12, 15, 21⟩ [⟨0, 12, 19, 13⟩] ht (Nat.le_of_ble_eq_true rfl) (Nat.le_of_ble_eq_true rfl) (st := [.int 0, .ref az]) rfl (Nat.le_of_ble_eq_true rfl) (List.forall_mem_nil _) (by decide) (by decide) q1094 gCa0 rfl 17 485 rfl rfl (fun q9 => ?_)
      refine g_astore X dX0_setPart_15 17 rfl (Nat.le_of_ble_eq_true rfl) rfl [some (.ref a0), some (.int x1), some (.int x2), some (.int x3), some (.ref az), some (.ref q9)] rfl ?_
      refine g_iconst X 1 dX0_setPart_17 18 rfl kI_1 ?_
      refine g_keep [1, 2, 0] [(a0, .inr (0, [.ref a1, .ref a7, .int v_depth, .ref a8, .int v_scriptLength, .ref a4])), (a7, .inl (Z.2 3, 3, .inr (.inr (.inr (.inr v_saved))))), (az, .inl (Z.2 1, 1, .inr (.inl v_out)))] rfl rfl ?_
      cases h
      exact g_iret X dX0_setPart_18 () rfl rfl (Nat.le_of_ble_eq_true rfl) (Nat.le_of_ble_eq_true rfl)
    replace hg := if_f hk0 hg
    by_cases hk1 : k9 = 1
    · subst hk1
      replace h := if_t rfl hg
      refine g_xcV X (met_X1_setPart l hl Z a0 a7 a1 a2 a2_1 a2_2 a2_3 a2_4 a8 a4 a3 a5 ro v_depth v_scriptLength v_saved v_n v_pulses v_front v_least v_window v_lengths v_fractions v_pulseTimes v_pulseEnergies x1 x2 x3 _ hsv hcl).thr [0, 1] [2] _ (wr := [(az, .inl (Z.2 1, 1, .inr (.inl v_out)))]) (gAt4_tail (isO := [3, 4, 5, 6, 7, 8]) ⟨rfl, rfl, rfl, rfl, rfl, by decide, by decide⟩) 0 gC0 rfl rfl (lw_V q1095 q1096 q1097 q69 q1098) md_X1_setPart ⟨(Nat.le_of_ble_eq_true rfl), (Nat.le_of_ble_eq_true rfl)⟩ rfl dX0_setPart_7 [⟨0, 12, 15, 21⟩] ⟨0, 12, 19, 13⟩ [] ht (Nat.le_of_ble_eq_true rfl) (Nat.le_of_ble_eq_true rfl) (st := [.int 0, .ref az]) rfl (Nat.le_of_ble_eq_true rfl) (List.forall_mem_cons.mpr ⟨Or.inr ⟨by decide, _, q1094, X.kk.2.2.2.2.2.2.2.2.2.2 1 0 (by decide) (by decide) (by decide)⟩, (List.forall_mem_nil _)⟩) (by decide) (by decide) q1085 gCa1 rfl 17 485 rfl rfl (fun q9 => ?_)
      refine g_astore X dX0_setPart_19 21 rfl (Nat.le_of_ble_eq_true rfl) rfl [some (.ref a0), some (.int x1), some (.int x2), some (.int x3), some (.ref az), some (.ref q9)] rfl ?_
      refine g_iconst X 2 dX0_setPart_21 22 rfl kI_2 ?_
      refine g_keep [1, 2, 0] [(a0, .inr (0, [.ref a1, .ref a7, .int v_depth, .ref a8, .int v_scriptLength, .ref a4])), (a7, .inl (Z.2 3, 3, .inr (.inr (.inr (.inr v_saved))))), (az, .inl (Z.2 1, 1, .inr (.inl v_out)))] rfl rfl ?_
      cases h
      exact g_iret X dX0_setPart_22 () rfl rfl (Nat.le_of_ble_eq_true rfl) (Nat.le_of_ble_eq_true rfl)
    replace hg := if_f hk1 hg
    cases hg
  refine g_callV1 X (met_X1_setPart l hl Z a0 a7 a1 a2 a2_1 a2_2 a2_3 a2_4 a8 a4 a3 a5 ro v_depth v_scriptLength v_saved v_n v_pulses v_front v_least v_window v_lengths v_fractions v_pulseTimes v_pulseEnergies x1 x2 x3 _ hsv hcl).ret [0, 1] [2] _ (wr := [(az, .inl (Z.2 1, 1, .inr (.inl v_out)))]) (gAt4_tail (isO := [3, 4, 5, 6, 7, 8]) ⟨rfl, rfl, rfl, rfl, rfl, by decide, by decide⟩) 0 gC0 rfl rfl (lw_V q1095 q1096 q1097 q69 q1098) md_X1_setPart ⟨(Nat.le_of_ble_eq_true rfl), (Nat.le_of_ble_eq_true rfl)⟩ rfl dX0_setPart_7 10 rfl 17 485 rfl rfl (Nat.le_of_ble_eq_true rfl) (Nat.le_of_ble_eq_true rfl) (st := [.int 0, .ref az]) rfl (Nat.le_of_ble_eq_true rfl) (fun _ => rfl) (fun u => ?_)
  obtain ⟨b13, b14, b15, b16, b17, b18⟩ := u
  cases h
/-! LineEchoesLaw.removePart(LLineEchoes;I[J)I -/
abbrev rm_L_removePart : Room := { frames := 11, cells := 16, slots := 479, locals := 185 }
def F_L_removePart (a1 : Nat) (v_depth : Int32) (v_saved : Nat → Option Nat) (v_out : Nat → Int64) (v_n : Int32) (v_pulses : Int32) (v_front : Int32) (v_least : Int32) (v_window : Int32) (v_lengths : Nat → Int32) (v_fractions : Nat → Int32) (v_pulseTimes : Nat → Int32) (v_pulseEnergies : Nat → Int32) (x1 : Int32) : Option (Int32 × Int32 × (Nat → Option Nat) × (Nat → Int64) × Int32 × Int32 × Int32 × Int32 × Int32 × (Nat → Int32) × (Nat → Int32) × (Nat → Int32) × (Nat → Int32)) :=
  bc12 (F_X1_removePart a1 v_depth v_saved v_n v_pulses v_front v_least v_window v_lengths v_fractions v_pulseTimes v_pulseEnergies x1) (fun r1 w2_depth w3_saved w4_o1_2 w5_o1_5 w6_o1_6 w7_o1_7 w8_o1_8 w9_o2 w10_o3 w11_o4 w12_o5 =>
  gin 0 1 <|
  some (0, w2_depth, w3_saved, vp_updL v_out (Int32.toNatClampNeg 0) r1.toInt64, w4_o1_2, w5_o1_5, w6_o1_6, w7_o1_7, w8_o1_8, w9_o2, w10_o3, w11_o4, w12_o5)) (fun k9 => if k9 = 0 then (none) else none)
theorem met_L_removePart (l : Launch) (hl : l.stackTraces = false) (Z : gZt) (a0 : Nat) (a7 : Nat) (az : Nat) (a1 : Nat) (a2 : Nat) (a2_1 : Nat) (a2_2 : Nat) (a2_3 : Nat) (a2_4 : Nat) (a8 : Nat) (a4 : Nat) (a3 : Nat) (a5 : Nat) (ro : va_W) (v_depth : Int32) (v_scriptLength : Int32) (v_saved : Nat → Option Nat) (v_out : Nat → Int64) (v_n : Int32) (v_pulses : Int32) (v_front : Int32) (v_least : Int32) (v_window : Int32) (v_lengths : Nat → Int32) (v_fractions : Nat → Int32) (v_pulseTimes : Nat → Int32) (v_pulseEnergies : Nat → Int32) (x1 : Int32) (r : Int32) (r_depth : Int32) (r_saved : Nat → Option Nat) (r_out : Nat → Int64) (o1_2 : Int32) (o1_5 : Int32) (o1_6 : Int32) (o1_7 : Int32) (o1_8 : Int32) (o2 : Nat → Int32) (o3 : Nat → Int32) (o4 : Nat → Int32) (o5 : Nat → Int32) (hsv : gSv v_saved 3 ro) (h : F_L_removePart a1 v_depth v_saved v_out v_n v_pulses v_front v_least v_window v_lengths v_fractions v_pulseTimes v_pulseEnergies x1 = some (r, r_depth, r_saved, r_out, o1_2, o1_5, o1_6, o1_7, o1_8, o2, o3, o4, o5)) : Ct l yX0_removePart (wsW_ yX0_removePart cX0_removePart 4 (some .int) [(0, 9, 12, 21)]) rm_L_removePart Z [.ref a0, .int x1, .ref az] [(a0, .inr (0, [.ref a1, .ref a7, .int v_depth, .ref a8, .int v_scriptLength, .ref a4])), (a7, .inl (Z.2 3, 3, .inr (.inr (.inr (.inr v_saved))))), (az, .inl (Z.2 1, 1, .inr (.inl v_out)))] ([(a1, .inr (1, [.ref a2, .ref a3, .ref a5])), (a2, .inr (2, [.ref a2_1, .ref a2_2, .int v_n, .ref a2_3, .ref a2_4, .int v_pulses, .int v_front, .int v_least, .int v_window])), (a2_1, .inl (Z.2 0, 8, .inl v_lengths)), (a2_2, .inl (Z.2 0, 8, .inl v_fractions)), (a2_3, .inl (Z.2 0, 4, .inl v_pulseTimes)), (a2_4, .inl (Z.2 0, 4, .inl v_pulseEnergies))] ++ ro) (fun u : Nat × Nat × Nat × Nat × Nat × Nat => (some (.int r) : Option Value)) (fun u : Nat × Nat × Nat × Nat × Nat × Nat => ([(a0, .inr (0, [.ref u.1, .ref a7, .int r_depth, .ref a8, .int v_scriptLength, .ref a4])), (a7, .inl (Z.2 3, 3, .inr (.inr (.inr (.inr r_saved))))), (az, .inl (Z.2 1, 1, .inr (.inl r_out))), (u.1, .inr (1, [.ref u.2.1, .ref a3, .ref a5])), (u.2.1, .inr (2, [.ref u.2.2.1, .ref u.2.2.2.1, .int o1_2, .ref u.2.2.2.2.1, .ref u.2.2.2.2.2, .int o1_5, .int o1_6, .int o1_7, .int o1_8])), (u.2.2.1, .inl (Z.2 0, 8, .inl o2)), (u.2.2.2.1, .inl (Z.2 0, 8, .inl o3)), (u.2.2.2.2.1, .inl (Z.2 0, 4, .inl o4)), (u.2.2.2.2.2, .inl (Z.2 0, 4, .inl o5))] : va_W)) := by
  refine Ct.ofH cX0_removePart 4 (some .int) [(0, 9, 12, 21)] "LineEchoesLaw" [some (.ref a0), some (.int x1), some (.ref az), none] 1 (by decide) rfl (Nat.le_of_ble_eq_true rfl) rfl (fun p e s m args below meth c A X ht => ?_)
  unfold F_L_removePart at h
  refine g_aload_n X rfl dX0_removePart_0 1 rfl ?_
  refine g_iconst X 0 dX0_removePart_1 2 rfl kI_0 ?_
  refine g_aload_n X rfl dX0_removePart_2 3 rfl ?_
  refine g_iload_n X rfl dX0_removePart_3 4 rfl ?_
  rcases bc12_e h with ⟨k9, hcl, hg⟩ | ⟨r1, w2_depth, w3_saved, w4_o1_2, w5_o1_5, w6_o1_6, w7_o1_7, w8_o1_8, w9_o2, w10_o3, w11_o4, w12_o5, hcl, h⟩
  · by_cases hk0 : k9 = 0
    · subst hk0
      replace h := if_t rfl hg
      refine g_xcV X (met_X1_removePart l hl Z a0 a7 a1 a2 a2_1 a2_2 a2_3 a2_4 a8 a4 a3 a5 ro v_depth v_scriptLength v_saved v_n v_pulses v_front v_least v_window v_lengths v_fractions v_pulseTimes v_pulseEnergies x1 _ hsv hcl).thr [0, 1] [2] _ (wr := [(az, .inl (Z.2 1, 1, .inr (.inl v_out)))]) (gAt4_tail (isO := [3, 4, 5, 6, 7, 8]) ⟨rfl, rfl, rfl, rfl, rfl, by decide, by decide⟩) 0 gC0 rfl rfl (lw_V q1102 q1103 q1104 q69 q1105) md_X1_removePart ⟨(Nat.le_of_ble_eq_true rfl), (Nat.le_of_ble_eq_true rfl)⟩ rfl dX0_removePart_4 [] ⟨0, 9, 12, 21⟩ [] ht (Nat.le_of_ble_eq_true rfl) (Nat.le_of_ble_eq_true rfl) (st := [.int 0, .ref az]) rfl (Nat.le_of_ble_eq_true rfl) (List.forall_mem_nil _) (by decide) (by decide) q1094 gCa0 rfl 16 479 rfl rfl (fun q9 => ?_)
      cases h
    replace hg := if_f hk0 hg
    cases hg
  refine g_callV1 X (met_X1_removePart l hl Z a0 a7 a1 a2 a2_1 a2_2 a2_3 a2_4 a8 a4 a3 a5 ro v_depth v_scriptLength v_saved v_n v_pulses v_front v_least v_window v_lengths v_fractions v_pulseTimes v_pulseEnergies x1 _ hsv hcl).ret [0, 1] [2] _ (wr := [(az, .inl (Z.2 1, 1, .inr (.inl v_out)))]) (gAt4_tail (isO := [3, 4, 5, 6, 7, 8]) ⟨rfl, rfl, rfl, rfl, rfl, by decide, by decide⟩) 0 gC0 rfl rfl (lw_V q1102 q1103 q1104 q69 q1105) md_X1_removePart ⟨(Nat.le_of_ble_eq_true rfl), (Nat.le_of_ble_eq_true rfl)⟩ rfl dX0_removePart_4 7 rfl 16 479 rfl rfl (Nat.le_of_ble_eq_true rfl) (Nat.le_of_ble_eq_true rfl) (st := [.int 0, .ref az]) rfl (Nat.le_of_ble_eq_true rfl) (fun _ => rfl) (fun u => ?_)
  obtain ⟨b13, b14, b15, b16, b17, b18⟩ := u
  refine g_i2l X dX0_removePart_7 8 rfl ?_
  obtain ⟨hi, h⟩ := gin_e h
  refine g_last X 0 rfl hi dX0_removePart_8 9 rfl ?_
  refine g_goto X dX0_removePart_9 15 (by decide) ?_
  refine g_iconst X 0 dX0_removePart_15 16 rfl kI_0 ?_
  refine g_keep [1, 2, 0, 3, 4, 5, 6, 7, 8] [(a0, .inr (0, [.ref b13, .ref a7, .int w2_depth, .ref a8, .int v_scriptLength, .ref a4])), (a7, .inl (Z.2 3, 3, .inr (.inr (.inr (.inr w3_saved))))), (az, .inl (Z.2 1, 1, .inr (.inl (vp_updL v_out (Int32.toNatClampNeg 0) r1.toInt64)))), (b13, .inr (1, [.ref b14, .ref a3, .ref a5])), (b14, .inr (2, [.ref b15, .ref b16, .int w4_o1_2, .ref b17, .ref b18, .int w5_o1_5, .int w6_o1_6, .int w7_o1_7, .int w8_o1_8])), (b15, .inl (Z.2 0, 8, .inl w9_o2)), (b16, .inl (Z.2 0, 8, .inl w10_o3)), (b17, .inl (Z.2 0, 4, .inl w11_o4)), (b18, .inl (Z.2 0, 4, .inl w12_o5))] rfl rfl ?_
  obtain ⟨rfl, rfl, rfl, rfl, rfl, rfl, rfl, rfl, rfl, rfl, rfl, rfl, rfl⟩ := rt13 h
  exact g_iret X dX0_removePart_16 (b13, b14, b15, b16, b17, b18) rfl rfl (Nat.le_of_ble_eq_true rfl) (Nat.le_of_ble_eq_true rfl)
/-! LineEchoesLaw.removePart(LLineEchoes;I[J)I -/
abbrev rm_LX_removePart : Room := { frames := 11, cells := 16, slots := 479, locals := 185 }
def F_LX_removePart (a1 : Nat) (v_depth : Int32) (v_saved : Nat → Option Nat) (v_n : Int32) (v_pulses : Int32) (v_front : Int32) (v_least : Int32) (v_window : Int32) (v_lengths : Nat → Int32) (v_fractions : Nat → Int32) (v_pulseTimes : Nat → Int32) (v_pulseEnergies : Nat → Int32) (x1 : Int32) : Option (Int32 × Int32 × (Nat → Option Nat)) :=
  bc12 (F_X1_removePart a1 v_depth v_saved v_n v_pulses v_front v_least v_window v_lengths v_fractions v_pulseTimes v_pulseEnergies x1) (fun r1 w2_depth w3_saved w4_o1_2 w5_o1_5 w6_o1_6 w7_o1_7 w8_o1_8 w9_o2 w10_o3 w11_o4 w12_o5 =>
  none) (fun k9 => if k9 = 0 then (some (1, v_depth, v_saved)) else none)
theorem met_LX_removePart (l : Launch) (hl : l.stackTraces = false) (Z : gZt) (a0 : Nat) (a7 : Nat) (az : Nat) (a1 : Nat) (a2 : Nat) (a2_1 : Nat) (a2_2 : Nat) (a2_3 : Nat) (a2_4 : Nat) (a8 : Nat) (a4 : Nat) (a3 : Nat) (a5 : Nat) (ro : va_W) (v_depth : Int32) (v_scriptLength : Int32) (v_saved : Nat → Option Nat) (v_out : Nat → Int64) (v_n : Int32) (v_pulses : Int32) (v_front : Int32) (v_least : Int32) (v_window : Int32) (v_lengths : Nat → Int32) (v_fractions : Nat → Int32) (v_pulseTimes : Nat → Int32) (v_pulseEnergies : Nat → Int32) (x1 : Int32) (r : Int32) (r_depth : Int32) (r_saved : Nat → Option Nat) (hsv : gSv v_saved 3 ro) (h : F_LX_removePart a1 v_depth v_saved v_n v_pulses v_front v_least v_window v_lengths v_fractions v_pulseTimes v_pulseEnergies x1 = some (r, r_depth, r_saved)) : Ct l yX0_removePart (wsW_ yX0_removePart cX0_removePart 4 (some .int) [(0, 9, 12, 21)]) rm_LX_removePart Z [.ref a0, .int x1, .ref az] [(a0, .inr (0, [.ref a1, .ref a7, .int v_depth, .ref a8, .int v_scriptLength, .ref a4])), (a7, .inl (Z.2 3, 3, .inr (.inr (.inr (.inr v_saved))))), (az, .inl (Z.2 1, 1, .inr (.inl v_out)))] ([(a1, .inr (1, [.ref a2, .ref a3, .ref a5])), (a2, .inr (2, [.ref a2_1, .ref a2_2, .int v_n, .ref a2_3, .ref a2_4, .int v_pulses, .int v_front, .int v_least, .int v_window])), (a2_1, .inl (Z.2 0, 8, .inl v_lengths)), (a2_2, .inl (Z.2 0, 8, .inl v_fractions)), (a2_3, .inl (Z.2 0, 4, .inl v_pulseTimes)), (a2_4, .inl (Z.2 0, 4, .inl v_pulseEnergies))] ++ ro) (fun _ : Unit => (some (.int r) : Option Value)) (fun _ : Unit => ([(a0, .inr (0, [.ref a1, .ref a7, .int r_depth, .ref a8, .int v_scriptLength, .ref a4])), (a7, .inl (Z.2 3, 3, .inr (.inr (.inr (.inr r_saved))))), (az, .inl (Z.2 1, 1, .inr (.inl v_out)))] : va_W)) := by
  refine Ct.ofH cX0_removePart 4 (some .int) [(0, 9, 12, 21)] "LineEchoesLaw" [some (.ref a0), some (.int x1), some (.ref az), none] 1 (by decide) rfl (Nat.le_of_ble_eq_true rfl) rfl (fun p e s m args below meth c A X ht => ?_)
  unfold F_LX_removePart at h
  refine g_aload_n X rfl dX0_removePart_0 1 rfl ?_
  refine g_iconst X 0 dX0_removePart_1 2 rfl kI_0 ?_
  refine g_aload_n X rfl dX0_removePart_2 3 rfl ?_
  refine g_iload_n X rfl dX0_removePart_3 4 rfl ?_
  rcases bc12_e h with ⟨k9, hcl, hg⟩ | ⟨r1, w2_depth, w3_saved, w4_o1_2, w5_o1_5, w6_o1_6, w7_o1_7, w8_o1_8, w9_o2, w10_o3, w11_o4, w12_o5, hcl, h⟩
  · by_cases hk0 : k9 = 0
    · subst hk0
      replace h := if_t rfl hg
      refine g_xcV X (met_X1_removePart l hl Z a0 a7 a1 a2 a2_1 a2_2 a2_3 a2_4 a8 a4 a3 a5 ro v_depth v_scriptLength v_saved v_n v_pulses v_front v_least v_window v_lengths v_fractions v_pulseTimes v_pulseEnergies x1 _ hsv hcl).thr [0, 1] [2] _ (wr := [(az, .inl (Z.2 1, 1, .inr (.inl v_out)))]) (gAt4_tail (isO := [3, 4, 5, 6, 7, 8]) ⟨rfl, rfl, rfl, rfl, rfl, by decide, by decide⟩) 0 gC0 rfl rfl (lw_V q1102 q1103 q1104 q69 q1105) md_X1_removePart ⟨(Nat.le_of_ble_eq_true rfl), (Nat.le_of_ble_eq_true rfl)⟩ rfl dX0_removePart_4 [] ⟨0, 9, 12, 21⟩ [] ht (Nat.le_of_ble_eq_true rfl) (Nat.le_of_ble_eq_true rfl) (st := [.int 0, .ref az]) rfl (Nat.le_of_ble_eq_true rfl) (List.forall_mem_nil _) (by decide) (by decide) q1094 gCa0 rfl 16 479 rfl rfl (fun q9 => ?_)
      refine g_astore_n X dX0_removePart_12 13 rfl (Nat.le_of_ble_eq_true rfl) rfl [some (.ref a0), some (.int x1), some (.ref az), some (.ref q9)] rfl ?_
      refine g_iconst X 1 dX0_removePart_13 14 rfl kI_1 ?_
      refine g_keep [1, 2, 0] [(a0, .inr (0, [.ref a1, .ref a7, .int v_depth, .ref a8, .int v_scriptLength, .ref a4])), (a7, .inl (Z.2 3, 3, .inr (.inr (.inr (.inr v_saved))))), (az, .inl (Z.2 1, 1, .inr (.inl v_out)))] rfl rfl ?_
      cases h
      exact g_iret X dX0_removePart_14 () rfl rfl (Nat.le_of_ble_eq_true rfl) (Nat.le_of_ble_eq_true rfl)
    replace hg := if_f hk0 hg
    cases hg
  refine g_callV1 X (met_X1_removePart l hl Z a0 a7 a1 a2 a2_1 a2_2 a2_3 a2_4 a8 a4 a3 a5 ro v_depth v_scriptLength v_saved v_n v_pulses v_front v_least v_window v_lengths v_fractions v_pulseTimes v_pulseEnergies x1 _ hsv hcl).ret [0, 1] [2] _ (wr := [(az, .inl (Z.2 1, 1, .inr (.inl v_out)))]) (gAt4_tail (isO := [3, 4, 5, 6, 7, 8]) ⟨rfl, rfl, rfl, rfl, rfl, by decide, by decide⟩) 0 gC0 rfl rfl (lw_V q1102 q1103 q1104 q69 q1105) md_X1_removePart ⟨(Nat.le_of_ble_eq_true rfl), (Nat.le_of_ble_eq_true rfl)⟩ rfl dX0_removePart_4 7 rfl 16 479 rfl rfl (Nat.le_of_ble_eq_true rfl) (Nat.le_of_ble_eq_true rfl) (st := [.int 0, .ref az]) rfl (Nat.le_of_ble_eq_true rfl) (fun _ => rfl) (fun u => ?_)
  obtain ⟨b13, b14, b15, b16, b17, b18⟩ := u
  cases h
/-! LineEchoesLaw.splitPart(LLineEchoes;III[J)I -/
abbrev rm_L_splitPart : Room := { frames := 11, cells := 18, slots := 491, locals := 189 }
def F_L_splitPart (a1 : Nat) (v_depth : Int32) (v_saved : Nat → Option Nat) (v_out : Nat → Int64) (v_n : Int32) (v_pulses : Int32) (v_front : Int32) (v_least : Int32) (v_window : Int32) (v_lengths : Nat → Int32) (v_fractions : Nat → Int32) (v_pulseTimes : Nat → Int32) (v_pulseEnergies : Nat → Int32) (x1 : Int32) (x2 : Int32) (x3 : Int32) : Option (Int32 × Int32 × (Nat → Option Nat) × (Nat → Int64) × Int32 × Int32 × Int32 × Int32 × Int32 × (Nat → Int32) × (Nat → Int32) × (Nat → Int32) × (Nat → Int32)) :=
  bc12 (F_X1_splitPart a1 v_depth v_saved v_n v_pulses v_front v_least v_window v_lengths v_fractions v_pulseTimes v_pulseEnergies x1 x2 x3) (fun r1 w2_depth w3_saved w4_o1_2 w5_o1_5 w6_o1_6 w7_o1_7 w8_o1_8 w9_o2 w10_o3 w11_o4 w12_o5 =>
  gin 0 1 <|
  some (0, w2_depth, w3_saved, vp_updL v_out (Int32.toNatClampNeg 0) r1.toInt64, w4_o1_2, w5_o1_5, w6_o1_6, w7_o1_7, w8_o1_8, w9_o2, w10_o3, w11_o4, w12_o5)) (fun k9 => if k9 = 0 then (none) else if k9 = 1 then (none) else if k9 = 2 then (none) else none)
theorem met_L_splitPart (l : Launch) (hl : l.stackTraces = false) (Z : gZt) (a0 : Nat) (a7 : Nat) (az : Nat) (a1 : Nat) (a2 : Nat) (a2_1 : Nat) (a2_2 : Nat) (a2_3 : Nat) (a2_4 : Nat) (a8 : Nat) (a4 : Nat) (a3 : Nat) (a5 : Nat) (ro : va_W) (v_depth : Int32) (v_scriptLength : Int32) (v_saved : Nat → Option Nat) (v_out : Nat → Int64) (v_n : Int32) (v_pulses : Int32) (v_front : Int32) (v_least : Int32) (v_window : Int32) (v_lengths : Nat → Int32) (v_fractions : Nat → Int32) (v_pulseTimes : Nat → Int32) (v_pulseEnergies : Nat → Int32) (x1 : Int32) (x2 : Int32) (x3 : Int32) (r : Int32) (r_depth : Int32) (r_saved : Nat → Option Nat) (r_out : Nat → Int64) (o1_2 : Int32) (o1_5 : Int32) (o1_6 : Int32) (o1_7 : Int32) (o1_8 : Int32) (o2 : Nat → Int32) (o3 : Nat → Int32) (o4 : Nat → Int32) (o5 : Nat → Int32) (hsv : gSv v_saved 3 ro) (h : F_L_splitPart a1 v_depth v_saved v_out v_n v_pulses v_front v_least v_window v_lengths v_fractions v_pulseTimes v_pulseEnergies x1 x2 x3 = some (r, r_depth, r_saved, r_out, o1_2, o1_5, o1_6, o1_7, o1_8, o2, o3, o4, o5)) : Ct l yX0_splitPart (wsW_ yX0_splitPart cX0_splitPart 6 (some .int) [(0, 12, 15, 21), (0, 12, 19, 13), (0, 12, 23, 15)]) rm_L_splitPart Z [.ref a0, .int x1, .int x2, .int x3, .ref az] [(a0, .inr (0, [.ref a1, .ref a7, .int v_depth, .ref a8, .int v_scriptLength, .ref a4])), (a7, .inl (Z.2 3, 3, .inr (.inr (.inr (.inr v_saved))))), (az, .inl (Z.2 1, 1, .inr (.inl v_out)))] ([(a1, .inr (1, [.ref a2, .ref a3, .ref a5])), (a2, .inr (2, [.ref a2_1, .ref a2_2, .int v_n, .ref a2_3, .ref a2_4, .int v_pulses, .int v_front, .int v_least, .int v_window])), (a2_1, .inl (Z.2 0, 8, .inl v_lengths)), (a2_2, .inl (Z.2 0, 8, .inl v_fractions)), (a2_3, .inl (Z.2 0, 4, .inl v_pulseTimes)), (a2_4, .inl (Z.2 0, 4, .inl v_pulseEnergies))] ++ ro) (fun u : Nat × Nat × Nat × Nat × Nat × Nat => (some (.int r) : Option Value)) (fun u : Nat × Nat × Nat × Nat × Nat × Nat => ([(a0, .inr (0, [.ref u.1, .ref a7, .int r_depth, .ref a8, .int v_scriptLength, .ref a4])), (a7, .inl (Z.2 3, 3, .inr (.inr (.inr (.inr r_saved))))), (az, .inl (Z.2 1, 1, .inr (.inl r_out))), (u.1, .inr (1, [.ref u.2.1, .ref a3, .ref a5])), (u.2.1, .inr (2, [.ref u.2.2.1, .ref u.2.2.2.1, .int o1_2, .ref u.2.2.2.2.1, .ref u.2.2.2.2.2, .int o1_5, .int o1_6, .int o1_7, .int o1_8])), (u.2.2.1, .inl (Z.2 0, 8, .inl o2)), (u.2.2.2.1, .inl (Z.2 0, 8, .inl o3)), (u.2.2.2.2.1, .inl (Z.2 0, 4, .inl o4)), (u.2.2.2.2.2, .inl (Z.2 0, 4, .inl o5))] : va_W)) := by
  refine Ct.ofH cX0_splitPart 6 (some .int) [(0, 12, 15, 21), (0, 12, 19, 13), (0, 12, 23, 15)] "LineEchoesLaw" [some (.ref a0), some (.int x1), some (.int x2), some (.int x3), some (.ref az), none] 1 (by decide) rfl (Nat.le_of_ble_eq_true rfl) rfl (fun p e s m args below meth c A X ht => ?_)
  unfold F_L_splitPart at h
  refine g_aload X rfl dX0_splitPart_0 2 rfl ?_
  refine g_iconst X 0 dX0_splitPart_2 3 rfl kI_0 ?_
  refine g_aload_n X rfl dX0_splitPart_3 4 rfl ?_
  refine g_iload_n X rfl dX0_splitPart_4 5 rfl ?_
  refine g_iload_n X rfl dX0_splitPart_5 6 rfl ?_
  refine g_iload_n X rfl dX0_splitPart_6 7 rfl ?_
  rcases bc12_e h with ⟨k9, hcl, hg⟩ | ⟨r1, w2_depth, w3_saved, w4_o1_2, w5_o1_5, w6_o1_6, w7_o1_7, w8_o1_8, w9_o2, w10_o3, w11_o4, w12_o5, hcl, h⟩
  · by_cases hk0 : k9 = 0
    · subst hk0
      replace h := if_t rfl hg
      refine g_xcV X (met_X1_splitPart l hl Z a0 a7 a1 a2 a2_1 a2_2 a2_3 a2_4 a8 a4 a3 a5 ro v_depth v_scriptLength v_saved v_n v_pulses v_front v_least v_window v_lengths v_fractions v_pulseTimes v_pulseEnergies x1 x2 x3 _ hsv hcl).thr [0, 1] [2] _ (wr := [(az, .inl (Z.2 1, 1, .inr (.inl v_out)))]) (gAt4_tail (isO := [3, 4, 5, 6, 7, 8]) ⟨rfl, rfl, rfl, rfl, rfl, by decide, by decide⟩) 0 gC0 rfl rfl (lw_V q1109 q1110 q1111 q69 q1112) md_X1_splitPart ⟨(Nat.le_of_ble_eq_true rfl), (Nat.le_of_ble_eq_true rfl)⟩ rfl dX0_splitPart_7 [] ⟨0, 12, 15, 21⟩ [⟨0, 12, 19, 13⟩, ⟨0, 12, 23, 15⟩] ht (Nat.le_of_ble_eq_true rfl) (Nat.le_of_ble_eq_true rfl) (st := [.int 0, .ref az]) rfl (Nat.le_of_ble_eq_true rfl) (List.forall_mem_nil _) (by decide) (by decide) q1094 gCa0 rfl 18 491 rfl rfl (fun q9 => ?_)
      cases h
    replace hg := if_f hk0 hg
    by_cases hk1 : k9 = 1
    · subst hk1
      replace h := if_t rfl hg
      refine g_xcV X (met_X1_splitPart l hl Z a0 a7 a1 a2 a2_1 a2_2 a2_3 a2_4 a8 a4 a3 a5 ro v_depth v_scriptLength v_saved v_n v_pulses v_front v_least v_window v_lengths v_fractions v_pulseTimes v_pulseEnergies x1 x2 x3 _ hsv hcl).thr [0, 1] [2] _ (wr := [(az, .inl (Z.2 1, 1, .inr (.inl v_out)))]) (gAt4_tail (isO := [3, 4, 5, 6, 7, 8]) ⟨rfl, rfl, rfl, rfl, rfl, by decide, by decide⟩) 0 gC0 rfl rfl (lw_V q1109 q1110 q1111 q69 q1112) md_X1_splitPart ⟨(Nat.le_of_ble_eq_true rfl), (Nat.le_of_ble_eq_true rfl)⟩ rfl dX0_splitPart_7 [⟨0, 12, 15, 21⟩] ⟨0, 12, 19, 13⟩ [⟨0, 12, 23, 15⟩] ht (Nat.le_of_ble_eq_true rfl) (Nat.le_of_ble_eq_true rfl) (st := [.int 0, .ref az]) rfl (Nat.le_of_ble_eq_true rfl) (List.forall_mem_cons.mpr ⟨Or.inr ⟨by decide, _, q1094, X.kk.2.2.2.2.2.2.2.2.2.2 1 0 (by decide) (by decide) (by decide)⟩, (List.forall_mem_nil _)⟩) (by decide) (by decide) q1085 gCa1 rfl 18 491 rfl rfl (fun q9 => ?_)
      cases h
    replace hg := if_f hk1 hg
    by_cases hk2 : k9 = 2
    · subst hk2
      replace h := if_t rfl hg
      refine g_xcV X (met_X1_splitPart l hl Z a0 a7 a1 a2 a2_1 a2_2 a2_3 a2_4 a8 a4 a3 a5 ro v_depth v_scriptLength v_saved v_n v_pulses v_front v_least v_window v_lengths v_fractions v_pulseTimes v_pulseEnergies x1 x2 x3 _ hsv hcl).thr [0, 1] [2] _ (wr := [(az, .inl (Z.2 1, 1, .inr (.inl v_out)))]) (gAt4_tail (isO := [3, 4, 5, 6, 7, 8]) ⟨rfl, rfl, rfl, rfl, rfl, by decide, by decide⟩) 0 gC0 rfl rfl (lw_V q1109 q1110 q1111 q69 q1112) md_X1_splitPart ⟨(Nat.le_of_ble_eq_true rfl), (Nat.le_of_ble_eq_true rfl)⟩ rfl dX0_splitPart_7 [⟨0, 12, 15, 21⟩, ⟨0, 12, 19, 13⟩] ⟨0, 12, 23, 15⟩ [] ht (Nat.le_of_ble_eq_true rfl) (Nat.le_of_ble_eq_true rfl) (st := [.int 0, .ref az]) rfl (Nat.le_of_ble_eq_true rfl) (List.forall_mem_cons.mpr ⟨Or.inr ⟨by decide, _, q1094, X.kk.2.2.2.2.2.2.2.2.2.2 2 0 (by decide) (by decide) (by decide)⟩, (List.forall_mem_cons.mpr ⟨Or.inr ⟨by decide, _, q1085, X.kk.2.2.2.2.2.2.2.2.2.2 2 1 (by decide) (by decide) (by decide)⟩, (List.forall_mem_nil _)⟩)⟩) (by decide) (by decide) q1086 gCa2 rfl 18 491 rfl rfl (fun q9 => ?_)
      cases h
    replace hg := if_f hk2 hg
    cases hg
  refine g_callV1 X (met_X1_splitPart l hl Z a0 a7 a1 a2 a2_1 a2_2 a2_3 a2_4 a8 a4 a3 a5 ro v_depth v_scriptLength v_saved v_n v_pulses v_front v_least v_window v_lengths v_fractions v_pulseTimes v_pulseEnergies x1 x2 x3 _ hsv hcl).ret [0, 1] [2] _ (wr := [(az, .inl (Z.2 1, 1, .inr (.inl v_out)))]) (gAt4_tail (isO := [3, 4, 5, 6, 7, 8]) ⟨rfl, rfl, rfl, rfl, rfl, by decide, by decide⟩) 0 gC0 rfl rfl (lw_V q1109 q1110 q1111 q69 q1112) md_X1_splitPart ⟨(Nat.le_of_ble_eq_true rfl), (Nat.le_of_ble_eq_true rfl)⟩ rfl dX0_splitPart_7 10 rfl 18 491 rfl rfl (Nat.le_of_ble_eq_true rfl) (Nat.le_of_ble_eq_true rfl) (st := [.int 0, .ref az]) rfl (Nat.le_of_ble_eq_true rfl) (fun _ => rfl) (fun u => ?_)
  obtain ⟨b13, b14, b15, b16, b17, b18⟩ := u
  refine g_i2l X dX0_splitPart_10 11 rfl ?_
  obtain ⟨hi, h⟩ := gin_e h
  refine g_last X 0 rfl hi dX0_splitPart_11 12 rfl ?_
  refine g_goto X dX0_splitPart_12 27 (by decide) ?_
  refine g_iconst X 0 dX0_splitPart_27 28 rfl kI_0 ?_
  refine g_keep [1, 2, 0, 3, 4, 5, 6, 7, 8] [(a0, .inr (0, [.ref b13, .ref a7, .int w2_depth, .ref a8, .int v_scriptLength, .ref a4])), (a7, .inl (Z.2 3, 3, .inr (.inr (.inr (.inr w3_saved))))), (az, .inl (Z.2 1, 1, .inr (.inl (vp_updL v_out (Int32.toNatClampNeg 0) r1.toInt64)))), (b13, .inr (1, [.ref b14, .ref a3, .ref a5])), (b14, .inr (2, [.ref b15, .ref b16, .int w4_o1_2, .ref b17, .ref b18, .int w5_o1_5, .int w6_o1_6, .int w7_o1_7, .int w8_o1_8])), (b15, .inl (Z.2 0, 8, .inl w9_o2)), (b16, .inl (Z.2 0, 8, .inl w10_o3)), (b17, .inl (Z.2 0, 4, .inl w11_o4)), (b18, .inl (Z.2 0, 4, .inl w12_o5))] rfl rfl ?_
  obtain ⟨rfl, rfl, rfl, rfl, rfl, rfl, rfl, rfl, rfl, rfl, rfl, rfl, rfl⟩ := rt13 h
  exact g_iret X dX0_splitPart_28 (b13, b14, b15, b16, b17, b18) rfl rfl (Nat.le_of_ble_eq_true rfl) (Nat.le_of_ble_eq_true rfl)
/-! LineEchoesLaw.splitPart(LLineEchoes;III[J)I -/
abbrev rm_LX_splitPart : Room := { frames := 11, cells := 18, slots := 491, locals := 189 }
def F_LX_splitPart (a1 : Nat) (v_depth : Int32) (v_saved : Nat → Option Nat) (v_n : Int32) (v_pulses : Int32) (v_front : Int32) (v_least : Int32) (v_window : Int32) (v_lengths : Nat → Int32) (v_fractions : Nat → Int32) (v_pulseTimes : Nat → Int32) (v_pulseEnergies : Nat → Int32) (x1 : Int32) (x2 : Int32) (x3 : Int32) : Option (Int32 × Int32 × (Nat → Option Nat)) :=
  bc12 (F_X1_splitPart a1 v_depth v_saved v_n v_pulses v_front v_least v_window v_lengths v_fractions v_pulseTimes v_pulseEnergies x1 x2 x3) (fun r1 w2_depth w3_saved w4_o1_2 w5_o1_5 w6_o1_6 w7_o1_7 w8_o1_8 w9_o2 w10_o3 w11_o4 w12_o5 =>
  none) (fun k9 => if k9 = 0 then (some (1, v_depth, v_saved)) else if k9 = 1 then (some (2, v_depth, v_saved)) else if k9 = 2 then (some (3, v_depth, v_saved)) else none)
theorem met_LX_splitPart (l : Launch) (hl : l.stackTraces = false) (Z : gZt) (a0 : Nat) (a7 : Nat) (az : Nat) (a1 : Nat) (a2 : Nat) (a2_1 : Nat) (a2_2 : Nat) (a2_3 : Nat) (a2_4 : Nat) (a8 : Nat) (a4 : Nat) (a3 : Nat) (a5 : Nat) (ro : va_W) (v_depth : Int32) (v_scriptLength : Int32) (v_saved : Nat → Option Nat) (v_out : Nat → Int64) (v_n : Int32) (v_pulses : Int32) (v_front : Int32) (v_least : Int32) (v_window : Int32) (v_lengths : Nat → Int32) (v_fractions : Nat → Int32) (v_pulseTimes : Nat → Int32) (v_pulseEnergies : Nat → Int32) (x1 : Int32) (x2 : Int32) (x3 : Int32) (r : Int32) (r_depth : Int32) (r_saved : Nat → Option Nat) (hsv : gSv v_saved 3 ro) (h : F_LX_splitPart a1 v_depth v_saved v_n v_pulses v_front v_least v_window v_lengths v_fractions v_pulseTimes v_pulseEnergies x1 x2 x3 = some (r, r_depth, r_saved)) : Ct l yX0_splitPart (wsW_ yX0_splitPart cX0_splitPart 6 (some .int) [(0, 12, 15, 21), (0, 12, 19, 13), (0, 12, 23, 15)]) rm_LX_splitPart Z [.ref a0, .int x1, .int x2, .int x3, .ref az] [(a0, .inr (0, [.ref a1, .ref a7, .int v_depth, .ref a8, .int v_scriptLength, .ref a4])), (a7, .inl (Z.2 3, 3, .inr (.inr (.inr (.inr v_saved))))), (az, .inl (Z.2 1, 1, .inr (.inl v_out)))] ([(a1, .inr (1, [.ref a2, .ref a3, .ref a5])), (a2, .inr (2, [.ref a2_1, .ref a2_2, .int v_n, .ref a2_3, .ref a2_4, .int v_pulses, .int v_front, .int v_least, .int v_window])), (a2_1, .inl (Z.2 0, 8, .inl v_lengths)), (a2_2, .inl (Z.2 0, 8, .inl v_fractions)), (a2_3, .inl (Z.2 0, 4, .inl v_pulseTimes)), (a2_4, .inl (Z.2 0, 4, .inl v_pulseEnergies))] ++ ro) (fun _ : Unit => (some (.int r) : Option Value)) (fun _ : Unit => ([(a0, .inr (0, [.ref a1, .ref a7, .int r_depth, .ref a8, .int v_scriptLength, .ref a4])), (a7, .inl (Z.2 3, 3, .inr (.inr (.inr (.inr r_saved))))), (az, .inl (Z.2 1, 1, .inr (.inl v_out)))] : va_W)) := by
  refine Ct.ofH cX0_splitPart 6 (some .int) [(0, 12, 15, 21), (0, 12, 19, 13), (0, 12, 23, 15)] "LineEchoesLaw" [some (.ref a0), some (.int x1), some (.int x2), some (.int x3), some (.ref az), none] 1 (by decide) rfl (Nat.le_of_ble_eq_true rfl) rfl (fun p e s m args below meth c A X ht => ?_)
  unfold F_LX_splitPart at h
  refine g_aload X rfl dX0_splitPart_0 2 rfl ?_
  refine g_iconst X 0 dX0_splitPart_2 3 rfl kI_0 ?_
  refine g_aload_n X rfl dX0_splitPart_3 4 rfl ?_
  refine g_iload_n X rfl dX0_splitPart_4 5 rfl ?_
  refine g_iload_n X rfl dX0_splitPart_5 6 rfl ?_
  refine g_iload_n X rfl dX0_splitPart_6 7 rfl ?_
  rcases bc12_e h with ⟨k9, hcl, hg⟩ | ⟨r1, w2_depth, w3_saved, w4_o1_2, w5_o1_5, w6_o1_6, w7_o1_7, w8_o1_8, w9_o2, w10_o3, w11_o4, w12_o5, hcl, h⟩
  · by_cases hk0 : k9 = 0
    · subst hk0
      replace h := if_t rfl hg
      refine g_xcV X (met_X1_splitPart l hl Z a0 a7 a1 a2 a2_1 a2_2 a2_3 a2_4 a8 a4 a3 a5 ro v_depth v_scriptLength v_saved v_n v_pulses v_front v_least v_window v_lengths v_fractions v_pulseTimes v_pulseEnergies x1 x2 x3 _ hsv hcl).thr [0, 1] [2] _ (wr := [(az, .inl (Z.2 1, 1, .inr (.inl v_out)))]) (gAt4_tail (isO := [3, 4, 5, 6, 7, 8]) ⟨rfl, rfl, rfl, rfl, rfl, by decide, by decide⟩) 0 gC0 rfl rfl (lw_V q1109 q1110 q1111 q69 q1112) md_X1_splitPart ⟨(Nat.le_of_ble_eq_true rfl), (Nat.le_of_ble_eq_true rfl)⟩ rfl dX0_splitPart_7 [] ⟨0, 12, 15, 21⟩ [⟨0, 12, 19, 13⟩, ⟨0, 12, 23, 15⟩] ht (Nat.le_of_ble_eq_true rfl) (Nat.le_of_ble_eq_true rfl) (st := [.int 0, .ref az]) rfl (Nat.le_of_ble_eq_true rfl) (List.forall_mem_nil _) (by decide) (by decide) q1094 gCa0 rfl 18 491 rfl rfl (fun q9 => ?_)
      refine g_astore X dX0_splitPart_15 17 rfl (Nat.le_of_ble_eq_true rfl) rfl [some (.ref a0), some (.int x1), some (.int x2), some (.int x3), some (.ref az), some (.ref q9)] rfl ?_
      refine g_iconst X 1 dX0_splitPart_17 18 rfl kI_1 ?_
      refine g_keep [1, 2, 0] [(a0, .inr (0, [.ref a1, .ref a7, .int v_depth, .ref a8, .int v_scriptLength, .ref a4])), (a7, .inl (Z.2 3, 3, .inr (.inr (.inr (.inr v_saved))))), (az, .inl (Z.2 1, 1, .inr (.inl v_out)))] rfl rfl ?_
      cases h
      exact g_iret X dX0_splitPart_18 () rfl rfl (Nat.le_of_ble_eq_true rfl) (Nat.le_of_ble_eq_true rfl)
    replace hg := if_f hk0 hg
    by_cases hk1 : k9 = 1
    · subst hk1
      replace h := if_t rfl hg
      refine g_xcV X (met_X1_splitPart l hl Z a0 a7 a1 a2 a2_1 a2_2 a2_3 a2_4 a8 a4 a3 a5 ro v_depth v_scriptLength v_saved v_n v_pulses v_front v_least v_window v_lengths v_fractions v_pulseTimes v_pulseEnergies x1 x2 x3 _ hsv hcl).thr [0, 1] [2] _ (wr := [(az, .inl (Z.2 1, 1, .inr (.inl v_out)))]) (gAt4_tail (isO := [3, 4, 5, 6, 7, 8]) ⟨rfl, rfl, rfl, rfl, rfl, by decide, by decide⟩) 0 gC0 rfl rfl (lw_V q1109 q1110 q1111 q69 q1112) md_X1_splitPart ⟨(Nat.le_of_ble_eq_true rfl), (Nat.le_of_ble_eq_true rfl)⟩ rfl dX0_splitPart_7 [⟨0, 12, 15, 21⟩] ⟨0, 12, 19, 13⟩ [⟨0, 12, 23, 15⟩] ht (Nat.le_of_ble_eq_true rfl) (Nat.le_of_ble_eq_true rfl) (st := [.int 0, .ref az]) rfl (Nat.le_of_ble_eq_true rfl) (List.forall_mem_cons.mpr ⟨Or.inr ⟨by decide, _, q1094, X.kk.2.2.2.2.2.2.2.2.2.2 1 0 (by decide) (by decide) (by decide)⟩, (List.forall_mem_nil _)⟩) (by decide) (by decide) q1085 gCa1 rfl 18 491 rfl rfl (fun q9 => ?_)
      refine g_astore X dX0_splitPart_19 21 rfl (Nat.le_of_ble_eq_true rfl) rfl [some (.ref a0), some (.int x1), some (.int x2), some (.int x3), some (.ref az), some (.ref q9)] rfl ?_
      refine g_iconst X 2 dX0_splitPart_21 22 rfl kI_2 ?_
      refine g_keep [1, 2, 0] [(a0, .inr (0, [.ref a1, .ref a7, .int v_depth, .ref a8, .int v_scriptLength, .ref a4])), (a7, .inl (Z.2 3, 3, .inr (.inr (.inr (.inr v_saved))))), (az, .inl (Z.2 1, 1, .inr (.inl v_out)))] rfl rfl ?_
      cases h
      exact g_iret X dX0_splitPart_22 () rfl rfl (Nat.le_of_ble_eq_true rfl) (Nat.le_of_ble_eq_true rfl)
    replace hg := if_f hk1 hg
    by_cases hk2 : k9 = 2
    · subst hk2
      replace h := if_t rfl hg
      refine g_xcV X (met_X1_splitPart l hl Z a0 a7 a1 a2 a2_1 a2_2 a2_3 a2_4 a8 a4 a3 a5 ro v_depth v_scriptLength v_saved v_n v_pulses v_front v_least v_window v_lengths v_fractions v_pulseTimes v_pulseEnergies x1 x2 x3 _ hsv hcl).thr [0, 1] [2] _ (wr := [(az, .inl (Z.2 1, 1, .inr (.inl v_out)))]) (gAt4_tail (isO := [3, 4, 5, 6, 7, 8]) ⟨rfl, rfl, rfl, rfl, rfl, by decide, by decide⟩) 0 gC0 rfl rfl (lw_V q1109 q1110 q1111 q69 q1112) md_X1_splitPart ⟨(Nat.le_of_ble_eq_true rfl), (Nat.le_of_ble_eq_true rfl)⟩ rfl dX0_splitPart_7 [⟨0, 12, 15, 21⟩, ⟨0, 12, 19, 13⟩] ⟨0, 12, 23, 15⟩ [] ht (Nat.le_of_ble_eq_true rfl) (Nat.le_of_ble_eq_true rfl) (st := [.int 0, .ref az]) rfl (Nat.le_of_ble_eq_true rfl) (List.forall_mem_cons.mpr ⟨Or.inr ⟨by decide, _, q1094, X.kk.2.2.2.2.2.2.2.2.2.2 2 0 (by decide) (by decide) (by decide)⟩, (List.forall_mem_cons.mpr ⟨Or.inr ⟨by decide, _, q1085, X.kk.2.2.2.2.2.2.2.2.2.2 2 1 (by decide) (by decide) (by decide)⟩, (List.forall_mem_nil _)⟩)⟩) (by decide) (by decide) q1086 gCa2 rfl 18 491 rfl rfl (fun q9 => ?_)
      refine g_astore X dX0_splitPart_23 25 rfl (Nat.le_of_ble_eq_true rfl) rfl [some (.ref a0), some (.int x1), some (.int x2), some (.int x3), some (.ref az), some (.ref q9)] rfl ?_
      refine g_iconst X 3 dX0_splitPart_25 26 rfl kI_3 ?_
      refine g_keep [1, 2, 0] [(a0, .inr (0, [.ref a1, .ref a7, .int v_depth, .ref a8, .int v_scriptLength, .ref a4])), (a7, .inl (Z.2 3, 3, .inr (.inr (.inr (.inr v_saved))))), (az, .inl (Z.2 1, 1, .inr (.inl v_out)))] rfl rfl ?_
      cases h
      exact g_iret X dX0_splitPart_26 () rfl rfl (Nat.le_of_ble_eq_true rfl) (Nat.le_of_ble_eq_true rfl)
    replace hg := if_f hk2 hg
    cases hg
  refine g_callV1 X (met_X1_splitPart l hl Z a0 a7 a1 a2 a2_1 a2_2 a2_3 a2_4 a8 a4 a3 a5 ro v_depth v_scriptLength v_saved v_n v_pulses v_front v_least v_window v_lengths v_fractions v_pulseTimes v_pulseEnergies x1 x2 x3 _ hsv hcl).ret [0, 1] [2] _ (wr := [(az, .inl (Z.2 1, 1, .inr (.inl v_out)))]) (gAt4_tail (isO := [3, 4, 5, 6, 7, 8]) ⟨rfl, rfl, rfl, rfl, rfl, by decide, by decide⟩) 0 gC0 rfl rfl (lw_V q1109 q1110 q1111 q69 q1112) md_X1_splitPart ⟨(Nat.le_of_ble_eq_true rfl), (Nat.le_of_ble_eq_true rfl)⟩ rfl dX0_splitPart_7 10 rfl 18 491 rfl rfl (Nat.le_of_ble_eq_true rfl) (Nat.le_of_ble_eq_true rfl) (st := [.int 0, .ref az]) rfl (Nat.le_of_ble_eq_true rfl) (fun _ => rfl) (fun u => ?_)
  obtain ⟨b13, b14, b15, b16, b17, b18⟩ := u
  cases h
/-! LineEchoesLaw.setBench(LLineEchoes;III[J)I -/
abbrev rm_L_setBench : Room := { frames := 9, cells := 16, slots := 479, locals := 146 }
def F_L_setBench (a1 : Nat) (v_depth : Int32) (v_saved : Nat → Option Nat) (v_out : Nat → Int64) (v_n : Int32) (v_pulses : Int32) (v_front : Int32) (v_least : Int32) (v_window : Int32) (v_lengths : Nat → Int32) (v_fractions : Nat → Int32) (v_pulseTimes : Nat → Int32) (v_pulseEnergies : Nat → Int32) (x1 : Int32) (x2 : Int32) (x3 : Int32) : Option (Int32 × Int32 × (Nat → Option Nat) × (Nat → Int64) × Int32 × Int32 × Int32 × Int32 × Int32 × (Nat → Int32) × (Nat → Int32) × (Nat → Int32) × (Nat → Int32)) :=
  bc12 (F_X1_setBench a1 v_depth v_saved v_n v_pulses v_front v_least v_window v_lengths v_fractions v_pulseTimes v_pulseEnergies x1 x2 x3) (fun r1 w2_depth w3_saved w4_o1_2 w5_o1_5 w6_o1_6 w7_o1_7 w8_o1_8 w9_o2 w10_o3 w11_o4 w12_o5 =>
  gin 0 1 <|
  some (0, w2_depth, w3_saved, vp_updL v_out (Int32.toNatClampNeg 0) r1.toInt64, w4_o1_2, w5_o1_5, w6_o1_6, w7_o1_7, w8_o1_8, w9_o2, w10_o3, w11_o4, w12_o5)) (fun k9 => if k9 = 1 then (none) else none)
theorem met_L_setBench (l : Launch) (hl : l.stackTraces = false) (Z : gZt) (a0 : Nat) (a7 : Nat) (az : Nat) (a1 : Nat) (a2 : Nat) (a2_1 : Nat) (a2_2 : Nat) (a2_3 : Nat) (a2_4 : Nat) (a8 : Nat) (a4 : Nat) (a3 : Nat) (a5 : Nat) (ro : va_W) (v_depth : Int32) (v_scriptLength : Int32) (v_saved : Nat → Option Nat) (v_out : Nat → Int64) (v_n : Int32) (v_pulses : Int32) (v_front : Int32) (v_least : Int32) (v_window : Int32) (v_lengths : Nat → Int32) (v_fractions : Nat → Int32) (v_pulseTimes : Nat → Int32) (v_pulseEnergies : Nat → Int32) (x1 : Int32) (x2 : Int32) (x3 : Int32) (r : Int32) (r_depth : Int32) (r_saved : Nat → Option Nat) (r_out : Nat → Int64) (o1_2 : Int32) (o1_5 : Int32) (o1_6 : Int32) (o1_7 : Int32) (o1_8 : Int32) (o2 : Nat → Int32) (o3 : Nat → Int32) (o4 : Nat → Int32) (o5 : Nat → Int32) (hsv : gSv v_saved 3 ro) (h : F_L_setBench a1 v_depth v_saved v_out v_n v_pulses v_front v_least v_window v_lengths v_fractions v_pulseTimes v_pulseEnergies x1 x2 x3 = some (r, r_depth, r_saved, r_out, o1_2, o1_5, o1_6, o1_7, o1_8, o2, o3, o4, o5)) : Ct l yX0_setBench (wsW_ yX0_setBench cX0_setBench 6 (some .int) [(0, 12, 15, 13)]) rm_L_setBench Z [.ref a0, .int x1, .int x2, .int x3, .ref az] [(a0, .inr (0, [.ref a1, .ref a7, .int v_depth, .ref a8, .int v_scriptLength, .ref a4])), (a7, .inl (Z.2 3, 3, .inr (.inr (.inr (.inr v_saved))))), (az, .inl (Z.2 1, 1, .inr (.inl v_out)))] ([(a1, .inr (1, [.ref a2, .ref a3, .ref a5])), (a2, .inr (2, [.ref a2_1, .ref a2_2, .int v_n, .ref a2_3, .ref a2_4, .int v_pulses, .int v_front, .int v_least, .int v_window])), (a2_1, .inl (Z.2 0, 8, .inl v_lengths)), (a2_2, .inl (Z.2 0, 8, .inl v_fractions)), (a2_3, .inl (Z.2 0, 4, .inl v_pulseTimes)), (a2_4, .inl (Z.2 0, 4, .inl v_pulseEnergies))] ++ ro) (fun u : Nat × Nat × Nat × Nat × Nat × Nat => (some (.int r) : Option Value)) (fun u : Nat × Nat × Nat × Nat × Nat × Nat => ([(a0, .inr (0, [.ref u.1, .ref a7, .int r_depth, .ref a8, .int v_scriptLength, .ref a4])), (a7, .inl (Z.2 3, 3, .inr (.inr (.inr (.inr r_saved))))), (az, .inl (Z.2 1, 1, .inr (.inl r_out))), (u.1, .inr (1, [.ref u.2.1, .ref a3, .ref a5])), (u.2.1, .inr (2, [.ref u.2.2.1, .ref u.2.2.2.1, .int o1_2, .ref u.2.2.2.2.1, .ref u.2.2.2.2.2, .int o1_5, .int o1_6, .int o1_7, .int o1_8])), (u.2.2.1, .inl (Z.2 0, 8, .inl o2)), (u.2.2.2.1, .inl (Z.2 0, 8, .inl o3)), (u.2.2.2.2.1, .inl (Z.2 0, 4, .inl o4)), (u.2.2.2.2.2, .inl (Z.2 0, 4, .inl o5))] : va_W)) := by
  refine Ct.ofH cX0_setBench 6 (some .int) [(0, 12, 15, 13)] "LineEchoesLaw" [some (.ref a0), some (.int x1), some (.int x2), some (.int x3), some (.ref az), none] 1 (by decide) rfl (Nat.le_of_ble_eq_true rfl) rfl (fun p e s m args below meth c A X ht => ?_)
  unfold F_L_setBench at h
  refine g_aload X rfl dX0_setBench_0 2 rfl ?_
  refine g_iconst X 0 dX0_setBench_2 3 rfl kI_0 ?_
  refine g_aload_n X rfl dX0_setBench_3 4 rfl ?_
  refine g_iload_n X rfl dX0_setBench_4 5 rfl ?_
  refine g_iload_n X rfl dX0_setBench_5 6 rfl ?_
  refine g_iload_n X rfl dX0_setBench_6 7 rfl ?_
  rcases bc12_e h with ⟨k9, hcl, hg⟩ | ⟨r1, w2_depth, w3_saved, w4_o1_2, w5_o1_5, w6_o1_6, w7_o1_7, w8_o1_8, w9_o2, w10_o3, w11_o4, w12_o5, hcl, h⟩
  · by_cases hk1 : k9 = 1
    · subst hk1
      replace h := if_t rfl hg
      refine g_xcV X (met_X1_setBench l hl Z a0 a7 a1 a2 a2_1 a2_2 a2_3 a2_4 a8 a4 a3 a5 ro v_depth v_scriptLength v_saved v_n v_pulses v_front v_least v_window v_lengths v_fractions v_pulseTimes v_pulseEnergies x1 x2 x3 _ hsv hcl).thr [0, 1] [2] _ (wr := [(az, .inl (Z.2 1, 1, .inr (.inl v_out)))]) (gAt4_tail (isO := [3, 4, 5, 6, 7, 8]) ⟨rfl, rfl, rfl, rfl, rfl, by decide, by decide⟩) 0 gC0 rfl rfl (lw_V q1116 q1117 q1118 q69 q1119) md_X1_setBench ⟨(Nat.le_of_ble_eq_true rfl), (Nat.le_of_ble_eq_true rfl)⟩ rfl dX0_setBench_7 [] ⟨0, 12, 15, 13⟩ [] ht (Nat.le_of_ble_eq_true rfl) (Nat.le_of_ble_eq_true rfl) (st := [.int 0, .ref az]) rfl (Nat.le_of_ble_eq_true rfl) (List.forall_mem_nil _) (by decide) (by decide) q1085 gCa1 rfl 16 479 rfl rfl (fun q9 => ?_)
      cases h
    replace hg := if_f hk1 hg
    cases hg
  refine g_callV1 X (met_X1_setBench l hl Z a0 a7 a1 a2 a2_1 a2_2 a2_3 a2_4 a8 a4 a3 a5 ro v_depth v_scriptLength v_saved v_n v_pulses v_front v_least v_window v_lengths v_fractions v_pulseTimes v_pulseEnergies x1 x2 x3 _ hsv hcl).ret [0, 1] [2] _ (wr := [(az, .inl (Z.2 1, 1, .inr (.inl v_out)))]) (gAt4_tail (isO := [3, 4, 5, 6, 7, 8]) ⟨rfl, rfl, rfl, rfl, rfl, by decide, by decide⟩) 0 gC0 rfl rfl (lw_V q1116 q1117 q1118 q69 q1119) md_X1_setBench ⟨(Nat.le_of_ble_eq_true rfl), (Nat.le_of_ble_eq_true rfl)⟩ rfl dX0_setBench_7 10 rfl 16 479 rfl rfl (Nat.le_of_ble_eq_true rfl) (Nat.le_of_ble_eq_true rfl) (st := [.int 0, .ref az]) rfl (Nat.le_of_ble_eq_true rfl) (fun _ => rfl) (fun u => ?_)
  obtain ⟨b13, b14, b15, b16, b17, b18⟩ := u
  refine g_i2l X dX0_setBench_10 11 rfl ?_
  obtain ⟨hi, h⟩ := gin_e h
  refine g_last X 0 rfl hi dX0_setBench_11 12 rfl ?_
  refine g_goto X dX0_setBench_12 19 (by decide) ?_
  refine g_iconst X 0 dX0_setBench_19 20 rfl kI_0 ?_
  refine g_keep [1, 2, 0, 3, 4, 5, 6, 7, 8] [(a0, .inr (0, [.ref b13, .ref a7, .int w2_depth, .ref a8, .int v_scriptLength, .ref a4])), (a7, .inl (Z.2 3, 3, .inr (.inr (.inr (.inr w3_saved))))), (az, .inl (Z.2 1, 1, .inr (.inl (vp_updL v_out (Int32.toNatClampNeg 0) r1.toInt64)))), (b13, .inr (1, [.ref b14, .ref a3, .ref a5])), (b14, .inr (2, [.ref b15, .ref b16, .int w4_o1_2, .ref b17, .ref b18, .int w5_o1_5, .int w6_o1_6, .int w7_o1_7, .int w8_o1_8])), (b15, .inl (Z.2 0, 8, .inl w9_o2)), (b16, .inl (Z.2 0, 8, .inl w10_o3)), (b17, .inl (Z.2 0, 4, .inl w11_o4)), (b18, .inl (Z.2 0, 4, .inl w12_o5))] rfl rfl ?_
  obtain ⟨rfl, rfl, rfl, rfl, rfl, rfl, rfl, rfl, rfl, rfl, rfl, rfl, rfl⟩ := rt13 h
  exact g_iret X dX0_setBench_20 (b13, b14, b15, b16, b17, b18) rfl rfl (Nat.le_of_ble_eq_true rfl) (Nat.le_of_ble_eq_true rfl)
/-! LineEchoesLaw.setBench(LLineEchoes;III[J)I -/
abbrev rm_LX_setBench : Room := { frames := 9, cells := 16, slots := 479, locals := 146 }
def F_LX_setBench (a1 : Nat) (v_depth : Int32) (v_saved : Nat → Option Nat) (v_n : Int32) (v_pulses : Int32) (v_front : Int32) (v_least : Int32) (v_window : Int32) (v_lengths : Nat → Int32) (v_fractions : Nat → Int32) (v_pulseTimes : Nat → Int32) (v_pulseEnergies : Nat → Int32) (x1 : Int32) (x2 : Int32) (x3 : Int32) : Option (Int32 × Int32 × (Nat → Option Nat)) :=
  bc12 (F_X1_setBench a1 v_depth v_saved v_n v_pulses v_front v_least v_window v_lengths v_fractions v_pulseTimes v_pulseEnergies x1 x2 x3) (fun r1 w2_depth w3_saved w4_o1_2 w5_o1_5 w6_o1_6 w7_o1_7 w8_o1_8 w9_o2 w10_o3 w11_o4 w12_o5 =>
  none) (fun k9 => if k9 = 1 then (some (1, v_depth, v_saved)) else none)
theorem met_LX_setBench (l : Launch) (hl : l.stackTraces = false) (Z : gZt) (a0 : Nat) (a7 : Nat) (az : Nat) (a1 : Nat) (a2 : Nat) (a2_1 : Nat) (a2_2 : Nat) (a2_3 : Nat) (a2_4 : Nat) (a8 : Nat) (a4 : Nat) (a3 : Nat) (a5 : Nat) (ro : va_W) (v_depth : Int32) (v_scriptLength : Int32) (v_saved : Nat → Option Nat) (v_out : Nat → Int64) (v_n : Int32) (v_pulses : Int32) (v_front : Int32) (v_least : Int32) (v_window : Int32) (v_lengths : Nat → Int32) (v_fractions : Nat → Int32) (v_pulseTimes : Nat → Int32) (v_pulseEnergies : Nat → Int32) (x1 : Int32) (x2 : Int32) (x3 : Int32) (r : Int32) (r_depth : Int32) (r_saved : Nat → Option Nat) (hsv : gSv v_saved 3 ro) (h : F_LX_setBench a1 v_depth v_saved v_n v_pulses v_front v_least v_window v_lengths v_fractions v_pulseTimes v_pulseEnergies x1 x2 x3 = some (r, r_depth, r_saved)) : Ct l yX0_setBench (wsW_ yX0_setBench cX0_setBench 6 (some .int) [(0, 12, 15, 13)]) rm_LX_setBench Z [.ref a0, .int x1, .int x2, .int x3, .ref az] [(a0, .inr (0, [.ref a1, .ref a7, .int v_depth, .ref a8, .int v_scriptLength, .ref a4])), (a7, .inl (Z.2 3, 3, .inr (.inr (.inr (.inr v_saved))))), (az, .inl (Z.2 1, 1, .inr (.inl v_out)))] ([(a1, .inr (1, [.ref a2, .ref a3, .ref a5])), (a2, .inr (2, [.ref a2_1, .ref a2_2, .int v_n, .ref a2_3, .ref a2_4, .int v_pulses, .int v_front, .int v_least, .int v_window])), (a2_1, .inl (Z.2 0, 8, .inl v_lengths)), (a2_2, .inl (Z.2 0, 8, .inl v_fractions)), (a2_3, .inl (Z.2 0, 4, .inl v_pulseTimes)), (a2_4, .inl (Z.2 0, 4, .inl v_pulseEnergies))] ++ ro) (fun _ : Unit => (some (.int r) : Option Value)) (fun _ : Unit => ([(a0, .inr (0, [.ref a1, .ref a7, .int r_depth, .ref a8, .int v_scriptLength, .ref a4])), (a7, .inl (Z.2 3, 3, .inr (.inr (.inr (.inr r_saved))))), (az, .inl (Z.2 1, 1, .inr (.inl v_out)))] : va_W)) := by
  refine Ct.ofH cX0_setBench 6 (some .int) [(0, 12, 15, 13)] "LineEchoesLaw" [some (.ref a0), some (.int x1), some (.int x2), some (.int x3), some (.ref az), none] 1 (by decide) rfl (Nat.le_of_ble_eq_true rfl) rfl (fun p e s m args below meth c A X ht => ?_)
  unfold F_LX_setBench at h
  refine g_aload X rfl dX0_setBench_0 2 rfl ?_
  refine g_iconst X 0 dX0_setBench_2 3 rfl kI_0 ?_
  refine g_aload_n X rfl dX0_setBench_3 4 rfl ?_
  refine g_iload_n X rfl dX0_setBench_4 5 rfl ?_
  refine g_iload_n X rfl dX0_setBench_5 6 rfl ?_
  refine g_iload_n X rfl dX0_setBench_6 7 rfl ?_
  rcases bc12_e h with ⟨k9, hcl, hg⟩ | ⟨r1, w2_depth, w3_saved, w4_o1_2, w5_o1_5, w6_o1_6, w7_o1_7, w8_o1_8, w9_o2, w10_o3, w11_o4, w12_o5, hcl, h⟩
  · by_cases hk1 : k9 = 1
    · subst hk1
      replace h := if_t rfl hg
      refine g_xcV X (met_X1_setBench l hl Z a0 a7 a1 a2 a2_1 a2_2 a2_3 a2_4 a8 a4 a3 a5 ro v_depth v_scriptLength v_saved v_n v_pulses v_front v_least v_window v_lengths v_fractions v_pulseTimes v_pulseEnergies x1 x2 x3 _ hsv hcl).thr [0, 1] [2] _ (wr := [(az, .inl (Z.2 1, 1, .inr (.inl v_out)))]) (gAt4_tail (isO := [3, 4, 5, 6, 7, 8]) ⟨rfl, rfl, rfl, rfl, rfl, by decide, by decide⟩) 0 gC0 rfl rfl (lw_V q1116 q1117 q1118 q69 q1119) md_X1_setBench ⟨(Nat.le_of_ble_eq_true rfl), (Nat.le_of_ble_eq_true rfl)⟩ rfl dX0_setBench_7 [] ⟨0, 12, 15, 13⟩ [] ht (Nat.le_of_ble_eq_true rfl) (Nat.le_of_ble_eq_true rfl) (st := [.int 0, .ref az]) rfl (Nat.le_of_ble_eq_true rfl) (List.forall_mem_nil _) (by decide) (by decide) q1085 gCa1 rfl 16 479 rfl rfl (fun q9 => ?_)
      refine g_astore X dX0_setBench_15 17 rfl (Nat.le_of_ble_eq_true rfl) rfl [some (.ref a0), some (.int x1), some (.int x2), some (.int x3), some (.ref az), some (.ref q9)] rfl ?_
      refine g_iconst X 1 dX0_setBench_17 18 rfl kI_1 ?_
      refine g_keep [1, 2, 0] [(a0, .inr (0, [.ref a1, .ref a7, .int v_depth, .ref a8, .int v_scriptLength, .ref a4])), (a7, .inl (Z.2 3, 3, .inr (.inr (.inr (.inr v_saved))))), (az, .inl (Z.2 1, 1, .inr (.inl v_out)))] rfl rfl ?_
      cases h
      exact g_iret X dX0_setBench_18 () rfl rfl (Nat.le_of_ble_eq_true rfl) (Nat.le_of_ble_eq_true rfl)
    replace hg := if_f hk1 hg
    cases hg
  refine g_callV1 X (met_X1_setBench l hl Z a0 a7 a1 a2 a2_1 a2_2 a2_3 a2_4 a8 a4 a3 a5 ro v_depth v_scriptLength v_saved v_n v_pulses v_front v_least v_window v_lengths v_fractions v_pulseTimes v_pulseEnergies x1 x2 x3 _ hsv hcl).ret [0, 1] [2] _ (wr := [(az, .inl (Z.2 1, 1, .inr (.inl v_out)))]) (gAt4_tail (isO := [3, 4, 5, 6, 7, 8]) ⟨rfl, rfl, rfl, rfl, rfl, by decide, by decide⟩) 0 gC0 rfl rfl (lw_V q1116 q1117 q1118 q69 q1119) md_X1_setBench ⟨(Nat.le_of_ble_eq_true rfl), (Nat.le_of_ble_eq_true rfl)⟩ rfl dX0_setBench_7 10 rfl 16 479 rfl rfl (Nat.le_of_ble_eq_true rfl) (Nat.le_of_ble_eq_true rfl) (st := [.int 0, .ref az]) rfl (Nat.le_of_ble_eq_true rfl) (fun _ => rfl) (fun u => ?_)
  obtain ⟨b13, b14, b15, b16, b17, b18⟩ := u
  cases h
/-! LineEchoesLaw.addPulse(LLineEchoes;II[J)I -/
abbrev rm_L_addPulse : Room := { frames := 10, cells := 17, slots := 485, locals := 166 }
def F_L_addPulse (a1 : Nat) (v_depth : Int32) (v_saved : Nat → Option Nat) (v_out : Nat → Int64) (v_n : Int32) (v_pulses : Int32) (v_front : Int32) (v_least : Int32) (v_window : Int32) (v_lengths : Nat → Int32) (v_fractions : Nat → Int32) (v_pulseTimes : Nat → Int32) (v_pulseEnergies : Nat → Int32) (x1 : Int32) (x2 : Int32) : Option (Int32 × Int32 × (Nat → Option Nat) × (Nat → Int64) × Int32 × Int32 × Int32 × Int32 × Int32 × (Nat → Int32) × (Nat → Int32) × (Nat → Int32) × (Nat → Int32)) :=
  bc12 (F_X1_addPulse a1 v_depth v_saved v_n v_pulses v_front v_least v_window v_lengths v_fractions v_pulseTimes v_pulseEnergies x1 x2) (fun r1 w2_depth w3_saved w4_o1_2 w5_o1_5 w6_o1_6 w7_o1_7 w8_o1_8 w9_o2 w10_o3 w11_o4 w12_o5 =>
  gin 0 1 <|
  some (0, w2_depth, w3_saved, vp_updL v_out (Int32.toNatClampNeg 0) r1.toInt64, w4_o1_2, w5_o1_5, w6_o1_6, w7_o1_7, w8_o1_8, w9_o2, w10_o3, w11_o4, w12_o5)) (fun k9 => if k9 = 1 then (none) else if k9 = 2 then (none) else none)
theorem met_L_addPulse (l : Launch) (hl : l.stackTraces = false) (Z : gZt) (a0 : Nat) (a7 : Nat) (az : Nat) (a1 : Nat) (a2 : Nat) (a2_1 : Nat) (a2_2 : Nat) (a2_3 : Nat) (a2_4 : Nat) (a8 : Nat) (a4 : Nat) (a3 : Nat) (a5 : Nat) (ro : va_W) (v_depth : Int32) (v_scriptLength : Int32) (v_saved : Nat → Option Nat) (v_out : Nat → Int64) (v_n : Int32) (v_pulses : Int32) (v_front : Int32) (v_least : Int32) (v_window : Int32) (v_lengths : Nat → Int32) (v_fractions : Nat → Int32) (v_pulseTimes : Nat → Int32) (v_pulseEnergies : Nat → Int32) (x1 : Int32) (x2 : Int32) (r : Int32) (r_depth : Int32) (r_saved : Nat → Option Nat) (r_out : Nat → Int64) (o1_2 : Int32) (o1_5 : Int32) (o1_6 : Int32) (o1_7 : Int32) (o1_8 : Int32) (o2 : Nat → Int32) (o3 : Nat → Int32) (o4 : Nat → Int32) (o5 : Nat → Int32) (hsv : gSv v_saved 3 ro) (h : F_L_addPulse a1 v_depth v_saved v_out v_n v_pulses v_front v_least v_window v_lengths v_fractions v_pulseTimes v_pulseEnergies x1 x2 = some (r, r_depth, r_saved, r_out, o1_2, o1_5, o1_6, o1_7, o1_8, o2, o3, o4, o5)) : Ct l yX0_addPulse (wsW_ yX0_addPulse cX0_addPulse 5 (some .int) [(0, 10, 13, 13), (0, 10, 17, 15)]) rm_L_addPulse Z [.ref a0, .int x1, .int x2, .ref az] [(a0, .inr (0, [.ref a1, .ref a7, .int v_depth, .ref a8, .int v_scriptLength, .ref a4])), (a7, .inl (Z.2 3, 3, .inr (.inr (.inr (.inr v_saved))))), (az, .inl (Z.2 1, 1, .inr (.inl v_out)))] ([(a1, .inr (1, [.ref a2, .ref a3, .ref a5])), (a2, .inr (2, [.ref a2_1, .ref a2_2, .int v_n, .ref a2_3, .ref a2_4, .int v_pulses, .int v_front, .int v_least, .int v_window])), (a2_1, .inl (Z.2 0, 8, .inl v_lengths)), (a2_2, .inl (Z.2 0, 8, .inl v_fractions)), (a2_3, .inl (Z.2 0, 4, .inl v_pulseTimes)), (a2_4, .inl (Z.2 0, 4, .inl v_pulseEnergies))] ++ ro) (fun u : Nat × Nat × Nat × Nat × Nat × Nat => (some (.int r) : Option Value)) (fun u : Nat × Nat × Nat × Nat × Nat × Nat => ([(a0, .inr (0, [.ref u.1, .ref a7, .int r_depth, .ref a8, .int v_scriptLength, .ref a4])), (a7, .inl (Z.2 3, 3, .inr (.inr (.inr (.inr r_saved))))), (az, .inl (Z.2 1, 1, .inr (.inl r_out))), (u.1, .inr (1, [.ref u.2.1, .ref a3, .ref a5])), (u.2.1, .inr (2, [.ref u.2.2.1, .ref u.2.2.2.1, .int o1_2, .ref u.2.2.2.2.1, .ref u.2.2.2.2.2, .int o1_5, .int o1_6, .int o1_7, .int o1_8])), (u.2.2.1, .inl (Z.2 0, 8, .inl o2)), (u.2.2.2.1, .inl (Z.2 0, 8, .inl o3)), (u.2.2.2.2.1, .inl (Z.2 0, 4, .inl o4)), (u.2.2.2.2.2, .inl (Z.2 0, 4, .inl o5))] : va_W)) := by
  refine Ct.ofH cX0_addPulse 5 (some .int) [(0, 10, 13, 13), (0, 10, 17, 15)] "LineEchoesLaw" [some (.ref a0), some (.int x1), some (.int x2), some (.ref az), none] 1 (by decide) rfl (Nat.le_of_ble_eq_true rfl) rfl (fun p e s m args below meth c A X ht => ?_)
  unfold F_L_addPulse at h
  refine g_aload_n X rfl dX0_addPulse_0 1 rfl ?_
  refine g_iconst X 0 dX0_addPulse_1 2 rfl kI_0 ?_
  refine g_aload_n X rfl dX0_addPulse_2 3 rfl ?_
  refine g_iload_n X rfl dX0_addPulse_3 4 rfl ?_
  refine g_iload_n X rfl dX0_addPulse_4 5 rfl ?_
  rcases bc12_e h with ⟨k9, hcl, hg⟩ | ⟨r1, w2_depth, w3_saved, w4_o1_2, w5_o1_5, w6_o1_6, w7_o1_7, w8_o1_8, w9_o2, w10_o3, w11_o4, w12_o5, hcl, h⟩
  · by_cases hk1 : k9 = 1
    · subst hk1
      replace h := if_t rfl hg
      refine g_xcV X (met_X1_addPulse l hl Z a0 a7 a1 a2 a2_1 a2_2 a2_3 a2_4 a8 a4 a3 a5 ro v_depth v_scriptLength v_saved v_n v_pulses v_front v_least v_window v_lengths v_fractions v_pulseTimes v_pulseEnergies x1 x2 _ hsv hcl).thr [0, 1] [2] _ (wr := [(az, .inl (Z.2 1, 1, .inr (.inl v_out)))]) (gAt4_tail (isO := [3, 4, 5, 6, 7, 8]) ⟨rfl, rfl, rfl, rfl, rfl, by decide, by decide⟩) 0 gC0 rfl rfl (lw_V q1130 q1131 q1132 q69 q1133) md_X1_addPulse ⟨(Nat.le_of_ble_eq_true rfl), (Nat.le_of_ble_eq_true rfl)⟩ rfl dX0_addPulse_5 [] ⟨0, 10, 13, 13⟩ [⟨0, 10, 17, 15⟩] ht (Nat.le_of_ble_eq_true rfl) (Nat.le_of_ble_eq_true rfl) (st := [.int 0, .ref az]) rfl (Nat.le_of_ble_eq_true rfl) (List.forall_mem_nil _) (by decide) (by decide) q1085 gCa1 rfl 17 485 rfl rfl (fun q9 => ?_)
      cases h
    replace hg := if_f hk1 hg
    by_cases hk2 : k9 = 2
    · subst hk2
      replace h := if_t rfl hg
      refine g_xcV X (met_X1_addPulse l hl Z a0 a7 a1 a2 a2_1 a2_2 a2_3 a2_4 a8 a4 a3 a5 ro v_depth v_scriptLength v_saved v_n v_pulses v_front v_least v_window v_lengths v_fractions v_pulseTimes v_pulseEnergies x1 x2 _ hsv hcl).thr [0, 1] [2] _ (wr := [(az, .inl (Z.2 1, 1, .inr (.inl v_out)))]) (gAt4_tail (isO := [3, 4, 5, 6, 7, 8]) ⟨rfl, rfl, rfl, rfl, rfl, by decide, by decide⟩) 0 gC0 rfl rfl (lw_V q1130 q1131 q1132 q69 q1133) md_X1_addPulse ⟨(Nat.le_of_ble_eq_true rfl), (Nat.le_of_ble_eq_true rfl)⟩ rfl dX0_addPulse_5 [⟨0, 10, 13, 13⟩] ⟨0, 10, 17, 15⟩ [] ht (Nat.le_of_ble_eq_true rfl) (Nat.le_of_ble_eq_true rfl) (st := [.int 0, .ref az]) rfl (Nat.le_of_ble_eq_true rfl) (List.forall_mem_cons.mpr ⟨Or.inr ⟨by decide, _, q1085, X.kk.2.2.2.2.2.2.2.2.2.2 2 1 (by decide) (by decide) (by decide)⟩, (List.forall_mem_nil _)⟩) (by decide) (by decide) q1086 gCa2 rfl 17 485 rfl rfl (fun q9 => ?_)
      cases h
    replace hg := if_f hk2 hg
    cases hg
  refine g_callV1 X (met_X1_addPulse l hl Z a0 a7 a1 a2 a2_1 a2_2 a2_3 a2_4 a8 a4 a3 a5 ro v_depth v_scriptLength v_saved v_n v_pulses v_front v_least v_window v_lengths v_fractions v_pulseTimes v_pulseEnergies x1 x2 _ hsv hcl).ret [0, 1] [2] _ (wr := [(az, .inl (Z.2 1, 1, .inr (.inl v_out)))]) (gAt4_tail (isO := [3, 4, 5, 6, 7, 8]) ⟨rfl, rfl, rfl, rfl, rfl, by decide, by decide⟩) 0 gC0 rfl rfl (lw_V q1130 q1131 q1132 q69 q1133) md_X1_addPulse ⟨(Nat.le_of_ble_eq_true rfl), (Nat.le_of_ble_eq_true rfl)⟩ rfl dX0_addPulse_5 8 rfl 17 485 rfl rfl (Nat.le_of_ble_eq_true rfl) (Nat.le_of_ble_eq_true rfl) (st := [.int 0, .ref az]) rfl (Nat.le_of_ble_eq_true rfl) (fun _ => rfl) (fun u => ?_)
  obtain ⟨b13, b14, b15, b16, b17, b18⟩ := u
  refine g_i2l X dX0_addPulse_8 9 rfl ?_
  obtain ⟨hi, h⟩ := gin_e h
  refine g_last X 0 rfl hi dX0_addPulse_9 10 rfl ?_
  refine g_goto X dX0_addPulse_10 21 (by decide) ?_
  refine g_iconst X 0 dX0_addPulse_21 22 rfl kI_0 ?_
  refine g_keep [1, 2, 0, 3, 4, 5, 6, 7, 8] [(a0, .inr (0, [.ref b13, .ref a7, .int w2_depth, .ref a8, .int v_scriptLength, .ref a4])), (a7, .inl (Z.2 3, 3, .inr (.inr (.inr (.inr w3_saved))))), (az, .inl (Z.2 1, 1, .inr (.inl (vp_updL v_out (Int32.toNatClampNeg 0) r1.toInt64)))), (b13, .inr (1, [.ref b14, .ref a3, .ref a5])), (b14, .inr (2, [.ref b15, .ref b16, .int w4_o1_2, .ref b17, .ref b18, .int w5_o1_5, .int w6_o1_6, .int w7_o1_7, .int w8_o1_8])), (b15, .inl (Z.2 0, 8, .inl w9_o2)), (b16, .inl (Z.2 0, 8, .inl w10_o3)), (b17, .inl (Z.2 0, 4, .inl w11_o4)), (b18, .inl (Z.2 0, 4, .inl w12_o5))] rfl rfl ?_
  obtain ⟨rfl, rfl, rfl, rfl, rfl, rfl, rfl, rfl, rfl, rfl, rfl, rfl, rfl⟩ := rt13 h
  exact g_iret X dX0_addPulse_22 (b13, b14, b15, b16, b17, b18) rfl rfl (Nat.le_of_ble_eq_true rfl) (Nat.le_of_ble_eq_true rfl)
/-! LineEchoesLaw.addPulse(LLineEchoes;II[J)I -/
abbrev rm_LX_addPulse : Room := { frames := 10, cells := 17, slots := 485, locals := 166 }
def F_LX_addPulse (a1 : Nat) (v_depth : Int32) (v_saved : Nat → Option Nat) (v_n : Int32) (v_pulses : Int32) (v_front : Int32) (v_least : Int32) (v_window : Int32) (v_lengths : Nat → Int32) (v_fractions : Nat → Int32) (v_pulseTimes : Nat → Int32) (v_pulseEnergies : Nat → Int32) (x1 : Int32) (x2 : Int32) : Option (Int32 × Int32 × (Nat → Option Nat)) :=
  bc12 (F_X1_addPulse a1 v_depth v_saved v_n v_pulses v_front v_least v_window v_lengths v_fractions v_pulseTimes v_pulseEnergies x1 x2) (fun r1 w2_depth w3_saved w4_o1_2 w5_o1_5 w6_o1_6 w7_o1_7 w8_o1_8 w9_o2 w10_o3 w11_o4 w12_o5 =>
  none) (fun k9 => if k9 = 1 then (some (1, v_depth, v_saved)) else if k9 = 2 then (some (2, v_depth, v_saved)) else none)
theorem met_LX_addPulse (l : Launch) (hl : l.stackTraces = false) (Z : gZt) (a0 : Nat) (a7 : Nat) (az : Nat) (a1 : Nat) (a2 : Nat) (a2_1 : Nat) (a2_2 : Nat) (a2_3 : Nat) (a2_4 : Nat) (a8 : Nat) (a4 : Nat) (a3 : Nat) (a5 : Nat) (ro : va_W) (v_depth : Int32) (v_scriptLength : Int32) (v_saved : Nat → Option Nat) (v_out : Nat → Int64) (v_n : Int32) (v_pulses : Int32) (v_front : Int32) (v_least : Int32) (v_window : Int32) (v_lengths : Nat → Int32) (v_fractions : Nat → Int32) (v_pulseTimes : Nat → Int32) (v_pulseEnergies : Nat → Int32) (x1 : Int32) (x2 : Int32) (r : Int32) (r_depth : Int32) (r_saved : Nat → Option Nat) (hsv : gSv v_saved 3 ro) (h : F_LX_addPulse a1 v_depth v_saved v_n v_pulses v_front v_least v_window v_lengths v_fractions v_pulseTimes v_pulseEnergies x1 x2 = some (r, r_depth, r_saved)) : Ct l yX0_addPulse (wsW_ yX0_addPulse cX0_addPulse 5 (some .int) [(0, 10, 13, 13), (0, 10, 17, 15)]) rm_LX_addPulse Z [.ref a0, .int x1, .int x2, .ref az] [(a0, .inr (0, [.ref a1, .ref a7, .int v_depth, .ref a8, .int v_scriptLength, .ref a4])), (a7, .inl (Z.2 3, 3, .inr (.inr (.inr (.inr v_saved))))), (az, .inl (Z.2 1, 1, .inr (.inl v_out)))] ([(a1, .inr (1, [.ref a2, .ref a3, .ref a5])), (a2, .inr (2, [.ref a2_1, .ref a2_2, .int v_n, .ref a2_3, .ref a2_4, .int v_pulses, .int v_front, .int v_least, .int v_window])), (a2_1, .inl (Z.2 0, 8, .inl v_lengths)), (a2_2, .inl (Z.2 0, 8, .inl v_fractions)), (a2_3, .inl (Z.2 0, 4, .inl v_pulseTimes)), (a2_4, .inl (Z.2 0, 4, .inl v_pulseEnergies))] ++ ro) (fun _ : Unit => (some (.int r) : Option Value)) (fun _ : Unit => ([(a0, .inr (0, [.ref a1, .ref a7, .int r_depth, .ref a8, .int v_scriptLength, .ref a4])), (a7, .inl (Z.2 3, 3, .inr (.inr (.inr (.inr r_saved))))), (az, .inl (Z.2 1, 1, .inr (.inl v_out)))] : va_W)) := by
  refine Ct.ofH cX0_addPulse 5 (some .int) [(0, 10, 13, 13), (0, 10, 17, 15)] "LineEchoesLaw" [some (.ref a0), some (.int x1), some (.int x2), some (.ref az), none] 1 (by decide) rfl (Nat.le_of_ble_eq_true rfl) rfl (fun p e s m args below meth c A X ht => ?_)
  unfold F_LX_addPulse at h
  refine g_aload_n X rfl dX0_addPulse_0 1 rfl ?_
  refine g_iconst X 0 dX0_addPulse_1 2 rfl kI_0 ?_
  refine g_aload_n X rfl dX0_addPulse_2 3 rfl ?_
  refine g_iload_n X rfl dX0_addPulse_3 4 rfl ?_
  refine g_iload_n X rfl dX0_addPulse_4 5 rfl ?_
  rcases bc12_e h with ⟨k9, hcl, hg⟩ | ⟨r1, w2_depth, w3_saved, w4_o1_2, w5_o1_5, w6_o1_6, w7_o1_7, w8_o1_8, w9_o2, w10_o3, w11_o4, w12_o5, hcl, h⟩
  · by_cases hk1 : k9 = 1
    · subst hk1
      replace h := if_t rfl hg
      refine g_xcV X (met_X1_addPulse l hl Z a0 a7 a1 a2 a2_1 a2_2 a2_3 a2_4 a8 a4 a3 a5 ro v_depth v_scriptLength v_saved v_n v_pulses v_front v_least v_window v_lengths v_fractions v_pulseTimes v_pulseEnergies x1 x2 _ hsv hcl).thr [0, 1] [2] _ (wr := [(az, .inl (Z.2 1, 1, .inr (.inl v_out)))]) (gAt4_tail (isO := [3, 4, 5, 6, 7, 8]) ⟨rfl, rfl, rfl, rfl, rfl, by decide, by decide⟩) 0 gC0 rfl rfl (lw_V q1130 q1131 q1132 q69 q1133) md_X1_addPulse ⟨(Nat.le_of_ble_eq_true rfl), (Nat.le_of_ble_eq_true rfl)⟩ rfl dX0_addPulse_5 [] ⟨0, 10, 13, 13⟩ [⟨0, 10, 17, 15⟩] ht (Nat.le_of_ble_eq_true rfl) (Nat.le_of_ble_eq_true rfl) (st := [.int 0, .ref az]) rfl (Nat.le_of_ble_eq_true rfl) (List.forall_mem_nil _) (by decide) (by decide) q1085 gCa1 rfl 17 485 rfl rfl (fun q9 => ?_)
      refine g_astore X dX0_addPulse_13 15 rfl (Nat.le_of_ble_eq_true rfl) rfl [some (.ref a0), some (.int x1), some (.int x2), some (.ref az), some (.ref q9)] rfl ?_
      refine g_iconst X 1 dX0_addPulse_15 16 rfl kI_1 ?_
      refine g_keep [1, 2, 0] [(a0, .inr (0, [.ref a1, .ref a7, .int v_depth, .ref a8, .int v_scriptLength, .ref a4])), (a7, .inl (Z.2 3, 3, .inr (.inr (.inr (.inr v_saved))))), (az, .inl (Z.2 1, 1, .inr (.inl v_out)))] rfl rfl ?_
      cases h
      exact g_iret X dX0_addPulse_16 () rfl rfl (Nat.le_of_ble_eq_true rfl) (Nat.le_of_ble_eq_true rfl)
    replace hg := if_f hk1 hg
    by_cases hk2 : k9 = 2
    · subst hk2
      replace h := if_t rfl hg
      refine g_xcV X (met_X1_addPulse l hl Z a0 a7 a1 a2 a2_1 a2_2 a2_3 a2_4 a8 a4 a3 a5 ro v_depth v_scriptLength v_saved v_n v_pulses v_front v_least v_window v_lengths v_fractions v_pulseTimes v_pulseEnergies x1 x2 _ hsv hcl).thr [0, 1] [2] _ (wr := [(az, .inl (Z.2 1, 1, .inr (.inl v_out)))]) (gAt4_tail (isO := [3, 4, 5, 6, 7, 8]) ⟨rfl, rfl, rfl, rfl, rfl, by decide, by decide⟩) 0 gC0 rfl rfl (lw_V q1130 q1131 q1132 q69 q1133) md_X1_addPulse ⟨(Nat.le_of_ble_eq_true rfl), (Nat.le_of_ble_eq_true rfl)⟩ rfl dX0_addPulse_5 [⟨0, 10, 13, 13⟩] ⟨0, 10, 17, 15⟩ [] ht (Nat.le_of_ble_eq_true rfl) (Nat.le_of_ble_eq_true rfl) (st := [.int 0, .ref az]) rfl (Nat.le_of_ble_eq_true rfl) (List.forall_mem_cons.mpr ⟨Or.inr ⟨by decide, _, q1085, X.kk.2.2.2.2.2.2.2.2.2.2 2 1 (by decide) (by decide) (by decide)⟩, (List.forall_mem_nil _)⟩) (by decide) (by decide) q1086 gCa2 rfl 17 485 rfl rfl (fun q9 => ?_)
      refine g_astore X dX0_addPulse_17 19 rfl (Nat.le_of_ble_eq_true rfl) rfl [some (.ref a0), some (.int x1), some (.int x2), some (.ref az), some (.ref q9)] rfl ?_
      refine g_iconst X 2 dX0_addPulse_19 20 rfl kI_2 ?_
      refine g_keep [1, 2, 0] [(a0, .inr (0, [.ref a1, .ref a7, .int v_depth, .ref a8, .int v_scriptLength, .ref a4])), (a7, .inl (Z.2 3, 3, .inr (.inr (.inr (.inr v_saved))))), (az, .inl (Z.2 1, 1, .inr (.inl v_out)))] rfl rfl ?_
      cases h
      exact g_iret X dX0_addPulse_20 () rfl rfl (Nat.le_of_ble_eq_true rfl) (Nat.le_of_ble_eq_true rfl)
    replace hg := if_f hk2 hg
    cases hg
  refine g_callV1 X (met_X1_addPulse l hl Z a0 a7 a1 a2 a2_1 a2_2 a2_3 a2_4 a8 a4 a3 a5 ro v_depth v_scriptLength v_saved v_n v_pulses v_front v_least v_window v_lengths v_fractions v_pulseTimes v_pulseEnergies x1 x2 _ hsv hcl).ret [0, 1] [2] _ (wr := [(az, .inl (Z.2 1, 1, .inr (.inl v_out)))]) (gAt4_tail (isO := [3, 4, 5, 6, 7, 8]) ⟨rfl, rfl, rfl, rfl, rfl, by decide, by decide⟩) 0 gC0 rfl rfl (lw_V q1130 q1131 q1132 q69 q1133) md_X1_addPulse ⟨(Nat.le_of_ble_eq_true rfl), (Nat.le_of_ble_eq_true rfl)⟩ rfl dX0_addPulse_5 8 rfl 17 485 rfl rfl (Nat.le_of_ble_eq_true rfl) (Nat.le_of_ble_eq_true rfl) (st := [.int 0, .ref az]) rfl (Nat.le_of_ble_eq_true rfl) (fun _ => rfl) (fun u => ?_)
  obtain ⟨b13, b14, b15, b16, b17, b18⟩ := u
  cases h
/-! LineEchoesLaw.removePulse(LLineEchoes;I[J)I -/
abbrev rm_L_removePulse : Room := { frames := 9, cells := 17, slots := 485, locals := 143 }
def F_L_removePulse (a1 : Nat) (v_depth : Int32) (v_saved : Nat → Option Nat) (v_out : Nat → Int64) (v_n : Int32) (v_pulses : Int32) (v_front : Int32) (v_least : Int32) (v_window : Int32) (v_lengths : Nat → Int32) (v_fractions : Nat → Int32) (v_pulseTimes : Nat → Int32) (v_pulseEnergies : Nat → Int32) (x1 : Int32) : Option (Int32 × Int32 × (Nat → Option Nat) × (Nat → Int64) × Int32 × Int32 × Int32 × Int32 × Int32 × (Nat → Int32) × (Nat → Int32) × (Nat → Int32) × (Nat → Int32)) :=
  bc12 (F_X1_removePulse a1 v_depth v_saved v_n v_pulses v_front v_least v_window v_lengths v_fractions v_pulseTimes v_pulseEnergies x1) (fun r1 w2_depth w3_saved w4_o1_2 w5_o1_5 w6_o1_6 w7_o1_7 w8_o1_8 w9_o2 w10_o3 w11_o4 w12_o5 =>
  gin 0 1 <|
  some (0, w2_depth, w3_saved, vp_updL v_out (Int32.toNatClampNeg 0) r1.toInt64, w4_o1_2, w5_o1_5, w6_o1_6, w7_o1_7, w8_o1_8, w9_o2, w10_o3, w11_o4, w12_o5)) (fun k9 => if k9 = 0 then (none) else if k9 = 2 then (none) else none)
theorem met_L_removePulse (l : Launch) (hl : l.stackTraces = false) (Z : gZt) (a0 : Nat) (a7 : Nat) (az : Nat) (a1 : Nat) (a2 : Nat) (a2_1 : Nat) (a2_2 : Nat) (a2_3 : Nat) (a2_4 : Nat) (a8 : Nat) (a4 : Nat) (a3 : Nat) (a5 : Nat) (ro : va_W) (v_depth : Int32) (v_scriptLength : Int32) (v_saved : Nat → Option Nat) (v_out : Nat → Int64) (v_n : Int32) (v_pulses : Int32) (v_front : Int32) (v_least : Int32) (v_window : Int32) (v_lengths : Nat → Int32) (v_fractions : Nat → Int32) (v_pulseTimes : Nat → Int32) (v_pulseEnergies : Nat → Int32) (x1 : Int32) (r : Int32) (r_depth : Int32) (r_saved : Nat → Option Nat) (r_out : Nat → Int64) (o1_2 : Int32) (o1_5 : Int32) (o1_6 : Int32) (o1_7 : Int32) (o1_8 : Int32) (o2 : Nat → Int32) (o3 : Nat → Int32) (o4 : Nat → Int32) (o5 : Nat → Int32) (hsv : gSv v_saved 3 ro) (h : F_L_removePulse a1 v_depth v_saved v_out v_n v_pulses v_front v_least v_window v_lengths v_fractions v_pulseTimes v_pulseEnergies x1 = some (r, r_depth, r_saved, r_out, o1_2, o1_5, o1_6, o1_7, o1_8, o2, o3, o4, o5)) : Ct l yX0_removePulse (wsW_ yX0_removePulse cX0_removePulse 4 (some .int) [(0, 9, 12, 21), (0, 9, 15, 15)]) rm_L_removePulse Z [.ref a0, .int x1, .ref az] [(a0, .inr (0, [.ref a1, .ref a7, .int v_depth, .ref a8, .int v_scriptLength, .ref a4])), (a7, .inl (Z.2 3, 3, .inr (.inr (.inr (.inr v_saved))))), (az, .inl (Z.2 1, 1, .inr (.inl v_out)))] ([(a1, .inr (1, [.ref a2, .ref a3, .ref a5])), (a2, .inr (2, [.ref a2_1, .ref a2_2, .int v_n, .ref a2_3, .ref a2_4, .int v_pulses, .int v_front, .int v_least, .int v_window])), (a2_1, .inl (Z.2 0, 8, .inl v_lengths)), (a2_2, .inl (Z.2 0, 8, .inl v_fractions)), (a2_3, .inl (Z.2 0, 4, .inl v_pulseTimes)), (a2_4, .inl (Z.2 0, 4, .inl v_pulseEnergies))] ++ ro) (fun u : Nat × Nat × Nat × Nat × Nat × Nat => (some (.int r) : Option Value)) (fun u : Nat × Nat × Nat × Nat × Nat × Nat => ([(a0, .inr (0, [.ref u.1, .ref a7, .int r_depth, .ref a8, .int v_scriptLength, .ref a4])), (a7, .inl (Z.2 3, 3, .inr (.inr (.inr (.inr r_saved))))), (az, .inl (Z.2 1, 1, .inr (.inl r_out))), (u.1, .inr (1, [.ref u.2.1, .ref a3, .ref a5])), (u.2.1, .inr (2, [.ref u.2.2.1, .ref u.2.2.2.1, .int o1_2, .ref u.2.2.2.2.1, .ref u.2.2.2.2.2, .int o1_5, .int o1_6, .int o1_7, .int o1_8])), (u.2.2.1, .inl (Z.2 0, 8, .inl o2)), (u.2.2.2.1, .inl (Z.2 0, 8, .inl o3)), (u.2.2.2.2.1, .inl (Z.2 0, 4, .inl o4)), (u.2.2.2.2.2, .inl (Z.2 0, 4, .inl o5))] : va_W)) := by
  refine Ct.ofH cX0_removePulse 4 (some .int) [(0, 9, 12, 21), (0, 9, 15, 15)] "LineEchoesLaw" [some (.ref a0), some (.int x1), some (.ref az), none] 1 (by decide) rfl (Nat.le_of_ble_eq_true rfl) rfl (fun p e s m args below meth c A X ht => ?_)
  unfold F_L_removePulse at h
  refine g_aload_n X rfl dX0_removePulse_0 1 rfl ?_
  refine g_iconst X 0 dX0_removePulse_1 2 rfl kI_0 ?_
  refine g_aload_n X rfl dX0_removePulse_2 3 rfl ?_
  refine g_iload_n X rfl dX0_removePulse_3 4 rfl ?_
  rcases bc12_e h with ⟨k9, hcl, hg⟩ | ⟨r1, w2_depth, w3_saved, w4_o1_2, w5_o1_5, w6_o1_6, w7_o1_7, w8_o1_8, w9_o2, w10_o3, w11_o4, w12_o5, hcl, h⟩
  · by_cases hk0 : k9 = 0
    · subst hk0
      replace h := if_t rfl hg
      refine g_xcV X (met_X1_removePulse l hl Z a0 a7 a1 a2 a2_1 a2_2 a2_3 a2_4 a8 a4 a3 a5 ro v_depth v_scriptLength v_saved v_n v_pulses v_front v_least v_window v_lengths v_fractions v_pulseTimes v_pulseEnergies x1 _ hsv hcl).thr [0, 1] [2] _ (wr := [(az, .inl (Z.2 1, 1, .inr (.inl v_out)))]) (gAt4_tail (isO := [3, 4, 5, 6, 7, 8]) ⟨rfl, rfl, rfl, rfl, rfl, by decide, by decide⟩) 0 gC0 rfl rfl (lw_V q1137 q1138 q1139 q69 q1140) md_X1_removePulse ⟨(Nat.le_of_ble_eq_true rfl), (Nat.le_of_ble_eq_true rfl)⟩ rfl dX0_removePulse_4 [] ⟨0, 9, 12, 21⟩ [⟨0, 9, 15, 15⟩] ht (Nat.le_of_ble_eq_true rfl) (Nat.le_of_ble_eq_true rfl) (st := [.int 0, .ref az]) rfl (Nat.le_of_ble_eq_true rfl) (List.forall_mem_nil _) (by decide) (by decide) q1094 gCa0 rfl 17 485 rfl rfl (fun q9 => ?_)
      cases h
    replace hg := if_f hk0 hg
    by_cases hk2 : k9 = 2
    · subst hk2
      replace h := if_t rfl hg
      refine g_xcV X (met_X1_removePulse l hl Z a0 a7 a1 a2 a2_1 a2_2 a2_3 a2_4 a8 a4 a3 a5 ro v_depth v_scriptLength v_saved v_n v_pulses v_front v_least v_window v_lengths v_fractions v_pulseTimes v_pulseEnergies x1 _ hsv hcl).thr [0, 1] [2] _ (wr := [(az, .inl (Z.2 1, 1, .inr (.inl v_out)))]) (gAt4_tail (isO := [3, 4, 5, 6, 7, 8]) ⟨rfl, rfl, rfl, rfl, rfl, by decide, by decide⟩) 0 gC0 rfl rfl (lw_V q1137 q1138 q1139 q69 q1140) md_X1_removePulse ⟨(Nat.le_of_ble_eq_true rfl), (Nat.le_of_ble_eq_true rfl)⟩ rfl dX0_removePulse_4 [⟨0, 9, 12, 21⟩] ⟨0, 9, 15, 15⟩ [] ht (Nat.le_of_ble_eq_true rfl) (Nat.le_of_ble_eq_true rfl) (st := [.int 0, .ref az]) rfl (Nat.le_of_ble_eq_true rfl) (List.forall_mem_cons.mpr ⟨Or.inr ⟨by decide, _, q1094, X.kk.2.2.2.2.2.2.2.2.2.2 2 0 (by decide) (by decide) (by decide)⟩, (List.forall_mem_nil _)⟩) (by decide) (by decide) q1086 gCa2 rfl 17 485 rfl rfl (fun q9 => ?_)
      cases h
    replace hg := if_f hk2 hg
    cases hg
  refine g_callV1 X (met_X1_removePulse l hl Z a0 a7 a1 a2 a2_1 a2_2 a2_3 a2_4 a8 a4 a3 a5 ro v_depth v_scriptLength v_saved v_n v_pulses v_front v_least v_window v_lengths v_fractions v_pulseTimes v_pulseEnergies x1 _ hsv hcl).ret [0, 1] [2] _ (wr := [(az, .inl (Z.2 1, 1, .inr (.inl v_out)))]) (gAt4_tail (isO := [3, 4, 5, 6, 7, 8]) ⟨rfl, rfl, rfl, rfl, rfl, by decide, by decide⟩) 0 gC0 rfl rfl (lw_V q1137 q1138 q1139 q69 q1140) md_X1_removePulse ⟨(Nat.le_of_ble_eq_true rfl), (Nat.le_of_ble_eq_true rfl)⟩ rfl dX0_removePulse_4 7 rfl 17 485 rfl rfl (Nat.le_of_ble_eq_true rfl) (Nat.le_of_ble_eq_true rfl) (st := [.int 0, .ref az]) rfl (Nat.le_of_ble_eq_true rfl) (fun _ => rfl) (fun u => ?_)
  obtain ⟨b13, b14, b15, b16, b17, b18⟩ := u
  refine g_i2l X dX0_removePulse_7 8 rfl ?_
  obtain ⟨hi, h⟩ := gin_e h
  refine g_last X 0 rfl hi dX0_removePulse_8 9 rfl ?_
  refine g_goto X dX0_removePulse_9 18 (by decide) ?_
  refine g_iconst X 0 dX0_removePulse_18 19 rfl kI_0 ?_
  refine g_keep [1, 2, 0, 3, 4, 5, 6, 7, 8] [(a0, .inr (0, [.ref b13, .ref a7, .int w2_depth, .ref a8, .int v_scriptLength, .ref a4])), (a7, .inl (Z.2 3, 3, .inr (.inr (.inr (.inr w3_saved))))), (az, .inl (Z.2 1, 1, .inr (.inl (vp_updL v_out (Int32.toNatClampNeg 0) r1.toInt64)))), (b13, .inr (1, [.ref b14, .ref a3, .ref a5])), (b14, .inr (2, [.ref b15, .ref b16, .int w4_o1_2, .ref b17, .ref b18, .int w5_o1_5, .int w6_o1_6, .int w7_o1_7, .int w8_o1_8])), (b15, .inl (Z.2 0, 8, .inl w9_o2)), (b16, .inl (Z.2 0, 8, .inl w10_o3)), (b17, .inl (Z.2 0, 4, .inl w11_o4)), (b18, .inl (Z.2 0, 4, .inl w12_o5))] rfl rfl ?_
  obtain ⟨rfl, rfl, rfl, rfl, rfl, rfl, rfl, rfl, rfl, rfl, rfl, rfl, rfl⟩ := rt13 h
  exact g_iret X dX0_removePulse_19 (b13, b14, b15, b16, b17, b18) rfl rfl (Nat.le_of_ble_eq_true rfl) (Nat.le_of_ble_eq_true rfl)
/-! LineEchoesLaw.removePulse(LLineEchoes;I[J)I -/
abbrev rm_LX_removePulse : Room := { frames := 9, cells := 17, slots := 485, locals := 143 }
def F_LX_removePulse (a1 : Nat) (v_depth : Int32) (v_saved : Nat → Option Nat) (v_n : Int32) (v_pulses : Int32) (v_front : Int32) (v_least : Int32) (v_window : Int32) (v_lengths : Nat → Int32) (v_fractions : Nat → Int32) (v_pulseTimes : Nat → Int32) (v_pulseEnergies : Nat → Int32) (x1 : Int32) : Option (Int32 × Int32 × (Nat → Option Nat)) :=
  bc12 (F_X1_removePulse a1 v_depth v_saved v_n v_pulses v_front v_least v_window v_lengths v_fractions v_pulseTimes v_pulseEnergies x1) (fun r1 w2_depth w3_saved w4_o1_2 w5_o1_5 w6_o1_6 w7_o1_7 w8_o1_8 w9_o2 w10_o3 w11_o4 w12_o5 =>
  none) (fun k9 => if k9 = 0 then (some (1, v_depth, v_saved)) else if k9 = 2 then (some (2, v_depth, v_saved)) else none)
theorem met_LX_removePulse (l : Launch) (hl : l.stackTraces = false) (Z : gZt) (a0 : Nat) (a7 : Nat) (az : Nat) (a1 : Nat) (a2 : Nat) (a2_1 : Nat) (a2_2 : Nat) (a2_3 : Nat) (a2_4 : Nat) (a8 : Nat) (a4 : Nat) (a3 : Nat) (a5 : Nat) (ro : va_W) (v_depth : Int32) (v_scriptLength : Int32) (v_saved : Nat → Option Nat) (v_out : Nat → Int64) (v_n : Int32) (v_pulses : Int32) (v_front : Int32) (v_least : Int32) (v_window : Int32) (v_lengths : Nat → Int32) (v_fractions : Nat → Int32) (v_pulseTimes : Nat → Int32) (v_pulseEnergies : Nat → Int32) (x1 : Int32) (r : Int32) (r_depth : Int32) (r_saved : Nat → Option Nat) (hsv : gSv v_saved 3 ro) (h : F_LX_removePulse a1 v_depth v_saved v_n v_pulses v_front v_least v_window v_lengths v_fractions v_pulseTimes v_pulseEnergies x1 = some (r, r_depth, r_saved)) : Ct l yX0_removePulse (wsW_ yX0_removePulse cX0_removePulse 4 (some .int) [(0, 9, 12, 21), (0, 9, 15, 15)]) rm_LX_removePulse Z [.ref a0, .int x1, .ref az] [(a0, .inr (0, [.ref a1, .ref a7, .int v_depth, .ref a8, .int v_scriptLength, .ref a4])), (a7, .inl (Z.2 3, 3, .inr (.inr (.inr (.inr v_saved))))), (az, .inl (Z.2 1, 1, .inr (.inl v_out)))] ([(a1, .inr (1, [.ref a2, .ref a3, .ref a5])), (a2, .inr (2, [.ref a2_1, .ref a2_2, .int v_n, .ref a2_3, .ref a2_4, .int v_pulses, .int v_front, .int v_least, .int v_window])), (a2_1, .inl (Z.2 0, 8, .inl v_lengths)), (a2_2, .inl (Z.2 0, 8, .inl v_fractions)), (a2_3, .inl (Z.2 0, 4, .inl v_pulseTimes)), (a2_4, .inl (Z.2 0, 4, .inl v_pulseEnergies))] ++ ro) (fun _ : Unit => (some (.int r) : Option Value)) (fun _ : Unit => ([(a0, .inr (0, [.ref a1, .ref a7, .int r_depth, .ref a8, .int v_scriptLength, .ref a4])), (a7, .inl (Z.2 3, 3, .inr (.inr (.inr (.inr r_saved))))), (az, .inl (Z.2 1, 1, .inr (.inl v_out)))] : va_W)) := by
  refine Ct.ofH cX0_removePulse 4 (some .int) [(0, 9, 12, 21), (0, 9, 15, 15)] "LineEchoesLaw" [some (.ref a0), some (.int x1), some (.ref az), none] 1 (by decide) rfl (Nat.le_of_ble_eq_true rfl) rfl (fun p e s m args below meth c A X ht => ?_)
  unfold F_LX_removePulse at h
  refine g_aload_n X rfl dX0_removePulse_0 1 rfl ?_
  refine g_iconst X 0 dX0_removePulse_1 2 rfl kI_0 ?_
  refine g_aload_n X rfl dX0_removePulse_2 3 rfl ?_
  refine g_iload_n X rfl dX0_removePulse_3 4 rfl ?_
  rcases bc12_e h with ⟨k9, hcl, hg⟩ | ⟨r1, w2_depth, w3_saved, w4_o1_2, w5_o1_5, w6_o1_6, w7_o1_7, w8_o1_8, w9_o2, w10_o3, w11_o4, w12_o5, hcl, h⟩
  · by_cases hk0 : k9 = 0
    · subst hk0
      replace h := if_t rfl hg
      refine g_xcV X (met_X1_removePulse l hl Z a0 a7 a1 a2 a2_1 a2_2 a2_3 a2_4 a8 a4 a3 a5 ro v_depth v_scriptLength v_saved v_n v_pulses v_front v_least v_window v_lengths v_fractions v_pulseTimes v_pulseEnergies x1 _ hsv hcl).thr [0, 1] [2] _ (wr := [(az, .inl (Z.2 1, 1, .inr (.inl v_out)))]) (gAt4_tail (isO := [3, 4, 5, 6, 7, 8]) ⟨rfl, rfl, rfl, rfl, rfl, by decide, by decide⟩) 0 gC0 rfl rfl (lw_V q1137 q1138 q1139 q69 q1140) md_X1_removePulse ⟨(Nat.le_of_ble_eq_true rfl), (Nat.le_of_ble_eq_true rfl)⟩ rfl dX0_removePulse_4 [] ⟨0, 9, 12, 21⟩ [⟨0, 9, 15, 15⟩] ht (Nat.le_of_ble_eq_true rfl) (Nat.le_of_ble_eq_true rfl) (st := [.int 0, .ref az]) rfl (Nat.le_of_ble_eq_true rfl) (List.forall_mem_nil _) (by decide) (by decide) q1094 gCa0 rfl 17 485 rfl rfl (fun q9 => ?_)
      refine g_astore_n X dX0_removePulse_12 13 rfl (Nat.le_of_ble_eq_true rfl) rfl [some (.ref a0), some (.int x1), some (.ref az), some (.ref q9)] rfl ?_
      refine g_iconst X 1 dX0_removePulse_13 14 rfl kI_1 ?_
      refine g_keep [1, 2, 0] [(a0, .inr (0, [.ref a1, .ref a7, .int v_depth, .ref a8, .int v_scriptLength, .ref a4])), (a7, .inl (Z.2 3, 3, .inr (.inr (.inr (.inr v_saved))))), (az, .inl (Z.2 1, 1, .inr (.inl v_out)))] rfl rfl ?_
      cases h
      exact g_iret X dX0_removePulse_14 () rfl rfl (Nat.le_of_ble_eq_true rfl) (Nat.le_of_ble_eq_true rfl)
    replace hg := if_f hk0 hg
    by_cases hk2 : k9 = 2
    · subst hk2
      replace h := if_t rfl hg
      refine g_xcV X (met_X1_removePulse l hl Z a0 a7 a1 a2 a2_1 a2_2 a2_3 a2_4 a8 a4 a3 a5 ro v_depth v_scriptLength v_saved v_n v_pulses v_front v_least v_window v_lengths v_fractions v_pulseTimes v_pulseEnergies x1 _ hsv hcl).thr [0, 1] [2] _ (wr := [(az, .inl (Z.2 1, 1, .inr (.inl v_out)))]) (gAt4_tail (isO := [3, 4, 5, 6, 7, 8]) ⟨rfl, rfl, rfl, rfl, rfl, by decide, by decide⟩) 0 gC0 rfl rfl (lw_V q1137 q1138 q1139 q69 q1140) md_X1_removePulse ⟨(Nat.le_of_ble_eq_true rfl), (Nat.le_of_ble_eq_true rfl)⟩ rfl dX0_removePulse_4 [⟨0, 9, 12, 21⟩] ⟨0, 9, 15, 15⟩ [] ht (Nat.le_of_ble_eq_true rfl) (Nat.le_of_ble_eq_true rfl) (st := [.int 0, .ref az]) rfl (Nat.le_of_ble_eq_true rfl) (List.forall_mem_cons.mpr ⟨Or.inr ⟨by decide, _, q1094, X.kk.2.2.2.2.2.2.2.2.2.2 2 0 (by decide) (by decide) (by decide)⟩, (List.forall_mem_nil _)⟩) (by decide) (by decide) q1086 gCa2 rfl 17 485 rfl rfl (fun q9 => ?_)
      refine g_astore_n X dX0_removePulse_15 16 rfl (Nat.le_of_ble_eq_true rfl) rfl [some (.ref a0), some (.int x1), some (.ref az), some (.ref q9)] rfl ?_
      refine g_iconst X 2 dX0_removePulse_16 17 rfl kI_2 ?_
      refine g_keep [1, 2, 0] [(a0, .inr (0, [.ref a1, .ref a7, .int v_depth, .ref a8, .int v_scriptLength, .ref a4])), (a7, .inl (Z.2 3, 3, .inr (.inr (.inr (.inr v_saved))))), (az, .inl (Z.2 1, 1, .inr (.inl v_out)))] rfl rfl ?_
      cases h
      exact g_iret X dX0_removePulse_17 () rfl rfl (Nat.le_of_ble_eq_true rfl) (Nat.le_of_ble_eq_true rfl)
    replace hg := if_f hk2 hg
    cases hg
  refine g_callV1 X (met_X1_removePulse l hl Z a0 a7 a1 a2 a2_1 a2_2 a2_3 a2_4 a8 a4 a3 a5 ro v_depth v_scriptLength v_saved v_n v_pulses v_front v_least v_window v_lengths v_fractions v_pulseTimes v_pulseEnergies x1 _ hsv hcl).ret [0, 1] [2] _ (wr := [(az, .inl (Z.2 1, 1, .inr (.inl v_out)))]) (gAt4_tail (isO := [3, 4, 5, 6, 7, 8]) ⟨rfl, rfl, rfl, rfl, rfl, by decide, by decide⟩) 0 gC0 rfl rfl (lw_V q1137 q1138 q1139 q69 q1140) md_X1_removePulse ⟨(Nat.le_of_ble_eq_true rfl), (Nat.le_of_ble_eq_true rfl)⟩ rfl dX0_removePulse_4 7 rfl 17 485 rfl rfl (Nat.le_of_ble_eq_true rfl) (Nat.le_of_ble_eq_true rfl) (st := [.int 0, .ref az]) rfl (Nat.le_of_ble_eq_true rfl) (fun _ => rfl) (fun u => ?_)
  obtain ⟨b13, b14, b15, b16, b17, b18⟩ := u
  cases h
/-! LineEchoesLaw.part(LLineEchoes;II[J)I -/
abbrev rm_L_part : Room := { frames := 10, cells := 2, slots := 12, locals := 164 }
def F_L_part (v_out : Nat → Int64) (v_n : Int32) (v_lengths : Nat → Int32) (v_fractions : Nat → Int32) (x1 : Int32) (x2 : Int32) : Option (Int32 × (Nat → Int64)) :=
  bc1 (F_X1_part v_n v_lengths v_fractions x1 x2) (fun r1 =>
  gin 0 1 <|
  some (0, vp_updL v_out (Int32.toNatClampNeg 0) r1.toInt64)) (fun k9 => if k9 = 0 then (none) else if k9 = 1 then (none) else none)
theorem met_L_part (l : Launch) (hl : l.stackTraces = false) (Z : gZt) (az : Nat) (a0 : Nat) (a1 : Nat) (a2 : Nat) (a2_1 : Nat) (a2_2 : Nat) (a2_3 : Nat) (a2_4 : Nat) (a7 : Nat) (a8 : Nat) (a4 : Nat) (a3 : Nat) (a5 : Nat) (v_out : Nat → Int64) (v_depth : Int32) (v_scriptLength : Int32) (v_n : Int32) (v_pulses : Int32) (v_front : Int32) (v_least : Int32) (v_window : Int32) (v_lengths : Nat → Int32) (v_fractions : Nat → Int32) (v_pulseTimes : Nat → Int32) (v_pulseEnergies : Nat → Int32) (x1 : Int32) (x2 : Int32) (r : Int32) (r_out : Nat → Int64) (h : F_L_part v_out v_n v_lengths v_fractions x1 x2 = some (r, r_out)) : Ct l yX0_part (wsW_ yX0_part cX0_part 5 (some .int) [(0, 10, 13, 21), (0, 10, 17, 13)]) rm_L_part Z [.ref a0, .int x1, .int x2, .ref az] [(az, .inl (Z.2 1, 1, .inr (.inl v_out)))] [(a0, .inr (0, [.ref a1, .ref a7, .int v_depth, .ref a8, .int v_scriptLength, .ref a4])), (a1, .inr (1, [.ref a2, .ref a3, .ref a5])), (a2, .inr (2, [.ref a2_1, .ref a2_2, .int v_n, .ref a2_3, .ref a2_4, .int v_pulses, .int v_front, .int v_least, .int v_window])), (a2_1, .inl (Z.2 0, 8, .inl v_lengths)), (a2_2, .inl (Z.2 0, 8, .inl v_fractions)), (a2_3, .inl (Z.2 0, 4, .inl v_pulseTimes)), (a2_4, .inl (Z.2 0, 4, .inl v_pulseEnergies))] (fun _ : Unit => (some (.int r) : Option Value)) (fun _ : Unit => ([(az, .inl (Z.2 1, 1, .inr (.inl r_out)))] : va_W)) := by
  refine Ct.ofH cX0_part 5 (some .int) [(0, 10, 13, 21), (0, 10, 17, 13)] "LineEchoesLaw" [some (.ref a0), some (.int x1), some (.int x2), some (.ref az), none] 1 (by decide) rfl (Nat.le_of_ble_eq_true rfl) rfl (fun p e s m args below meth c A X ht => ?_)
  unfold F_L_part at h
  refine g_aload_n X rfl dX0_part_0 1 rfl ?_
  refine g_iconst X 0 dX0_part_1 2 rfl kI_0 ?_
  refine g_aload_n X rfl dX0_part_2 3 rfl ?_
  refine g_iload_n X rfl dX0_part_3 4 rfl ?_
  refine g_iload_n X rfl dX0_part_4 5 rfl ?_
  rcases bc1_e h with ⟨k9, hcl, hg⟩ | ⟨r1, hcl, h⟩
  · by_cases hk0 : k9 = 0
    · subst hk0
      replace h := if_t rfl hg
      refine g_xcV X (met_X1_part l hl Z a0 a1 a2 a2_1 a2_2 a2_3 a2_4 a7 a8 a4 a3 a5 v_depth v_scriptLength v_n v_pulses v_front v_least v_window v_lengths v_fractions v_pulseTimes v_pulseEnergies x1 x2 _ hcl).thr [] [0] [1, 2, 3, 4, 5, 6, 7] (wr := [(az, .inl (Z.2 1, 1, .inr (.inl v_out)))]) ⟨rfl, rfl, rfl, rfl, rfl, by decide, by decide⟩ 1 gC0 rfl rfl (lw_V q1151 q1152 q1153 q69 q1154) md_X1_part ⟨(Nat.le_of_ble_eq_true rfl), (Nat.le_of_ble_eq_true rfl)⟩ rfl dX0_part_5 [] ⟨0, 10, 13, 21⟩ [⟨0, 10, 17, 13⟩] ht (Nat.le_of_ble_eq_true rfl) (Nat.le_of_ble_eq_true rfl) (st := [.int 0, .ref az]) rfl (Nat.le_of_ble_eq_true rfl) (List.forall_mem_nil _) (by decide) (by decide) q1094 gCa0 rfl 2 12 rfl rfl (fun q9 => ?_)
      cases h
    replace hg := if_f hk0 hg
    by_cases hk1 : k9 = 1
    · subst hk1
      replace h := if_t rfl hg
      refine g_xcV X (met_X1_part l hl Z a0 a1 a2 a2_1 a2_2 a2_3 a2_4 a7 a8 a4 a3 a5 v_depth v_scriptLength v_n v_pulses v_front v_least v_window v_lengths v_fractions v_pulseTimes v_pulseEnergies x1 x2 _ hcl).thr [] [0] [1, 2, 3, 4, 5, 6, 7] (wr := [(az, .inl (Z.2 1, 1, .inr (.inl v_out)))]) ⟨rfl, rfl, rfl, rfl, rfl, by decide, by decide⟩ 1 gC0 rfl rfl (lw_V q1151 q1152 q1153 q69 q1154) md_X1_part ⟨(Nat.le_of_ble_eq_true rfl), (Nat.le_of_ble_eq_true rfl)⟩ rfl dX0_part_5 [⟨0, 10, 13, 21⟩] ⟨0, 10, 17, 13⟩ [] ht (Nat.le_of_ble_eq_true rfl) (Nat.le_of_ble_eq_true rfl) (st := [.int 0, .ref az]) rfl (Nat.le_of_ble_eq_true rfl) (List.forall_mem_cons.mpr ⟨Or.inr ⟨by decide, _, q1094, X.kk.2.2.2.2.2.2.2.2.2.2 1 0 (by decide) (by decide) (by decide)⟩, (List.forall_mem_nil _)⟩) (by decide) (by decide) q1085 gCa1 rfl 2 12 rfl rfl (fun q9 => ?_)
      cases h
    replace hg := if_f hk1 hg
    cases hg
  refine g_callV1 X (met_X1_part l hl Z a0 a1 a2 a2_1 a2_2 a2_3 a2_4 a7 a8 a4 a3 a5 v_depth v_scriptLength v_n v_pulses v_front v_least v_window v_lengths v_fractions v_pulseTimes v_pulseEnergies x1 x2 _ hcl).ret [] [0] [1, 2, 3, 4, 5, 6, 7] (wr := [(az, .inl (Z.2 1, 1, .inr (.inl v_out)))]) ⟨rfl, rfl, rfl, rfl, rfl, by decide, by decide⟩ 1 gC0 rfl rfl (lw_V q1151 q1152 q1153 q69 q1154) md_X1_part ⟨(Nat.le_of_ble_eq_true rfl), (Nat.le_of_ble_eq_true rfl)⟩ rfl dX0_part_5 8 rfl 2 12 rfl rfl (Nat.le_of_ble_eq_true rfl) (Nat.le_of_ble_eq_true rfl) (st := [.int 0, .ref az]) rfl (Nat.le_of_ble_eq_true rfl) (fun _ => rfl) (fun _ => ?_)
  refine g_i2l X dX0_part_8 9 rfl ?_
  obtain ⟨hi, h⟩ := gin_e h
  refine g_last X 0 rfl hi dX0_part_9 10 rfl ?_
  refine g_goto X dX0_part_10 21 (by decide) ?_
  refine g_iconst X 0 dX0_part_21 22 rfl kI_0 ?_
  cases h
  exact g_iret X dX0_part_22 () rfl rfl (Nat.le_of_ble_eq_true rfl) (Nat.le_of_ble_eq_true rfl)
/-! LineEchoesLaw.part(LLineEchoes;II[J)I -/
abbrev rm_LX_part : Room := { frames := 10, cells := 2, slots := 12, locals := 164 }
def F_LX_part (v_n : Int32) (v_lengths : Nat → Int32) (v_fractions : Nat → Int32) (x1 : Int32) (x2 : Int32) : Option (Int32) :=
  bc1 (F_X1_part v_n v_lengths v_fractions x1 x2) (fun r1 =>
  none) (fun k9 => if k9 = 0 then (some 1) else if k9 = 1 then (some 2) else none)
theorem met_LX_part (l : Launch) (hl : l.stackTraces = false) (Z : gZt) (az : Nat) (a0 : Nat) (a1 : Nat) (a2 : Nat) (a2_1 : Nat) (a2_2 : Nat) (a2_3 : Nat) (a2_4 : Nat) (a7 : Nat) (a8 : Nat) (a4 : Nat) (a3 : Nat) (a5 : Nat) (v_out : Nat → Int64) (v_depth : Int32) (v_scriptLength : Int32) (v_n : Int32) (v_pulses : Int32) (v_front : Int32) (v_least : Int32) (v_window : Int32) (v_lengths : Nat → Int32) (v_fractions : Nat → Int32) (v_pulseTimes : Nat → Int32) (v_pulseEnergies : Nat → Int32) (x1 : Int32) (x2 : Int32) (r : Int32) (h : F_LX_part v_n v_lengths v_fractions x1 x2 = some r) : Ct l yX0_part (wsW_ yX0_part cX0_part 5 (some .int) [(0, 10, 13, 21), (0, 10, 17, 13)]) rm_LX_part Z [.ref a0, .int x1, .int x2, .ref az] [(az, .inl (Z.2 1, 1, .inr (.inl v_out)))] [(a0, .inr (0, [.ref a1, .ref a7, .int v_depth, .ref a8, .int v_scriptLength, .ref a4])), (a1, .inr (1, [.ref a2, .ref a3, .ref a5])), (a2, .inr (2, [.ref a2_1, .ref a2_2, .int v_n, .ref a2_3, .ref a2_4, .int v_pulses, .int v_front, .int v_least, .int v_window])), (a2_1, .inl (Z.2 0, 8, .inl v_lengths)), (a2_2, .inl (Z.2 0, 8, .inl v_fractions)), (a2_3, .inl (Z.2 0, 4, .inl v_pulseTimes)), (a2_4, .inl (Z.2 0, 4, .inl v_pulseEnergies))] (fun _ : Unit => (some (.int r) : Option Value)) (fun _ : Unit => ([(az, .inl (Z.2 1, 1, .inr (.inl v_out)))] : va_W)) := by
  refine Ct.ofH cX0_part 5 (some .int) [(0, 10, 13, 21), (0, 10, 17, 13)] "LineEchoesLaw" [some (.ref a0), some (.int x1), some (.int x2), some (.ref az), none] 1 (by decide) rfl (Nat.le_of_ble_eq_true rfl) rfl (fun p e s m args below meth c A X ht => ?_)
  unfold F_LX_part at h
  refine g_aload_n X rfl dX0_part_0 1 rfl ?_
  refine g_iconst X 0 dX0_part_1 2 rfl kI_0 ?_
  refine g_aload_n X rfl dX0_part_2 3 rfl ?_
  refine g_iload_n X rfl dX0_part_3 4 rfl ?_
  refine g_iload_n X rfl dX0_part_4 5 rfl ?_
  rcases bc1_e h with ⟨k9, hcl, hg⟩ | ⟨r1, hcl, h⟩
  · by_cases hk0 : k9 = 0
    · subst hk0
      replace h := if_t rfl hg
      refine g_xcV X (met_X1_part l hl Z a0 a1 a2 a2_1 a2_2 a2_3 a2_4 a7 a8 a4 a3 a5 v_depth v_scriptLength v_n v_pulses v_front v_least v_window v_lengths v_fractions v_pulseTimes v_pulseEnergies x1 x2 _ hcl).thr [] [0] [1, 2, 3, 4, 5, 6, 7] (wr := [(az, .inl (Z.2 1, 1, .inr (.inl v_out)))]) ⟨rfl, rfl, rfl, rfl, rfl, by decide, by decide⟩ 1 gC0 rfl rfl (lw_V q1151 q1152 q1153 q69 q1154) md_X1_part ⟨(Nat.le_of_ble_eq_true rfl), (Nat.le_of_ble_eq_true rfl)⟩ rfl dX0_part_5 [] ⟨0, 10, 13, 21⟩ [⟨0, 10, 17, 13⟩] ht (Nat.le_of_ble_eq_true rfl) (Nat.le_of_ble_eq_true rfl) (st := [.int 0, .ref az]) rfl (Nat.le_of_ble_eq_true rfl) (List.forall_mem_nil _) (by decide) (by decide) q1094 gCa0 rfl 2 12 rfl rfl (fun q9 => ?_)
      refine g_astore X dX0_part_13 15 rfl (Nat.le_of_ble_eq_true rfl) rfl [some (.ref a0), some (.int x1), some (.int x2), some (.ref az), some (.ref q9)] rfl ?_
      refine g_iconst X 1 dX0_part_15 16 rfl kI_1 ?_
      cases h
      exact g_iret X dX0_part_16 () rfl rfl (Nat.le_of_ble_eq_true rfl) (Nat.le_of_ble_eq_true rfl)
    replace hg := if_f hk0 hg
    by_cases hk1 : k9 = 1
    · subst hk1
      replace h := if_t rfl hg
      refine g_xcV X (met_X1_part l hl Z a0 a1 a2 a2_1 a2_2 a2_3 a2_4 a7 a8 a4 a3 a5 v_depth v_scriptLength v_n v_pulses v_front v_least v_window v_lengths v_fractions v_pulseTimes v_pulseEnergies x1 x2 _ hcl).thr [] [0] [1, 2, 3, 4, 5, 6, 7] (wr := [(az, .inl (Z.2 1, 1, .inr (.inl v_out)))]) ⟨rfl, rfl, rfl, rfl, rfl, by decide, by decide⟩ 1 gC0 rfl rfl (lw_V q1151 q1152 q1153 q69 q1154) md_X1_part ⟨(Nat.le_of_ble_eq_true rfl), (Nat.le_of_ble_eq_true rfl)⟩ rfl dX0_part_5 [⟨0, 10, 13, 21⟩] ⟨0, 10, 17, 13⟩ [] ht (Nat.le_of_ble_eq_true rfl) (Nat.le_of_ble_eq_true rfl) (st := [.int 0, .ref az]) rfl (Nat.le_of_ble_eq_true rfl) (List.forall_mem_cons.mpr ⟨Or.inr ⟨by decide, _, q1094, X.kk.2.2.2.2.2.2.2.2.2.2 1 0 (by decide) (by decide) (by decide)⟩, (List.forall_mem_nil _)⟩) (by decide) (by decide) q1085 gCa1 rfl 2 12 rfl rfl (fun q9 => ?_)
      refine g_astore X dX0_part_17 19 rfl (Nat.le_of_ble_eq_true rfl) rfl [some (.ref a0), some (.int x1), some (.int x2), some (.ref az), some (.ref q9)] rfl ?_
      refine g_iconst X 2 dX0_part_19 20 rfl kI_2 ?_
      cases h
      exact g_iret X dX0_part_20 () rfl rfl (Nat.le_of_ble_eq_true rfl) (Nat.le_of_ble_eq_true rfl)
    replace hg := if_f hk1 hg
    cases hg
  refine g_callV1 X (met_X1_part l hl Z a0 a1 a2 a2_1 a2_2 a2_3 a2_4 a7 a8 a4 a3 a5 v_depth v_scriptLength v_n v_pulses v_front v_least v_window v_lengths v_fractions v_pulseTimes v_pulseEnergies x1 x2 _ hcl).ret [] [0] [1, 2, 3, 4, 5, 6, 7] (wr := [(az, .inl (Z.2 1, 1, .inr (.inl v_out)))]) ⟨rfl, rfl, rfl, rfl, rfl, by decide, by decide⟩ 1 gC0 rfl rfl (lw_V q1151 q1152 q1153 q69 q1154) md_X1_part ⟨(Nat.le_of_ble_eq_true rfl), (Nat.le_of_ble_eq_true rfl)⟩ rfl dX0_part_5 8 rfl 2 12 rfl rfl (Nat.le_of_ble_eq_true rfl) (Nat.le_of_ble_eq_true rfl) (st := [.int 0, .ref az]) rfl (Nat.le_of_ble_eq_true rfl) (fun _ => rfl) (fun _ => ?_)
  cases h
/-! LineEchoesLaw.bench(LLineEchoes;I[J)I -/
abbrev rm_L_bench : Room := { frames := 9, cells := 1, slots := 6, locals := 142 }
def F_L_bench (v_out : Nat → Int64) (v_n : Int32) (v_pulses : Int32) (v_front : Int32) (v_least : Int32) (v_window : Int32) (v_lengths : Nat → Int32) (x1 : Int32) : Option (Int32 × (Nat → Int64)) :=
  bc1 (F_X1_bench v_n v_pulses v_front v_least v_window v_lengths x1) (fun r1 =>
  gin 0 1 <|
  some (0, vp_updL v_out (Int32.toNatClampNeg 0) r1.toInt64)) (fun k9 => if k9 = 1 then (none) else none)
theorem met_L_bench (l : Launch) (hl : l.stackTraces = false) (Z : gZt) (az : Nat) (a0 : Nat) (a1 : Nat) (a2 : Nat) (a2_1 : Nat) (a2_2 : Nat) (a2_3 : Nat) (a2_4 : Nat) (a7 : Nat) (a8 : Nat) (a4 : Nat) (a3 : Nat) (a5 : Nat) (v_out : Nat → Int64) (v_depth : Int32) (v_scriptLength : Int32) (v_n : Int32) (v_pulses : Int32) (v_front : Int32) (v_least : Int32) (v_window : Int32) (v_lengths : Nat → Int32) (v_fractions : Nat → Int32) (v_pulseTimes : Nat → Int32) (v_pulseEnergies : Nat → Int32) (x1 : Int32) (r : Int32) (r_out : Nat → Int64) (h : F_L_bench v_out v_n v_pulses v_front v_least v_window v_lengths x1 = some (r, r_out)) : Ct l yX0_bench (wsW_ yX0_bench cX0_bench 4 (some .int) [(0, 9, 12, 13)]) rm_L_bench Z [.ref a0, .int x1, .ref az] [(az, .inl (Z.2 1, 1, .inr (.inl v_out)))] [(a0, .inr (0, [.ref a1, .ref a7, .int v_depth, .ref a8, .int v_scriptLength, .ref a4])), (a1, .inr (1, [.ref a2, .ref a3, .ref a5])), (a2, .inr (2, [.ref a2_1, .ref a2_2, .int v_n, .ref a2_3, .ref a2_4, .int v_pulses, .int v_front, .int v_least, .int v_window])), (a2_1, .inl (Z.2 0, 8, .inl v_lengths)), (a2_2, .inl (Z.2 0, 8, .inl v_fractions)), (a2_3, .inl (Z.2 0, 4, .inl v_pulseTimes)), (a2_4, .inl (Z.2 0, 4, .inl v_pulseEnergies))] (fun _ : Unit => (some (.int r) : Option Value)) (fun _ : Unit => ([(az, .inl (Z.2 1, 1, .inr (.inl r_out)))] : va_W)) := by
  refine Ct.ofH cX0_bench 4 (some .int) [(0, 9, 12, 13)] "LineEchoesLaw" [some (.ref a0), some (.int x1), some (.ref az), none] 1 (by decide) rfl (Nat.le_of_ble_eq_true rfl) rfl (fun p e s m args below meth c A X ht => ?_)
  unfold F_L_bench at h
  refine g_aload_n X rfl dX0_bench_0 1 rfl ?_
  refine g_iconst X 0 dX0_bench_1 2 rfl kI_0 ?_
  refine g_aload_n X rfl dX0_bench_2 3 rfl ?_
  refine g_iload_n X rfl dX0_bench_3 4 rfl ?_
  rcases bc1_e h with ⟨k9, hcl, hg⟩ | ⟨r1, hcl, h⟩
  · by_cases hk1 : k9 = 1
    · subst hk1
      replace h := if_t rfl hg
      refine g_xcV X (met_X1_bench l hl Z a0 a1 a2 a2_1 a2_2 a2_3 a2_4 a7 a8 a4 a3 a5 v_depth v_scriptLength v_n v_pulses v_front v_least v_window v_lengths v_fractions v_pulseTimes v_pulseEnergies x1 _ hcl).thr [] [0] [1, 2, 3, 4, 5, 6, 7] (wr := [(az, .inl (Z.2 1, 1, .inr (.inl v_out)))]) ⟨rfl, rfl, rfl, rfl, rfl, by decide, by decide⟩ 1 gC0 rfl rfl (lw_V q1165 q1166 q1167 q69 q1168) md_X1_bench ⟨(Nat.le_of_ble_eq_true rfl), (Nat.le_of_ble_eq_true rfl)⟩ rfl dX0_bench_4 [] ⟨0, 9, 12, 13⟩ [] ht (Nat.le_of_ble_eq_true rfl) (Nat.le_of_ble_eq_true rfl) (st := [.int 0, .ref az]) rfl (Nat.le_of_ble_eq_true rfl) (List.forall_mem_nil _) (by decide) (by decide) q1085 gCa1 rfl 1 6 rfl rfl (fun q9 => ?_)
      cases h
    replace hg := if_f hk1 hg
    cases hg
  refine g_callV1 X (met_X1_bench l hl Z a0 a1 a2 a2_1 a2_2 a2_3 a2_4 a7 a8 a4 a3 a5 v_depth v_scriptLength v_n v_pulses v_front v_least v_window v_lengths v_fractions v_pulseTimes v_pulseEnergies x1 _ hcl).ret [] [0] [1, 2, 3, 4, 5, 6, 7] (wr := [(az, .inl (Z.2 1, 1, .inr (.inl v_out)))]) ⟨rfl, rfl, rfl, rfl, rfl, by decide, by decide⟩ 1 gC0 rfl rfl (lw_V q1165 q1166 q1167 q69 q1168) md_X1_bench ⟨(Nat.le_of_ble_eq_true rfl), (Nat.le_of_ble_eq_true rfl)⟩ rfl dX0_bench_4 7 rfl 1 6 rfl rfl (Nat.le_of_ble_eq_true rfl) (Nat.le_of_ble_eq_true rfl) (st := [.int 0, .ref az]) rfl (Nat.le_of_ble_eq_true rfl) (fun _ => rfl) (fun _ => ?_)
  refine g_i2l X dX0_bench_7 8 rfl ?_
  obtain ⟨hi, h⟩ := gin_e h
  refine g_last X 0 rfl hi dX0_bench_8 9 rfl ?_
  refine g_goto X dX0_bench_9 15 (by decide) ?_
  refine g_iconst X 0 dX0_bench_15 16 rfl kI_0 ?_
  cases h
  exact g_iret X dX0_bench_16 () rfl rfl (Nat.le_of_ble_eq_true rfl) (Nat.le_of_ble_eq_true rfl)
/-! LineEchoesLaw.bench(LLineEchoes;I[J)I -/
abbrev rm_LX_bench : Room := { frames := 9, cells := 1, slots := 6, locals := 142 }
def F_LX_bench (v_n : Int32) (v_pulses : Int32) (v_front : Int32) (v_least : Int32) (v_window : Int32) (v_lengths : Nat → Int32) (x1 : Int32) : Option (Int32) :=
  bc1 (F_X1_bench v_n v_pulses v_front v_least v_window v_lengths x1) (fun r1 =>
  none) (fun k9 => if k9 = 1 then (some 1) else none)
theorem met_LX_bench (l : Launch) (hl : l.stackTraces = false) (Z : gZt) (az : Nat) (a0 : Nat) (a1 : Nat) (a2 : Nat) (a2_1 : Nat) (a2_2 : Nat) (a2_3 : Nat) (a2_4 : Nat) (a7 : Nat) (a8 : Nat) (a4 : Nat) (a3 : Nat) (a5 : Nat) (v_out : Nat → Int64) (v_depth : Int32) (v_scriptLength : Int32) (v_n : Int32) (v_pulses : Int32) (v_front : Int32) (v_least : Int32) (v_window : Int32) (v_lengths : Nat → Int32) (v_fractions : Nat → Int32) (v_pulseTimes : Nat → Int32) (v_pulseEnergies : Nat → Int32) (x1 : Int32) (r : Int32) (h : F_LX_bench v_n v_pulses v_front v_least v_window v_lengths x1 = some r) : Ct l yX0_bench (wsW_ yX0_bench cX0_bench 4 (some .int) [(0, 9, 12, 13)]) rm_LX_bench Z [.ref a0, .int x1, .ref az] [(az, .inl (Z.2 1, 1, .inr (.inl v_out)))] [(a0, .inr (0, [.ref a1, .ref a7, .int v_depth, .ref a8, .int v_scriptLength, .ref a4])), (a1, .inr (1, [.ref a2, .ref a3, .ref a5])), (a2, .inr (2, [.ref a2_1, .ref a2_2, .int v_n, .ref a2_3, .ref a2_4, .int v_pulses, .int v_front, .int v_least, .int v_window])), (a2_1, .inl (Z.2 0, 8, .inl v_lengths)), (a2_2, .inl (Z.2 0, 8, .inl v_fractions)), (a2_3, .inl (Z.2 0, 4, .inl v_pulseTimes)), (a2_4, .inl (Z.2 0, 4, .inl v_pulseEnergies))] (fun _ : Unit => (some (.int r) : Option Value)) (fun _ : Unit => ([(az, .inl (Z.2 1, 1, .inr (.inl v_out)))] : va_W)) := by
  refine Ct.ofH cX0_bench 4 (some .int) [(0, 9, 12, 13)] "LineEchoesLaw" [some (.ref a0), some (.int x1), some (.ref az), none] 1 (by decide) rfl (Nat.le_of_ble_eq_true rfl) rfl (fun p e s m args below meth c A X ht => ?_)
  unfold F_LX_bench at h
  refine g_aload_n X rfl dX0_bench_0 1 rfl ?_
  refine g_iconst X 0 dX0_bench_1 2 rfl kI_0 ?_
  refine g_aload_n X rfl dX0_bench_2 3 rfl ?_
  refine g_iload_n X rfl dX0_bench_3 4 rfl ?_
  rcases bc1_e h with ⟨k9, hcl, hg⟩ | ⟨r1, hcl, h⟩
  · by_cases hk1 : k9 = 1
    · subst hk1
      replace h := if_t rfl hg
      refine g_xcV X (met_X1_bench l hl Z a0 a1 a2 a2_1 a2_2 a2_3 a2_4 a7 a8 a4 a3 a5 v_depth v_scriptLength v_n v_pulses v_front v_least v_window v_lengths v_fractions v_pulseTimes v_pulseEnergies x1 _ hcl).thr [] [0] [1, 2, 3, 4, 5, 6, 7] (wr := [(az, .inl (Z.2 1, 1, .inr (.inl v_out)))]) ⟨rfl, rfl, rfl, rfl, rfl, by decide, by decide⟩ 1 gC0 rfl rfl (lw_V q1165 q1166 q1167 q69 q1168) md_X1_bench ⟨(Nat.le_of_ble_eq_true rfl), (Nat.le_of_ble_eq_true rfl)⟩ rfl dX0_bench_4 [] ⟨0, 9, 12, 13⟩ [] ht (Nat.le_of_ble_eq_true rfl) (Nat.le_of_ble_eq_true rfl) (st := [.int 0, .ref az]) rfl (Nat.le_of_ble_eq_true rfl) (List.forall_mem_nil _) (by decide) (by decide) q1085 gCa1 rfl 1 6 rfl rfl (fun q9 => ?_)
      refine g_astore_n X dX0_bench_12 13 rfl (Nat.le_of_ble_eq_true rfl) rfl [some (.ref a0), some (.int x1), some (.ref az), some (.ref q9)] rfl ?_
      refine g_iconst X 1 dX0_bench_13 14 rfl kI_1 ?_
      cases h
      exact g_iret X dX0_bench_14 () rfl rfl (Nat.le_of_ble_eq_true rfl) (Nat.le_of_ble_eq_true rfl)
    replace hg := if_f hk1 hg
    cases hg
  refine g_callV1 X (met_X1_bench l hl Z a0 a1 a2 a2_1 a2_2 a2_3 a2_4 a7 a8 a4 a3 a5 v_depth v_scriptLength v_n v_pulses v_front v_least v_window v_lengths v_fractions v_pulseTimes v_pulseEnergies x1 _ hcl).ret [] [0] [1, 2, 3, 4, 5, 6, 7] (wr := [(az, .inl (Z.2 1, 1, .inr (.inl v_out)))]) ⟨rfl, rfl, rfl, rfl, rfl, by decide, by decide⟩ 1 gC0 rfl rfl (lw_V q1165 q1166 q1167 q69 q1168) md_X1_bench ⟨(Nat.le_of_ble_eq_true rfl), (Nat.le_of_ble_eq_true rfl)⟩ rfl dX0_bench_4 7 rfl 1 6 rfl rfl (Nat.le_of_ble_eq_true rfl) (Nat.le_of_ble_eq_true rfl) (st := [.int 0, .ref az]) rfl (Nat.le_of_ble_eq_true rfl) (fun _ => rfl) (fun _ => ?_)
  cases h
/-! LineEchoesLaw.echo(LLineEchoes;I[J)I -/
abbrev rm_L_echo : Room := { frames := 10, cells := 1, slots := 6, locals := 163 }
def F_L_echo (v_fromNear : Nat → Int64) (v_fromFar : Nat → Int64) (v_echoes : Nat → Int64) (v_out : Nat → Int64) (v_n : Int32) (v_pulses : Int32) (v_front : Int32) (v_least : Int32) (v_window : Int32) (v_lengths : Nat → Int32) (v_fractions : Nat → Int32) (v_pulseTimes : Nat → Int32) (v_pulseEnergies : Nat → Int32) (x1 : Int32) : Option (Int32 × Int64 × Int64 × Int64 × Int64 × Int32 × Int32 × (Nat → Int64) × (Nat → Int64) × (Nat → Int64) × (Nat → Int64)) :=
  bc10 (F_X1_echo v_fromNear v_fromFar v_echoes v_n v_pulses v_front v_least v_window v_lengths v_fractions v_pulseTimes v_pulseEnergies x1) (fun r1 w2_brought w3_left w4_dropped w5_away w6_mergings w7_drops w8_fromNear w9_fromFar w10_echoes =>
  gin 0 1 <|
  some (0, w2_brought, w3_left, w4_dropped, w5_away, w6_mergings, w7_drops, w8_fromNear, w9_fromFar, w10_echoes, vp_updL v_out (Int32.toNatClampNeg 0) r1)) (fun k9 => if k9 = 1 then (none) else none)
theorem met_L_echo (l : Launch) (hl : l.stackTraces = false) (Z : gZt) (a4 : Nat) (a4_1 : Nat) (a4_2 : Nat) (a4_3 : Nat) (az : Nat) (a0 : Nat) (a1 : Nat) (a2 : Nat) (a2_1 : Nat) (a2_2 : Nat) (a2_3 : Nat) (a2_4 : Nat) (a7 : Nat) (a8 : Nat) (a3 : Nat) (a5 : Nat) (v_line : Option Nat) (v_brought : Int64) (v_left : Int64) (v_dropped : Int64) (v_away : Int64) (v_mergings : Int32) (v_drops : Int32) (v_fromNear : Nat → Int64) (v_fromFar : Nat → Int64) (v_echoes : Nat → Int64) (v_out : Nat → Int64) (v_depth : Int32) (v_scriptLength : Int32) (v_n : Int32) (v_pulses : Int32) (v_front : Int32) (v_least : Int32) (v_window : Int32) (v_lengths : Nat → Int32) (v_fractions : Nat → Int32) (v_pulseTimes : Nat → Int32) (v_pulseEnergies : Nat → Int32) (x1 : Int32) (r : Int32) (r_brought : Int64) (r_left : Int64) (r_dropped : Int64) (r_away : Int64) (r_mergings : Int32) (r_drops : Int32) (r_fromNear : Nat → Int64) (r_fromFar : Nat → Int64) (r_echoes : Nat → Int64) (r_out : Nat → Int64) (h : F_L_echo v_fromNear v_fromFar v_echoes v_out v_n v_pulses v_front v_least v_window v_lengths v_fractions v_pulseTimes v_pulseEnergies x1 = some (r, r_brought, r_left, r_dropped, r_away, r_mergings, r_drops, r_fromNear, r_fromFar, r_echoes, r_out)) : Ct l yX0_echo (wsW_ yX0_echo cX0_echo 4 (some .int) [(0, 8, 11, 13)]) rm_L_echo Z [.ref a0, .int x1, .ref az] [(a4, .inr (4, [.ref a4_1, .ref a4_2, .ref a4_3, (va_rf v_line), .long v_brought, .long v_left, .long v_dropped, .long v_away, .int v_mergings, .int v_drops])), (a4_1, .inl (Z.2 1, 1809, .inr (.inl v_fromNear))), (a4_2, .inl (Z.2 1, 1809, .inr (.inl v_fromFar))), (a4_3, .inl (Z.2 1, 201, .inr (.inl v_echoes))), (az, .inl (Z.2 1, 1, .inr (.inl v_out)))] [(a0, .inr (0, [.ref a1, .ref a7, .int v_depth, .ref a8, .int v_scriptLength, .ref a4])), (a1, .inr (1, [.ref a2, .ref a3, .ref a5])), (a2, .inr (2, [.ref a2_1, .ref a2_2, .int v_n, .ref a2_3, .ref a2_4, .int v_pulses, .int v_front, .int v_least, .int v_window])), (a2_1, .inl (Z.2 0, 8, .inl v_lengths)), (a2_2, .inl (Z.2 0, 8, .inl v_fractions)), (a2_3, .inl (Z.2 0, 4, .inl v_pulseTimes)), (a2_4, .inl (Z.2 0, 4, .inl v_pulseEnergies))] (fun _ : Unit => (some (.int r) : Option Value)) (fun _ : Unit => ([(a4, .inr (4, [.ref a4_1, .ref a4_2, .ref a4_3, .ref a2, .long r_brought, .long r_left, .long r_dropped, .long r_away, .int r_mergings, .int r_drops])), (a4_1, .inl (Z.2 1, 1809, .inr (.inl r_fromNear))), (a4_2, .inl (Z.2 1, 1809, .inr (.inl r_fromFar))), (a4_3, .inl (Z.2 1, 201, .inr (.inl r_echoes))), (az, .inl (Z.2 1, 1, .inr (.inl r_out)))] : va_W)) := by
  refine Ct.ofH cX0_echo 4 (some .int) [(0, 8, 11, 13)] "LineEchoesLaw" [some (.ref a0), some (.int x1), some (.ref az), none] 1 (by decide) rfl (Nat.le_of_ble_eq_true rfl) rfl (fun p e s m args below meth c A X ht => ?_)
  unfold F_L_echo at h
  refine g_aload_n X rfl dX0_echo_0 1 rfl ?_
  refine g_iconst X 0 dX0_echo_1 2 rfl kI_0 ?_
  refine g_aload_n X rfl dX0_echo_2 3 rfl ?_
  refine g_iload_n X rfl dX0_echo_3 4 rfl ?_
  rcases bc10_e h with ⟨k9, hcl, hg⟩ | ⟨r1, w2_brought, w3_left, w4_dropped, w5_away, w6_mergings, w7_drops, w8_fromNear, w9_fromFar, w10_echoes, hcl, h⟩
  · by_cases hk1 : k9 = 1
    · subst hk1
      replace h := if_t rfl hg
      refine g_xcV X (met_X1_echo l hl Z a4 a4_1 a4_2 a4_3 a0 a1 a2 a2_1 a2_2 a2_3 a2_4 a7 a8 a3 a5 v_line v_brought v_left v_dropped v_away v_mergings v_drops v_fromNear v_fromFar v_echoes v_depth v_scriptLength v_n v_pulses v_front v_least v_window v_lengths v_fractions v_pulseTimes v_pulseEnergies x1 _ hcl).thr [0, 1, 2, 3] [4] [5, 6, 7, 8, 9, 10, 11] (wr := [(az, .inl (Z.2 1, 1, .inr (.inl v_out)))]) ⟨rfl, rfl, rfl, rfl, rfl, by decide, by decide⟩ 5 gC0 rfl rfl (lw_V q1173 q1174 q1175 q69 q1176) md_X1_echo ⟨(Nat.le_of_ble_eq_true rfl), (Nat.le_of_ble_eq_true rfl)⟩ rfl dX0_echo_4 [] ⟨0, 8, 11, 13⟩ [] ht (Nat.le_of_ble_eq_true rfl) (Nat.le_of_ble_eq_true rfl) (st := [.int 0, .ref az]) rfl (Nat.le_of_ble_eq_true rfl) (List.forall_mem_nil _) (by decide) (by decide) q1085 gCa1 rfl 1 6 rfl rfl (fun q9 => ?_)
      cases h
    replace hg := if_f hk1 hg
    cases hg
  refine g_callV1 X (met_X1_echo l hl Z a4 a4_1 a4_2 a4_3 a0 a1 a2 a2_1 a2_2 a2_3 a2_4 a7 a8 a3 a5 v_line v_brought v_left v_dropped v_away v_mergings v_drops v_fromNear v_fromFar v_echoes v_depth v_scriptLength v_n v_pulses v_front v_least v_window v_lengths v_fractions v_pulseTimes v_pulseEnergies x1 _ hcl).ret [0, 1, 2, 3] [4] [5, 6, 7, 8, 9, 10, 11] (wr := [(az, .inl (Z.2 1, 1, .inr (.inl v_out)))]) ⟨rfl, rfl, rfl, rfl, rfl, by decide, by decide⟩ 5 gC0 rfl rfl (lw_V q1173 q1174 q1175 q69 q1176) md_X1_echo ⟨(Nat.le_of_ble_eq_true rfl), (Nat.le_of_ble_eq_true rfl)⟩ rfl dX0_echo_4 7 rfl 1 6 rfl rfl (Nat.le_of_ble_eq_true rfl) (Nat.le_of_ble_eq_true rfl) (st := [.int 0, .ref az]) rfl (Nat.le_of_ble_eq_true rfl) (fun _ => rfl) (fun _ => ?_)
  obtain ⟨hi, h⟩ := gin_e h
  refine g_last X 0 rfl hi dX0_echo_7 8 rfl ?_
  refine g_goto X dX0_echo_8 14 (by decide) ?_
  refine g_iconst X 0 dX0_echo_14 15 rfl kI_0 ?_
  refine g_keep [1, 2, 3, 4, 0] [(a4, .inr (4, [.ref a4_1, .ref a4_2, .ref a4_3, .ref a2, .long w2_brought, .long w3_left, .long w4_dropped, .long w5_away, .int w6_mergings, .int w7_drops])), (a4_1, .inl (Z.2 1, 1809, .inr (.inl w8_fromNear))), (a4_2, .inl (Z.2 1, 1809, .inr (.inl w9_fromFar))), (a4_3, .inl (Z.2 1, 201, .inr (.inl w10_echoes))), (az, .inl (Z.2 1, 1, .inr (.inl (vp_updL v_out (Int32.toNatClampNeg 0) r1))))] rfl rfl ?_
  obtain ⟨rfl, rfl, rfl, rfl, rfl, rfl, rfl, rfl, rfl, rfl, rfl⟩ := rt11 h
  exact g_iret X dX0_echo_15 () rfl rfl (Nat.le_of_ble_eq_true rfl) (Nat.le_of_ble_eq_true rfl)
/-! LineEchoesLaw.echo(LLineEchoes;I[J)I -/
abbrev rm_LX_echo : Room := { frames := 10, cells := 1, slots := 6, locals := 163 }
def F_LX_echo (v_brought : Int64) (v_left : Int64) (v_dropped : Int64) (v_away : Int64) (v_mergings : Int32) (v_drops : Int32) (v_fromNear : Nat → Int64) (v_fromFar : Nat → Int64) (v_echoes : Nat → Int64) (v_n : Int32) (v_pulses : Int32) (v_front : Int32) (v_least : Int32) (v_window : Int32) (v_lengths : Nat → Int32) (v_fractions : Nat → Int32) (v_pulseTimes : Nat → Int32) (v_pulseEnergies : Nat → Int32) (x1 : Int32) : Option (Int32 × Int64 × Int64 × Int64 × Int64 × Int32 × Int32 × (Nat → Int64) × (Nat → Int64) × (Nat → Int64)) :=
  bc10 (F_X1_echo v_fromNear v_fromFar v_echoes v_n v_pulses v_front v_least v_window v_lengths v_fractions v_pulseTimes v_pulseEnergies x1) (fun r1 w2_brought w3_left w4_dropped w5_away w6_mergings w7_drops w8_fromNear w9_fromFar w10_echoes =>
  none) (fun k9 => if k9 = 1 then (some (1, v_brought, v_left, v_dropped, v_away, v_mergings, v_drops, v_fromNear, v_fromFar, v_echoes)) else none)
theorem met_LX_echo (l : Launch) (hl : l.stackTraces = false) (Z : gZt) (a4 : Nat) (a4_1 : Nat) (a4_2 : Nat) (a4_3 : Nat) (az : Nat) (a0 : Nat) (a1 : Nat) (a2 : Nat) (a2_1 : Nat) (a2_2 : Nat) (a2_3 : Nat) (a2_4 : Nat) (a7 : Nat) (a8 : Nat) (a3 : Nat) (a5 : Nat) (v_line : Option Nat) (v_brought : Int64) (v_left : Int64) (v_dropped : Int64) (v_away : Int64) (v_mergings : Int32) (v_drops : Int32) (v_fromNear : Nat → Int64) (v_fromFar : Nat → Int64) (v_echoes : Nat → Int64) (v_out : Nat → Int64) (v_depth : Int32) (v_scriptLength : Int32) (v_n : Int32) (v_pulses : Int32) (v_front : Int32) (v_least : Int32) (v_window : Int32) (v_lengths : Nat → Int32) (v_fractions : Nat → Int32) (v_pulseTimes : Nat → Int32) (v_pulseEnergies : Nat → Int32) (x1 : Int32) (r : Int32) (r_brought : Int64) (r_left : Int64) (r_dropped : Int64) (r_away : Int64) (r_mergings : Int32) (r_drops : Int32) (r_fromNear : Nat → Int64) (r_fromFar : Nat → Int64) (r_echoes : Nat → Int64) (h : F_LX_echo v_brought v_left v_dropped v_away v_mergings v_drops v_fromNear v_fromFar v_echoes v_n v_pulses v_front v_least v_window v_lengths v_fractions v_pulseTimes v_pulseEnergies x1 = some (r, r_brought, r_left, r_dropped, r_away, r_mergings, r_drops, r_fromNear, r_fromFar, r_echoes)) : Ct l yX0_echo (wsW_ yX0_echo cX0_echo 4 (some .int) [(0, 8, 11, 13)]) rm_LX_echo Z [.ref a0, .int x1, .ref az] [(a4, .inr (4, [.ref a4_1, .ref a4_2, .ref a4_3, (va_rf v_line), .long v_brought, .long v_left, .long v_dropped, .long v_away, .int v_mergings, .int v_drops])), (a4_1, .inl (Z.2 1, 1809, .inr (.inl v_fromNear))), (a4_2, .inl (Z.2 1, 1809, .inr (.inl v_fromFar))), (a4_3, .inl (Z.2 1, 201, .inr (.inl v_echoes))), (az, .inl (Z.2 1, 1, .inr (.inl v_out)))] [(a0, .inr (0, [.ref a1, .ref a7, .int v_depth, .ref a8, .int v_scriptLength, .ref a4])), (a1, .inr (1, [.ref a2, .ref a3, .ref a5])), (a2, .inr (2, [.ref a2_1, .ref a2_2, .int v_n, .ref a2_3, .ref a2_4, .int v_pulses, .int v_front, .int v_least, .int v_window])), (a2_1, .inl (Z.2 0, 8, .inl v_lengths)), (a2_2, .inl (Z.2 0, 8, .inl v_fractions)), (a2_3, .inl (Z.2 0, 4, .inl v_pulseTimes)), (a2_4, .inl (Z.2 0, 4, .inl v_pulseEnergies))] (fun _ : Unit => (some (.int r) : Option Value)) (fun _ : Unit => ([(a4, .inr (4, [.ref a4_1, .ref a4_2, .ref a4_3, (va_rf v_line), .long r_brought, .long r_left, .long r_dropped, .long r_away, .int r_mergings, .int r_drops])), (a4_1, .inl (Z.2 1, 1809, .inr (.inl r_fromNear))), (a4_2, .inl (Z.2 1, 1809, .inr (.inl r_fromFar))), (a4_3, .inl (Z.2 1, 201, .inr (.inl r_echoes))), (az, .inl (Z.2 1, 1, .inr (.inl v_out)))] : va_W)) := by
  refine Ct.ofH cX0_echo 4 (some .int) [(0, 8, 11, 13)] "LineEchoesLaw" [some (.ref a0), some (.int x1), some (.ref az), none] 1 (by decide) rfl (Nat.le_of_ble_eq_true rfl) rfl (fun p e s m args below meth c A X ht => ?_)
  unfold F_LX_echo at h
  refine g_aload_n X rfl dX0_echo_0 1 rfl ?_
  refine g_iconst X 0 dX0_echo_1 2 rfl kI_0 ?_
  refine g_aload_n X rfl dX0_echo_2 3 rfl ?_
  refine g_iload_n X rfl dX0_echo_3 4 rfl ?_
  rcases bc10_e h with ⟨k9, hcl, hg⟩ | ⟨r1, w2_brought, w3_left, w4_dropped, w5_away, w6_mergings, w7_drops, w8_fromNear, w9_fromFar, w10_echoes, hcl, h⟩
  · by_cases hk1 : k9 = 1
    · subst hk1
      replace h := if_t rfl hg
      refine g_xcV X (met_X1_echo l hl Z a4 a4_1 a4_2 a4_3 a0 a1 a2 a2_1 a2_2 a2_3 a2_4 a7 a8 a3 a5 v_line v_brought v_left v_dropped v_away v_mergings v_drops v_fromNear v_fromFar v_echoes v_depth v_scriptLength v_n v_pulses v_front v_least v_window v_lengths v_fractions v_pulseTimes v_pulseEnergies x1 _ hcl).thr [0, 1, 2, 3] [4] [5, 6, 7, 8, 9, 10, 11] (wr := [(az, .inl (Z.2 1, 1, .inr (.inl v_out)))]) ⟨rfl, rfl, rfl, rfl, rfl, by decide, by decide⟩ 5 gC0 rfl rfl (lw_V q1173 q1174 q1175 q69 q1176) md_X1_echo ⟨(Nat.le_of_ble_eq_true rfl), (Nat.le_of_ble_eq_true rfl)⟩ rfl dX0_echo_4 [] ⟨0, 8, 11, 13⟩ [] ht (Nat.le_of_ble_eq_true rfl) (Nat.le_of_ble_eq_true rfl) (st := [.int 0, .ref az]) rfl (Nat.le_of_ble_eq_true rfl) (List.forall_mem_nil _) (by decide) (by decide) q1085 gCa1 rfl 1 6 rfl rfl (fun q9 => ?_)
      refine g_astore_n X dX0_echo_11 12 rfl (Nat.le_of_ble_eq_true rfl) rfl [some (.ref a0), some (.int x1), some (.ref az), some (.ref q9)] rfl ?_
      refine g_iconst X 1 dX0_echo_12 13 rfl kI_1 ?_
      refine g_keep [1, 2, 3, 4, 0] [(a4, .inr (4, [.ref a4_1, .ref a4_2, .ref a4_3, (va_rf v_line), .long v_brought, .long v_left, .long v_dropped, .long v_away, .int v_mergings, .int v_drops])), (a4_1, .inl (Z.2 1, 1809, .inr (.inl v_fromNear))), (a4_2, .inl (Z.2 1, 1809, .inr (.inl v_fromFar))), (a4_3, .inl (Z.2 1, 201, .inr (.inl v_echoes))), (az, .inl (Z.2 1, 1, .inr (.inl v_out)))] rfl rfl ?_
      cases h
      exact g_iret X dX0_echo_13 () rfl rfl (Nat.le_of_ble_eq_true rfl) (Nat.le_of_ble_eq_true rfl)
    replace hg := if_f hk1 hg
    cases hg
  refine g_callV1 X (met_X1_echo l hl Z a4 a4_1 a4_2 a4_3 a0 a1 a2 a2_1 a2_2 a2_3 a2_4 a7 a8 a3 a5 v_line v_brought v_left v_dropped v_away v_mergings v_drops v_fromNear v_fromFar v_echoes v_depth v_scriptLength v_n v_pulses v_front v_least v_window v_lengths v_fractions v_pulseTimes v_pulseEnergies x1 _ hcl).ret [0, 1, 2, 3] [4] [5, 6, 7, 8, 9, 10, 11] (wr := [(az, .inl (Z.2 1, 1, .inr (.inl v_out)))]) ⟨rfl, rfl, rfl, rfl, rfl, by decide, by decide⟩ 5 gC0 rfl rfl (lw_V q1173 q1174 q1175 q69 q1176) md_X1_echo ⟨(Nat.le_of_ble_eq_true rfl), (Nat.le_of_ble_eq_true rfl)⟩ rfl dX0_echo_4 7 rfl 1 6 rfl rfl (Nat.le_of_ble_eq_true rfl) (Nat.le_of_ble_eq_true rfl) (st := [.int 0, .ref az]) rfl (Nat.le_of_ble_eq_true rfl) (fun _ => rfl) (fun _ => ?_)
  cases h
/-! LineEchoesLaw.echoTime(LLineEchoes;I[J)I -/
abbrev rm_L_echoTime : Room := { frames := 9, cells := 1, slots := 6, locals := 142 }
def F_L_echoTime (v_fromNear : Nat → Int64) (v_fromFar : Nat → Int64) (v_echoes : Nat → Int64) (v_out : Nat → Int64) (v_n : Int32) (v_pulses : Int32) (v_front : Int32) (v_least : Int32) (v_window : Int32) (v_lengths : Nat → Int32) (v_fractions : Nat → Int32) (v_pulseTimes : Nat → Int32) (v_pulseEnergies : Nat → Int32) (x1 : Int32) : Option (Int32 × Int64 × Int64 × Int64 × Int64 × Int32 × Int32 × (Nat → Int64) × (Nat → Int64) × (Nat → Int64) × (Nat → Int64)) :=
  bc10 (F_X1_echoTime v_fromNear v_fromFar v_echoes v_n v_pulses v_front v_least v_window v_lengths v_fractions v_pulseTimes v_pulseEnergies x1) (fun r1 w2_brought w3_left w4_dropped w5_away w6_mergings w7_drops w8_fromNear w9_fromFar w10_echoes =>
  gin 0 1 <|
  some (0, w2_brought, w3_left, w4_dropped, w5_away, w6_mergings, w7_drops, w8_fromNear, w9_fromFar, w10_echoes, vp_updL v_out (Int32.toNatClampNeg 0) r1.toInt64)) (fun k9 => if k9 = 1 then (none) else none)
theorem met_L_echoTime (l : Launch) (hl : l.stackTraces = false) (Z : gZt) (a4 : Nat) (a4_1 : Nat) (a4_2 : Nat) (a4_3 : Nat) (az : Nat) (a0 : Nat) (a1 : Nat) (a2 : Nat) (a2_1 : Nat) (a2_2 : Nat) (a2_3 : Nat) (a2_4 : Nat) (a7 : Nat) (a8 : Nat) (a3 : Nat) (a5 : Nat) (v_line : Option Nat) (v_brought : Int64) (v_left : Int64) (v_dropped : Int64) (v_away : Int64) (v_mergings : Int32) (v_drops : Int32) (v_fromNear : Nat → Int64) (v_fromFar : Nat → Int64) (v_echoes : Nat → Int64) (v_out : Nat → Int64) (v_depth : Int32) (v_scriptLength : Int32) (v_n : Int32) (v_pulses : Int32) (v_front : Int32) (v_least : Int32) (v_window : Int32) (v_lengths : Nat → Int32) (v_fractions : Nat → Int32) (v_pulseTimes : Nat → Int32) (v_pulseEnergies : Nat → Int32) (x1 : Int32) (r : Int32) (r_brought : Int64) (r_left : Int64) (r_dropped : Int64) (r_away : Int64) (r_mergings : Int32) (r_drops : Int32) (r_fromNear : Nat → Int64) (r_fromFar : Nat → Int64) (r_echoes : Nat → Int64) (r_out : Nat → Int64) (h : F_L_echoTime v_fromNear v_fromFar v_echoes v_out v_n v_pulses v_front v_least v_window v_lengths v_fractions v_pulseTimes v_pulseEnergies x1 = some (r, r_brought, r_left, r_dropped, r_away, r_mergings, r_drops, r_fromNear, r_fromFar, r_echoes, r_out)) : Ct l yX0_echoTime (wsW_ yX0_echoTime cX0_echoTime 4 (some .int) [(0, 9, 12, 13)]) rm_L_echoTime Z [.ref a0, .int x1, .ref az] [(a4, .inr (4, [.ref a4_1, .ref a4_2, .ref a4_3, (va_rf v_line), .long v_brought, .long v_left, .long v_dropped, .long v_away, .int v_mergings, .int v_drops])), (a4_1, .inl (Z.2 1, 1809, .inr (.inl v_fromNear))), (a4_2, .inl (Z.2 1, 1809, .inr (.inl v_fromFar))), (a4_3, .inl (Z.2 1, 201, .inr (.inl v_echoes))), (az, .inl (Z.2 1, 1, .inr (.inl v_out)))] [(a0, .inr (0, [.ref a1, .ref a7, .int v_depth, .ref a8, .int v_scriptLength, .ref a4])), (a1, .inr (1, [.ref a2, .ref a3, .ref a5])), (a2, .inr (2, [.ref a2_1, .ref a2_2, .int v_n, .ref a2_3, .ref a2_4, .int v_pulses, .int v_front, .int v_least, .int v_window])), (a2_1, .inl (Z.2 0, 8, .inl v_lengths)), (a2_2, .inl (Z.2 0, 8, .inl v_fractions)), (a2_3, .inl (Z.2 0, 4, .inl v_pulseTimes)), (a2_4, .inl (Z.2 0, 4, .inl v_pulseEnergies))] (fun _ : Unit => (some (.int r) : Option Value)) (fun _ : Unit => ([(a4, .inr (4, [.ref a4_1, .ref a4_2, .ref a4_3, .ref a2, .long r_brought, .long r_left, .long r_dropped, .long r_away, .int r_mergings, .int r_drops])), (a4_1, .inl (Z.2 1, 1809, .inr (.inl r_fromNear))), (a4_2, .inl (Z.2 1, 1809, .inr (.inl r_fromFar))), (a4_3, .inl (Z.2 1, 201, .inr (.inl r_echoes))), (az, .inl (Z.2 1, 1, .inr (.inl r_out)))] : va_W)) := by
  refine Ct.ofH cX0_echoTime 4 (some .int) [(0, 9, 12, 13)] "LineEchoesLaw" [some (.ref a0), some (.int x1), some (.ref az), none] 1 (by decide) rfl (Nat.le_of_ble_eq_true rfl) rfl (fun p e s m args below meth c A X ht => ?_)
  unfold F_L_echoTime at h
  refine g_aload_n X rfl dX0_echoTime_0 1 rfl ?_
  refine g_iconst X 0 dX0_echoTime_1 2 rfl kI_0 ?_
  refine g_aload_n X rfl dX0_echoTime_2 3 rfl ?_
  refine g_iload_n X rfl dX0_echoTime_3 4 rfl ?_
  rcases bc10_e h with ⟨k9, hcl, hg⟩ | ⟨r1, w2_brought, w3_left, w4_dropped, w5_away, w6_mergings, w7_drops, w8_fromNear, w9_fromFar, w10_echoes, hcl, h⟩
  · by_cases hk1 : k9 = 1
    · subst hk1
      replace h := if_t rfl hg
      refine g_xcV X (met_X1_echoTime l hl Z a4 a4_1 a4_2 a4_3 a0 a1 a2 a2_1 a2_2 a2_3 a2_4 a7 a8 a3 a5 v_line v_brought v_left v_dropped v_away v_mergings v_drops v_fromNear v_fromFar v_echoes v_depth v_scriptLength v_n v_pulses v_front v_least v_window v_lengths v_fractions v_pulseTimes v_pulseEnergies x1 _ hcl).thr [0, 1, 2, 3] [4] [5, 6, 7, 8, 9, 10, 11] (wr := [(az, .inl (Z.2 1, 1, .inr (.inl v_out)))]) ⟨rfl, rfl, rfl, rfl, rfl, by decide, by decide⟩ 5 gC0 rfl rfl (lw_V q1185 q1186 q1187 q69 q1188) md_X1_echoTime ⟨(Nat.le_of_ble_eq_true rfl), (Nat.le_of_ble_eq_true rfl)⟩ rfl dX0_echoTime_4 [] ⟨0, 9, 12, 13⟩ [] ht (Nat.le_of_ble_eq_true rfl) (Nat.le_of_ble_eq_true rfl) (st := [.int 0, .ref az]) rfl (Nat.le_of_ble_eq_true rfl) (List.forall_mem_nil _) (by decide) (by decide) q1085 gCa1 rfl 1 6 rfl rfl (fun q9 => ?_)
      cases h
    replace hg := if_f hk1 hg
    cases hg
  refine g_callV1 X (met_X1_echoTime l hl Z a4 a4_1 a4_2 a4_3 a0 a1 a2 a2_1 a2_2 a2_3 a2_4 a7 a8 a3 a5 v_line v_brought v_left v_dropped v_away v_mergings v_drops v_fromNear v_fromFar v_echoes v_depth v_scriptLength v_n v_pulses v_front v_least v_window v_lengths v_fractions v_pulseTimes v_pulseEnergies x1 _ hcl).ret [0, 1, 2, 3] [4] [5, 6, 7, 8, 9, 10, 11] (wr := [(az, .inl (Z.2 1, 1, .inr (.inl v_out)))]) ⟨rfl, rfl, rfl, rfl, rfl, by decide, by decide⟩ 5 gC0 rfl rfl (lw_V q1185 q1186 q1187 q69 q1188) md_X1_echoTime ⟨(Nat.le_of_ble_eq_true rfl), (Nat.le_of_ble_eq_true rfl)⟩ rfl dX0_echoTime_4 7 rfl 1 6 rfl rfl (Nat.le_of_ble_eq_true rfl) (Nat.le_of_ble_eq_true rfl) (st := [.int 0, .ref az]) rfl (Nat.le_of_ble_eq_true rfl) (fun _ => rfl) (fun _ => ?_)
  refine g_i2l X dX0_echoTime_7 8 rfl ?_
  obtain ⟨hi, h⟩ := gin_e h
  refine g_last X 0 rfl hi dX0_echoTime_8 9 rfl ?_
  refine g_goto X dX0_echoTime_9 15 (by decide) ?_
  refine g_iconst X 0 dX0_echoTime_15 16 rfl kI_0 ?_
  refine g_keep [1, 2, 3, 4, 0] [(a4, .inr (4, [.ref a4_1, .ref a4_2, .ref a4_3, .ref a2, .long w2_brought, .long w3_left, .long w4_dropped, .long w5_away, .int w6_mergings, .int w7_drops])), (a4_1, .inl (Z.2 1, 1809, .inr (.inl w8_fromNear))), (a4_2, .inl (Z.2 1, 1809, .inr (.inl w9_fromFar))), (a4_3, .inl (Z.2 1, 201, .inr (.inl w10_echoes))), (az, .inl (Z.2 1, 1, .inr (.inl (vp_updL v_out (Int32.toNatClampNeg 0) r1.toInt64))))] rfl rfl ?_
  obtain ⟨rfl, rfl, rfl, rfl, rfl, rfl, rfl, rfl, rfl, rfl, rfl⟩ := rt11 h
  exact g_iret X dX0_echoTime_16 () rfl rfl (Nat.le_of_ble_eq_true rfl) (Nat.le_of_ble_eq_true rfl)
/-! LineEchoesLaw.echoTime(LLineEchoes;I[J)I -/
abbrev rm_LX_echoTime : Room := { frames := 9, cells := 1, slots := 6, locals := 142 }
def F_LX_echoTime (v_brought : Int64) (v_left : Int64) (v_dropped : Int64) (v_away : Int64) (v_mergings : Int32) (v_drops : Int32) (v_fromNear : Nat → Int64) (v_fromFar : Nat → Int64) (v_echoes : Nat → Int64) (v_n : Int32) (v_pulses : Int32) (v_front : Int32) (v_least : Int32) (v_window : Int32) (v_lengths : Nat → Int32) (v_fractions : Nat → Int32) (v_pulseTimes : Nat → Int32) (v_pulseEnergies : Nat → Int32) (x1 : Int32) : Option (Int32 × Int64 × Int64 × Int64 × Int64 × Int32 × Int32 × (Nat → Int64) × (Nat → Int64) × (Nat → Int64)) :=
  bc10 (F_X1_echoTime v_fromNear v_fromFar v_echoes v_n v_pulses v_front v_least v_window v_lengths v_fractions v_pulseTimes v_pulseEnergies x1) (fun r1 w2_brought w3_left w4_dropped w5_away w6_mergings w7_drops w8_fromNear w9_fromFar w10_echoes =>
  none) (fun k9 => if k9 = 1 then (some (1, v_brought, v_left, v_dropped, v_away, v_mergings, v_drops, v_fromNear, v_fromFar, v_echoes)) else none)
theorem met_LX_echoTime (l : Launch) (hl : l.stackTraces = false) (Z : gZt) (a4 : Nat) (a4_1 : Nat) (a4_2 : Nat) (a4_3 : Nat) (az : Nat) (a0 : Nat) (a1 : Nat) (a2 : Nat) (a2_1 : Nat) (a2_2 : Nat) (a2_3 : Nat) (a2_4 : Nat) (a7 : Nat) (a8 : Nat) (a3 : Nat) (a5 : Nat) (v_line : Option Nat) (v_brought : Int64) (v_left : Int64) (v_dropped : Int64) (v_away : Int64) (v_mergings : Int32) (v_drops : Int32) (v_fromNear : Nat → Int64) (v_fromFar : Nat → Int64) (v_echoes : Nat → Int64) (v_out : Nat → Int64) (v_depth : Int32) (v_scriptLength : Int32) (v_n : Int32) (v_pulses : Int32) (v_front : Int32) (v_least : Int32) (v_window : Int32) (v_lengths : Nat → Int32) (v_fractions : Nat → Int32) (v_pulseTimes : Nat → Int32) (v_pulseEnergies : Nat → Int32) (x1 : Int32) (r : Int32) (r_brought : Int64) (r_left : Int64) (r_dropped : Int64) (r_away : Int64) (r_mergings : Int32) (r_drops : Int32) (r_fromNear : Nat → Int64) (r_fromFar : Nat → Int64) (r_echoes : Nat → Int64) (h : F_LX_echoTime v_brought v_left v_dropped v_away v_mergings v_drops v_fromNear v_fromFar v_echoes v_n v_pulses v_front v_least v_window v_lengths v_fractions v_pulseTimes v_pulseEnergies x1 = some (r, r_brought, r_left, r_dropped, r_away, r_mergings, r_drops, r_fromNear, r_fromFar, r_echoes)) : Ct l yX0_echoTime (wsW_ yX0_echoTime cX0_echoTime 4 (some .int) [(0, 9, 12, 13)]) rm_LX_echoTime Z [.ref a0, .int x1, .ref az] [(a4, .inr (4, [.ref a4_1, .ref a4_2, .ref a4_3, (va_rf v_line), .long v_brought, .long v_left, .long v_dropped, .long v_away, .int v_mergings, .int v_drops])), (a4_1, .inl (Z.2 1, 1809, .inr (.inl v_fromNear))), (a4_2, .inl (Z.2 1, 1809, .inr (.inl v_fromFar))), (a4_3, .inl (Z.2 1, 201, .inr (.inl v_echoes))), (az, .inl (Z.2 1, 1, .inr (.inl v_out)))] [(a0, .inr (0, [.ref a1, .ref a7, .int v_depth, .ref a8, .int v_scriptLength, .ref a4])), (a1, .inr (1, [.ref a2, .ref a3, .ref a5])), (a2, .inr (2, [.ref a2_1, .ref a2_2, .int v_n, .ref a2_3, .ref a2_4, .int v_pulses, .int v_front, .int v_least, .int v_window])), (a2_1, .inl (Z.2 0, 8, .inl v_lengths)), (a2_2, .inl (Z.2 0, 8, .inl v_fractions)), (a2_3, .inl (Z.2 0, 4, .inl v_pulseTimes)), (a2_4, .inl (Z.2 0, 4, .inl v_pulseEnergies))] (fun _ : Unit => (some (.int r) : Option Value)) (fun _ : Unit => ([(a4, .inr (4, [.ref a4_1, .ref a4_2, .ref a4_3, (va_rf v_line), .long r_brought, .long r_left, .long r_dropped, .long r_away, .int r_mergings, .int r_drops])), (a4_1, .inl (Z.2 1, 1809, .inr (.inl r_fromNear))), (a4_2, .inl (Z.2 1, 1809, .inr (.inl r_fromFar))), (a4_3, .inl (Z.2 1, 201, .inr (.inl r_echoes))), (az, .inl (Z.2 1, 1, .inr (.inl v_out)))] : va_W)) := by
  refine Ct.ofH cX0_echoTime 4 (some .int) [(0, 9, 12, 13)] "LineEchoesLaw" [some (.ref a0), some (.int x1), some (.ref az), none] 1 (by decide) rfl (Nat.le_of_ble_eq_true rfl) rfl (fun p e s m args below meth c A X ht => ?_)
  unfold F_LX_echoTime at h
  refine g_aload_n X rfl dX0_echoTime_0 1 rfl ?_
  refine g_iconst X 0 dX0_echoTime_1 2 rfl kI_0 ?_
  refine g_aload_n X rfl dX0_echoTime_2 3 rfl ?_
  refine g_iload_n X rfl dX0_echoTime_3 4 rfl ?_
  rcases bc10_e h with ⟨k9, hcl, hg⟩ | ⟨r1, w2_brought, w3_left, w4_dropped, w5_away, w6_mergings, w7_drops, w8_fromNear, w9_fromFar, w10_echoes, hcl, h⟩
  · by_cases hk1 : k9 = 1
    · subst hk1
      replace h := if_t rfl hg
      refine g_xcV X (met_X1_echoTime l hl Z a4 a4_1 a4_2 a4_3 a0 a1 a2 a2_1 a2_2 a2_3 a2_4 a7 a8 a3 a5 v_line v_brought v_left v_dropped v_away v_mergings v_drops v_fromNear v_fromFar v_echoes v_depth v_scriptLength v_n v_pulses v_front v_least v_window v_lengths v_fractions v_pulseTimes v_pulseEnergies x1 _ hcl).thr [0, 1, 2, 3] [4] [5, 6, 7, 8, 9, 10, 11] (wr := [(az, .inl (Z.2 1, 1, .inr (.inl v_out)))]) ⟨rfl, rfl, rfl, rfl, rfl, by decide, by decide⟩ 5 gC0 rfl rfl (lw_V q1185 q1186 q1187 q69 q1188) md_X1_echoTime ⟨(Nat.le_of_ble_eq_true rfl), (Nat.le_of_ble_eq_true rfl)⟩ rfl dX0_echoTime_4 [] ⟨0, 9, 12, 13⟩ [] ht (Nat.le_of_ble_eq_true rfl) (Nat.le_of_ble_eq_true rfl) (st := [.int 0, .ref az]) rfl (Nat.le_of_ble_eq_true rfl) (List.forall_mem_nil _) (by decide) (by decide) q1085 gCa1 rfl 1 6 rfl rfl (fun q9 => ?_)
      refine g_astore_n X dX0_echoTime_12 13 rfl (Nat.le_of_ble_eq_true rfl) rfl [some (.ref a0), some (.int x1), some (.ref az), some (.ref q9)] rfl ?_
      refine g_iconst X 1 dX0_echoTime_13 14 rfl kI_1 ?_
      refine g_keep [1, 2, 3, 4, 0] [(a4, .inr (4, [.ref a4_1, .ref a4_2, .ref a4_3, (va_rf v_line), .long v_brought, .long v_left, .long v_dropped, .long v_away, .int v_mergings, .int v_drops])), (a4_1, .inl (Z.2 1, 1809, .inr (.inl v_fromNear))), (a4_2, .inl (Z.2 1, 1809, .inr (.inl v_fromFar))), (a4_3, .inl (Z.2 1, 201, .inr (.inl v_echoes))), (az, .inl (Z.2 1, 1, .inr (.inl v_out)))] rfl rfl ?_
      cases h
      exact g_iret X dX0_echoTime_14 () rfl rfl (Nat.le_of_ble_eq_true rfl) (Nat.le_of_ble_eq_true rfl)
    replace hg := if_f hk1 hg
    cases hg
  refine g_callV1 X (met_X1_echoTime l hl Z a4 a4_1 a4_2 a4_3 a0 a1 a2 a2_1 a2_2 a2_3 a2_4 a7 a8 a3 a5 v_line v_brought v_left v_dropped v_away v_mergings v_drops v_fromNear v_fromFar v_echoes v_depth v_scriptLength v_n v_pulses v_front v_least v_window v_lengths v_fractions v_pulseTimes v_pulseEnergies x1 _ hcl).ret [0, 1, 2, 3] [4] [5, 6, 7, 8, 9, 10, 11] (wr := [(az, .inl (Z.2 1, 1, .inr (.inl v_out)))]) ⟨rfl, rfl, rfl, rfl, rfl, by decide, by decide⟩ 5 gC0 rfl rfl (lw_V q1185 q1186 q1187 q69 q1188) md_X1_echoTime ⟨(Nat.le_of_ble_eq_true rfl), (Nat.le_of_ble_eq_true rfl)⟩ rfl dX0_echoTime_4 7 rfl 1 6 rfl rfl (Nat.le_of_ble_eq_true rfl) (Nat.le_of_ble_eq_true rfl) (st := [.int 0, .ref az]) rfl (Nat.le_of_ble_eq_true rfl) (fun _ => rfl) (fun _ => ?_)
  cases h
/-! LineEchoesLaw.total(LLineEchoes;I[J)I -/
abbrev rm_L_total : Room := { frames := 9, cells := 1, slots := 6, locals := 142 }
def F_L_total (v_fromNear : Nat → Int64) (v_fromFar : Nat → Int64) (v_echoes : Nat → Int64) (v_out : Nat → Int64) (v_n : Int32) (v_pulses : Int32) (v_front : Int32) (v_least : Int32) (v_window : Int32) (v_lengths : Nat → Int32) (v_fractions : Nat → Int32) (v_pulseTimes : Nat → Int32) (v_pulseEnergies : Nat → Int32) (x1 : Int32) : Option (Int32 × Int64 × Int64 × Int64 × Int64 × Int32 × Int32 × (Nat → Int64) × (Nat → Int64) × (Nat → Int64) × (Nat → Int64)) :=
  bc10 (F_X1_total v_fromNear v_fromFar v_echoes v_n v_pulses v_front v_least v_window v_lengths v_fractions v_pulseTimes v_pulseEnergies x1) (fun r1 w2_brought w3_left w4_dropped w5_away w6_mergings w7_drops w8_fromNear w9_fromFar w10_echoes =>
  gin 0 1 <|
  some (0, w2_brought, w3_left, w4_dropped, w5_away, w6_mergings, w7_drops, w8_fromNear, w9_fromFar, w10_echoes, vp_updL v_out (Int32.toNatClampNeg 0) r1)) (fun k9 => if k9 = 1 then (none) else none)
theorem met_L_total (l : Launch) (hl : l.stackTraces = false) (Z : gZt) (a4 : Nat) (a4_1 : Nat) (a4_2 : Nat) (a4_3 : Nat) (az : Nat) (a0 : Nat) (a1 : Nat) (a2 : Nat) (a2_1 : Nat) (a2_2 : Nat) (a2_3 : Nat) (a2_4 : Nat) (a7 : Nat) (a8 : Nat) (a3 : Nat) (a5 : Nat) (v_line : Option Nat) (v_brought : Int64) (v_left : Int64) (v_dropped : Int64) (v_away : Int64) (v_mergings : Int32) (v_drops : Int32) (v_fromNear : Nat → Int64) (v_fromFar : Nat → Int64) (v_echoes : Nat → Int64) (v_out : Nat → Int64) (v_depth : Int32) (v_scriptLength : Int32) (v_n : Int32) (v_pulses : Int32) (v_front : Int32) (v_least : Int32) (v_window : Int32) (v_lengths : Nat → Int32) (v_fractions : Nat → Int32) (v_pulseTimes : Nat → Int32) (v_pulseEnergies : Nat → Int32) (x1 : Int32) (r : Int32) (r_brought : Int64) (r_left : Int64) (r_dropped : Int64) (r_away : Int64) (r_mergings : Int32) (r_drops : Int32) (r_fromNear : Nat → Int64) (r_fromFar : Nat → Int64) (r_echoes : Nat → Int64) (r_out : Nat → Int64) (h : F_L_total v_fromNear v_fromFar v_echoes v_out v_n v_pulses v_front v_least v_window v_lengths v_fractions v_pulseTimes v_pulseEnergies x1 = some (r, r_brought, r_left, r_dropped, r_away, r_mergings, r_drops, r_fromNear, r_fromFar, r_echoes, r_out)) : Ct l yX0_total (wsW_ yX0_total cX0_total 4 (some .int) [(0, 8, 11, 13)]) rm_L_total Z [.ref a0, .int x1, .ref az] [(a4, .inr (4, [.ref a4_1, .ref a4_2, .ref a4_3, (va_rf v_line), .long v_brought, .long v_left, .long v_dropped, .long v_away, .int v_mergings, .int v_drops])), (a4_1, .inl (Z.2 1, 1809, .inr (.inl v_fromNear))), (a4_2, .inl (Z.2 1, 1809, .inr (.inl v_fromFar))), (a4_3, .inl (Z.2 1, 201, .inr (.inl v_echoes))), (az, .inl (Z.2 1, 1, .inr (.inl v_out)))] [(a0, .inr (0, [.ref a1, .ref a7, .int v_depth, .ref a8, .int v_scriptLength, .ref a4])), (a1, .inr (1, [.ref a2, .ref a3, .ref a5])), (a2, .inr (2, [.ref a2_1, .ref a2_2, .int v_n, .ref a2_3, .ref a2_4, .int v_pulses, .int v_front, .int v_least, .int v_window])), (a2_1, .inl (Z.2 0, 8, .inl v_lengths)), (a2_2, .inl (Z.2 0, 8, .inl v_fractions)), (a2_3, .inl (Z.2 0, 4, .inl v_pulseTimes)), (a2_4, .inl (Z.2 0, 4, .inl v_pulseEnergies))] (fun _ : Unit => (some (.int r) : Option Value)) (fun _ : Unit => ([(a4, .inr (4, [.ref a4_1, .ref a4_2, .ref a4_3, .ref a2, .long r_brought, .long r_left, .long r_dropped, .long r_away, .int r_mergings, .int r_drops])), (a4_1, .inl (Z.2 1, 1809, .inr (.inl r_fromNear))), (a4_2, .inl (Z.2 1, 1809, .inr (.inl r_fromFar))), (a4_3, .inl (Z.2 1, 201, .inr (.inl r_echoes))), (az, .inl (Z.2 1, 1, .inr (.inl r_out)))] : va_W)) := by
  refine Ct.ofH cX0_total 4 (some .int) [(0, 8, 11, 13)] "LineEchoesLaw" [some (.ref a0), some (.int x1), some (.ref az), none] 1 (by decide) rfl (Nat.le_of_ble_eq_true rfl) rfl (fun p e s m args below meth c A X ht => ?_)
  unfold F_L_total at h
  refine g_aload_n X rfl dX0_total_0 1 rfl ?_
  refine g_iconst X 0 dX0_total_1 2 rfl kI_0 ?_
  refine g_aload_n X rfl dX0_total_2 3 rfl ?_
  refine g_iload_n X rfl dX0_total_3 4 rfl ?_
  rcases bc10_e h with ⟨k9, hcl, hg⟩ | ⟨r1, w2_brought, w3_left, w4_dropped, w5_away, w6_mergings, w7_drops, w8_fromNear, w9_fromFar, w10_echoes, hcl, h⟩
  · by_cases hk1 : k9 = 1
    · subst hk1
      replace h := if_t rfl hg
      refine g_xcV X (met_X1_total l hl Z a4 a4_1 a4_2 a4_3 a0 a1 a2 a2_1 a2_2 a2_3 a2_4 a7 a8 a3 a5 v_line v_brought v_left v_dropped v_away v_mergings v_drops v_fromNear v_fromFar v_echoes v_depth v_scriptLength v_n v_pulses v_front v_least v_window v_lengths v_fractions v_pulseTimes v_pulseEnergies x1 _ hcl).thr [0, 1, 2, 3] [4] [5, 6, 7, 8, 9, 10, 11] (wr := [(az, .inl (Z.2 1, 1, .inr (.inl v_out)))]) ⟨rfl, rfl, rfl, rfl, rfl, by decide, by decide⟩ 5 gC0 rfl rfl (lw_V q1197 q1198 q1199 q69 q1200) md_X1_total ⟨(Nat.le_of_ble_eq_true rfl), (Nat.le_of_ble_eq_true rfl)⟩ rfl dX0_total_4 [] ⟨0, 8, 11, 13⟩ [] ht (Nat.le_of_ble_eq_true rfl) (Nat.le_of_ble_eq_true rfl) (st := [.int 0, .ref az]) rfl (Nat.le_of_ble_eq_true rfl) (List.forall_mem_nil _) (by decide) (by decide) q1085 gCa1 rfl 1 6 rfl rfl (fun q9 => ?_)
      cases h
    replace hg := if_f hk1 hg
    cases hg
  refine g_callV1 X (met_X1_total l hl Z a4 a4_1 a4_2 a4_3 a0 a1 a2 a2_1 a2_2 a2_3 a2_4 a7 a8 a3 a5 v_line v_brought v_left v_dropped v_away v_mergings v_drops v_fromNear v_fromFar v_echoes v_depth v_scriptLength v_n v_pulses v_front v_least v_window v_lengths v_fractions v_pulseTimes v_pulseEnergies x1 _ hcl).ret [0, 1, 2, 3] [4] [5, 6, 7, 8, 9, 10, 11] (wr := [(az, .inl (Z.2 1, 1, .inr (.inl v_out)))]) ⟨rfl, rfl, rfl, rfl, rfl, by decide, by decide⟩ 5 gC0 rfl rfl (lw_V q1197 q1198 q1199 q69 q1200) md_X1_total ⟨(Nat.le_of_ble_eq_true rfl), (Nat.le_of_ble_eq_true rfl)⟩ rfl dX0_total_4 7 rfl 1 6 rfl rfl (Nat.le_of_ble_eq_true rfl) (Nat.le_of_ble_eq_true rfl) (st := [.int 0, .ref az]) rfl (Nat.le_of_ble_eq_true rfl) (fun _ => rfl) (fun _ => ?_)
  obtain ⟨hi, h⟩ := gin_e h
  refine g_last X 0 rfl hi dX0_total_7 8 rfl ?_
  refine g_goto X dX0_total_8 14 (by decide) ?_
  refine g_iconst X 0 dX0_total_14 15 rfl kI_0 ?_
  refine g_keep [1, 2, 3, 4, 0] [(a4, .inr (4, [.ref a4_1, .ref a4_2, .ref a4_3, .ref a2, .long w2_brought, .long w3_left, .long w4_dropped, .long w5_away, .int w6_mergings, .int w7_drops])), (a4_1, .inl (Z.2 1, 1809, .inr (.inl w8_fromNear))), (a4_2, .inl (Z.2 1, 1809, .inr (.inl w9_fromFar))), (a4_3, .inl (Z.2 1, 201, .inr (.inl w10_echoes))), (az, .inl (Z.2 1, 1, .inr (.inl (vp_updL v_out (Int32.toNatClampNeg 0) r1))))] rfl rfl ?_
  obtain ⟨rfl, rfl, rfl, rfl, rfl, rfl, rfl, rfl, rfl, rfl, rfl⟩ := rt11 h
  exact g_iret X dX0_total_15 () rfl rfl (Nat.le_of_ble_eq_true rfl) (Nat.le_of_ble_eq_true rfl)
/-! LineEchoesLaw.total(LLineEchoes;I[J)I -/
abbrev rm_LX_total : Room := { frames := 9, cells := 1, slots := 6, locals := 142 }
def F_LX_total (v_brought : Int64) (v_left : Int64) (v_dropped : Int64) (v_away : Int64) (v_mergings : Int32) (v_drops : Int32) (v_fromNear : Nat → Int64) (v_fromFar : Nat → Int64) (v_echoes : Nat → Int64) (v_n : Int32) (v_pulses : Int32) (v_front : Int32) (v_least : Int32) (v_window : Int32) (v_lengths : Nat → Int32) (v_fractions : Nat → Int32) (v_pulseTimes : Nat → Int32) (v_pulseEnergies : Nat → Int32) (x1 : Int32) : Option (Int32 × Int64 × Int64 × Int64 × Int64 × Int32 × Int32 × (Nat → Int64) × (Nat → Int64) × (Nat → Int64)) :=
  bc10 (F_X1_total v_fromNear v_fromFar v_echoes v_n v_pulses v_front v_least v_window v_lengths v_fractions v_pulseTimes v_pulseEnergies x1) (fun r1 w2_brought w3_left w4_dropped w5_away w6_mergings w7_drops w8_fromNear w9_fromFar w10_echoes =>
  none) (fun k9 => if k9 = 1 then (some (1, v_brought, v_left, v_dropped, v_away, v_mergings, v_drops, v_fromNear, v_fromFar, v_echoes)) else none)
theorem met_LX_total (l : Launch) (hl : l.stackTraces = false) (Z : gZt) (a4 : Nat) (a4_1 : Nat) (a4_2 : Nat) (a4_3 : Nat) (az : Nat) (a0 : Nat) (a1 : Nat) (a2 : Nat) (a2_1 : Nat) (a2_2 : Nat) (a2_3 : Nat) (a2_4 : Nat) (a7 : Nat) (a8 : Nat) (a3 : Nat) (a5 : Nat) (v_line : Option Nat) (v_brought : Int64) (v_left : Int64) (v_dropped : Int64) (v_away : Int64) (v_mergings : Int32) (v_drops : Int32) (v_fromNear : Nat → Int64) (v_fromFar : Nat → Int64) (v_echoes : Nat → Int64) (v_out : Nat → Int64) (v_depth : Int32) (v_scriptLength : Int32) (v_n : Int32) (v_pulses : Int32) (v_front : Int32) (v_least : Int32) (v_window : Int32) (v_lengths : Nat → Int32) (v_fractions : Nat → Int32) (v_pulseTimes : Nat → Int32) (v_pulseEnergies : Nat → Int32) (x1 : Int32) (r : Int32) (r_brought : Int64) (r_left : Int64) (r_dropped : Int64) (r_away : Int64) (r_mergings : Int32) (r_drops : Int32) (r_fromNear : Nat → Int64) (r_fromFar : Nat → Int64) (r_echoes : Nat → Int64) (h : F_LX_total v_brought v_left v_dropped v_away v_mergings v_drops v_fromNear v_fromFar v_echoes v_n v_pulses v_front v_least v_window v_lengths v_fractions v_pulseTimes v_pulseEnergies x1 = some (r, r_brought, r_left, r_dropped, r_away, r_mergings, r_drops, r_fromNear, r_fromFar, r_echoes)) : Ct l yX0_total (wsW_ yX0_total cX0_total 4 (some .int) [(0, 8, 11, 13)]) rm_LX_total Z [.ref a0, .int x1, .ref az] [(a4, .inr (4, [.ref a4_1, .ref a4_2, .ref a4_3, (va_rf v_line), .long v_brought, .long v_left, .long v_dropped, .long v_away, .int v_mergings, .int v_drops])), (a4_1, .inl (Z.2 1, 1809, .inr (.inl v_fromNear))), (a4_2, .inl (Z.2 1, 1809, .inr (.inl v_fromFar))), (a4_3, .inl (Z.2 1, 201, .inr (.inl v_echoes))), (az, .inl (Z.2 1, 1, .inr (.inl v_out)))] [(a0, .inr (0, [.ref a1, .ref a7, .int v_depth, .ref a8, .int v_scriptLength, .ref a4])), (a1, .inr (1, [.ref a2, .ref a3, .ref a5])), (a2, .inr (2, [.ref a2_1, .ref a2_2, .int v_n, .ref a2_3, .ref a2_4, .int v_pulses, .int v_front, .int v_least, .int v_window])), (a2_1, .inl (Z.2 0, 8, .inl v_lengths)), (a2_2, .inl (Z.2 0, 8, .inl v_fractions)), (a2_3, .inl (Z.2 0, 4, .inl v_pulseTimes)), (a2_4, .inl (Z.2 0, 4, .inl v_pulseEnergies))] (fun _ : Unit => (some (.int r) : Option Value)) (fun _ : Unit => ([(a4, .inr (4, [.ref a4_1, .ref a4_2, .ref a4_3, (va_rf v_line), .long r_brought, .long r_left, .long r_dropped, .long r_away, .int r_mergings, .int r_drops])), (a4_1, .inl (Z.2 1, 1809, .inr (.inl r_fromNear))), (a4_2, .inl (Z.2 1, 1809, .inr (.inl r_fromFar))), (a4_3, .inl (Z.2 1, 201, .inr (.inl r_echoes))), (az, .inl (Z.2 1, 1, .inr (.inl v_out)))] : va_W)) := by
  refine Ct.ofH cX0_total 4 (some .int) [(0, 8, 11, 13)] "LineEchoesLaw" [some (.ref a0), some (.int x1), some (.ref az), none] 1 (by decide) rfl (Nat.le_of_ble_eq_true rfl) rfl (fun p e s m args below meth c A X ht => ?_)
  unfold F_LX_total at h
  refine g_aload_n X rfl dX0_total_0 1 rfl ?_
  refine g_iconst X 0 dX0_total_1 2 rfl kI_0 ?_
  refine g_aload_n X rfl dX0_total_2 3 rfl ?_
  refine g_iload_n X rfl dX0_total_3 4 rfl ?_
  rcases bc10_e h with ⟨k9, hcl, hg⟩ | ⟨r1, w2_brought, w3_left, w4_dropped, w5_away, w6_mergings, w7_drops, w8_fromNear, w9_fromFar, w10_echoes, hcl, h⟩
  · by_cases hk1 : k9 = 1
    · subst hk1
      replace h := if_t rfl hg
      refine g_xcV X (met_X1_total l hl Z a4 a4_1 a4_2 a4_3 a0 a1 a2 a2_1 a2_2 a2_3 a2_4 a7 a8 a3 a5 v_line v_brought v_left v_dropped v_away v_mergings v_drops v_fromNear v_fromFar v_echoes v_depth v_scriptLength v_n v_pulses v_front v_least v_window v_lengths v_fractions v_pulseTimes v_pulseEnergies x1 _ hcl).thr [0, 1, 2, 3] [4] [5, 6, 7, 8, 9, 10, 11] (wr := [(az, .inl (Z.2 1, 1, .inr (.inl v_out)))]) ⟨rfl, rfl, rfl, rfl, rfl, by decide, by decide⟩ 5 gC0 rfl rfl (lw_V q1197 q1198 q1199 q69 q1200) md_X1_total ⟨(Nat.le_of_ble_eq_true rfl), (Nat.le_of_ble_eq_true rfl)⟩ rfl dX0_total_4 [] ⟨0, 8, 11, 13⟩ [] ht (Nat.le_of_ble_eq_true rfl) (Nat.le_of_ble_eq_true rfl) (st := [.int 0, .ref az]) rfl (Nat.le_of_ble_eq_true rfl) (List.forall_mem_nil _) (by decide) (by decide) q1085 gCa1 rfl 1 6 rfl rfl (fun q9 => ?_)
      refine g_astore_n X dX0_total_11 12 rfl (Nat.le_of_ble_eq_true rfl) rfl [some (.ref a0), some (.int x1), some (.ref az), some (.ref q9)] rfl ?_
      refine g_iconst X 1 dX0_total_12 13 rfl kI_1 ?_
      refine g_keep [1, 2, 3, 4, 0] [(a4, .inr (4, [.ref a4_1, .ref a4_2, .ref a4_3, (va_rf v_line), .long v_brought, .long v_left, .long v_dropped, .long v_away, .int v_mergings, .int v_drops])), (a4_1, .inl (Z.2 1, 1809, .inr (.inl v_fromNear))), (a4_2, .inl (Z.2 1, 1809, .inr (.inl v_fromFar))), (a4_3, .inl (Z.2 1, 201, .inr (.inl v_echoes))), (az, .inl (Z.2 1, 1, .inr (.inl v_out)))] rfl rfl ?_
      cases h
      exact g_iret X dX0_total_13 () rfl rfl (Nat.le_of_ble_eq_true rfl) (Nat.le_of_ble_eq_true rfl)
    replace hg := if_f hk1 hg
    cases hg
  refine g_callV1 X (met_X1_total l hl Z a4 a4_1 a4_2 a4_3 a0 a1 a2 a2_1 a2_2 a2_3 a2_4 a7 a8 a3 a5 v_line v_brought v_left v_dropped v_away v_mergings v_drops v_fromNear v_fromFar v_echoes v_depth v_scriptLength v_n v_pulses v_front v_least v_window v_lengths v_fractions v_pulseTimes v_pulseEnergies x1 _ hcl).ret [0, 1, 2, 3] [4] [5, 6, 7, 8, 9, 10, 11] (wr := [(az, .inl (Z.2 1, 1, .inr (.inl v_out)))]) ⟨rfl, rfl, rfl, rfl, rfl, by decide, by decide⟩ 5 gC0 rfl rfl (lw_V q1197 q1198 q1199 q69 q1200) md_X1_total ⟨(Nat.le_of_ble_eq_true rfl), (Nat.le_of_ble_eq_true rfl)⟩ rfl dX0_total_4 7 rfl 1 6 rfl rfl (Nat.le_of_ble_eq_true rfl) (Nat.le_of_ble_eq_true rfl) (st := [.int 0, .ref az]) rfl (Nat.le_of_ble_eq_true rfl) (fun _ => rfl) (fun _ => ?_)
  cases h
/-! LineEchoesLaw.arrival(LLineEchoes;IIZ[J)I -/
abbrev rm_L_arrival : Room := { frames := 10, cells := 2, slots := 12, locals := 165 }
def F_L_arrival (v_fromNear : Nat → Int64) (v_fromFar : Nat → Int64) (v_echoes : Nat → Int64) (v_out : Nat → Int64) (v_n : Int32) (v_pulses : Int32) (v_front : Int32) (v_least : Int32) (v_window : Int32) (v_lengths : Nat → Int32) (v_fractions : Nat → Int32) (v_pulseTimes : Nat → Int32) (v_pulseEnergies : Nat → Int32) (x1 : Int32) (x2 : Int32) (x3 : Int32) : Option (Int32 × Int64 × Int64 × Int64 × Int64 × Int32 × Int32 × (Nat → Int64) × (Nat → Int64) × (Nat → Int64) × (Nat → Int64)) :=
  bc10 (F_X1_arrival v_fromNear v_fromFar v_echoes v_n v_pulses v_front v_least v_window v_lengths v_fractions v_pulseTimes v_pulseEnergies x1 x2 x3) (fun r1 w2_brought w3_left w4_dropped w5_away w6_mergings w7_drops w8_fromNear w9_fromFar w10_echoes =>
  gin 0 1 <|
  some (0, w2_brought, w3_left, w4_dropped, w5_away, w6_mergings, w7_drops, w8_fromNear, w9_fromFar, w10_echoes, vp_updL v_out (Int32.toNatClampNeg 0) r1)) (fun k9 => if k9 = 0 then (none) else if k9 = 1 then (none) else none)
theorem met_L_arrival (l : Launch) (hl : l.stackTraces = false) (Z : gZt) (a4 : Nat) (a4_1 : Nat) (a4_2 : Nat) (a4_3 : Nat) (az : Nat) (a0 : Nat) (a1 : Nat) (a2 : Nat) (a2_1 : Nat) (a2_2 : Nat) (a2_3 : Nat) (a2_4 : Nat) (a7 : Nat) (a8 : Nat) (a3 : Nat) (a5 : Nat) (v_line : Option Nat) (v_brought : Int64) (v_left : Int64) (v_dropped : Int64) (v_away : Int64) (v_mergings : Int32) (v_drops : Int32) (v_fromNear : Nat → Int64) (v_fromFar : Nat → Int64) (v_echoes : Nat → Int64) (v_out : Nat → Int64) (v_depth : Int32) (v_scriptLength : Int32) (v_n : Int32) (v_pulses : Int32) (v_front : Int32) (v_least : Int32) (v_window : Int32) (v_lengths : Nat → Int32) (v_fractions : Nat → Int32) (v_pulseTimes : Nat → Int32) (v_pulseEnergies : Nat → Int32) (x1 : Int32) (x2 : Int32) (x3 : Int32) (r : Int32) (r_brought : Int64) (r_left : Int64) (r_dropped : Int64) (r_away : Int64) (r_mergings : Int32) (r_drops : Int32) (r_fromNear : Nat → Int64) (r_fromFar : Nat → Int64) (r_echoes : Nat → Int64) (r_out : Nat → Int64) (h : F_L_arrival v_fromNear v_fromFar v_echoes v_out v_n v_pulses v_front v_least v_window v_lengths v_fractions v_pulseTimes v_pulseEnergies x1 x2 x3 = some (r, r_brought, r_left, r_dropped, r_away, r_mergings, r_drops, r_fromNear, r_fromFar, r_echoes, r_out)) : Ct l yX0_arrival (wsW_ yX0_arrival cX0_arrival 6 (some .int) [(0, 11, 14, 21), (0, 11, 18, 13)]) rm_L_arrival Z [.ref a0, .int x1, .int x2, .int x3, .ref az] [(a4, .inr (4, [.ref a4_1, .ref a4_2, .ref a4_3, (va_rf v_line), .long v_brought, .long v_left, .long v_dropped, .long v_away, .int v_mergings, .int v_drops])), (a4_1, .inl (Z.2 1, 1809, .inr (.inl v_fromNear))), (a4_2, .inl (Z.2 1, 1809, .inr (.inl v_fromFar))), (a4_3, .inl (Z.2 1, 201, .inr (.inl v_echoes))), (az, .inl (Z.2 1, 1, .inr (.inl v_out)))] [(a0, .inr (0, [.ref a1, .ref a7, .int v_depth, .ref a8, .int v_scriptLength, .ref a4])), (a1, .inr (1, [.ref a2, .ref a3, .ref a5])), (a2, .inr (2, [.ref a2_1, .ref a2_2, .int v_n, .ref a2_3, .ref a2_4, .int v_pulses, .int v_front, .int v_least, .int v_window])), (a2_1, .inl (Z.2 0, 8, .inl v_lengths)), (a2_2, .inl (Z.2 0, 8, .inl v_fractions)), (a2_3, .inl (Z.2 0, 4, .inl v_pulseTimes)), (a2_4, .inl (Z.2 0, 4, .inl v_pulseEnergies))] (fun _ : Unit => (some (.int r) : Option Value)) (fun _ : Unit => ([(a4, .inr (4, [.ref a4_1, .ref a4_2, .ref a4_3, .ref a2, .long r_brought, .long r_left, .long r_dropped, .long r_away, .int r_mergings, .int r_drops])), (a4_1, .inl (Z.2 1, 1809, .inr (.inl r_fromNear))), (a4_2, .inl (Z.2 1, 1809, .inr (.inl r_fromFar))), (a4_3, .inl (Z.2 1, 201, .inr (.inl r_echoes))), (az, .inl (Z.2 1, 1, .inr (.inl r_out)))] : va_W)) := by
  refine Ct.ofH cX0_arrival 6 (some .int) [(0, 11, 14, 21), (0, 11, 18, 13)] "LineEchoesLaw" [some (.ref a0), some (.int x1), some (.int x2), some (.int x3), some (.ref az), none] 1 (by decide) rfl (Nat.le_of_ble_eq_true rfl) rfl (fun p e s m args below meth c A X ht => ?_)
  unfold F_L_arrival at h
  refine g_aload X rfl dX0_arrival_0 2 rfl ?_
  refine g_iconst X 0 dX0_arrival_2 3 rfl kI_0 ?_
  refine g_aload_n X rfl dX0_arrival_3 4 rfl ?_
  refine g_iload_n X rfl dX0_arrival_4 5 rfl ?_
  refine g_iload_n X rfl dX0_arrival_5 6 rfl ?_
  refine g_iload_n X rfl dX0_arrival_6 7 rfl ?_
  rcases bc10_e h with ⟨k9, hcl, hg⟩ | ⟨r1, w2_brought, w3_left, w4_dropped, w5_away, w6_mergings, w7_drops, w8_fromNear, w9_fromFar, w10_echoes, hcl, h⟩
  · by_cases hk0 : k9 = 0
    · subst hk0
      replace h := if_t rfl hg
      refine g_xcV X (met_X1_arrival l hl Z a4 a4_1 a4_2 a4_3 a0 a1 a2 a2_1 a2_2 a2_3 a2_4 a7 a8 a3 a5 v_line v_brought v_left v_dropped v_away v_mergings v_drops v_fromNear v_fromFar v_echoes v_depth v_scriptLength v_n v_pulses v_front v_least v_window v_lengths v_fractions v_pulseTimes v_pulseEnergies x1 x2 x3 _ hcl).thr [0, 1, 2, 3] [4] [5, 6, 7, 8, 9, 10, 11] (wr := [(az, .inl (Z.2 1, 1, .inr (.inl v_out)))]) ⟨rfl, rfl, rfl, rfl, rfl, by decide, by decide⟩ 5 gC0 rfl rfl (lw_V q1205 q1206 q1207 q69 q1208) md_X1_arrival ⟨(Nat.le_of_ble_eq_true rfl), (Nat.le_of_ble_eq_true rfl)⟩ rfl dX0_arrival_7 [] ⟨0, 11, 14, 21⟩ [⟨0, 11, 18, 13⟩] ht (Nat.le_of_ble_eq_true rfl) (Nat.le_of_ble_eq_true rfl) (st := [.int 0, .ref az]) rfl (Nat.le_of_ble_eq_true rfl) (List.forall_mem_nil _) (by decide) (by decide) q1094 gCa0 rfl 2 12 rfl rfl (fun q9 => ?_)
      cases h
    replace hg := if_f hk0 hg
    by_cases hk1 : k9 = 1
    · subst hk1
      replace h := if_t rfl hg
      refine g_xcV X (met_X1_arrival l hl Z a4 a4_1 a4_2 a4_3 a0 a1 a2 a2_1 a2_2 a2_3 a2_4 a7 a8 a3 a5 v_line v_brought v_left v_dropped v_away v_mergings v_drops v_fromNear v_fromFar v_echoes v_depth v_scriptLength v_n v_pulses v_front v_least v_window v_lengths v_fractions v_pulseTimes v_pulseEnergies x1 x2 x3 _ hcl).thr [0, 1, 2, 3] [4] [5, 6, 7, 8, 9, 10, 11] (wr := [(az, .inl (Z.2 1, 1, .inr (.inl v_out)))]) ⟨rfl, rfl, rfl, rfl, rfl, by decide, by decide⟩ 5 gC0 rfl rfl (lw_V q1205 q1206 q1207 q69 q1208) md_X1_arrival ⟨(Nat.le_of_ble_eq_true rfl), (Nat.le_of_ble_eq_true rfl)⟩ rfl dX0_arrival_7 [⟨0, 11, 14, 21⟩] ⟨0, 11, 18, 13⟩ [] ht (Nat.le_of_ble_eq_true rfl) (Nat.le_of_ble_eq_true rfl) (st := [.int 0, .ref az]) rfl (Nat.le_of_ble_eq_true rfl) (List.forall_mem_cons.mpr ⟨Or.inr ⟨by decide, _, q1094, X.kk.2.2.2.2.2.2.2.2.2.2 1 0 (by decide) (by decide) (by decide)⟩, (List.forall_mem_nil _)⟩) (by decide) (by decide) q1085 gCa1 rfl 2 12 rfl rfl (fun q9 => ?_)
      cases h
    replace hg := if_f hk1 hg
    cases hg
  refine g_callV1 X (met_X1_arrival l hl Z a4 a4_1 a4_2 a4_3 a0 a1 a2 a2_1 a2_2 a2_3 a2_4 a7 a8 a3 a5 v_line v_brought v_left v_dropped v_away v_mergings v_drops v_fromNear v_fromFar v_echoes v_depth v_scriptLength v_n v_pulses v_front v_least v_window v_lengths v_fractions v_pulseTimes v_pulseEnergies x1 x2 x3 _ hcl).ret [0, 1, 2, 3] [4] [5, 6, 7, 8, 9, 10, 11] (wr := [(az, .inl (Z.2 1, 1, .inr (.inl v_out)))]) ⟨rfl, rfl, rfl, rfl, rfl, by decide, by decide⟩ 5 gC0 rfl rfl (lw_V q1205 q1206 q1207 q69 q1208) md_X1_arrival ⟨(Nat.le_of_ble_eq_true rfl), (Nat.le_of_ble_eq_true rfl)⟩ rfl dX0_arrival_7 10 rfl 2 12 rfl rfl (Nat.le_of_ble_eq_true rfl) (Nat.le_of_ble_eq_true rfl) (st := [.int 0, .ref az]) rfl (Nat.le_of_ble_eq_true rfl) (fun _ => rfl) (fun _ => ?_)
  obtain ⟨hi, h⟩ := gin_e h
  refine g_last X 0 rfl hi dX0_arrival_10 11 rfl ?_
  refine g_goto X dX0_arrival_11 22 (by decide) ?_
  refine g_iconst X 0 dX0_arrival_22 23 rfl kI_0 ?_
  refine g_keep [1, 2, 3, 4, 0] [(a4, .inr (4, [.ref a4_1, .ref a4_2, .ref a4_3, .ref a2, .long w2_brought, .long w3_left, .long w4_dropped, .long w5_away, .int w6_mergings, .int w7_drops])), (a4_1, .inl (Z.2 1, 1809, .inr (.inl w8_fromNear))), (a4_2, .inl (Z.2 1, 1809, .inr (.inl w9_fromFar))), (a4_3, .inl (Z.2 1, 201, .inr (.inl w10_echoes))), (az, .inl (Z.2 1, 1, .inr (.inl (vp_updL v_out (Int32.toNatClampNeg 0) r1))))] rfl rfl ?_
  obtain ⟨rfl, rfl, rfl, rfl, rfl, rfl, rfl, rfl, rfl, rfl, rfl⟩ := rt11 h
  exact g_iret X dX0_arrival_23 () rfl rfl (Nat.le_of_ble_eq_true rfl) (Nat.le_of_ble_eq_true rfl)
/-! LineEchoesLaw.arrival(LLineEchoes;IIZ[J)I -/
abbrev rm_LX_arrival : Room := { frames := 10, cells := 2, slots := 12, locals := 165 }
def F_LX_arrival (v_brought : Int64) (v_left : Int64) (v_dropped : Int64) (v_away : Int64) (v_mergings : Int32) (v_drops : Int32) (v_fromNear : Nat → Int64) (v_fromFar : Nat → Int64) (v_echoes : Nat → Int64) (v_n : Int32) (v_pulses : Int32) (v_front : Int32) (v_least : Int32) (v_window : Int32) (v_lengths : Nat → Int32) (v_fractions : Nat → Int32) (v_pulseTimes : Nat → Int32) (v_pulseEnergies : Nat → Int32) (x1 : Int32) (x2 : Int32) (x3 : Int32) : Option (Int32 × Int64 × Int64 × Int64 × Int64 × Int32 × Int32 × (Nat → Int64) × (Nat → Int64) × (Nat → Int64)) :=
  bc10 (F_X1_arrival v_fromNear v_fromFar v_echoes v_n v_pulses v_front v_least v_window v_lengths v_fractions v_pulseTimes v_pulseEnergies x1 x2 x3) (fun r1 w2_brought w3_left w4_dropped w5_away w6_mergings w7_drops w8_fromNear w9_fromFar w10_echoes =>
  none) (fun k9 => if k9 = 0 then (some (1, v_brought, v_left, v_dropped, v_away, v_mergings, v_drops, v_fromNear, v_fromFar, v_echoes)) else if k9 = 1 then (some (2, v_brought, v_left, v_dropped, v_away, v_mergings, v_drops, v_fromNear, v_fromFar, v_echoes)) else none)
theorem met_LX_arrival (l : Launch) (hl : l.stackTraces = false) (Z : gZt) (a4 : Nat) (a4_1 : Nat) (a4_2 : Nat) (a4_3 : Nat) (az : Nat) (a0 : Nat) (a1 : Nat) (a2 : Nat) (a2_1 : Nat) (a2_2 : Nat) (a2_3 : Nat) (a2_4 : Nat) (a7 : Nat) (a8 : Nat) (a3 : Nat) (a5 : Nat) (v_line : Option Nat) (v_brought : Int64) (v_left : Int64) (v_dropped : Int64) (v_away : Int64) (v_mergings : Int32) (v_drops : Int32) (v_fromNear : Nat → Int64) (v_fromFar : Nat → Int64) (v_echoes : Nat → Int64) (v_out : Nat → Int64) (v_depth : Int32) (v_scriptLength : Int32) (v_n : Int32) (v_pulses : Int32) (v_front : Int32) (v_least : Int32) (v_window : Int32) (v_lengths : Nat → Int32) (v_fractions : Nat → Int32) (v_pulseTimes : Nat → Int32) (v_pulseEnergies : Nat → Int32) (x1 : Int32) (x2 : Int32) (x3 : Int32) (r : Int32) (r_brought : Int64) (r_left : Int64) (r_dropped : Int64) (r_away : Int64) (r_mergings : Int32) (r_drops : Int32) (r_fromNear : Nat → Int64) (r_fromFar : Nat → Int64) (r_echoes : Nat → Int64) (h : F_LX_arrival v_brought v_left v_dropped v_away v_mergings v_drops v_fromNear v_fromFar v_echoes v_n v_pulses v_front v_least v_window v_lengths v_fractions v_pulseTimes v_pulseEnergies x1 x2 x3 = some (r, r_brought, r_left, r_dropped, r_away, r_mergings, r_drops, r_fromNear, r_fromFar, r_echoes)) : Ct l yX0_arrival (wsW_ yX0_arrival cX0_arrival 6 (some .int) [(0, 11, 14, 21), (0, 11, 18, 13)]) rm_LX_arrival Z [.ref a0, .int x1, .int x2, .int x3, .ref az] [(a4, .inr (4, [.ref a4_1, .ref a4_2, .ref a4_3, (va_rf v_line), .long v_brought, .long v_left, .long v_dropped, .long v_away, .int v_mergings, .int v_drops])), (a4_1, .inl (Z.2 1, 1809, .inr (.inl v_fromNear))), (a4_2, .inl (Z.2 1, 1809, .inr (.inl v_fromFar))), (a4_3, .inl (Z.2 1, 201, .inr (.inl v_echoes))), (az, .inl (Z.2 1, 1, .inr (.inl v_out)))] [(a0, .inr (0, [.ref a1, .ref a7, .int v_depth, .ref a8, .int v_scriptLength, .ref a4])), (a1, .inr (1, [.ref a2, .ref a3, .ref a5])), (a2, .inr (2, [.ref a2_1, .ref a2_2, .int v_n, .ref a2_3, .ref a2_4, .int v_pulses, .int v_front, .int v_least, .int v_window])), (a2_1, .inl (Z.2 0, 8, .inl v_lengths)), (a2_2, .inl (Z.2 0, 8, .inl v_fractions)), (a2_3, .inl (Z.2 0, 4, .inl v_pulseTimes)), (a2_4, .inl (Z.2 0, 4, .inl v_pulseEnergies))] (fun _ : Unit => (some (.int r) : Option Value)) (fun _ : Unit => ([(a4, .inr (4, [.ref a4_1, .ref a4_2, .ref a4_3, (va_rf v_line), .long r_brought, .long r_left, .long r_dropped, .long r_away, .int r_mergings, .int r_drops])), (a4_1, .inl (Z.2 1, 1809, .inr (.inl r_fromNear))), (a4_2, .inl (Z.2 1, 1809, .inr (.inl r_fromFar))), (a4_3, .inl (Z.2 1, 201, .inr (.inl r_echoes))), (az, .inl (Z.2 1, 1, .inr (.inl v_out)))] : va_W)) := by
  refine Ct.ofH cX0_arrival 6 (some .int) [(0, 11, 14, 21), (0, 11, 18, 13)] "LineEchoesLaw" [some (.ref a0), some (.int x1), some (.int x2), some (.int x3), some (.ref az), none] 1 (by decide) rfl (Nat.le_of_ble_eq_true rfl) rfl (fun p e s m args below meth c A X ht => ?_)
  unfold F_LX_arrival at h
  refine g_aload X rfl dX0_arrival_0 2 rfl ?_
  refine g_iconst X 0 dX0_arrival_2 3 rfl kI_0 ?_
  refine g_aload_n X rfl dX0_arrival_3 4 rfl ?_
  refine g_iload_n X rfl dX0_arrival_4 5 rfl ?_
  refine g_iload_n X rfl dX0_arrival_5 6 rfl ?_
  refine g_iload_n X rfl dX0_arrival_6 7 rfl ?_
  rcases bc10_e h with ⟨k9, hcl, hg⟩ | ⟨r1, w2_brought, w3_left, w4_dropped, w5_away, w6_mergings, w7_drops, w8_fromNear, w9_fromFar, w10_echoes, hcl, h⟩
  · by_cases hk0 : k9 = 0
    · subst hk0
      replace h := if_t rfl hg
      refine g_xcV X (met_X1_arrival l hl Z a4 a4_1 a4_2 a4_3 a0 a1 a2 a2_1 a2_2 a2_3 a2_4 a7 a8 a3 a5 v_line v_brought v_left v_dropped v_away v_mergings v_drops v_fromNear v_fromFar v_echoes v_depth v_scriptLength v_n v_pulses v_front v_least v_window v_lengths v_fractions v_pulseTimes v_pulseEnergies x1 x2 x3 _ hcl).thr [0, 1, 2, 3] [4] [5, 6, 7, 8, 9, 10, 11] (wr := [(az, .inl (Z.2 1, 1, .inr (.inl v_out)))]) ⟨rfl, rfl, rfl, rfl, rfl, by decide, by decide⟩ 5 gC0 rfl rfl (lw_V q1205 q1206 q1207 q69 q1208) md_X1_arrival ⟨(Nat.le_of_ble_eq_true rfl), (Nat.le_of_ble_eq_true rfl)⟩ rfl dX0_arrival_7 [] ⟨0, 11, 14, 21⟩ [⟨0, 11, 18, 13⟩] ht (Nat.le_of_ble_eq_true rfl) (Nat.le_of_ble_eq_true rfl) (st := [.int 0, .ref az]) rfl (Nat.le_of_ble_eq_true rfl) (List.forall_mem_nil _) (by decide) (by decide) q1094 gCa0 rfl 2 12 rfl rfl (fun q9 => ?_)
      refine g_astore X dX0_arrival_14 16 rfl (Nat.le_of_ble_eq_true rfl) rfl [some (.ref a0), some (.int x1), some (.int x2), some (.int x3), some (.ref az), some (.ref q9)] rfl ?_
      refine g_iconst X 1 dX0_arrival_16 17 rfl kI_1 ?_
      refine g_keep [1, 2, 3, 4, 0] [(a4, .inr (4, [.ref a4_1, .ref a4_2, .ref a4_3, (va_rf v_line), .long v_brought, .long v_left, .long v_dropped, .long v_away, .int v_mergings, .int v_drops])), (a4_1, .inl (Z.2 1, 1809, .inr (.inl v_fromNear))), (a4_2, .inl (Z.2 1, 1809, .inr (.inl v_fromFar))), (a4_3, .inl (Z.2 1, 201, .inr (.inl v_echoes))), (az, .inl (Z.2 1, 1, .inr (.inl v_out)))] rfl rfl ?_
      cases h
      exact g_iret X dX0_arrival_17 () rfl rfl (Nat.le_of_ble_eq_true rfl) (Nat.le_of_ble_eq_true rfl)
    replace hg := if_f hk0 hg
    by_cases hk1 : k9 = 1
    · subst hk1
      replace h := if_t rfl hg
      refine g_xcV X (met_X1_arrival l hl Z a4 a4_1 a4_2 a4_3 a0 a1 a2 a2_1 a2_2 a2_3 a2_4 a7 a8 a3 a5 v_line v_brought v_left v_dropped v_away v_mergings v_drops v_fromNear v_fromFar v_echoes v_depth v_scriptLength v_n v_pulses v_front v_least v_window v_lengths v_fractions v_pulseTimes v_pulseEnergies x1 x2 x3 _ hcl).thr [0, 1, 2, 3] [4] [5, 6, 7, 8, 9, 10, 11] (wr := [(az, .inl (Z.2 1, 1, .inr (.inl v_out)))]) ⟨rfl, rfl, rfl, rfl, rfl, by decide, by decide⟩ 5 gC0 rfl rfl (lw_V q1205 q1206 q1207 q69 q1208) md_X1_arrival ⟨(Nat.le_of_ble_eq_true rfl), (Nat.le_of_ble_eq_true rfl)⟩ rfl dX0_arrival_7 [⟨0, 11, 14, 21⟩] ⟨0, 11, 18, 13⟩ [] ht (Nat.le_of_ble_eq_true rfl) (Nat.le_of_ble_eq_true rfl) (st := [.int 0, .ref az]) rfl (Nat.le_of_ble_eq_true rfl) (List.forall_mem_cons.mpr ⟨Or.inr ⟨by decide, _, q1094, X.kk.2.2.2.2.2.2.2.2.2.2 1 0 (by decide) (by decide) (by decide)⟩, (List.forall_mem_nil _)⟩) (by decide) (by decide) q1085 gCa1 rfl 2 12 rfl rfl (fun q9 => ?_)
      refine g_astore X dX0_arrival_18 20 rfl (Nat.le_of_ble_eq_true rfl) rfl [some (.ref a0), some (.int x1), some (.int x2), some (.int x3), some (.ref az), some (.ref q9)] rfl ?_
      refine g_iconst X 2 dX0_arrival_20 21 rfl kI_2 ?_
      refine g_keep [1, 2, 3, 4, 0] [(a4, .inr (4, [.ref a4_1, .ref a4_2, .ref a4_3, (va_rf v_line), .long v_brought, .long v_left, .long v_dropped, .long v_away, .int v_mergings, .int v_drops])), (a4_1, .inl (Z.2 1, 1809, .inr (.inl v_fromNear))), (a4_2, .inl (Z.2 1, 1809, .inr (.inl v_fromFar))), (a4_3, .inl (Z.2 1, 201, .inr (.inl v_echoes))), (az, .inl (Z.2 1, 1, .inr (.inl v_out)))] rfl rfl ?_
      cases h
      exact g_iret X dX0_arrival_21 () rfl rfl (Nat.le_of_ble_eq_true rfl) (Nat.le_of_ble_eq_true rfl)
    replace hg := if_f hk1 hg
    cases hg
  refine g_callV1 X (met_X1_arrival l hl Z a4 a4_1 a4_2 a4_3 a0 a1 a2 a2_1 a2_2 a2_3 a2_4 a7 a8 a3 a5 v_line v_brought v_left v_dropped v_away v_mergings v_drops v_fromNear v_fromFar v_echoes v_depth v_scriptLength v_n v_pulses v_front v_least v_window v_lengths v_fractions v_pulseTimes v_pulseEnergies x1 x2 x3 _ hcl).ret [0, 1, 2, 3] [4] [5, 6, 7, 8, 9, 10, 11] (wr := [(az, .inl (Z.2 1, 1, .inr (.inl v_out)))]) ⟨rfl, rfl, rfl, rfl, rfl, by decide, by decide⟩ 5 gC0 rfl rfl (lw_V q1205 q1206 q1207 q69 q1208) md_X1_arrival ⟨(Nat.le_of_ble_eq_true rfl), (Nat.le_of_ble_eq_true rfl)⟩ rfl dX0_arrival_7 10 rfl 2 12 rfl rfl (Nat.le_of_ble_eq_true rfl) (Nat.le_of_ble_eq_true rfl) (st := [.int 0, .ref az]) rfl (Nat.le_of_ble_eq_true rfl) (fun _ => rfl) (fun _ => ?_)
  cases h
/-! LineEchoesLaw.echoByte(LLineEchoes;I[J)I -/
abbrev rm_L_echoByte : Room := { frames := 9, cells := 801, slots := 48106, locals := 215 }
def F_L_echoByte (v_fromNear : Nat → Int64) (v_fromFar : Nat → Int64) (v_echoes : Nat → Int64) (v_out : Nat → Int64) (v_n : Int32) (v_pulses : Int32) (v_front : Int32) (v_least : Int32) (v_window : Int32) (v_lengths : Nat → Int32) (v_fractions : Nat → Int32) (v_pulseTimes : Nat → Int32) (v_pulseEnergies : Nat → Int32) (x1 : Int32) : Option (Int32 × Int64 × Int64 × Int64 × Int64 × Int32 × Int32 × (Nat → Int64) × (Nat → Int64) × (Nat → Int64) × (Nat → Int64)) :=
  bc10 (F_X1_echoByte v_fromNear v_fromFar v_echoes v_n v_pulses v_front v_least v_window v_lengths v_fractions v_pulseTimes v_pulseEnergies x1) (fun r1 w2_brought w3_left w4_dropped w5_away w6_mergings w7_drops w8_fromNear w9_fromFar w10_echoes =>
  gin 0 1 <|
  some (0, w2_brought, w3_left, w4_dropped, w5_away, w6_mergings, w7_drops, w8_fromNear, w9_fromFar, w10_echoes, vp_updL v_out (Int32.toNatClampNeg 0) r1.toInt64)) (fun k9 => if k9 = 1 then (none) else none)
theorem met_L_echoByte (l : Launch) (hl : l.stackTraces = false) (Z : gZt) (a4 : Nat) (a4_1 : Nat) (a4_2 : Nat) (a4_3 : Nat) (az : Nat) (a0 : Nat) (a1 : Nat) (a2 : Nat) (a2_1 : Nat) (a2_2 : Nat) (a2_3 : Nat) (a2_4 : Nat) (a7 : Nat) (a8 : Nat) (a3 : Nat) (a5 : Nat) (v_line : Option Nat) (v_brought : Int64) (v_left : Int64) (v_dropped : Int64) (v_away : Int64) (v_mergings : Int32) (v_drops : Int32) (v_fromNear : Nat → Int64) (v_fromFar : Nat → Int64) (v_echoes : Nat → Int64) (v_out : Nat → Int64) (v_depth : Int32) (v_scriptLength : Int32) (v_n : Int32) (v_pulses : Int32) (v_front : Int32) (v_least : Int32) (v_window : Int32) (v_lengths : Nat → Int32) (v_fractions : Nat → Int32) (v_pulseTimes : Nat → Int32) (v_pulseEnergies : Nat → Int32) (x1 : Int32) (r : Int32) (r_brought : Int64) (r_left : Int64) (r_dropped : Int64) (r_away : Int64) (r_mergings : Int32) (r_drops : Int32) (r_fromNear : Nat → Int64) (r_fromFar : Nat → Int64) (r_echoes : Nat → Int64) (r_out : Nat → Int64) (h : F_L_echoByte v_fromNear v_fromFar v_echoes v_out v_n v_pulses v_front v_least v_window v_lengths v_fractions v_pulseTimes v_pulseEnergies x1 = some (r, r_brought, r_left, r_dropped, r_away, r_mergings, r_drops, r_fromNear, r_fromFar, r_echoes, r_out)) : Ct l yX0_echoByte (wsW_ yX0_echoByte cX0_echoByte 4 (some .int) [(0, 9, 12, 13)]) rm_L_echoByte Z [.ref a0, .int x1, .ref az] [(a4, .inr (4, [.ref a4_1, .ref a4_2, .ref a4_3, (va_rf v_line), .long v_brought, .long v_left, .long v_dropped, .long v_away, .int v_mergings, .int v_drops])), (a4_1, .inl (Z.2 1, 1809, .inr (.inl v_fromNear))), (a4_2, .inl (Z.2 1, 1809, .inr (.inl v_fromFar))), (a4_3, .inl (Z.2 1, 201, .inr (.inl v_echoes))), (az, .inl (Z.2 1, 1, .inr (.inl v_out)))] [(a0, .inr (0, [.ref a1, .ref a7, .int v_depth, .ref a8, .int v_scriptLength, .ref a4])), (a1, .inr (1, [.ref a2, .ref a3, .ref a5])), (a2, .inr (2, [.ref a2_1, .ref a2_2, .int v_n, .ref a2_3, .ref a2_4, .int v_pulses, .int v_front, .int v_least, .int v_window])), (a2_1, .inl (Z.2 0, 8, .inl v_lengths)), (a2_2, .inl (Z.2 0, 8, .inl v_fractions)), (a2_3, .inl (Z.2 0, 4, .inl v_pulseTimes)), (a2_4, .inl (Z.2 0, 4, .inl v_pulseEnergies))] (fun _ : Unit => (some (.int r) : Option Value)) (fun _ : Unit => ([(a4, .inr (4, [.ref a4_1, .ref a4_2, .ref a4_3, .ref a2, .long r_brought, .long r_left, .long r_dropped, .long r_away, .int r_mergings, .int r_drops])), (a4_1, .inl (Z.2 1, 1809, .inr (.inl r_fromNear))), (a4_2, .inl (Z.2 1, 1809, .inr (.inl r_fromFar))), (a4_3, .inl (Z.2 1, 201, .inr (.inl r_echoes))), (az, .inl (Z.2 1, 1, .inr (.inl r_out)))] : va_W)) := by
  refine Ct.ofH cX0_echoByte 4 (some .int) [(0, 9, 12, 13)] "LineEchoesLaw" [some (.ref a0), some (.int x1), some (.ref az), none] 1 (by decide) rfl (Nat.le_of_ble_eq_true rfl) rfl (fun p e s m args below meth c A X ht => ?_)
  unfold F_L_echoByte at h
  refine g_aload_n X rfl dX0_echoByte_0 1 rfl ?_
  refine g_iconst X 0 dX0_echoByte_1 2 rfl kI_0 ?_
  refine g_aload_n X rfl dX0_echoByte_2 3 rfl ?_
  refine g_iload_n X rfl dX0_echoByte_3 4 rfl ?_
  rcases bc10_e h with ⟨k9, hcl, hg⟩ | ⟨r1, w2_brought, w3_left, w4_dropped, w5_away, w6_mergings, w7_drops, w8_fromNear, w9_fromFar, w10_echoes, hcl, h⟩
  · by_cases hk1 : k9 = 1
    · subst hk1
      replace h := if_t rfl hg
      refine g_xcV X (met_X1_echoByte l hl Z a4 a4_1 a4_2 a4_3 a0 a1 a2 a2_1 a2_2 a2_3 a2_4 a7 a8 a3 a5 v_line v_brought v_left v_dropped v_away v_mergings v_drops v_fromNear v_fromFar v_echoes v_depth v_scriptLength v_n v_pulses v_front v_least v_window v_lengths v_fractions v_pulseTimes v_pulseEnergies x1 _ hcl).thr [0, 1, 2, 3] [4] [5, 6, 7, 8, 9, 10, 11] (wr := [(az, .inl (Z.2 1, 1, .inr (.inl v_out)))]) ⟨rfl, rfl, rfl, rfl, rfl, by decide, by decide⟩ 5 gC0 rfl rfl (lw_V q1217 q1218 q1219 q69 q1220) md_X1_echoByte ⟨(Nat.le_of_ble_eq_true rfl), (Nat.le_of_ble_eq_true rfl)⟩ rfl dX0_echoByte_4 [] ⟨0, 9, 12, 13⟩ [] ht (Nat.le_of_ble_eq_true rfl) (Nat.le_of_ble_eq_true rfl) (st := [.int 0, .ref az]) rfl (Nat.le_of_ble_eq_true rfl) (List.forall_mem_nil _) (by decide) (by decide) q1085 gCa1 rfl 801 48106 rfl rfl (fun q9 => ?_)
      cases h
    replace hg := if_f hk1 hg
    cases hg
  refine g_callV1 X (met_X1_echoByte l hl Z a4 a4_1 a4_2 a4_3 a0 a1 a2 a2_1 a2_2 a2_3 a2_4 a7 a8 a3 a5 v_line v_brought v_left v_dropped v_away v_mergings v_drops v_fromNear v_fromFar v_echoes v_depth v_scriptLength v_n v_pulses v_front v_least v_window v_lengths v_fractions v_pulseTimes v_pulseEnergies x1 _ hcl).ret [0, 1, 2, 3] [4] [5, 6, 7, 8, 9, 10, 11] (wr := [(az, .inl (Z.2 1, 1, .inr (.inl v_out)))]) ⟨rfl, rfl, rfl, rfl, rfl, by decide, by decide⟩ 5 gC0 rfl rfl (lw_V q1217 q1218 q1219 q69 q1220) md_X1_echoByte ⟨(Nat.le_of_ble_eq_true rfl), (Nat.le_of_ble_eq_true rfl)⟩ rfl dX0_echoByte_4 7 rfl 801 48106 rfl rfl (Nat.le_of_ble_eq_true rfl) (Nat.le_of_ble_eq_true rfl) (st := [.int 0, .ref az]) rfl (Nat.le_of_ble_eq_true rfl) (fun _ => rfl) (fun _ => ?_)
  refine g_i2l X dX0_echoByte_7 8 rfl ?_
  obtain ⟨hi, h⟩ := gin_e h
  refine g_last X 0 rfl hi dX0_echoByte_8 9 rfl ?_
  refine g_goto X dX0_echoByte_9 15 (by decide) ?_
  refine g_iconst X 0 dX0_echoByte_15 16 rfl kI_0 ?_
  refine g_keep [1, 2, 3, 4, 0] [(a4, .inr (4, [.ref a4_1, .ref a4_2, .ref a4_3, .ref a2, .long w2_brought, .long w3_left, .long w4_dropped, .long w5_away, .int w6_mergings, .int w7_drops])), (a4_1, .inl (Z.2 1, 1809, .inr (.inl w8_fromNear))), (a4_2, .inl (Z.2 1, 1809, .inr (.inl w9_fromFar))), (a4_3, .inl (Z.2 1, 201, .inr (.inl w10_echoes))), (az, .inl (Z.2 1, 1, .inr (.inl (vp_updL v_out (Int32.toNatClampNeg 0) r1.toInt64))))] rfl rfl ?_
  obtain ⟨rfl, rfl, rfl, rfl, rfl, rfl, rfl, rfl, rfl, rfl, rfl⟩ := rt11 h
  exact g_iret X dX0_echoByte_16 () rfl rfl (Nat.le_of_ble_eq_true rfl) (Nat.le_of_ble_eq_true rfl)
/-! LineEchoesLaw.echoByte(LLineEchoes;I[J)I -/
abbrev rm_LX_echoByte : Room := { frames := 9, cells := 801, slots := 48106, locals := 215 }
def F_LX_echoByte (v_brought : Int64) (v_left : Int64) (v_dropped : Int64) (v_away : Int64) (v_mergings : Int32) (v_drops : Int32) (v_fromNear : Nat → Int64) (v_fromFar : Nat → Int64) (v_echoes : Nat → Int64) (v_n : Int32) (v_pulses : Int32) (v_front : Int32) (v_least : Int32) (v_window : Int32) (v_lengths : Nat → Int32) (v_fractions : Nat → Int32) (v_pulseTimes : Nat → Int32) (v_pulseEnergies : Nat → Int32) (x1 : Int32) : Option (Int32 × Int64 × Int64 × Int64 × Int64 × Int32 × Int32 × (Nat → Int64) × (Nat → Int64) × (Nat → Int64)) :=
  bc10 (F_X1_echoByte v_fromNear v_fromFar v_echoes v_n v_pulses v_front v_least v_window v_lengths v_fractions v_pulseTimes v_pulseEnergies x1) (fun r1 w2_brought w3_left w4_dropped w5_away w6_mergings w7_drops w8_fromNear w9_fromFar w10_echoes =>
  none) (fun k9 => if k9 = 1 then (some (1, v_brought, v_left, v_dropped, v_away, v_mergings, v_drops, v_fromNear, v_fromFar, v_echoes)) else none)
theorem met_LX_echoByte (l : Launch) (hl : l.stackTraces = false) (Z : gZt) (a4 : Nat) (a4_1 : Nat) (a4_2 : Nat) (a4_3 : Nat) (az : Nat) (a0 : Nat) (a1 : Nat) (a2 : Nat) (a2_1 : Nat) (a2_2 : Nat) (a2_3 : Nat) (a2_4 : Nat) (a7 : Nat) (a8 : Nat) (a3 : Nat) (a5 : Nat) (v_line : Option Nat) (v_brought : Int64) (v_left : Int64) (v_dropped : Int64) (v_away : Int64) (v_mergings : Int32) (v_drops : Int32) (v_fromNear : Nat → Int64) (v_fromFar : Nat → Int64) (v_echoes : Nat → Int64) (v_out : Nat → Int64) (v_depth : Int32) (v_scriptLength : Int32) (v_n : Int32) (v_pulses : Int32) (v_front : Int32) (v_least : Int32) (v_window : Int32) (v_lengths : Nat → Int32) (v_fractions : Nat → Int32) (v_pulseTimes : Nat → Int32) (v_pulseEnergies : Nat → Int32) (x1 : Int32) (r : Int32) (r_brought : Int64) (r_left : Int64) (r_dropped : Int64) (r_away : Int64) (r_mergings : Int32) (r_drops : Int32) (r_fromNear : Nat → Int64) (r_fromFar : Nat → Int64) (r_echoes : Nat → Int64) (h : F_LX_echoByte v_brought v_left v_dropped v_away v_mergings v_drops v_fromNear v_fromFar v_echoes v_n v_pulses v_front v_least v_window v_lengths v_fractions v_pulseTimes v_pulseEnergies x1 = some (r, r_brought, r_left, r_dropped, r_away, r_mergings, r_drops, r_fromNear, r_fromFar, r_echoes)) : Ct l yX0_echoByte (wsW_ yX0_echoByte cX0_echoByte 4 (some .int) [(0, 9, 12, 13)]) rm_LX_echoByte Z [.ref a0, .int x1, .ref az] [(a4, .inr (4, [.ref a4_1, .ref a4_2, .ref a4_3, (va_rf v_line), .long v_brought, .long v_left, .long v_dropped, .long v_away, .int v_mergings, .int v_drops])), (a4_1, .inl (Z.2 1, 1809, .inr (.inl v_fromNear))), (a4_2, .inl (Z.2 1, 1809, .inr (.inl v_fromFar))), (a4_3, .inl (Z.2 1, 201, .inr (.inl v_echoes))), (az, .inl (Z.2 1, 1, .inr (.inl v_out)))] [(a0, .inr (0, [.ref a1, .ref a7, .int v_depth, .ref a8, .int v_scriptLength, .ref a4])), (a1, .inr (1, [.ref a2, .ref a3, .ref a5])), (a2, .inr (2, [.ref a2_1, .ref a2_2, .int v_n, .ref a2_3, .ref a2_4, .int v_pulses, .int v_front, .int v_least, .int v_window])), (a2_1, .inl (Z.2 0, 8, .inl v_lengths)), (a2_2, .inl (Z.2 0, 8, .inl v_fractions)), (a2_3, .inl (Z.2 0, 4, .inl v_pulseTimes)), (a2_4, .inl (Z.2 0, 4, .inl v_pulseEnergies))] (fun _ : Unit => (some (.int r) : Option Value)) (fun _ : Unit => ([(a4, .inr (4, [.ref a4_1, .ref a4_2, .ref a4_3, (va_rf v_line), .long r_brought, .long r_left, .long r_dropped, .long r_away, .int r_mergings, .int r_drops])), (a4_1, .inl (Z.2 1, 1809, .inr (.inl r_fromNear))), (a4_2, .inl (Z.2 1, 1809, .inr (.inl r_fromFar))), (a4_3, .inl (Z.2 1, 201, .inr (.inl r_echoes))), (az, .inl (Z.2 1, 1, .inr (.inl v_out)))] : va_W)) := by
  refine Ct.ofH cX0_echoByte 4 (some .int) [(0, 9, 12, 13)] "LineEchoesLaw" [some (.ref a0), some (.int x1), some (.ref az), none] 1 (by decide) rfl (Nat.le_of_ble_eq_true rfl) rfl (fun p e s m args below meth c A X ht => ?_)
  unfold F_LX_echoByte at h
  refine g_aload_n X rfl dX0_echoByte_0 1 rfl ?_
  refine g_iconst X 0 dX0_echoByte_1 2 rfl kI_0 ?_
  refine g_aload_n X rfl dX0_echoByte_2 3 rfl ?_
  refine g_iload_n X rfl dX0_echoByte_3 4 rfl ?_
  rcases bc10_e h with ⟨k9, hcl, hg⟩ | ⟨r1, w2_brought, w3_left, w4_dropped, w5_away, w6_mergings, w7_drops, w8_fromNear, w9_fromFar, w10_echoes, hcl, h⟩
  · by_cases hk1 : k9 = 1
    · subst hk1
      replace h := if_t rfl hg
      refine g_xcV X (met_X1_echoByte l hl Z a4 a4_1 a4_2 a4_3 a0 a1 a2 a2_1 a2_2 a2_3 a2_4 a7 a8 a3 a5 v_line v_brought v_left v_dropped v_away v_mergings v_drops v_fromNear v_fromFar v_echoes v_depth v_scriptLength v_n v_pulses v_front v_least v_window v_lengths v_fractions v_pulseTimes v_pulseEnergies x1 _ hcl).thr [0, 1, 2, 3] [4] [5, 6, 7, 8, 9, 10, 11] (wr := [(az, .inl (Z.2 1, 1, .inr (.inl v_out)))]) ⟨rfl, rfl, rfl, rfl, rfl, by decide, by decide⟩ 5 gC0 rfl rfl (lw_V q1217 q1218 q1219 q69 q1220) md_X1_echoByte ⟨(Nat.le_of_ble_eq_true rfl), (Nat.le_of_ble_eq_true rfl)⟩ rfl dX0_echoByte_4 [] ⟨0, 9, 12, 13⟩ [] ht (Nat.le_of_ble_eq_true rfl) (Nat.le_of_ble_eq_true rfl) (st := [.int 0, .ref az]) rfl (Nat.le_of_ble_eq_true rfl) (List.forall_mem_nil _) (by decide) (by decide) q1085 gCa1 rfl 801 48106 rfl rfl (fun q9 => ?_)
      refine g_astore_n X dX0_echoByte_12 13 rfl (Nat.le_of_ble_eq_true rfl) rfl [some (.ref a0), some (.int x1), some (.ref az), some (.ref q9)] rfl ?_
      refine g_iconst X 1 dX0_echoByte_13 14 rfl kI_1 ?_
      refine g_keep [1, 2, 3, 4, 0] [(a4, .inr (4, [.ref a4_1, .ref a4_2, .ref a4_3, (va_rf v_line), .long v_brought, .long v_left, .long v_dropped, .long v_away, .int v_mergings, .int v_drops])), (a4_1, .inl (Z.2 1, 1809, .inr (.inl v_fromNear))), (a4_2, .inl (Z.2 1, 1809, .inr (.inl v_fromFar))), (a4_3, .inl (Z.2 1, 201, .inr (.inl v_echoes))), (az, .inl (Z.2 1, 1, .inr (.inl v_out)))] rfl rfl ?_
      cases h
      exact g_iret X dX0_echoByte_14 () rfl rfl (Nat.le_of_ble_eq_true rfl) (Nat.le_of_ble_eq_true rfl)
    replace hg := if_f hk1 hg
    cases hg
  refine g_callV1 X (met_X1_echoByte l hl Z a4 a4_1 a4_2 a4_3 a0 a1 a2 a2_1 a2_2 a2_3 a2_4 a7 a8 a3 a5 v_line v_brought v_left v_dropped v_away v_mergings v_drops v_fromNear v_fromFar v_echoes v_depth v_scriptLength v_n v_pulses v_front v_least v_window v_lengths v_fractions v_pulseTimes v_pulseEnergies x1 _ hcl).ret [0, 1, 2, 3] [4] [5, 6, 7, 8, 9, 10, 11] (wr := [(az, .inl (Z.2 1, 1, .inr (.inl v_out)))]) ⟨rfl, rfl, rfl, rfl, rfl, by decide, by decide⟩ 5 gC0 rfl rfl (lw_V q1217 q1218 q1219 q69 q1220) md_X1_echoByte ⟨(Nat.le_of_ble_eq_true rfl), (Nat.le_of_ble_eq_true rfl)⟩ rfl dX0_echoByte_4 7 rfl 801 48106 rfl rfl (Nat.le_of_ble_eq_true rfl) (Nat.le_of_ble_eq_true rfl) (st := [.int 0, .ref az]) rfl (Nat.le_of_ble_eq_true rfl) (fun _ => rfl) (fun _ => ?_)
  cases h
/-! LineEchoesLaw.fault(LLineEchoes;I[J)I -/
abbrev rm_L_fault : Room := { frames := 9, cells := 1, slots := 6, locals := 142 }
def F_L_fault (v_fromNear : Nat → Int64) (v_fromFar : Nat → Int64) (v_echoes : Nat → Int64) (v_out : Nat → Int64) (v_n : Int32) (v_pulses : Int32) (v_front : Int32) (v_least : Int32) (v_window : Int32) (v_lengths : Nat → Int32) (v_fractions : Nat → Int32) (v_pulseTimes : Nat → Int32) (v_pulseEnergies : Nat → Int32) (v_s_energies : Nat → Int64) (x1 : Int32) : Option (Int32 × Int64 × Int64 × Int64 × Int64 × Int32 × Int32 × (Nat → Int64) × (Nat → Int64) × (Nat → Int64) × (Nat → Int64)) :=
  bc10 (F_X1_fault v_fromNear v_fromFar v_echoes v_n v_pulses v_front v_least v_window v_lengths v_fractions v_pulseTimes v_pulseEnergies v_s_energies x1) (fun r1 w2_brought w3_left w4_dropped w5_away w6_mergings w7_drops w8_fromNear w9_fromFar w10_echoes =>
  gin 0 1 <|
  some (0, w2_brought, w3_left, w4_dropped, w5_away, w6_mergings, w7_drops, w8_fromNear, w9_fromFar, w10_echoes, vp_updL v_out (Int32.toNatClampNeg 0) r1.toInt64)) (fun k9 => if k9 = 1 then (none) else none)
theorem met_L_fault (l : Launch) (hl : l.stackTraces = false) (Z : gZt) (a4 : Nat) (a4_1 : Nat) (a4_2 : Nat) (a4_3 : Nat) (az : Nat) (a0 : Nat) (a1 : Nat) (a2 : Nat) (a2_1 : Nat) (a2_2 : Nat) (a2_3 : Nat) (a2_4 : Nat) (a3 : Nat) (a3_1 : Nat) (a7 : Nat) (a8 : Nat) (a5 : Nat) (v_line : Option Nat) (v_brought : Int64) (v_left : Int64) (v_dropped : Int64) (v_away : Int64) (v_mergings : Int32) (v_drops : Int32) (v_fromNear : Nat → Int64) (v_fromFar : Nat → Int64) (v_echoes : Nat → Int64) (v_out : Nat → Int64) (v_depth : Int32) (v_scriptLength : Int32) (v_n : Int32) (v_pulses : Int32) (v_front : Int32) (v_least : Int32) (v_window : Int32) (v_lengths : Nat → Int32) (v_fractions : Nat → Int32) (v_pulseTimes : Nat → Int32) (v_pulseEnergies : Nat → Int32) (v_s_energies : Nat → Int64) (x1 : Int32) (r : Int32) (r_brought : Int64) (r_left : Int64) (r_dropped : Int64) (r_away : Int64) (r_mergings : Int32) (r_drops : Int32) (r_fromNear : Nat → Int64) (r_fromFar : Nat → Int64) (r_echoes : Nat → Int64) (r_out : Nat → Int64) (h : F_L_fault v_fromNear v_fromFar v_echoes v_out v_n v_pulses v_front v_least v_window v_lengths v_fractions v_pulseTimes v_pulseEnergies v_s_energies x1 = some (r, r_brought, r_left, r_dropped, r_away, r_mergings, r_drops, r_fromNear, r_fromFar, r_echoes, r_out)) : Ct l yX0_fault (wsW_ yX0_fault cX0_fault 4 (some .int) [(0, 9, 12, 13)]) rm_L_fault Z [.ref a0, .int x1, .ref az] [(a4, .inr (4, [.ref a4_1, .ref a4_2, .ref a4_3, (va_rf v_line), .long v_brought, .long v_left, .long v_dropped, .long v_away, .int v_mergings, .int v_drops])), (a4_1, .inl (Z.2 1, 1809, .inr (.inl v_fromNear))), (a4_2, .inl (Z.2 1, 1809, .inr (.inl v_fromFar))), (a4_3, .inl (Z.2 1, 201, .inr (.inl v_echoes))), (az, .inl (Z.2 1, 1, .inr (.inl v_out)))] [(a0, .inr (0, [.ref a1, .ref a7, .int v_depth, .ref a8, .int v_scriptLength, .ref a4])), (a1, .inr (1, [.ref a2, .ref a3, .ref a5])), (a2, .inr (2, [.ref a2_1, .ref a2_2, .int v_n, .ref a2_3, .ref a2_4, .int v_pulses, .int v_front, .int v_least, .int v_window])), (a2_1, .inl (Z.2 0, 8, .inl v_lengths)), (a2_2, .inl (Z.2 0, 8, .inl v_fractions)), (a2_3, .inl (Z.2 0, 4, .inl v_pulseTimes)), (a2_4, .inl (Z.2 0, 4, .inl v_pulseEnergies)), (a3, .inr (3, [.ref a3_1])), (a3_1, .inl (Z.2 1, 201, .inr (.inl v_s_energies)))] (fun _ : Unit => (some (.int r) : Option Value)) (fun _ : Unit => ([(a4, .inr (4, [.ref a4_1, .ref a4_2, .ref a4_3, .ref a2, .long r_brought, .long r_left, .long r_dropped, .long r_away, .int r_mergings, .int r_drops])), (a4_1, .inl (Z.2 1, 1809, .inr (.inl r_fromNear))), (a4_2, .inl (Z.2 1, 1809, .inr (.inl r_fromFar))), (a4_3, .inl (Z.2 1, 201, .inr (.inl r_echoes))), (az, .inl (Z.2 1, 1, .inr (.inl r_out)))] : va_W)) := by
  refine Ct.ofH cX0_fault 4 (some .int) [(0, 9, 12, 13)] "LineEchoesLaw" [some (.ref a0), some (.int x1), some (.ref az), none] 1 (by decide) rfl (Nat.le_of_ble_eq_true rfl) rfl (fun p e s m args below meth c A X ht => ?_)
  unfold F_L_fault at h
  refine g_aload_n X rfl dX0_fault_0 1 rfl ?_
  refine g_iconst X 0 dX0_fault_1 2 rfl kI_0 ?_
  refine g_aload_n X rfl dX0_fault_2 3 rfl ?_
  refine g_iload_n X rfl dX0_fault_3 4 rfl ?_
  rcases bc10_e h with ⟨k9, hcl, hg⟩ | ⟨r1, w2_brought, w3_left, w4_dropped, w5_away, w6_mergings, w7_drops, w8_fromNear, w9_fromFar, w10_echoes, hcl, h⟩
  · by_cases hk1 : k9 = 1
    · subst hk1
      replace h := if_t rfl hg
      refine g_xcV X (met_X1_fault l hl Z a4 a4_1 a4_2 a4_3 a0 a1 a2 a2_1 a2_2 a2_3 a2_4 a3 a3_1 a7 a8 a5 v_line v_brought v_left v_dropped v_away v_mergings v_drops v_fromNear v_fromFar v_echoes v_depth v_scriptLength v_n v_pulses v_front v_least v_window v_lengths v_fractions v_pulseTimes v_pulseEnergies v_s_energies x1 _ hcl).thr [0, 1, 2, 3] [4] [5, 6, 7, 8, 9, 10, 11, 12, 13] (wr := [(az, .inl (Z.2 1, 1, .inr (.inl v_out)))]) ⟨rfl, rfl, rfl, rfl, rfl, by decide, by decide⟩ 5 gC0 rfl rfl (lw_V q1272 q1273 q1274 q69 q1275) md_X1_fault ⟨(Nat.le_of_ble_eq_true rfl), (Nat.le_of_ble_eq_true rfl)⟩ rfl dX0_fault_4 [] ⟨0, 9, 12, 13⟩ [] ht (Nat.le_of_ble_eq_true rfl) (Nat.le_of_ble_eq_true rfl) (st := [.int 0, .ref az]) rfl (Nat.le_of_ble_eq_true rfl) (List.forall_mem_nil _) (by decide) (by decide) q1085 gCa1 rfl 1 6 rfl rfl (fun q9 => ?_)
      cases h
    replace hg := if_f hk1 hg
    cases hg
  refine g_callV1 X (met_X1_fault l hl Z a4 a4_1 a4_2 a4_3 a0 a1 a2 a2_1 a2_2 a2_3 a2_4 a3 a3_1 a7 a8 a5 v_line v_brought v_left v_dropped v_away v_mergings v_drops v_fromNear v_fromFar v_echoes v_depth v_scriptLength v_n v_pulses v_front v_least v_window v_lengths v_fractions v_pulseTimes v_pulseEnergies v_s_energies x1 _ hcl).ret [0, 1, 2, 3] [4] [5, 6, 7, 8, 9, 10, 11, 12, 13] (wr := [(az, .inl (Z.2 1, 1, .inr (.inl v_out)))]) ⟨rfl, rfl, rfl, rfl, rfl, by decide, by decide⟩ 5 gC0 rfl rfl (lw_V q1272 q1273 q1274 q69 q1275) md_X1_fault ⟨(Nat.le_of_ble_eq_true rfl), (Nat.le_of_ble_eq_true rfl)⟩ rfl dX0_fault_4 7 rfl 1 6 rfl rfl (Nat.le_of_ble_eq_true rfl) (Nat.le_of_ble_eq_true rfl) (st := [.int 0, .ref az]) rfl (Nat.le_of_ble_eq_true rfl) (fun _ => rfl) (fun _ => ?_)
  refine g_i2l X dX0_fault_7 8 rfl ?_
  obtain ⟨hi, h⟩ := gin_e h
  refine g_last X 0 rfl hi dX0_fault_8 9 rfl ?_
  refine g_goto X dX0_fault_9 15 (by decide) ?_
  refine g_iconst X 0 dX0_fault_15 16 rfl kI_0 ?_
  refine g_keep [1, 2, 3, 4, 0] [(a4, .inr (4, [.ref a4_1, .ref a4_2, .ref a4_3, .ref a2, .long w2_brought, .long w3_left, .long w4_dropped, .long w5_away, .int w6_mergings, .int w7_drops])), (a4_1, .inl (Z.2 1, 1809, .inr (.inl w8_fromNear))), (a4_2, .inl (Z.2 1, 1809, .inr (.inl w9_fromFar))), (a4_3, .inl (Z.2 1, 201, .inr (.inl w10_echoes))), (az, .inl (Z.2 1, 1, .inr (.inl (vp_updL v_out (Int32.toNatClampNeg 0) r1.toInt64))))] rfl rfl ?_
  obtain ⟨rfl, rfl, rfl, rfl, rfl, rfl, rfl, rfl, rfl, rfl, rfl⟩ := rt11 h
  exact g_iret X dX0_fault_16 () rfl rfl (Nat.le_of_ble_eq_true rfl) (Nat.le_of_ble_eq_true rfl)
/-! LineEchoesLaw.fault(LLineEchoes;I[J)I -/
abbrev rm_LX_fault : Room := { frames := 9, cells := 1, slots := 6, locals := 142 }
def F_LX_fault (v_brought : Int64) (v_left : Int64) (v_dropped : Int64) (v_away : Int64) (v_mergings : Int32) (v_drops : Int32) (v_fromNear : Nat → Int64) (v_fromFar : Nat → Int64) (v_echoes : Nat → Int64) (v_n : Int32) (v_pulses : Int32) (v_front : Int32) (v_least : Int32) (v_window : Int32) (v_lengths : Nat → Int32) (v_fractions : Nat → Int32) (v_pulseTimes : Nat → Int32) (v_pulseEnergies : Nat → Int32) (v_s_energies : Nat → Int64) (x1 : Int32) : Option (Int32 × Int64 × Int64 × Int64 × Int64 × Int32 × Int32 × (Nat → Int64) × (Nat → Int64) × (Nat → Int64)) :=
  bc10 (F_X1_fault v_fromNear v_fromFar v_echoes v_n v_pulses v_front v_least v_window v_lengths v_fractions v_pulseTimes v_pulseEnergies v_s_energies x1) (fun r1 w2_brought w3_left w4_dropped w5_away w6_mergings w7_drops w8_fromNear w9_fromFar w10_echoes =>
  none) (fun k9 => if k9 = 1 then (some (1, v_brought, v_left, v_dropped, v_away, v_mergings, v_drops, v_fromNear, v_fromFar, v_echoes)) else none)
theorem met_LX_fault (l : Launch) (hl : l.stackTraces = false) (Z : gZt) (a4 : Nat) (a4_1 : Nat) (a4_2 : Nat) (a4_3 : Nat) (az : Nat) (a0 : Nat) (a1 : Nat) (a2 : Nat) (a2_1 : Nat) (a2_2 : Nat) (a2_3 : Nat) (a2_4 : Nat) (a3 : Nat) (a3_1 : Nat) (a7 : Nat) (a8 : Nat) (a5 : Nat) (v_line : Option Nat) (v_brought : Int64) (v_left : Int64) (v_dropped : Int64) (v_away : Int64) (v_mergings : Int32) (v_drops : Int32) (v_fromNear : Nat → Int64) (v_fromFar : Nat → Int64) (v_echoes : Nat → Int64) (v_out : Nat → Int64) (v_depth : Int32) (v_scriptLength : Int32) (v_n : Int32) (v_pulses : Int32) (v_front : Int32) (v_least : Int32) (v_window : Int32) (v_lengths : Nat → Int32) (v_fractions : Nat → Int32) (v_pulseTimes : Nat → Int32) (v_pulseEnergies : Nat → Int32) (v_s_energies : Nat → Int64) (x1 : Int32) (r : Int32) (r_brought : Int64) (r_left : Int64) (r_dropped : Int64) (r_away : Int64) (r_mergings : Int32) (r_drops : Int32) (r_fromNear : Nat → Int64) (r_fromFar : Nat → Int64) (r_echoes : Nat → Int64) (h : F_LX_fault v_brought v_left v_dropped v_away v_mergings v_drops v_fromNear v_fromFar v_echoes v_n v_pulses v_front v_least v_window v_lengths v_fractions v_pulseTimes v_pulseEnergies v_s_energies x1 = some (r, r_brought, r_left, r_dropped, r_away, r_mergings, r_drops, r_fromNear, r_fromFar, r_echoes)) : Ct l yX0_fault (wsW_ yX0_fault cX0_fault 4 (some .int) [(0, 9, 12, 13)]) rm_LX_fault Z [.ref a0, .int x1, .ref az] [(a4, .inr (4, [.ref a4_1, .ref a4_2, .ref a4_3, (va_rf v_line), .long v_brought, .long v_left, .long v_dropped, .long v_away, .int v_mergings, .int v_drops])), (a4_1, .inl (Z.2 1, 1809, .inr (.inl v_fromNear))), (a4_2, .inl (Z.2 1, 1809, .inr (.inl v_fromFar))), (a4_3, .inl (Z.2 1, 201, .inr (.inl v_echoes))), (az, .inl (Z.2 1, 1, .inr (.inl v_out)))] [(a0, .inr (0, [.ref a1, .ref a7, .int v_depth, .ref a8, .int v_scriptLength, .ref a4])), (a1, .inr (1, [.ref a2, .ref a3, .ref a5])), (a2, .inr (2, [.ref a2_1, .ref a2_2, .int v_n, .ref a2_3, .ref a2_4, .int v_pulses, .int v_front, .int v_least, .int v_window])), (a2_1, .inl (Z.2 0, 8, .inl v_lengths)), (a2_2, .inl (Z.2 0, 8, .inl v_fractions)), (a2_3, .inl (Z.2 0, 4, .inl v_pulseTimes)), (a2_4, .inl (Z.2 0, 4, .inl v_pulseEnergies)), (a3, .inr (3, [.ref a3_1])), (a3_1, .inl (Z.2 1, 201, .inr (.inl v_s_energies)))] (fun _ : Unit => (some (.int r) : Option Value)) (fun _ : Unit => ([(a4, .inr (4, [.ref a4_1, .ref a4_2, .ref a4_3, (va_rf v_line), .long r_brought, .long r_left, .long r_dropped, .long r_away, .int r_mergings, .int r_drops])), (a4_1, .inl (Z.2 1, 1809, .inr (.inl r_fromNear))), (a4_2, .inl (Z.2 1, 1809, .inr (.inl r_fromFar))), (a4_3, .inl (Z.2 1, 201, .inr (.inl r_echoes))), (az, .inl (Z.2 1, 1, .inr (.inl v_out)))] : va_W)) := by
  refine Ct.ofH cX0_fault 4 (some .int) [(0, 9, 12, 13)] "LineEchoesLaw" [some (.ref a0), some (.int x1), some (.ref az), none] 1 (by decide) rfl (Nat.le_of_ble_eq_true rfl) rfl (fun p e s m args below meth c A X ht => ?_)
  unfold F_LX_fault at h
  refine g_aload_n X rfl dX0_fault_0 1 rfl ?_
  refine g_iconst X 0 dX0_fault_1 2 rfl kI_0 ?_
  refine g_aload_n X rfl dX0_fault_2 3 rfl ?_
  refine g_iload_n X rfl dX0_fault_3 4 rfl ?_
  rcases bc10_e h with ⟨k9, hcl, hg⟩ | ⟨r1, w2_brought, w3_left, w4_dropped, w5_away, w6_mergings, w7_drops, w8_fromNear, w9_fromFar, w10_echoes, hcl, h⟩
  · by_cases hk1 : k9 = 1
    · subst hk1
      replace h := if_t rfl hg
      refine g_xcV X (met_X1_fault l hl Z a4 a4_1 a4_2 a4_3 a0 a1 a2 a2_1 a2_2 a2_3 a2_4 a3 a3_1 a7 a8 a5 v_line v_brought v_left v_dropped v_away v_mergings v_drops v_fromNear v_fromFar v_echoes v_depth v_scriptLength v_n v_pulses v_front v_least v_window v_lengths v_fractions v_pulseTimes v_pulseEnergies v_s_energies x1 _ hcl).thr [0, 1, 2, 3] [4] [5, 6, 7, 8, 9, 10, 11, 12, 13] (wr := [(az, .inl (Z.2 1, 1, .inr (.inl v_out)))]) ⟨rfl, rfl, rfl, rfl, rfl, by decide, by decide⟩ 5 gC0 rfl rfl (lw_V q1272 q1273 q1274 q69 q1275) md_X1_fault ⟨(Nat.le_of_ble_eq_true rfl), (Nat.le_of_ble_eq_true rfl)⟩ rfl dX0_fault_4 [] ⟨0, 9, 12, 13⟩ [] ht (Nat.le_of_ble_eq_true rfl) (Nat.le_of_ble_eq_true rfl) (st := [.int 0, .ref az]) rfl (Nat.le_of_ble_eq_true rfl) (List.forall_mem_nil _) (by decide) (by decide) q1085 gCa1 rfl 1 6 rfl rfl (fun q9 => ?_)
      refine g_astore_n X dX0_fault_12 13 rfl (Nat.le_of_ble_eq_true rfl) rfl [some (.ref a0), some (.int x1), some (.ref az), some (.ref q9)] rfl ?_
      refine g_iconst X 1 dX0_fault_13 14 rfl kI_1 ?_
      refine g_keep [1, 2, 3, 4, 0] [(a4, .inr (4, [.ref a4_1, .ref a4_2, .ref a4_3, (va_rf v_line), .long v_brought, .long v_left, .long v_dropped, .long v_away, .int v_mergings, .int v_drops])), (a4_1, .inl (Z.2 1, 1809, .inr (.inl v_fromNear))), (a4_2, .inl (Z.2 1, 1809, .inr (.inl v_fromFar))), (a4_3, .inl (Z.2 1, 201, .inr (.inl v_echoes))), (az, .inl (Z.2 1, 1, .inr (.inl v_out)))] rfl rfl ?_
      cases h
      exact g_iret X dX0_fault_14 () rfl rfl (Nat.le_of_ble_eq_true rfl) (Nat.le_of_ble_eq_true rfl)
    replace hg := if_f hk1 hg
    cases hg
  refine g_callV1 X (met_X1_fault l hl Z a4 a4_1 a4_2 a4_3 a0 a1 a2 a2_1 a2_2 a2_3 a2_4 a3 a3_1 a7 a8 a5 v_line v_brought v_left v_dropped v_away v_mergings v_drops v_fromNear v_fromFar v_echoes v_depth v_scriptLength v_n v_pulses v_front v_least v_window v_lengths v_fractions v_pulseTimes v_pulseEnergies v_s_energies x1 _ hcl).ret [0, 1, 2, 3] [4] [5, 6, 7, 8, 9, 10, 11, 12, 13] (wr := [(az, .inl (Z.2 1, 1, .inr (.inl v_out)))]) ⟨rfl, rfl, rfl, rfl, rfl, by decide, by decide⟩ 5 gC0 rfl rfl (lw_V q1272 q1273 q1274 q69 q1275) md_X1_fault ⟨(Nat.le_of_ble_eq_true rfl), (Nat.le_of_ble_eq_true rfl)⟩ rfl dX0_fault_4 7 rfl 1 6 rfl rfl (Nat.le_of_ble_eq_true rfl) (Nat.le_of_ble_eq_true rfl) (st := [.int 0, .ref az]) rfl (Nat.le_of_ble_eq_true rfl) (fun _ => rfl) (fun _ => ?_)
  cases h
/-! LineEchoesLaw.setObserved(LLineEchoes;IJ[J)I -/
abbrev rm_L_setObserved : Room := { frames := 10, cells := 19, slots := 687, locals := 168 }
def F_L_setObserved (a1 : Nat) (v_depth : Int32) (v_saved : Nat → Option Nat) (v_out : Nat → Int64) (v_n : Int32) (v_pulses : Int32) (v_front : Int32) (v_least : Int32) (v_window : Int32) (v_lengths : Nat → Int32) (v_fractions : Nat → Int32) (v_pulseTimes : Nat → Int32) (v_pulseEnergies : Nat → Int32) (v_o_energies : Nat → Int64) (x1 : Int32) (x2 : Int64) : Option (Int32 × Int32 × (Nat → Option Nat) × (Nat → Int64) × Int32 × Int32 × Int32 × Int32 × Int32 × (Nat → Int32) × (Nat → Int32) × (Nat → Int32) × (Nat → Int32) × (Nat → Int64)) :=
  bc13 (F_X1_setObserved a1 v_depth v_saved v_n v_pulses v_front v_least v_window v_lengths v_fractions v_pulseTimes v_pulseEnergies v_o_energies x1 x2) (fun r1 w2_depth w3_saved w4_o1_2 w5_o1_5 w6_o1_6 w7_o1_7 w8_o1_8 w9_o2 w10_o3 w11_o4 w12_o5 w13_o7 =>
  gin 0 1 <|
  some (0, w2_depth, w3_saved, vp_updL v_out (Int32.toNatClampNeg 0) r1, w4_o1_2, w5_o1_5, w6_o1_6, w7_o1_7, w8_o1_8, w9_o2, w10_o3, w11_o4, w12_o5, w13_o7)) (fun k9 => if k9 = 1 then (none) else none)
theorem met_L_setObserved (l : Launch) (hl : l.stackTraces = false) (Z : gZt) (a0 : Nat) (a7 : Nat) (az : Nat) (a1 : Nat) (a2 : Nat) (a2_1 : Nat) (a2_2 : Nat) (a2_3 : Nat) (a2_4 : Nat) (a5 : Nat) (a5_1 : Nat) (a8 : Nat) (a4 : Nat) (a3 : Nat) (ro : va_W) (v_depth : Int32) (v_scriptLength : Int32) (v_saved : Nat → Option Nat) (v_out : Nat → Int64) (v_n : Int32) (v_pulses : Int32) (v_front : Int32) (v_least : Int32) (v_window : Int32) (v_lengths : Nat → Int32) (v_fractions : Nat → Int32) (v_pulseTimes : Nat → Int32) (v_pulseEnergies : Nat → Int32) (v_o_energies : Nat → Int64) (x1 : Int32) (x2 : Int64) (r : Int32) (r_depth : Int32) (r_saved : Nat → Option Nat) (r_out : Nat → Int64) (o1_2 : Int32) (o1_5 : Int32) (o1_6 : Int32) (o1_7 : Int32) (o1_8 : Int32) (o2 : Nat → Int32) (o3 : Nat → Int32) (o4 : Nat → Int32) (o5 : Nat → Int32) (o7 : Nat → Int64) (hsv : gSv v_saved 3 ro) (h : F_L_setObserved a1 v_depth v_saved v_out v_n v_pulses v_front v_least v_window v_lengths v_fractions v_pulseTimes v_pulseEnergies v_o_energies x1 x2 = some (r, r_depth, r_saved, r_out, o1_2, o1_5, o1_6, o1_7, o1_8, o2, o3, o4, o5, o7)) : Ct l yX0_setObserved (wsW_ yX0_setObserved cX0_setObserved 6 (some .int) [(0, 10, 13, 13)]) rm_L_setObserved Z [.ref a0, .int x1, .long x2, .ref az] [(a0, .inr (0, [.ref a1, .ref a7, .int v_depth, .ref a8, .int v_scriptLength, .ref a4])), (a7, .inl (Z.2 3, 3, .inr (.inr (.inr (.inr v_saved))))), (az, .inl (Z.2 1, 1, .inr (.inl v_out)))] ([(a1, .inr (1, [.ref a2, .ref a3, .ref a5])), (a2, .inr (2, [.ref a2_1, .ref a2_2, .int v_n, .ref a2_3, .ref a2_4, .int v_pulses, .int v_front, .int v_least, .int v_window])), (a2_1, .inl (Z.2 0, 8, .inl v_lengths)), (a2_2, .inl (Z.2 0, 8, .inl v_fractions)), (a2_3, .inl (Z.2 0, 4, .inl v_pulseTimes)), (a2_4, .inl (Z.2 0, 4, .inl v_pulseEnergies)), (a5, .inr (3, [.ref a5_1])), (a5_1, .inl (Z.2 1, 201, .inr (.inl v_o_energies)))] ++ ro) (fun u : Nat × Nat × Nat × Nat × Nat × Nat × Nat × Nat => (some (.int r) : Option Value)) (fun u : Nat × Nat × Nat × Nat × Nat × Nat × Nat × Nat => ([(a0, .inr (0, [.ref u.1, .ref a7, .int r_depth, .ref a8, .int v_scriptLength, .ref a4])), (a7, .inl (Z.2 3, 3, .inr (.inr (.inr (.inr r_saved))))), (az, .inl (Z.2 1, 1, .inr (.inl r_out))), (u.1, .inr (1, [.ref u.2.1, .ref a3, .ref u.2.2.2.2.2.2.1])), (u.2.1, .inr (2, [.ref u.2.2.1, .ref u.2.2.2.1, .int o1_2, .ref u.2.2.2.2.1, .ref u.2.2.2.2.2.1, .int o1_5, .int o1_6, .int o1_7, .int o1_8])), (u.2.2.1, .inl (Z.2 0, 8, .inl o2)), (u.2.2.2.1, .inl (Z.2 0, 8, .inl o3)), (u.2.2.2.2.1, .inl (Z.2 0, 4, .inl o4)), (u.2.2.2.2.2.1, .inl (Z.2 0, 4, .inl o5)), (u.2.2.2.2.2.2.1, .inr (3, [.ref u.2.2.2.2.2.2.2])), (u.2.2.2.2.2.2.2, .inl (Z.2 1, 201, .inr (.inl o7)))] : va_W)) := by
  refine Ct.ofH cX0_setObserved 6 (some .int) [(0, 10, 13, 13)] "LineEchoesLaw" [some (.ref a0), some (.int x1), some (.long x2), none, some (.ref az), none] 1 (by decide) rfl (Nat.le_of_ble_eq_true rfl) rfl (fun p e s m args below meth c A X ht => ?_)
  unfold F_L_setObserved at h
  refine g_aload X rfl dX0_setObserved_0 2 rfl ?_
  refine g_iconst X 0 dX0_setObserved_2 3 rfl kI_0 ?_
  refine g_aload_n X rfl dX0_setObserved_3 4 rfl ?_
  refine g_iload_n X rfl dX0_setObserved_4 5 rfl ?_
  refine g_lload_n X rfl dX0_setObserved_5 6 rfl ?_
  rcases bc13_e h with ⟨k9, hcl, hg⟩ | ⟨r1, w2_depth, w3_saved, w4_o1_2, w5_o1_5, w6_o1_6, w7_o1_7, w8_o1_8, w9_o2, w10_o3, w11_o4, w12_o5, w13_o7, hcl, h⟩
  · by_cases hk1 : k9 = 1
    · subst hk1
      replace h := if_t rfl hg
      refine g_xcV X (met_X1_setObserved l hl Z a0 a7 a1 a2 a2_1 a2_2 a2_3 a2_4 a5 a5_1 a8 a4 a3 ro v_depth v_scriptLength v_saved v_n v_pulses v_front v_least v_window v_lengths v_fractions v_pulseTimes v_pulseEnergies v_o_energies x1 x2 _ hsv hcl).thr [0, 1] [2] _ (wr := [(az, .inl (Z.2 1, 1, .inr (.inl v_out)))]) (gAt4_tail (isO := [3, 4, 5, 6, 7, 8, 9, 10]) ⟨rfl, rfl, rfl, rfl, rfl, by decide, by decide⟩) 0 gC0 rfl rfl (lw_V q1280 q1281 q1282 q69 q1283) md_X1_setObserved ⟨(Nat.le_of_ble_eq_true rfl), (Nat.le_of_ble_eq_true rfl)⟩ rfl dX0_setObserved_6 [] ⟨0, 10, 13, 13⟩ [] ht (Nat.le_of_ble_eq_true rfl) (Nat.le_of_ble_eq_true rfl) (st := [.int 0, .ref az]) rfl (Nat.le_of_ble_eq_true rfl) (List.forall_mem_nil _) (by decide) (by decide) q1085 gCa1 rfl 19 687 rfl rfl (fun q9 => ?_)
      cases h
    replace hg := if_f hk1 hg
    cases hg
  refine g_callV1 X (met_X1_setObserved l hl Z a0 a7 a1 a2 a2_1 a2_2 a2_3 a2_4 a5 a5_1 a8 a4 a3 ro v_depth v_scriptLength v_saved v_n v_pulses v_front v_least v_window v_lengths v_fractions v_pulseTimes v_pulseEnergies v_o_energies x1 x2 _ hsv hcl).ret [0, 1] [2] _ (wr := [(az, .inl (Z.2 1, 1, .inr (.inl v_out)))]) (gAt4_tail (isO := [3, 4, 5, 6, 7, 8, 9, 10]) ⟨rfl, rfl, rfl, rfl, rfl, by decide, by decide⟩) 0 gC0 rfl rfl (lw_V q1280 q1281 q1282 q69 q1283) md_X1_setObserved ⟨(Nat.le_of_ble_eq_true rfl), (Nat.le_of_ble_eq_true rfl)⟩ rfl dX0_setObserved_6 9 rfl 19 687 rfl rfl (Nat.le_of_ble_eq_true rfl) (Nat.le_of_ble_eq_true rfl) (st := [.int 0, .ref az]) rfl (Nat.le_of_ble_eq_true rfl) (fun _ => rfl) (fun u => ?_)
  obtain ⟨b14, b15, b16, b17, b18, b19, b20, b21⟩ := u
  obtain ⟨hi, h⟩ := gin_e h
  refine g_last X 0 rfl hi dX0_setObserved_9 10 rfl ?_
  refine g_goto X dX0_setObserved_10 17 (by decide) ?_
  refine g_iconst X 0 dX0_setObserved_17 18 rfl kI_0 ?_
  refine g_keep [1, 2, 0, 3, 4, 5, 6, 7, 8, 9, 10] [(a0, .inr (0, [.ref b14, .ref a7, .int w2_depth, .ref a8, .int v_scriptLength, .ref a4])), (a7, .inl (Z.2 3, 3, .inr (.inr (.inr (.inr w3_saved))))), (az, .inl (Z.2 1, 1, .inr (.inl (vp_updL v_out (Int32.toNatClampNeg 0) r1)))), (b14, .inr (1, [.ref b15, .ref a3, .ref b20])), (b15, .inr (2, [.ref b16, .ref b17, .int w4_o1_2, .ref b18, .ref b19, .int w5_o1_5, .int w6_o1_6, .int w7_o1_7, .int w8_o1_8])), (b16, .inl (Z.2 0, 8, .inl w9_o2)), (b17, .inl (Z.2 0, 8, .inl w10_o3)), (b18, .inl (Z.2 0, 4, .inl w11_o4)), (b19, .inl (Z.2 0, 4, .inl w12_o5)), (b20, .inr (3, [.ref b21])), (b21, .inl (Z.2 1, 201, .inr (.inl w13_o7)))] rfl rfl ?_
  obtain ⟨rfl, rfl, rfl, rfl, rfl, rfl, rfl, rfl, rfl, rfl, rfl, rfl, rfl, rfl⟩ := rt14 h
  exact g_iret X dX0_setObserved_18 (b14, b15, b16, b17, b18, b19, b20, b21) rfl rfl (Nat.le_of_ble_eq_true rfl) (Nat.le_of_ble_eq_true rfl)
/-! LineEchoesLaw.setObserved(LLineEchoes;IJ[J)I -/
abbrev rm_LX_setObserved : Room := { frames := 10, cells := 19, slots := 687, locals := 168 }
def F_LX_setObserved (a1 : Nat) (v_depth : Int32) (v_saved : Nat → Option Nat) (v_n : Int32) (v_pulses : Int32) (v_front : Int32) (v_least : Int32) (v_window : Int32) (v_lengths : Nat → Int32) (v_fractions : Nat → Int32) (v_pulseTimes : Nat → Int32) (v_pulseEnergies : Nat → Int32) (v_o_energies : Nat → Int64) (x1 : Int32) (x2 : Int64) : Option (Int32 × Int32 × (Nat → Option Nat)) :=
  bc13 (F_X1_setObserved a1 v_depth v_saved v_n v_pulses v_front v_least v_window v_lengths v_fractions v_pulseTimes v_pulseEnergies v_o_energies x1 x2) (fun r1 w2_depth w3_saved w4_o1_2 w5_o1_5 w6_o1_6 w7_o1_7 w8_o1_8 w9_o2 w10_o3 w11_o4 w12_o5 w13_o7 =>
  none) (fun k9 => if k9 = 1 then (some (1, v_depth, v_saved)) else none)
theorem met_LX_setObserved (l : Launch) (hl : l.stackTraces = false) (Z : gZt) (a0 : Nat) (a7 : Nat) (az : Nat) (a1 : Nat) (a2 : Nat) (a2_1 : Nat) (a2_2 : Nat) (a2_3 : Nat) (a2_4 : Nat) (a5 : Nat) (a5_1 : Nat) (a8 : Nat) (a4 : Nat) (a3 : Nat) (ro : va_W) (v_depth : Int32) (v_scriptLength : Int32) (v_saved : Nat → Option Nat) (v_out : Nat → Int64) (v_n : Int32) (v_pulses : Int32) (v_front : Int32) (v_least : Int32) (v_window : Int32) (v_lengths : Nat → Int32) (v_fractions : Nat → Int32) (v_pulseTimes : Nat → Int32) (v_pulseEnergies : Nat → Int32) (v_o_energies : Nat → Int64) (x1 : Int32) (x2 : Int64) (r : Int32) (r_depth : Int32) (r_saved : Nat → Option Nat) (hsv : gSv v_saved 3 ro) (h : F_LX_setObserved a1 v_depth v_saved v_n v_pulses v_front v_least v_window v_lengths v_fractions v_pulseTimes v_pulseEnergies v_o_energies x1 x2 = some (r, r_depth, r_saved)) : Ct l yX0_setObserved (wsW_ yX0_setObserved cX0_setObserved 6 (some .int) [(0, 10, 13, 13)]) rm_LX_setObserved Z [.ref a0, .int x1, .long x2, .ref az] [(a0, .inr (0, [.ref a1, .ref a7, .int v_depth, .ref a8, .int v_scriptLength, .ref a4])), (a7, .inl (Z.2 3, 3, .inr (.inr (.inr (.inr v_saved))))), (az, .inl (Z.2 1, 1, .inr (.inl v_out)))] ([(a1, .inr (1, [.ref a2, .ref a3, .ref a5])), (a2, .inr (2, [.ref a2_1, .ref a2_2, .int v_n, .ref a2_3, .ref a2_4, .int v_pulses, .int v_front, .int v_least, .int v_window])), (a2_1, .inl (Z.2 0, 8, .inl v_lengths)), (a2_2, .inl (Z.2 0, 8, .inl v_fractions)), (a2_3, .inl (Z.2 0, 4, .inl v_pulseTimes)), (a2_4, .inl (Z.2 0, 4, .inl v_pulseEnergies)), (a5, .inr (3, [.ref a5_1])), (a5_1, .inl (Z.2 1, 201, .inr (.inl v_o_energies)))] ++ ro) (fun _ : Unit => (some (.int r) : Option Value)) (fun _ : Unit => ([(a0, .inr (0, [.ref a1, .ref a7, .int r_depth, .ref a8, .int v_scriptLength, .ref a4])), (a7, .inl (Z.2 3, 3, .inr (.inr (.inr (.inr r_saved))))), (az, .inl (Z.2 1, 1, .inr (.inl v_out)))] : va_W)) := by
  refine Ct.ofH cX0_setObserved 6 (some .int) [(0, 10, 13, 13)] "LineEchoesLaw" [some (.ref a0), some (.int x1), some (.long x2), none, some (.ref az), none] 1 (by decide) rfl (Nat.le_of_ble_eq_true rfl) rfl (fun p e s m args below meth c A X ht => ?_)
  unfold F_LX_setObserved at h
  refine g_aload X rfl dX0_setObserved_0 2 rfl ?_
  refine g_iconst X 0 dX0_setObserved_2 3 rfl kI_0 ?_
  refine g_aload_n X rfl dX0_setObserved_3 4 rfl ?_
  refine g_iload_n X rfl dX0_setObserved_4 5 rfl ?_
  refine g_lload_n X rfl dX0_setObserved_5 6 rfl ?_
  rcases bc13_e h with ⟨k9, hcl, hg⟩ | ⟨r1, w2_depth, w3_saved, w4_o1_2, w5_o1_5, w6_o1_6, w7_o1_7, w8_o1_8, w9_o2, w10_o3, w11_o4, w12_o5, w13_o7, hcl, h⟩
  · by_cases hk1 : k9 = 1
    · subst hk1
      replace h := if_t rfl hg
      refine g_xcV X (met_X1_setObserved l hl Z a0 a7 a1 a2 a2_1 a2_2 a2_3 a2_4 a5 a5_1 a8 a4 a3 ro v_depth v_scriptLength v_saved v_n v_pulses v_front v_least v_window v_lengths v_fractions v_pulseTimes v_pulseEnergies v_o_energies x1 x2 _ hsv hcl).thr [0, 1] [2] _ (wr := [(az, .inl (Z.2 1, 1, .inr (.inl v_out)))]) (gAt4_tail (isO := [3, 4, 5, 6, 7, 8, 9, 10]) ⟨rfl, rfl, rfl, rfl, rfl, by decide, by decide⟩) 0 gC0 rfl rfl (lw_V q1280 q1281 q1282 q69 q1283) md_X1_setObserved ⟨(Nat.le_of_ble_eq_true rfl), (Nat.le_of_ble_eq_true rfl)⟩ rfl dX0_setObserved_6 [] ⟨0, 10, 13, 13⟩ [] ht (Nat.le_of_ble_eq_true rfl) (Nat.le_of_ble_eq_true rfl) (st := [.int 0, .ref az]) rfl (Nat.le_of_ble_eq_true rfl) (List.forall_mem_nil _) (by decide) (by decide) q1085 gCa1 rfl 19 687 rfl rfl (fun q9 => ?_)
      refine g_astore X dX0_setObserved_13 15 rfl (Nat.le_of_ble_eq_true rfl) rfl [some (.ref a0), some (.int x1), some (.long x2), none, some (.ref az), some (.ref q9)] rfl ?_
      refine g_iconst X 1 dX0_setObserved_15 16 rfl kI_1 ?_
      refine g_keep [1, 2, 0] [(a0, .inr (0, [.ref a1, .ref a7, .int v_depth, .ref a8, .int v_scriptLength, .ref a4])), (a7, .inl (Z.2 3, 3, .inr (.inr (.inr (.inr v_saved))))), (az, .inl (Z.2 1, 1, .inr (.inl v_out)))] rfl rfl ?_
      cases h
      exact g_iret X dX0_setObserved_16 () rfl rfl (Nat.le_of_ble_eq_true rfl) (Nat.le_of_ble_eq_true rfl)
    replace hg := if_f hk1 hg
    cases hg
  refine g_callV1 X (met_X1_setObserved l hl Z a0 a7 a1 a2 a2_1 a2_2 a2_3 a2_4 a5 a5_1 a8 a4 a3 ro v_depth v_scriptLength v_saved v_n v_pulses v_front v_least v_window v_lengths v_fractions v_pulseTimes v_pulseEnergies v_o_energies x1 x2 _ hsv hcl).ret [0, 1] [2] _ (wr := [(az, .inl (Z.2 1, 1, .inr (.inl v_out)))]) (gAt4_tail (isO := [3, 4, 5, 6, 7, 8, 9, 10]) ⟨rfl, rfl, rfl, rfl, rfl, by decide, by decide⟩) 0 gC0 rfl rfl (lw_V q1280 q1281 q1282 q69 q1283) md_X1_setObserved ⟨(Nat.le_of_ble_eq_true rfl), (Nat.le_of_ble_eq_true rfl)⟩ rfl dX0_setObserved_6 9 rfl 19 687 rfl rfl (Nat.le_of_ble_eq_true rfl) (Nat.le_of_ble_eq_true rfl) (st := [.int 0, .ref az]) rfl (Nat.le_of_ble_eq_true rfl) (fun _ => rfl) (fun u => ?_)
  obtain ⟨b14, b15, b16, b17, b18, b19, b20, b21⟩ := u
  cases h
/-! LineEchoesLaw.observed(LLineEchoes;I[J)I -/
abbrev rm_L_observed : Room := { frames := 10, cells := 1, slots := 6, locals := 162 }
def F_L_observed (v_out : Nat → Int64) (v_o_energies : Nat → Int64) (x1 : Int32) : Option (Int32 × (Nat → Int64)) :=
  bc1 (F_X1_observed v_o_energies x1) (fun r1 =>
  gin 0 1 <|
  some (0, vp_updL v_out (Int32.toNatClampNeg 0) r1)) (fun k9 => if k9 = 1 then (none) else none)
theorem met_L_observed (l : Launch) (hl : l.stackTraces = false) (Z : gZt) (az : Nat) (a0 : Nat) (a1 : Nat) (a5 : Nat) (a5_1 : Nat) (a7 : Nat) (a8 : Nat) (a4 : Nat) (a2 : Nat) (a3 : Nat) (v_out : Nat → Int64) (v_depth : Int32) (v_scriptLength : Int32) (v_o_energies : Nat → Int64) (x1 : Int32) (r : Int32) (r_out : Nat → Int64) (h : F_L_observed v_out v_o_energies x1 = some (r, r_out)) : Ct l yX0_observed (wsW_ yX0_observed cX0_observed 4 (some .int) [(0, 8, 11, 13)]) rm_L_observed Z [.ref a0, .int x1, .ref az] [(az, .inl (Z.2 1, 1, .inr (.inl v_out)))] [(a0, .inr (0, [.ref a1, .ref a7, .int v_depth, .ref a8, .int v_scriptLength, .ref a4])), (a1, .inr (1, [.ref a2, .ref a3, .ref a5])), (a5, .inr (3, [.ref a5_1])), (a5_1, .inl (Z.2 1, 201, .inr (.inl v_o_energies)))] (fun _ : Unit => (some (.int r) : Option Value)) (fun _ : Unit => ([(az, .inl (Z.2 1, 1, .inr (.inl r_out)))] : va_W)) := by
  refine Ct.ofH cX0_observed 4 (some .int) [(0, 8, 11, 13)] "LineEchoesLaw" [some (.ref a0), some (.int x1), some (.ref az), none] 1 (by decide) rfl (Nat.le_of_ble_eq_true rfl) rfl (fun p e s m args below meth c A X ht => ?_)
  unfold F_L_observed at h
  refine g_aload_n X rfl dX0_observed_0 1 rfl ?_
  refine g_iconst X 0 dX0_observed_1 2 rfl kI_0 ?_
  refine g_aload_n X rfl dX0_observed_2 3 rfl ?_
  refine g_iload_n X rfl dX0_observed_3 4 rfl ?_
  rcases bc1_e h with ⟨k9, hcl, hg⟩ | ⟨r1, hcl, h⟩
  · by_cases hk1 : k9 = 1
    · subst hk1
      replace h := if_t rfl hg
      refine g_xcV X (met_X1_observed l hl Z a0 a1 a5 a5_1 a7 a8 a4 a2 a3 v_depth v_scriptLength v_o_energies x1 _ hcl).thr [] [0] [1, 2, 3, 4] (wr := [(az, .inl (Z.2 1, 1, .inr (.inl v_out)))]) ⟨rfl, rfl, rfl, rfl, rfl, by decide, by decide⟩ 1 gC0 rfl rfl (lw_V q1297 q1298 q1299 q69 q1300) md_X1_observed ⟨(Nat.le_of_ble_eq_true rfl), (Nat.le_of_ble_eq_true rfl)⟩ rfl dX0_observed_4 [] ⟨0, 8, 11, 13⟩ [] ht (Nat.le_of_ble_eq_true rfl) (Nat.le_of_ble_eq_true rfl) (st := [.int 0, .ref az]) rfl (Nat.le_of_ble_eq_true rfl) (List.forall_mem_nil _) (by decide) (by decide) q1085 gCa1 rfl 1 6 rfl rfl (fun q9 => ?_)
      cases h
    replace hg := if_f hk1 hg
    cases hg
  refine g_callV1 X (met_X1_observed l hl Z a0 a1 a5 a5_1 a7 a8 a4 a2 a3 v_depth v_scriptLength v_o_energies x1 _ hcl).ret [] [0] [1, 2, 3, 4] (wr := [(az, .inl (Z.2 1, 1, .inr (.inl v_out)))]) ⟨rfl, rfl, rfl, rfl, rfl, by decide, by decide⟩ 1 gC0 rfl rfl (lw_V q1297 q1298 q1299 q69 q1300) md_X1_observed ⟨(Nat.le_of_ble_eq_true rfl), (Nat.le_of_ble_eq_true rfl)⟩ rfl dX0_observed_4 7 rfl 1 6 rfl rfl (Nat.le_of_ble_eq_true rfl) (Nat.le_of_ble_eq_true rfl) (st := [.int 0, .ref az]) rfl (Nat.le_of_ble_eq_true rfl) (fun _ => rfl) (fun _ => ?_)
  obtain ⟨hi, h⟩ := gin_e h
  refine g_last X 0 rfl hi dX0_observed_7 8 rfl ?_
  refine g_goto X dX0_observed_8 14 (by decide) ?_
  refine g_iconst X 0 dX0_observed_14 15 rfl kI_0 ?_
  cases h
  exact g_iret X dX0_observed_15 () rfl rfl (Nat.le_of_ble_eq_true rfl) (Nat.le_of_ble_eq_true rfl)
/-! LineEchoesLaw.observed(LLineEchoes;I[J)I -/
abbrev rm_LX_observed : Room := { frames := 10, cells := 1, slots := 6, locals := 162 }
def F_LX_observed (v_o_energies : Nat → Int64) (x1 : Int32) : Option (Int32) :=
  bc1 (F_X1_observed v_o_energies x1) (fun r1 =>
  none) (fun k9 => if k9 = 1 then (some 1) else none)
theorem met_LX_observed (l : Launch) (hl : l.stackTraces = false) (Z : gZt) (az : Nat) (a0 : Nat) (a1 : Nat) (a5 : Nat) (a5_1 : Nat) (a7 : Nat) (a8 : Nat) (a4 : Nat) (a2 : Nat) (a3 : Nat) (v_out : Nat → Int64) (v_depth : Int32) (v_scriptLength : Int32) (v_o_energies : Nat → Int64) (x1 : Int32) (r : Int32) (h : F_LX_observed v_o_energies x1 = some r) : Ct l yX0_observed (wsW_ yX0_observed cX0_observed 4 (some .int) [(0, 8, 11, 13)]) rm_LX_observed Z [.ref a0, .int x1, .ref az] [(az, .inl (Z.2 1, 1, .inr (.inl v_out)))] [(a0, .inr (0, [.ref a1, .ref a7, .int v_depth, .ref a8, .int v_scriptLength, .ref a4])), (a1, .inr (1, [.ref a2, .ref a3, .ref a5])), (a5, .inr (3, [.ref a5_1])), (a5_1, .inl (Z.2 1, 201, .inr (.inl v_o_energies)))] (fun _ : Unit => (some (.int r) : Option Value)) (fun _ : Unit => ([(az, .inl (Z.2 1, 1, .inr (.inl v_out)))] : va_W)) := by
  refine Ct.ofH cX0_observed 4 (some .int) [(0, 8, 11, 13)] "LineEchoesLaw" [some (.ref a0), some (.int x1), some (.ref az), none] 1 (by decide) rfl (Nat.le_of_ble_eq_true rfl) rfl (fun p e s m args below meth c A X ht => ?_)
  unfold F_LX_observed at h
  refine g_aload_n X rfl dX0_observed_0 1 rfl ?_
  refine g_iconst X 0 dX0_observed_1 2 rfl kI_0 ?_
  refine g_aload_n X rfl dX0_observed_2 3 rfl ?_
  refine g_iload_n X rfl dX0_observed_3 4 rfl ?_
  rcases bc1_e h with ⟨k9, hcl, hg⟩ | ⟨r1, hcl, h⟩
  · by_cases hk1 : k9 = 1
    · subst hk1
      replace h := if_t rfl hg
      refine g_xcV X (met_X1_observed l hl Z a0 a1 a5 a5_1 a7 a8 a4 a2 a3 v_depth v_scriptLength v_o_energies x1 _ hcl).thr [] [0] [1, 2, 3, 4] (wr := [(az, .inl (Z.2 1, 1, .inr (.inl v_out)))]) ⟨rfl, rfl, rfl, rfl, rfl, by decide, by decide⟩ 1 gC0 rfl rfl (lw_V q1297 q1298 q1299 q69 q1300) md_X1_observed ⟨(Nat.le_of_ble_eq_true rfl), (Nat.le_of_ble_eq_true rfl)⟩ rfl dX0_observed_4 [] ⟨0, 8, 11, 13⟩ [] ht (Nat.le_of_ble_eq_true rfl) (Nat.le_of_ble_eq_true rfl) (st := [.int 0, .ref az]) rfl (Nat.le_of_ble_eq_true rfl) (List.forall_mem_nil _) (by decide) (by decide) q1085 gCa1 rfl 1 6 rfl rfl (fun q9 => ?_)
      refine g_astore_n X dX0_observed_11 12 rfl (Nat.le_of_ble_eq_true rfl) rfl [some (.ref a0), some (.int x1), some (.ref az), some (.ref q9)] rfl ?_
      refine g_iconst X 1 dX0_observed_12 13 rfl kI_1 ?_
      cases h
      exact g_iret X dX0_observed_13 () rfl rfl (Nat.le_of_ble_eq_true rfl) (Nat.le_of_ble_eq_true rfl)
    replace hg := if_f hk1 hg
    cases hg
  refine g_callV1 X (met_X1_observed l hl Z a0 a1 a5 a5_1 a7 a8 a4 a2 a3 v_depth v_scriptLength v_o_energies x1 _ hcl).ret [] [0] [1, 2, 3, 4] (wr := [(az, .inl (Z.2 1, 1, .inr (.inl v_out)))]) ⟨rfl, rfl, rfl, rfl, rfl, by decide, by decide⟩ 1 gC0 rfl rfl (lw_V q1297 q1298 q1299 q69 q1300) md_X1_observed ⟨(Nat.le_of_ble_eq_true rfl), (Nat.le_of_ble_eq_true rfl)⟩ rfl dX0_observed_4 7 rfl 1 6 rfl rfl (Nat.le_of_ble_eq_true rfl) (Nat.le_of_ble_eq_true rfl) (st := [.int 0, .ref az]) rfl (Nat.le_of_ble_eq_true rfl) (fun _ => rfl) (fun _ => ?_)
  cases h
/-! LineEchoesLaw.peel(LLineEchoes;I[J)I -/
abbrev rm_L_peel : Room := { frames := 9, cells := 7, slots := 42, locals := 203 }
def F_L_peel (v_brought : Int64) (v_left : Int64) (v_dropped : Int64) (v_away : Int64) (v_mergings : Int32) (v_drops : Int32) (v_fromNear : Nat → Int64) (v_fromFar : Nat → Int64) (v_echoes : Nat → Int64) (v_out : Nat → Int64) (v_front : Int32) (v_least : Int32) (v_window : Int32) (v_pulseEnergies : Nat → Int32) (v_o_energies : Nat → Int64) (x1 : Int32) : Option (Int32 × Int64 × Int64 × Int64 × Int64 × Int32 × Int32 × (Nat → Int64) × (Nat → Int64) × (Nat → Int64) × (Nat → Int64)) :=
  bc10 (F_X1_peel v_brought v_left v_dropped v_away v_mergings v_drops v_fromNear v_fromFar v_echoes v_front v_least v_window v_pulseEnergies v_o_energies x1) (fun r1 w2_brought w3_left w4_dropped w5_away w6_mergings w7_drops w8_fromNear w9_fromFar w10_echoes =>
  gin 0 1 <|
  some (0, w2_brought, w3_left, w4_dropped, w5_away, w6_mergings, w7_drops, w8_fromNear, w9_fromFar, w10_echoes, vp_updL v_out (Int32.toNatClampNeg 0) r1.toInt64)) (fun k9 => if k9 = 1 then (none) else none)
theorem met_L_peel (l : Launch) (hl : l.stackTraces = false) (Z : gZt) (a4 : Nat) (a4_1 : Nat) (a4_2 : Nat) (a4_3 : Nat) (az : Nat) (a0 : Nat) (a1 : Nat) (a2 : Nat) (a2_1 : Nat) (a2_2 : Nat) (a2_3 : Nat) (a2_4 : Nat) (a5 : Nat) (a5_1 : Nat) (a7 : Nat) (a8 : Nat) (a3 : Nat) (v_line : Option Nat) (v_brought : Int64) (v_left : Int64) (v_dropped : Int64) (v_away : Int64) (v_mergings : Int32) (v_drops : Int32) (v_fromNear : Nat → Int64) (v_fromFar : Nat → Int64) (v_echoes : Nat → Int64) (v_out : Nat → Int64) (v_depth : Int32) (v_scriptLength : Int32) (v_n : Int32) (v_pulses : Int32) (v_front : Int32) (v_least : Int32) (v_window : Int32) (v_lengths : Nat → Int32) (v_fractions : Nat → Int32) (v_pulseTimes : Nat → Int32) (v_pulseEnergies : Nat → Int32) (v_o_energies : Nat → Int64) (x1 : Int32) (r : Int32) (r_brought : Int64) (r_left : Int64) (r_dropped : Int64) (r_away : Int64) (r_mergings : Int32) (r_drops : Int32) (r_fromNear : Nat → Int64) (r_fromFar : Nat → Int64) (r_echoes : Nat → Int64) (r_out : Nat → Int64) (h : F_L_peel v_brought v_left v_dropped v_away v_mergings v_drops v_fromNear v_fromFar v_echoes v_out v_front v_least v_window v_pulseEnergies v_o_energies x1 = some (r, r_brought, r_left, r_dropped, r_away, r_mergings, r_drops, r_fromNear, r_fromFar, r_echoes, r_out)) : Ct l yX0_peel (wsW_ yX0_peel cX0_peel 4 (some .int) [(0, 9, 12, 13)]) rm_L_peel Z [.ref a0, .int x1, .ref az] [(a4, .inr (4, [.ref a4_1, .ref a4_2, .ref a4_3, (va_rf v_line), .long v_brought, .long v_left, .long v_dropped, .long v_away, .int v_mergings, .int v_drops])), (a4_1, .inl (Z.2 1, 1809, .inr (.inl v_fromNear))), (a4_2, .inl (Z.2 1, 1809, .inr (.inl v_fromFar))), (a4_3, .inl (Z.2 1, 201, .inr (.inl v_echoes))), (az, .inl (Z.2 1, 1, .inr (.inl v_out)))] [(a0, .inr (0, [.ref a1, .ref a7, .int v_depth, .ref a8, .int v_scriptLength, .ref a4])), (a1, .inr (1, [.ref a2, .ref a3, .ref a5])), (a2, .inr (2, [.ref a2_1, .ref a2_2, .int v_n, .ref a2_3, .ref a2_4, .int v_pulses, .int v_front, .int v_least, .int v_window])), (a2_1, .inl (Z.2 0, 8, .inl v_lengths)), (a2_2, .inl (Z.2 0, 8, .inl v_fractions)), (a2_3, .inl (Z.2 0, 4, .inl v_pulseTimes)), (a2_4, .inl (Z.2 0, 4, .inl v_pulseEnergies)), (a5, .inr (3, [.ref a5_1])), (a5_1, .inl (Z.2 1, 201, .inr (.inl v_o_energies)))] (fun z0 : Option Nat => (some (.int r) : Option Value)) (fun z0 : Option Nat => ([(a4, .inr (4, [.ref a4_1, .ref a4_2, .ref a4_3, (va_rf z0), .long r_brought, .long r_left, .long r_dropped, .long r_away, .int r_mergings, .int r_drops])), (a4_1, .inl (Z.2 1, 1809, .inr (.inl r_fromNear))), (a4_2, .inl (Z.2 1, 1809, .inr (.inl r_fromFar))), (a4_3, .inl (Z.2 1, 201, .inr (.inl r_echoes))), (az, .inl (Z.2 1, 1, .inr (.inl r_out)))] : va_W)) := by
  refine Ct.ofH cX0_peel 4 (some .int) [(0, 9, 12, 13)] "LineEchoesLaw" [some (.ref a0), some (.int x1), some (.ref az), none] 1 (by decide) rfl (Nat.le_of_ble_eq_true rfl) rfl (fun p e s m args below meth c A X ht => ?_)
  unfold F_L_peel at h
  refine g_aload_n X rfl dX0_peel_0 1 rfl ?_
  refine g_iconst X 0 dX0_peel_1 2 rfl kI_0 ?_
  refine g_aload_n X rfl dX0_peel_2 3 rfl ?_
  refine g_iload_n X rfl dX0_peel_3 4 rfl ?_
  rcases bc10_e h with ⟨k9, hcl, hg⟩ | ⟨r1, w2_brought, w3_left, w4_dropped, w5_away, w6_mergings, w7_drops, w8_fromNear, w9_fromFar, w10_echoes, hcl, h⟩
  · by_cases hk1 : k9 = 1
    · subst hk1
      replace h := if_t rfl hg
      refine g_xcV X (met_X1_peel l hl Z a4 a4_1 a4_2 a4_3 a0 a1 a2 a2_1 a2_2 a2_3 a2_4 a5 a5_1 a7 a8 a3 v_line v_brought v_left v_dropped v_away v_mergings v_drops v_fromNear v_fromFar v_echoes v_depth v_scriptLength v_n v_pulses v_front v_least v_window v_lengths v_fractions v_pulseTimes v_pulseEnergies v_o_energies x1 _ hcl).thr [0, 1, 2, 3] [4] [5, 6, 7, 8, 9, 10, 11, 12, 13] (wr := [(az, .inl (Z.2 1, 1, .inr (.inl v_out)))]) ⟨rfl, rfl, rfl, rfl, rfl, by decide, by decide⟩ 5 gC0 rfl rfl (lw_V q1304 q1305 q1306 q69 q1307) md_X1_peel ⟨(Nat.le_of_ble_eq_true rfl), (Nat.le_of_ble_eq_true rfl)⟩ rfl dX0_peel_4 [] ⟨0, 9, 12, 13⟩ [] ht (Nat.le_of_ble_eq_true rfl) (Nat.le_of_ble_eq_true rfl) (st := [.int 0, .ref az]) rfl (Nat.le_of_ble_eq_true rfl) (List.forall_mem_nil _) (by decide) (by decide) q1085 gCa1 rfl 7 42 rfl rfl (fun q9 => ?_)
      cases h
    replace hg := if_f hk1 hg
    cases hg
  refine g_callV1 X (met_X1_peel l hl Z a4 a4_1 a4_2 a4_3 a0 a1 a2 a2_1 a2_2 a2_3 a2_4 a5 a5_1 a7 a8 a3 v_line v_brought v_left v_dropped v_away v_mergings v_drops v_fromNear v_fromFar v_echoes v_depth v_scriptLength v_n v_pulses v_front v_least v_window v_lengths v_fractions v_pulseTimes v_pulseEnergies v_o_energies x1 _ hcl).ret [0, 1, 2, 3] [4] [5, 6, 7, 8, 9, 10, 11, 12, 13] (wr := [(az, .inl (Z.2 1, 1, .inr (.inl v_out)))]) ⟨rfl, rfl, rfl, rfl, rfl, by decide, by decide⟩ 5 gC0 rfl rfl (lw_V q1304 q1305 q1306 q69 q1307) md_X1_peel ⟨(Nat.le_of_ble_eq_true rfl), (Nat.le_of_ble_eq_true rfl)⟩ rfl dX0_peel_4 7 rfl 7 42 rfl rfl (Nat.le_of_ble_eq_true rfl) (Nat.le_of_ble_eq_true rfl) (st := [.int 0, .ref az]) rfl (Nat.le_of_ble_eq_true rfl) (fun _ => rfl) (fun z11 => ?_)
  refine g_i2l X dX0_peel_7 8 rfl ?_
  obtain ⟨hi, h⟩ := gin_e h
  refine g_last X 0 rfl hi dX0_peel_8 9 rfl ?_
  refine g_goto X dX0_peel_9 15 (by decide) ?_
  refine g_iconst X 0 dX0_peel_15 16 rfl kI_0 ?_
  refine g_keep [1, 2, 3, 4, 0] [(a4, .inr (4, [.ref a4_1, .ref a4_2, .ref a4_3, (va_rf z11), .long w2_brought, .long w3_left, .long w4_dropped, .long w5_away, .int w6_mergings, .int w7_drops])), (a4_1, .inl (Z.2 1, 1809, .inr (.inl w8_fromNear))), (a4_2, .inl (Z.2 1, 1809, .inr (.inl w9_fromFar))), (a4_3, .inl (Z.2 1, 201, .inr (.inl w10_echoes))), (az, .inl (Z.2 1, 1, .inr (.inl (vp_updL v_out (Int32.toNatClampNeg 0) r1.toInt64))))] rfl rfl ?_
  obtain ⟨rfl, rfl, rfl, rfl, rfl, rfl, rfl, rfl, rfl, rfl, rfl⟩ := rt11 h
  exact g_iret X dX0_peel_16 z11 rfl rfl (Nat.le_of_ble_eq_true rfl) (Nat.le_of_ble_eq_true rfl)
/-! LineEchoesLaw.peel(LLineEchoes;I[J)I -/
abbrev rm_LX_peel : Room := { frames := 9, cells := 7, slots := 42, locals := 203 }
def F_LX_peel (v_brought : Int64) (v_left : Int64) (v_dropped : Int64) (v_away : Int64) (v_mergings : Int32) (v_drops : Int32) (v_fromNear : Nat → Int64) (v_fromFar : Nat → Int64) (v_echoes : Nat → Int64) (v_front : Int32) (v_least : Int32) (v_window : Int32) (v_pulseEnergies : Nat → Int32) (v_o_energies : Nat → Int64) (x1 : Int32) : Option (Int32 × Int64 × Int64 × Int64 × Int64 × Int32 × Int32 × (Nat → Int64) × (Nat → Int64) × (Nat → Int64)) :=
  bc10 (F_X1_peel v_brought v_left v_dropped v_away v_mergings v_drops v_fromNear v_fromFar v_echoes v_front v_least v_window v_pulseEnergies v_o_energies x1) (fun r1 w2_brought w3_left w4_dropped w5_away w6_mergings w7_drops w8_fromNear w9_fromFar w10_echoes =>
  none) (fun k9 => if k9 = 1 then (some (1, v_brought, v_left, v_dropped, v_away, v_mergings, v_drops, v_fromNear, v_fromFar, v_echoes)) else none)
theorem met_LX_peel (l : Launch) (hl : l.stackTraces = false) (Z : gZt) (a4 : Nat) (a4_1 : Nat) (a4_2 : Nat) (a4_3 : Nat) (az : Nat) (a0 : Nat) (a1 : Nat) (a2 : Nat) (a2_1 : Nat) (a2_2 : Nat) (a2_3 : Nat) (a2_4 : Nat) (a5 : Nat) (a5_1 : Nat) (a7 : Nat) (a8 : Nat) (a3 : Nat) (v_line : Option Nat) (v_brought : Int64) (v_left : Int64) (v_dropped : Int64) (v_away : Int64) (v_mergings : Int32) (v_drops : Int32) (v_fromNear : Nat → Int64) (v_fromFar : Nat → Int64) (v_echoes : Nat → Int64) (v_out : Nat → Int64) (v_depth : Int32) (v_scriptLength : Int32) (v_n : Int32) (v_pulses : Int32) (v_front : Int32) (v_least : Int32) (v_window : Int32) (v_lengths : Nat → Int32) (v_fractions : Nat → Int32) (v_pulseTimes : Nat → Int32) (v_pulseEnergies : Nat → Int32) (v_o_energies : Nat → Int64) (x1 : Int32) (r : Int32) (r_brought : Int64) (r_left : Int64) (r_dropped : Int64) (r_away : Int64) (r_mergings : Int32) (r_drops : Int32) (r_fromNear : Nat → Int64) (r_fromFar : Nat → Int64) (r_echoes : Nat → Int64) (h : F_LX_peel v_brought v_left v_dropped v_away v_mergings v_drops v_fromNear v_fromFar v_echoes v_front v_least v_window v_pulseEnergies v_o_energies x1 = some (r, r_brought, r_left, r_dropped, r_away, r_mergings, r_drops, r_fromNear, r_fromFar, r_echoes)) : Ct l yX0_peel (wsW_ yX0_peel cX0_peel 4 (some .int) [(0, 9, 12, 13)]) rm_LX_peel Z [.ref a0, .int x1, .ref az] [(a4, .inr (4, [.ref a4_1, .ref a4_2, .ref a4_3, (va_rf v_line), .long v_brought, .long v_left, .long v_dropped, .long v_away, .int v_mergings, .int v_drops])), (a4_1, .inl (Z.2 1, 1809, .inr (.inl v_fromNear))), (a4_2, .inl (Z.2 1, 1809, .inr (.inl v_fromFar))), (a4_3, .inl (Z.2 1, 201, .inr (.inl v_echoes))), (az, .inl (Z.2 1, 1, .inr (.inl v_out)))] [(a0, .inr (0, [.ref a1, .ref a7, .int v_depth, .ref a8, .int v_scriptLength, .ref a4])), (a1, .inr (1, [.ref a2, .ref a3, .ref a5])), (a2, .inr (2, [.ref a2_1, .ref a2_2, .int v_n, .ref a2_3, .ref a2_4, .int v_pulses, .int v_front, .int v_least, .int v_window])), (a2_1, .inl (Z.2 0, 8, .inl v_lengths)), (a2_2, .inl (Z.2 0, 8, .inl v_fractions)), (a2_3, .inl (Z.2 0, 4, .inl v_pulseTimes)), (a2_4, .inl (Z.2 0, 4, .inl v_pulseEnergies)), (a5, .inr (3, [.ref a5_1])), (a5_1, .inl (Z.2 1, 201, .inr (.inl v_o_energies)))] (fun _ : Unit => (some (.int r) : Option Value)) (fun _ : Unit => ([(a4, .inr (4, [.ref a4_1, .ref a4_2, .ref a4_3, (va_rf v_line), .long r_brought, .long r_left, .long r_dropped, .long r_away, .int r_mergings, .int r_drops])), (a4_1, .inl (Z.2 1, 1809, .inr (.inl r_fromNear))), (a4_2, .inl (Z.2 1, 1809, .inr (.inl r_fromFar))), (a4_3, .inl (Z.2 1, 201, .inr (.inl r_echoes))), (az, .inl (Z.2 1, 1, .inr (.inl v_out)))] : va_W)) := by
  refine Ct.ofH cX0_peel 4 (some .int) [(0, 9, 12, 13)] "LineEchoesLaw" [some (.ref a0), some (.int x1), some (.ref az), none] 1 (by decide) rfl (Nat.le_of_ble_eq_true rfl) rfl (fun p e s m args below meth c A X ht => ?_)
  unfold F_LX_peel at h
  refine g_aload_n X rfl dX0_peel_0 1 rfl ?_
  refine g_iconst X 0 dX0_peel_1 2 rfl kI_0 ?_
  refine g_aload_n X rfl dX0_peel_2 3 rfl ?_
  refine g_iload_n X rfl dX0_peel_3 4 rfl ?_
  rcases bc10_e h with ⟨k9, hcl, hg⟩ | ⟨r1, w2_brought, w3_left, w4_dropped, w5_away, w6_mergings, w7_drops, w8_fromNear, w9_fromFar, w10_echoes, hcl, h⟩
  · by_cases hk1 : k9 = 1
    · subst hk1
      replace h := if_t rfl hg
      refine g_xcV X (met_X1_peel l hl Z a4 a4_1 a4_2 a4_3 a0 a1 a2 a2_1 a2_2 a2_3 a2_4 a5 a5_1 a7 a8 a3 v_line v_brought v_left v_dropped v_away v_mergings v_drops v_fromNear v_fromFar v_echoes v_depth v_scriptLength v_n v_pulses v_front v_least v_window v_lengths v_fractions v_pulseTimes v_pulseEnergies v_o_energies x1 _ hcl).thr [0, 1, 2, 3] [4] [5, 6, 7, 8, 9, 10, 11, 12, 13] (wr := [(az, .inl (Z.2 1, 1, .inr (.inl v_out)))]) ⟨rfl, rfl, rfl, rfl, rfl, by decide, by decide⟩ 5 gC0 rfl rfl (lw_V q1304 q1305 q1306 q69 q1307) md_X1_peel ⟨(Nat.le_of_ble_eq_true rfl), (Nat.le_of_ble_eq_true rfl)⟩ rfl dX0_peel_4 [] ⟨0, 9, 12, 13⟩ [] ht (Nat.le_of_ble_eq_true rfl) (Nat.le_of_ble_eq_true rfl) (st := [.int 0, .ref az]) rfl (Nat.le_of_ble_eq_true rfl) (List.forall_mem_nil _) (by decide) (by decide) q1085 gCa1 rfl 7 42 rfl rfl (fun q9 => ?_)
      refine g_astore_n X dX0_peel_12 13 rfl (Nat.le_of_ble_eq_true rfl) rfl [some (.ref a0), some (.int x1), some (.ref az), some (.ref q9)] rfl ?_
      refine g_iconst X 1 dX0_peel_13 14 rfl kI_1 ?_
      refine g_keep [1, 2, 3, 4, 0] [(a4, .inr (4, [.ref a4_1, .ref a4_2, .ref a4_3, (va_rf v_line), .long v_brought, .long v_left, .long v_dropped, .long v_away, .int v_mergings, .int v_drops])), (a4_1, .inl (Z.2 1, 1809, .inr (.inl v_fromNear))), (a4_2, .inl (Z.2 1, 1809, .inr (.inl v_fromFar))), (a4_3, .inl (Z.2 1, 201, .inr (.inl v_echoes))), (az, .inl (Z.2 1, 1, .inr (.inl v_out)))] rfl rfl ?_
      cases h
      exact g_iret X dX0_peel_14 () rfl rfl (Nat.le_of_ble_eq_true rfl) (Nat.le_of_ble_eq_true rfl)
    replace hg := if_f hk1 hg
    cases hg
  refine g_callV1 X (met_X1_peel l hl Z a4 a4_1 a4_2 a4_3 a0 a1 a2 a2_1 a2_2 a2_3 a2_4 a5 a5_1 a7 a8 a3 v_line v_brought v_left v_dropped v_away v_mergings v_drops v_fromNear v_fromFar v_echoes v_depth v_scriptLength v_n v_pulses v_front v_least v_window v_lengths v_fractions v_pulseTimes v_pulseEnergies v_o_energies x1 _ hcl).ret [0, 1, 2, 3] [4] [5, 6, 7, 8, 9, 10, 11, 12, 13] (wr := [(az, .inl (Z.2 1, 1, .inr (.inl v_out)))]) ⟨rfl, rfl, rfl, rfl, rfl, by decide, by decide⟩ 5 gC0 rfl rfl (lw_V q1304 q1305 q1306 q69 q1307) md_X1_peel ⟨(Nat.le_of_ble_eq_true rfl), (Nat.le_of_ble_eq_true rfl)⟩ rfl dX0_peel_4 7 rfl 7 42 rfl rfl (Nat.le_of_ble_eq_true rfl) (Nat.le_of_ble_eq_true rfl) (st := [.int 0, .ref az]) rfl (Nat.le_of_ble_eq_true rfl) (fun _ => rfl) (fun z11 => ?_)
  cases h
/-! LineEchoesLaw.found(LLineEchoes;II[J)I -/
abbrev rm_L_found : Room := { frames := 9, cells := 7, slots := 42, locals := 204 }
def F_L_found (v_brought : Int64) (v_left : Int64) (v_dropped : Int64) (v_away : Int64) (v_mergings : Int32) (v_drops : Int32) (v_fromNear : Nat → Int64) (v_fromFar : Nat → Int64) (v_echoes : Nat → Int64) (v_out : Nat → Int64) (v_front : Int32) (v_least : Int32) (v_window : Int32) (v_pulseEnergies : Nat → Int32) (v_o_energies : Nat → Int64) (x1 : Int32) (x2 : Int32) : Option (Int32 × Int64 × Int64 × Int64 × Int64 × Int32 × Int32 × (Nat → Int64) × (Nat → Int64) × (Nat → Int64) × (Nat → Int64)) :=
  bc10 (F_X1_found v_brought v_left v_dropped v_away v_mergings v_drops v_fromNear v_fromFar v_echoes v_front v_least v_window v_pulseEnergies v_o_energies x1 x2) (fun r1 w2_brought w3_left w4_dropped w5_away w6_mergings w7_drops w8_fromNear w9_fromFar w10_echoes =>
  gin 0 1 <|
  some (0, w2_brought, w3_left, w4_dropped, w5_away, w6_mergings, w7_drops, w8_fromNear, w9_fromFar, w10_echoes, vp_updL v_out (Int32.toNatClampNeg 0) r1.toInt64)) (fun k9 => if k9 = 1 then (none) else none)
theorem met_L_found (l : Launch) (hl : l.stackTraces = false) (Z : gZt) (a4 : Nat) (a4_1 : Nat) (a4_2 : Nat) (a4_3 : Nat) (az : Nat) (a0 : Nat) (a1 : Nat) (a2 : Nat) (a2_1 : Nat) (a2_2 : Nat) (a2_3 : Nat) (a2_4 : Nat) (a5 : Nat) (a5_1 : Nat) (a7 : Nat) (a8 : Nat) (a3 : Nat) (v_line : Option Nat) (v_brought : Int64) (v_left : Int64) (v_dropped : Int64) (v_away : Int64) (v_mergings : Int32) (v_drops : Int32) (v_fromNear : Nat → Int64) (v_fromFar : Nat → Int64) (v_echoes : Nat → Int64) (v_out : Nat → Int64) (v_depth : Int32) (v_scriptLength : Int32) (v_n : Int32) (v_pulses : Int32) (v_front : Int32) (v_least : Int32) (v_window : Int32) (v_lengths : Nat → Int32) (v_fractions : Nat → Int32) (v_pulseTimes : Nat → Int32) (v_pulseEnergies : Nat → Int32) (v_o_energies : Nat → Int64) (x1 : Int32) (x2 : Int32) (r : Int32) (r_brought : Int64) (r_left : Int64) (r_dropped : Int64) (r_away : Int64) (r_mergings : Int32) (r_drops : Int32) (r_fromNear : Nat → Int64) (r_fromFar : Nat → Int64) (r_echoes : Nat → Int64) (r_out : Nat → Int64) (h : F_L_found v_brought v_left v_dropped v_away v_mergings v_drops v_fromNear v_fromFar v_echoes v_out v_front v_least v_window v_pulseEnergies v_o_energies x1 x2 = some (r, r_brought, r_left, r_dropped, r_away, r_mergings, r_drops, r_fromNear, r_fromFar, r_echoes, r_out)) : Ct l yX0_found (wsW_ yX0_found cX0_found 5 (some .int) [(0, 10, 13, 13)]) rm_L_found Z [.ref a0, .int x1, .int x2, .ref az] [(a4, .inr (4, [.ref a4_1, .ref a4_2, .ref a4_3, (va_rf v_line), .long v_brought, .long v_left, .long v_dropped, .long v_away, .int v_mergings, .int v_drops])), (a4_1, .inl (Z.2 1, 1809, .inr (.inl v_fromNear))), (a4_2, .inl (Z.2 1, 1809, .inr (.inl v_fromFar))), (a4_3, .inl (Z.2 1, 201, .inr (.inl v_echoes))), (az, .inl (Z.2 1, 1, .inr (.inl v_out)))] [(a0, .inr (0, [.ref a1, .ref a7, .int v_depth, .ref a8, .int v_scriptLength, .ref a4])), (a1, .inr (1, [.ref a2, .ref a3, .ref a5])), (a2, .inr (2, [.ref a2_1, .ref a2_2, .int v_n, .ref a2_3, .ref a2_4, .int v_pulses, .int v_front, .int v_least, .int v_window])), (a2_1, .inl (Z.2 0, 8, .inl v_lengths)), (a2_2, .inl (Z.2 0, 8, .inl v_fractions)), (a2_3, .inl (Z.2 0, 4, .inl v_pulseTimes)), (a2_4, .inl (Z.2 0, 4, .inl v_pulseEnergies)), (a5, .inr (3, [.ref a5_1])), (a5_1, .inl (Z.2 1, 201, .inr (.inl v_o_energies)))] (fun z0 : Option Nat => (some (.int r) : Option Value)) (fun z0 : Option Nat => ([(a4, .inr (4, [.ref a4_1, .ref a4_2, .ref a4_3, (va_rf z0), .long r_brought, .long r_left, .long r_dropped, .long r_away, .int r_mergings, .int r_drops])), (a4_1, .inl (Z.2 1, 1809, .inr (.inl r_fromNear))), (a4_2, .inl (Z.2 1, 1809, .inr (.inl r_fromFar))), (a4_3, .inl (Z.2 1, 201, .inr (.inl r_echoes))), (az, .inl (Z.2 1, 1, .inr (.inl r_out)))] : va_W)) := by
  refine Ct.ofH cX0_found 5 (some .int) [(0, 10, 13, 13)] "LineEchoesLaw" [some (.ref a0), some (.int x1), some (.int x2), some (.ref az), none] 1 (by decide) rfl (Nat.le_of_ble_eq_true rfl) rfl (fun p e s m args below meth c A X ht => ?_)
  unfold F_L_found at h
  refine g_aload_n X rfl dX0_found_0 1 rfl ?_
  refine g_iconst X 0 dX0_found_1 2 rfl kI_0 ?_
  refine g_aload_n X rfl dX0_found_2 3 rfl ?_
  refine g_iload_n X rfl dX0_found_3 4 rfl ?_
  refine g_iload_n X rfl dX0_found_4 5 rfl ?_
  rcases bc10_e h with ⟨k9, hcl, hg⟩ | ⟨r1, w2_brought, w3_left, w4_dropped, w5_away, w6_mergings, w7_drops, w8_fromNear, w9_fromFar, w10_echoes, hcl, h⟩
  · by_cases hk1 : k9 = 1
    · subst hk1
      replace h := if_t rfl hg
      refine g_xcV X (met_X1_found l hl Z a4 a4_1 a4_2 a4_3 a0 a1 a2 a2_1 a2_2 a2_3 a2_4 a5 a5_1 a7 a8 a3 v_line v_brought v_left v_dropped v_away v_mergings v_drops v_fromNear v_fromFar v_echoes v_depth v_scriptLength v_n v_pulses v_front v_least v_window v_lengths v_fractions v_pulseTimes v_pulseEnergies v_o_energies x1 x2 _ hcl).thr [0, 1, 2, 3] [4] [5, 6, 7, 8, 9, 10, 11, 12, 13] (wr := [(az, .inl (Z.2 1, 1, .inr (.inl v_out)))]) ⟨rfl, rfl, rfl, rfl, rfl, by decide, by decide⟩ 5 gC0 rfl rfl (lw_V q1311 q1312 q1313 q69 q1314) md_X1_found ⟨(Nat.le_of_ble_eq_true rfl), (Nat.le_of_ble_eq_true rfl)⟩ rfl dX0_found_5 [] ⟨0, 10, 13, 13⟩ [] ht (Nat.le_of_ble_eq_true rfl) (Nat.le_of_ble_eq_true rfl) (st := [.int 0, .ref az]) rfl (Nat.le_of_ble_eq_true rfl) (List.forall_mem_nil _) (by decide) (by decide) q1085 gCa1 rfl 7 42 rfl rfl (fun q9 => ?_)
      cases h
    replace hg := if_f hk1 hg
    cases hg
  refine g_callV1 X (met_X1_found l hl Z a4 a4_1 a4_2 a4_3 a0 a1 a2 a2_1 a2_2 a2_3 a2_4 a5 a5_1 a7 a8 a3 v_line v_brought v_left v_dropped v_away v_mergings v_drops v_fromNear v_fromFar v_echoes v_depth v_scriptLength v_n v_pulses v_front v_least v_window v_lengths v_fractions v_pulseTimes v_pulseEnergies v_o_energies x1 x2 _ hcl).ret [0, 1, 2, 3] [4] [5, 6, 7, 8, 9, 10, 11, 12, 13] (wr := [(az, .inl (Z.2 1, 1, .inr (.inl v_out)))]) ⟨rfl, rfl, rfl, rfl, rfl, by decide, by decide⟩ 5 gC0 rfl rfl (lw_V q1311 q1312 q1313 q69 q1314) md_X1_found ⟨(Nat.le_of_ble_eq_true rfl), (Nat.le_of_ble_eq_true rfl)⟩ rfl dX0_found_5 8 rfl 7 42 rfl rfl (Nat.le_of_ble_eq_true rfl) (Nat.le_of_ble_eq_true rfl) (st := [.int 0, .ref az]) rfl (Nat.le_of_ble_eq_true rfl) (fun _ => rfl) (fun z11 => ?_)
  refine g_i2l X dX0_found_8 9 rfl ?_
  obtain ⟨hi, h⟩ := gin_e h
  refine g_last X 0 rfl hi dX0_found_9 10 rfl ?_
  refine g_goto X dX0_found_10 17 (by decide) ?_
  refine g_iconst X 0 dX0_found_17 18 rfl kI_0 ?_
  refine g_keep [1, 2, 3, 4, 0] [(a4, .inr (4, [.ref a4_1, .ref a4_2, .ref a4_3, (va_rf z11), .long w2_brought, .long w3_left, .long w4_dropped, .long w5_away, .int w6_mergings, .int w7_drops])), (a4_1, .inl (Z.2 1, 1809, .inr (.inl w8_fromNear))), (a4_2, .inl (Z.2 1, 1809, .inr (.inl w9_fromFar))), (a4_3, .inl (Z.2 1, 201, .inr (.inl w10_echoes))), (az, .inl (Z.2 1, 1, .inr (.inl (vp_updL v_out (Int32.toNatClampNeg 0) r1.toInt64))))] rfl rfl ?_
  obtain ⟨rfl, rfl, rfl, rfl, rfl, rfl, rfl, rfl, rfl, rfl, rfl⟩ := rt11 h
  exact g_iret X dX0_found_18 z11 rfl rfl (Nat.le_of_ble_eq_true rfl) (Nat.le_of_ble_eq_true rfl)
/-! LineEchoesLaw.found(LLineEchoes;II[J)I -/
abbrev rm_LX_found : Room := { frames := 9, cells := 7, slots := 42, locals := 204 }
def F_LX_found (v_brought : Int64) (v_left : Int64) (v_dropped : Int64) (v_away : Int64) (v_mergings : Int32) (v_drops : Int32) (v_fromNear : Nat → Int64) (v_fromFar : Nat → Int64) (v_echoes : Nat → Int64) (v_front : Int32) (v_least : Int32) (v_window : Int32) (v_pulseEnergies : Nat → Int32) (v_o_energies : Nat → Int64) (x1 : Int32) (x2 : Int32) : Option (Int32 × Int64 × Int64 × Int64 × Int64 × Int32 × Int32 × (Nat → Int64) × (Nat → Int64) × (Nat → Int64)) :=
  bc10 (F_X1_found v_brought v_left v_dropped v_away v_mergings v_drops v_fromNear v_fromFar v_echoes v_front v_least v_window v_pulseEnergies v_o_energies x1 x2) (fun r1 w2_brought w3_left w4_dropped w5_away w6_mergings w7_drops w8_fromNear w9_fromFar w10_echoes =>
  none) (fun k9 => if k9 = 1 then (some (1, v_brought, v_left, v_dropped, v_away, v_mergings, v_drops, v_fromNear, v_fromFar, v_echoes)) else none)
theorem met_LX_found (l : Launch) (hl : l.stackTraces = false) (Z : gZt) (a4 : Nat) (a4_1 : Nat) (a4_2 : Nat) (a4_3 : Nat) (az : Nat) (a0 : Nat) (a1 : Nat) (a2 : Nat) (a2_1 : Nat) (a2_2 : Nat) (a2_3 : Nat) (a2_4 : Nat) (a5 : Nat) (a5_1 : Nat) (a7 : Nat) (a8 : Nat) (a3 : Nat) (v_line : Option Nat) (v_brought : Int64) (v_left : Int64) (v_dropped : Int64) (v_away : Int64) (v_mergings : Int32) (v_drops : Int32) (v_fromNear : Nat → Int64) (v_fromFar : Nat → Int64) (v_echoes : Nat → Int64) (v_out : Nat → Int64) (v_depth : Int32) (v_scriptLength : Int32) (v_n : Int32) (v_pulses : Int32) (v_front : Int32) (v_least : Int32) (v_window : Int32) (v_lengths : Nat → Int32) (v_fractions : Nat → Int32) (v_pulseTimes : Nat → Int32) (v_pulseEnergies : Nat → Int32) (v_o_energies : Nat → Int64) (x1 : Int32) (x2 : Int32) (r : Int32) (r_brought : Int64) (r_left : Int64) (r_dropped : Int64) (r_away : Int64) (r_mergings : Int32) (r_drops : Int32) (r_fromNear : Nat → Int64) (r_fromFar : Nat → Int64) (r_echoes : Nat → Int64) (h : F_LX_found v_brought v_left v_dropped v_away v_mergings v_drops v_fromNear v_fromFar v_echoes v_front v_least v_window v_pulseEnergies v_o_energies x1 x2 = some (r, r_brought, r_left, r_dropped, r_away, r_mergings, r_drops, r_fromNear, r_fromFar, r_echoes)) : Ct l yX0_found (wsW_ yX0_found cX0_found 5 (some .int) [(0, 10, 13, 13)]) rm_LX_found Z [.ref a0, .int x1, .int x2, .ref az] [(a4, .inr (4, [.ref a4_1, .ref a4_2, .ref a4_3, (va_rf v_line), .long v_brought, .long v_left, .long v_dropped, .long v_away, .int v_mergings, .int v_drops])), (a4_1, .inl (Z.2 1, 1809, .inr (.inl v_fromNear))), (a4_2, .inl (Z.2 1, 1809, .inr (.inl v_fromFar))), (a4_3, .inl (Z.2 1, 201, .inr (.inl v_echoes))), (az, .inl (Z.2 1, 1, .inr (.inl v_out)))] [(a0, .inr (0, [.ref a1, .ref a7, .int v_depth, .ref a8, .int v_scriptLength, .ref a4])), (a1, .inr (1, [.ref a2, .ref a3, .ref a5])), (a2, .inr (2, [.ref a2_1, .ref a2_2, .int v_n, .ref a2_3, .ref a2_4, .int v_pulses, .int v_front, .int v_least, .int v_window])), (a2_1, .inl (Z.2 0, 8, .inl v_lengths)), (a2_2, .inl (Z.2 0, 8, .inl v_fractions)), (a2_3, .inl (Z.2 0, 4, .inl v_pulseTimes)), (a2_4, .inl (Z.2 0, 4, .inl v_pulseEnergies)), (a5, .inr (3, [.ref a5_1])), (a5_1, .inl (Z.2 1, 201, .inr (.inl v_o_energies)))] (fun _ : Unit => (some (.int r) : Option Value)) (fun _ : Unit => ([(a4, .inr (4, [.ref a4_1, .ref a4_2, .ref a4_3, (va_rf v_line), .long r_brought, .long r_left, .long r_dropped, .long r_away, .int r_mergings, .int r_drops])), (a4_1, .inl (Z.2 1, 1809, .inr (.inl r_fromNear))), (a4_2, .inl (Z.2 1, 1809, .inr (.inl r_fromFar))), (a4_3, .inl (Z.2 1, 201, .inr (.inl r_echoes))), (az, .inl (Z.2 1, 1, .inr (.inl v_out)))] : va_W)) := by
  refine Ct.ofH cX0_found 5 (some .int) [(0, 10, 13, 13)] "LineEchoesLaw" [some (.ref a0), some (.int x1), some (.int x2), some (.ref az), none] 1 (by decide) rfl (Nat.le_of_ble_eq_true rfl) rfl (fun p e s m args below meth c A X ht => ?_)
  unfold F_LX_found at h
  refine g_aload_n X rfl dX0_found_0 1 rfl ?_
  refine g_iconst X 0 dX0_found_1 2 rfl kI_0 ?_
  refine g_aload_n X rfl dX0_found_2 3 rfl ?_
  refine g_iload_n X rfl dX0_found_3 4 rfl ?_
  refine g_iload_n X rfl dX0_found_4 5 rfl ?_
  rcases bc10_e h with ⟨k9, hcl, hg⟩ | ⟨r1, w2_brought, w3_left, w4_dropped, w5_away, w6_mergings, w7_drops, w8_fromNear, w9_fromFar, w10_echoes, hcl, h⟩
  · by_cases hk1 : k9 = 1
    · subst hk1
      replace h := if_t rfl hg
      refine g_xcV X (met_X1_found l hl Z a4 a4_1 a4_2 a4_3 a0 a1 a2 a2_1 a2_2 a2_3 a2_4 a5 a5_1 a7 a8 a3 v_line v_brought v_left v_dropped v_away v_mergings v_drops v_fromNear v_fromFar v_echoes v_depth v_scriptLength v_n v_pulses v_front v_least v_window v_lengths v_fractions v_pulseTimes v_pulseEnergies v_o_energies x1 x2 _ hcl).thr [0, 1, 2, 3] [4] [5, 6, 7, 8, 9, 10, 11, 12, 13] (wr := [(az, .inl (Z.2 1, 1, .inr (.inl v_out)))]) ⟨rfl, rfl, rfl, rfl, rfl, by decide, by decide⟩ 5 gC0 rfl rfl (lw_V q1311 q1312 q1313 q69 q1314) md_X1_found ⟨(Nat.le_of_ble_eq_true rfl), (Nat.le_of_ble_eq_true rfl)⟩ rfl dX0_found_5 [] ⟨0, 10, 13, 13⟩ [] ht (Nat.le_of_ble_eq_true rfl) (Nat.le_of_ble_eq_true rfl) (st := [.int 0, .ref az]) rfl (Nat.le_of_ble_eq_true rfl) (List.forall_mem_nil _) (by decide) (by decide) q1085 gCa1 rfl 7 42 rfl rfl (fun q9 => ?_)
      refine g_astore X dX0_found_13 15 rfl (Nat.le_of_ble_eq_true rfl) rfl [some (.ref a0), some (.int x1), some (.int x2), some (.ref az), some (.ref q9)] rfl ?_
      refine g_iconst X 1 dX0_found_15 16 rfl kI_1 ?_
      refine g_keep [1, 2, 3, 4, 0] [(a4, .inr (4, [.ref a4_1, .ref a4_2, .ref a4_3, (va_rf v_line), .long v_brought, .long v_left, .long v_dropped, .long v_away, .int v_mergings, .int v_drops])), (a4_1, .inl (Z.2 1, 1809, .inr (.inl v_fromNear))), (a4_2, .inl (Z.2 1, 1809, .inr (.inl v_fromFar))), (a4_3, .inl (Z.2 1, 201, .inr (.inl v_echoes))), (az, .inl (Z.2 1, 1, .inr (.inl v_out)))] rfl rfl ?_
      cases h
      exact g_iret X dX0_found_16 () rfl rfl (Nat.le_of_ble_eq_true rfl) (Nat.le_of_ble_eq_true rfl)
    replace hg := if_f hk1 hg
    cases hg
  refine g_callV1 X (met_X1_found l hl Z a4 a4_1 a4_2 a4_3 a0 a1 a2 a2_1 a2_2 a2_3 a2_4 a5 a5_1 a7 a8 a3 v_line v_brought v_left v_dropped v_away v_mergings v_drops v_fromNear v_fromFar v_echoes v_depth v_scriptLength v_n v_pulses v_front v_least v_window v_lengths v_fractions v_pulseTimes v_pulseEnergies v_o_energies x1 x2 _ hcl).ret [0, 1, 2, 3] [4] [5, 6, 7, 8, 9, 10, 11, 12, 13] (wr := [(az, .inl (Z.2 1, 1, .inr (.inl v_out)))]) ⟨rfl, rfl, rfl, rfl, rfl, by decide, by decide⟩ 5 gC0 rfl rfl (lw_V q1311 q1312 q1313 q69 q1314) md_X1_found ⟨(Nat.le_of_ble_eq_true rfl), (Nat.le_of_ble_eq_true rfl)⟩ rfl dX0_found_5 8 rfl 7 42 rfl rfl (Nat.le_of_ble_eq_true rfl) (Nat.le_of_ble_eq_true rfl) (st := [.int 0, .ref az]) rfl (Nat.le_of_ble_eq_true rfl) (fun _ => rfl) (fun z11 => ?_)
  cases h
/-! LineEchoesLaw.type(LLineEchoes;I[J)I -/
abbrev rm_L_type : Room := { frames := 9, cells := 2, slots := 12, locals := 142 }
def F_L_type (v_scriptLength : Int32) (v_script : Nat → Int32) (v_out : Nat → Int64) (x1 : Int32) : Option (Int32 × Int32 × (Nat → Int32) × (Nat → Int64)) :=
  bc3 (F_X1_type v_scriptLength v_script x1) (fun r1 w2_scriptLength w3_script =>
  gin 0 1 <|
  some (0, w2_scriptLength, w3_script, vp_updL v_out (Int32.toNatClampNeg 0) r1.toInt64)) (fun k9 => if k9 = 1 then (none) else if k9 = 2 then (none) else none)
theorem met_L_type (l : Launch) (hl : l.stackTraces = false) (Z : gZt) (a0 : Nat) (a8 : Nat) (az : Nat) (a1 : Nat) (a7 : Nat) (a4 : Nat) (v_depth : Int32) (v_scriptLength : Int32) (v_script : Nat → Int32) (v_out : Nat → Int64) (x1 : Int32) (r : Int32) (r_scriptLength : Int32) (r_script : Nat → Int32) (r_out : Nat → Int64) (h : F_L_type v_scriptLength v_script v_out x1 = some (r, r_scriptLength, r_script, r_out)) : Ct l yX0_type (wsW_ yX0_type cX0_type 4 (some .int) [(0, 9, 12, 13), (0, 9, 15, 15)]) rm_L_type Z [.ref a0, .int x1, .ref az] [(a0, .inr (0, [.ref a1, .ref a7, .int v_depth, .ref a8, .int v_scriptLength, .ref a4])), (a8, .inl (Z.2 2, 120, .inl v_script)), (az, .inl (Z.2 1, 1, .inr (.inl v_out)))] [] (fun _ : Unit => (some (.int r) : Option Value)) (fun _ : Unit => ([(a0, .inr (0, [.ref a1, .ref a7, .int v_depth, .ref a8, .int r_scriptLength, .ref a4])), (a8, .inl (Z.2 2, 120, .inl r_script)), (az, .inl (Z.2 1, 1, .inr (.inl r_out)))] : va_W)) := by
  refine Ct.ofH cX0_type 4 (some .int) [(0, 9, 12, 13), (0, 9, 15, 15)] "LineEchoesLaw" [some (.ref a0), some (.int x1), some (.ref az), none] 1 (by decide) rfl (Nat.le_of_ble_eq_true rfl) rfl (fun p e s m args below meth c A X ht => ?_)
  unfold F_L_type at h
  refine g_aload_n X rfl dX0_type_0 1 rfl ?_
  refine g_iconst X 0 dX0_type_1 2 rfl kI_0 ?_
  refine g_aload_n X rfl dX0_type_2 3 rfl ?_
  refine g_iload_n X rfl dX0_type_3 4 rfl ?_
  rcases bc3_e h with ⟨k9, hcl, hg⟩ | ⟨r1, w2_scriptLength, w3_script, hcl, h⟩
  · by_cases hk1 : k9 = 1
    · subst hk1
      replace h := if_t rfl hg
      refine g_xcV X (met_X1_type l hl Z a0 a8 a1 a7 a4 v_depth v_scriptLength v_script x1 _ hcl).thr [0, 1] [2] [] (wr := [(az, .inl (Z.2 1, 1, .inr (.inl v_out)))]) ⟨rfl, rfl, rfl, rfl, rfl, by decide, by decide⟩ 0 gC0 rfl rfl (lw_V q1319 q1320 q1321 q69 q1322) md_X1_type ⟨(Nat.le_of_ble_eq_true rfl), (Nat.le_of_ble_eq_true rfl)⟩ rfl dX0_type_4 [] ⟨0, 9, 12, 13⟩ [⟨0, 9, 15, 15⟩] ht (Nat.le_of_ble_eq_true rfl) (Nat.le_of_ble_eq_true rfl) (st := [.int 0, .ref az]) rfl (Nat.le_of_ble_eq_true rfl) (List.forall_mem_nil _) (by decide) (by decide) q1085 gCa1 rfl 2 12 rfl rfl (fun q9 => ?_)
      cases h
    replace hg := if_f hk1 hg
    by_cases hk2 : k9 = 2
    · subst hk2
      replace h := if_t rfl hg
      refine g_xcV X (met_X1_type l hl Z a0 a8 a1 a7 a4 v_depth v_scriptLength v_script x1 _ hcl).thr [0, 1] [2] [] (wr := [(az, .inl (Z.2 1, 1, .inr (.inl v_out)))]) ⟨rfl, rfl, rfl, rfl, rfl, by decide, by decide⟩ 0 gC0 rfl rfl (lw_V q1319 q1320 q1321 q69 q1322) md_X1_type ⟨(Nat.le_of_ble_eq_true rfl), (Nat.le_of_ble_eq_true rfl)⟩ rfl dX0_type_4 [⟨0, 9, 12, 13⟩] ⟨0, 9, 15, 15⟩ [] ht (Nat.le_of_ble_eq_true rfl) (Nat.le_of_ble_eq_true rfl) (st := [.int 0, .ref az]) rfl (Nat.le_of_ble_eq_true rfl) (List.forall_mem_cons.mpr ⟨Or.inr ⟨by decide, _, q1085, X.kk.2.2.2.2.2.2.2.2.2.2 2 1 (by decide) (by decide) (by decide)⟩, (List.forall_mem_nil _)⟩) (by decide) (by decide) q1086 gCa2 rfl 2 12 rfl rfl (fun q9 => ?_)
      cases h
    replace hg := if_f hk2 hg
    cases hg
  refine g_callV1 X (met_X1_type l hl Z a0 a8 a1 a7 a4 v_depth v_scriptLength v_script x1 _ hcl).ret [0, 1] [2] [] (wr := [(az, .inl (Z.2 1, 1, .inr (.inl v_out)))]) ⟨rfl, rfl, rfl, rfl, rfl, by decide, by decide⟩ 0 gC0 rfl rfl (lw_V q1319 q1320 q1321 q69 q1322) md_X1_type ⟨(Nat.le_of_ble_eq_true rfl), (Nat.le_of_ble_eq_true rfl)⟩ rfl dX0_type_4 7 rfl 2 12 rfl rfl (Nat.le_of_ble_eq_true rfl) (Nat.le_of_ble_eq_true rfl) (st := [.int 0, .ref az]) rfl (Nat.le_of_ble_eq_true rfl) (fun _ => rfl) (fun _ => ?_)
  refine g_i2l X dX0_type_7 8 rfl ?_
  obtain ⟨hi, h⟩ := gin_e h
  refine g_last X 0 rfl hi dX0_type_8 9 rfl ?_
  refine g_goto X dX0_type_9 18 (by decide) ?_
  refine g_iconst X 0 dX0_type_18 19 rfl kI_0 ?_
  refine g_keep [1, 2, 0] [(a0, .inr (0, [.ref a1, .ref a7, .int v_depth, .ref a8, .int w2_scriptLength, .ref a4])), (a8, .inl (Z.2 2, 120, .inl w3_script)), (az, .inl (Z.2 1, 1, .inr (.inl (vp_updL v_out (Int32.toNatClampNeg 0) r1.toInt64))))] rfl rfl ?_
  cases h
  exact g_iret X dX0_type_19 () rfl rfl (Nat.le_of_ble_eq_true rfl) (Nat.le_of_ble_eq_true rfl)
/-! LineEchoesLaw.type(LLineEchoes;I[J)I -/
abbrev rm_LX_type : Room := { frames := 9, cells := 2, slots := 12, locals := 142 }
def F_LX_type (v_scriptLength : Int32) (v_script : Nat → Int32) (x1 : Int32) : Option (Int32 × Int32 × (Nat → Int32)) :=
  bc3 (F_X1_type v_scriptLength v_script x1) (fun r1 w2_scriptLength w3_script =>
  none) (fun k9 => if k9 = 1 then (some (1, v_scriptLength, v_script)) else if k9 = 2 then (some (2, v_scriptLength, v_script)) else none)
theorem met_LX_type (l : Launch) (hl : l.stackTraces = false) (Z : gZt) (a0 : Nat) (a8 : Nat) (az : Nat) (a1 : Nat) (a7 : Nat) (a4 : Nat) (v_depth : Int32) (v_scriptLength : Int32) (v_script : Nat → Int32) (v_out : Nat → Int64) (x1 : Int32) (r : Int32) (r_scriptLength : Int32) (r_script : Nat → Int32) (h : F_LX_type v_scriptLength v_script x1 = some (r, r_scriptLength, r_script)) : Ct l yX0_type (wsW_ yX0_type cX0_type 4 (some .int) [(0, 9, 12, 13), (0, 9, 15, 15)]) rm_LX_type Z [.ref a0, .int x1, .ref az] [(a0, .inr (0, [.ref a1, .ref a7, .int v_depth, .ref a8, .int v_scriptLength, .ref a4])), (a8, .inl (Z.2 2, 120, .inl v_script)), (az, .inl (Z.2 1, 1, .inr (.inl v_out)))] [] (fun _ : Unit => (some (.int r) : Option Value)) (fun _ : Unit => ([(a0, .inr (0, [.ref a1, .ref a7, .int v_depth, .ref a8, .int r_scriptLength, .ref a4])), (a8, .inl (Z.2 2, 120, .inl r_script)), (az, .inl (Z.2 1, 1, .inr (.inl v_out)))] : va_W)) := by
  refine Ct.ofH cX0_type 4 (some .int) [(0, 9, 12, 13), (0, 9, 15, 15)] "LineEchoesLaw" [some (.ref a0), some (.int x1), some (.ref az), none] 1 (by decide) rfl (Nat.le_of_ble_eq_true rfl) rfl (fun p e s m args below meth c A X ht => ?_)
  unfold F_LX_type at h
  refine g_aload_n X rfl dX0_type_0 1 rfl ?_
  refine g_iconst X 0 dX0_type_1 2 rfl kI_0 ?_
  refine g_aload_n X rfl dX0_type_2 3 rfl ?_
  refine g_iload_n X rfl dX0_type_3 4 rfl ?_
  rcases bc3_e h with ⟨k9, hcl, hg⟩ | ⟨r1, w2_scriptLength, w3_script, hcl, h⟩
  · by_cases hk1 : k9 = 1
    · subst hk1
      replace h := if_t rfl hg
      refine g_xcV X (met_X1_type l hl Z a0 a8 a1 a7 a4 v_depth v_scriptLength v_script x1 _ hcl).thr [0, 1] [2] [] (wr := [(az, .inl (Z.2 1, 1, .inr (.inl v_out)))]) ⟨rfl, rfl, rfl, rfl, rfl, by decide, by decide⟩ 0 gC0 rfl rfl (lw_V q1319 q1320 q1321 q69 q1322) md_X1_type ⟨(Nat.le_of_ble_eq_true rfl), (Nat.le_of_ble_eq_true rfl)⟩ rfl dX0_type_4 [] ⟨0, 9, 12, 13⟩ [⟨0, 9, 15, 15⟩] ht (Nat.le_of_ble_eq_true rfl) (Nat.le_of_ble_eq_true rfl) (st := [.int 0, .ref az]) rfl (Nat.le_of_ble_eq_true rfl) (List.forall_mem_nil _) (by decide) (by decide) q1085 gCa1 rfl 2 12 rfl rfl (fun q9 => ?_)
      refine g_astore_n X dX0_type_12 13 rfl (Nat.le_of_ble_eq_true rfl) rfl [some (.ref a0), some (.int x1), some (.ref az), some (.ref q9)] rfl ?_
      refine g_iconst X 1 dX0_type_13 14 rfl kI_1 ?_
      refine g_keep [1, 2, 0] [(a0, .inr (0, [.ref a1, .ref a7, .int v_depth, .ref a8, .int v_scriptLength, .ref a4])), (a8, .inl (Z.2 2, 120, .inl v_script)), (az, .inl (Z.2 1, 1, .inr (.inl v_out)))] rfl rfl ?_
      cases h
      exact g_iret X dX0_type_14 () rfl rfl (Nat.le_of_ble_eq_true rfl) (Nat.le_of_ble_eq_true rfl)
    replace hg := if_f hk1 hg
    by_cases hk2 : k9 = 2
    · subst hk2
      replace h := if_t rfl hg
      refine g_xcV X (met_X1_type l hl Z a0 a8 a1 a7 a4 v_depth v_scriptLength v_script x1 _ hcl).thr [0, 1] [2] [] (wr := [(az, .inl (Z.2 1, 1, .inr (.inl v_out)))]) ⟨rfl, rfl, rfl, rfl, rfl, by decide, by decide⟩ 0 gC0 rfl rfl (lw_V q1319 q1320 q1321 q69 q1322) md_X1_type ⟨(Nat.le_of_ble_eq_true rfl), (Nat.le_of_ble_eq_true rfl)⟩ rfl dX0_type_4 [⟨0, 9, 12, 13⟩] ⟨0, 9, 15, 15⟩ [] ht (Nat.le_of_ble_eq_true rfl) (Nat.le_of_ble_eq_true rfl) (st := [.int 0, .ref az]) rfl (Nat.le_of_ble_eq_true rfl) (List.forall_mem_cons.mpr ⟨Or.inr ⟨by decide, _, q1085, X.kk.2.2.2.2.2.2.2.2.2.2 2 1 (by decide) (by decide) (by decide)⟩, (List.forall_mem_nil _)⟩) (by decide) (by decide) q1086 gCa2 rfl 2 12 rfl rfl (fun q9 => ?_)
      refine g_astore_n X dX0_type_15 16 rfl (Nat.le_of_ble_eq_true rfl) rfl [some (.ref a0), some (.int x1), some (.ref az), some (.ref q9)] rfl ?_
      refine g_iconst X 2 dX0_type_16 17 rfl kI_2 ?_
      refine g_keep [1, 2, 0] [(a0, .inr (0, [.ref a1, .ref a7, .int v_depth, .ref a8, .int v_scriptLength, .ref a4])), (a8, .inl (Z.2 2, 120, .inl v_script)), (az, .inl (Z.2 1, 1, .inr (.inl v_out)))] rfl rfl ?_
      cases h
      exact g_iret X dX0_type_17 () rfl rfl (Nat.le_of_ble_eq_true rfl) (Nat.le_of_ble_eq_true rfl)
    replace hg := if_f hk2 hg
    cases hg
  refine g_callV1 X (met_X1_type l hl Z a0 a8 a1 a7 a4 v_depth v_scriptLength v_script x1 _ hcl).ret [0, 1] [2] [] (wr := [(az, .inl (Z.2 1, 1, .inr (.inl v_out)))]) ⟨rfl, rfl, rfl, rfl, rfl, by decide, by decide⟩ 0 gC0 rfl rfl (lw_V q1319 q1320 q1321 q69 q1322) md_X1_type ⟨(Nat.le_of_ble_eq_true rfl), (Nat.le_of_ble_eq_true rfl)⟩ rfl dX0_type_4 7 rfl 2 12 rfl rfl (Nat.le_of_ble_eq_true rfl) (Nat.le_of_ble_eq_true rfl) (st := [.int 0, .ref az]) rfl (Nat.le_of_ble_eq_true rfl) (fun _ => rfl) (fun _ => ?_)
  cases h
/-! LineEchoesLaw.undo(LLineEchoes;[J)I -/
abbrev rm_L_undo : Room := { frames := 9, cells := 1, slots := 6, locals := 141 }
def F_L_undo (v_depth : Int32) (v_saved : Nat → Option Nat) (v_out : Nat → Int64) : Option (Int32 × (Option Nat) × Int32 × (Nat → Int64)) :=
  bc3 (F_X1_undo v_depth v_saved) (fun r1 w2_current w3_depth =>
  gin 0 1 <|
  some (0, w2_current, w3_depth, vp_updL v_out (Int32.toNatClampNeg 0) r1.toInt64)) (fun k9 => if k9 = 2 then (none) else none)
theorem met_L_undo (l : Launch) (hl : l.stackTraces = false) (Z : gZt) (a0 : Nat) (a7 : Nat) (az : Nat) (a8 : Nat) (a4 : Nat) (v_current : Option Nat) (v_depth : Int32) (v_scriptLength : Int32) (v_saved : Nat → Option Nat) (v_out : Nat → Int64) (r : Int32) (r_current : Option Nat) (r_depth : Int32) (r_out : Nat → Int64) (h : F_L_undo v_depth v_saved v_out = some (r, r_current, r_depth, r_out)) : Ct l yX0_undo (wsW_ yX0_undo cX0_undo 3 (some .int) [(0, 8, 11, 15)]) rm_L_undo Z [.ref a0, .ref az] [(a0, .inr (0, [(va_rf v_current), .ref a7, .int v_depth, .ref a8, .int v_scriptLength, .ref a4])), (a7, .inl (Z.2 3, 3, .inr (.inr (.inr (.inr v_saved))))), (az, .inl (Z.2 1, 1, .inr (.inl v_out)))] [] (fun _ : Unit => (some (.int r) : Option Value)) (fun _ : Unit => ([(a0, .inr (0, [(va_rf r_current), .ref a7, .int r_depth, .ref a8, .int v_scriptLength, .ref a4])), (a7, .inl (Z.2 3, 3, .inr (.inr (.inr (.inr v_saved))))), (az, .inl (Z.2 1, 1, .inr (.inl r_out)))] : va_W)) := by
  refine Ct.ofH cX0_undo 3 (some .int) [(0, 8, 11, 15)] "LineEchoesLaw" [some (.ref a0), some (.ref az), none] 1 (by decide) rfl (Nat.le_of_ble_eq_true rfl) rfl (fun p e s m args below meth c A X ht => ?_)
  unfold F_L_undo at h
  refine g_aload_n X rfl dX0_undo_0 1 rfl ?_
  refine g_iconst X 0 dX0_undo_1 2 rfl kI_0 ?_
  refine g_aload_n X rfl dX0_undo_2 3 rfl ?_
  rcases bc3_e h with ⟨k9, hcl, hg⟩ | ⟨r1, w2_current, w3_depth, hcl, h⟩
  · by_cases hk2 : k9 = 2
    · subst hk2
      replace h := if_t rfl hg
      refine g_xcV X (met_X1_undo l hl Z a0 a7 a8 a4 v_current v_depth v_scriptLength v_saved  _ hcl).thr [0, 1] [2] [] (wr := [(az, .inl (Z.2 1, 1, .inr (.inl v_out)))]) ⟨rfl, rfl, rfl, rfl, rfl, by decide, by decide⟩ 0 gC0 rfl rfl (lw_V q1329 q1330 q1331 q69 q1332) md_X1_undo ⟨(Nat.le_of_ble_eq_true rfl), (Nat.le_of_ble_eq_true rfl)⟩ rfl dX0_undo_3 [] ⟨0, 8, 11, 15⟩ [] ht (Nat.le_of_ble_eq_true rfl) (Nat.le_of_ble_eq_true rfl) (st := [.int 0, .ref az]) rfl (Nat.le_of_ble_eq_true rfl) (List.forall_mem_nil _) (by decide) (by decide) q1086 gCa2 rfl 1 6 rfl rfl (fun q9 => ?_)
      cases h
    replace hg := if_f hk2 hg
    cases hg
  refine g_callV1 X (met_X1_undo l hl Z a0 a7 a8 a4 v_current v_depth v_scriptLength v_saved  _ hcl).ret [0, 1] [2] [] (wr := [(az, .inl (Z.2 1, 1, .inr (.inl v_out)))]) ⟨rfl, rfl, rfl, rfl, rfl, by decide, by decide⟩ 0 gC0 rfl rfl (lw_V q1329 q1330 q1331 q69 q1332) md_X1_undo ⟨(Nat.le_of_ble_eq_true rfl), (Nat.le_of_ble_eq_true rfl)⟩ rfl dX0_undo_3 6 rfl 1 6 rfl rfl (Nat.le_of_ble_eq_true rfl) (Nat.le_of_ble_eq_true rfl) (st := [.int 0, .ref az]) rfl (Nat.le_of_ble_eq_true rfl) (fun _ => rfl) (fun _ => ?_)
  refine g_i2l X dX0_undo_6 7 rfl ?_
  obtain ⟨hi, h⟩ := gin_e h
  refine g_last X 0 rfl hi dX0_undo_7 8 rfl ?_
  refine g_goto X dX0_undo_8 14 (by decide) ?_
  refine g_iconst X 0 dX0_undo_14 15 rfl kI_0 ?_
  refine g_keep [1, 2, 0] [(a0, .inr (0, [(va_rf w2_current), .ref a7, .int w3_depth, .ref a8, .int v_scriptLength, .ref a4])), (a7, .inl (Z.2 3, 3, .inr (.inr (.inr (.inr v_saved))))), (az, .inl (Z.2 1, 1, .inr (.inl (vp_updL v_out (Int32.toNatClampNeg 0) r1.toInt64))))] rfl rfl ?_
  cases h
  exact g_iret X dX0_undo_15 () rfl rfl (Nat.le_of_ble_eq_true rfl) (Nat.le_of_ble_eq_true rfl)
/-! LineEchoesLaw.undo(LLineEchoes;[J)I -/
abbrev rm_LX_undo : Room := { frames := 9, cells := 1, slots := 6, locals := 141 }
def F_LX_undo (v_current : Option Nat) (v_depth : Int32) (v_saved : Nat → Option Nat) : Option (Int32 × (Option Nat) × Int32) :=
  bc3 (F_X1_undo v_depth v_saved) (fun r1 w2_current w3_depth =>
  none) (fun k9 => if k9 = 2 then (some (1, v_current, v_depth)) else none)
theorem met_LX_undo (l : Launch) (hl : l.stackTraces = false) (Z : gZt) (a0 : Nat) (a7 : Nat) (az : Nat) (a8 : Nat) (a4 : Nat) (v_current : Option Nat) (v_depth : Int32) (v_scriptLength : Int32) (v_saved : Nat → Option Nat) (v_out : Nat → Int64) (r : Int32) (r_current : Option Nat) (r_depth : Int32) (h : F_LX_undo v_current v_depth v_saved = some (r, r_current, r_depth)) : Ct l yX0_undo (wsW_ yX0_undo cX0_undo 3 (some .int) [(0, 8, 11, 15)]) rm_LX_undo Z [.ref a0, .ref az] [(a0, .inr (0, [(va_rf v_current), .ref a7, .int v_depth, .ref a8, .int v_scriptLength, .ref a4])), (a7, .inl (Z.2 3, 3, .inr (.inr (.inr (.inr v_saved))))), (az, .inl (Z.2 1, 1, .inr (.inl v_out)))] [] (fun _ : Unit => (some (.int r) : Option Value)) (fun _ : Unit => ([(a0, .inr (0, [(va_rf r_current), .ref a7, .int r_depth, .ref a8, .int v_scriptLength, .ref a4])), (a7, .inl (Z.2 3, 3, .inr (.inr (.inr (.inr v_saved))))), (az, .inl (Z.2 1, 1, .inr (.inl v_out)))] : va_W)) := by
  refine Ct.ofH cX0_undo 3 (some .int) [(0, 8, 11, 15)] "LineEchoesLaw" [some (.ref a0), some (.ref az), none] 1 (by decide) rfl (Nat.le_of_ble_eq_true rfl) rfl (fun p e s m args below meth c A X ht => ?_)
  unfold F_LX_undo at h
  refine g_aload_n X rfl dX0_undo_0 1 rfl ?_
  refine g_iconst X 0 dX0_undo_1 2 rfl kI_0 ?_
  refine g_aload_n X rfl dX0_undo_2 3 rfl ?_
  rcases bc3_e h with ⟨k9, hcl, hg⟩ | ⟨r1, w2_current, w3_depth, hcl, h⟩
  · by_cases hk2 : k9 = 2
    · subst hk2
      replace h := if_t rfl hg
      refine g_xcV X (met_X1_undo l hl Z a0 a7 a8 a4 v_current v_depth v_scriptLength v_saved  _ hcl).thr [0, 1] [2] [] (wr := [(az, .inl (Z.2 1, 1, .inr (.inl v_out)))]) ⟨rfl, rfl, rfl, rfl, rfl, by decide, by decide⟩ 0 gC0 rfl rfl (lw_V q1329 q1330 q1331 q69 q1332) md_X1_undo ⟨(Nat.le_of_ble_eq_true rfl), (Nat.le_of_ble_eq_true rfl)⟩ rfl dX0_undo_3 [] ⟨0, 8, 11, 15⟩ [] ht (Nat.le_of_ble_eq_true rfl) (Nat.le_of_ble_eq_true rfl) (st := [.int 0, .ref az]) rfl (Nat.le_of_ble_eq_true rfl) (List.forall_mem_nil _) (by decide) (by decide) q1086 gCa2 rfl 1 6 rfl rfl (fun q9 => ?_)
      refine g_astore_n X dX0_undo_11 12 rfl (Nat.le_of_ble_eq_true rfl) rfl [some (.ref a0), some (.ref az), some (.ref q9)] rfl ?_
      refine g_iconst X 1 dX0_undo_12 13 rfl kI_1 ?_
      refine g_keep [1, 2, 0] [(a0, .inr (0, [(va_rf v_current), .ref a7, .int v_depth, .ref a8, .int v_scriptLength, .ref a4])), (a7, .inl (Z.2 3, 3, .inr (.inr (.inr (.inr v_saved))))), (az, .inl (Z.2 1, 1, .inr (.inl v_out)))] rfl rfl ?_
      cases h
      exact g_iret X dX0_undo_13 () rfl rfl (Nat.le_of_ble_eq_true rfl) (Nat.le_of_ble_eq_true rfl)
    replace hg := if_f hk2 hg
    cases hg
  refine g_callV1 X (met_X1_undo l hl Z a0 a7 a8 a4 v_current v_depth v_scriptLength v_saved  _ hcl).ret [0, 1] [2] [] (wr := [(az, .inl (Z.2 1, 1, .inr (.inl v_out)))]) ⟨rfl, rfl, rfl, rfl, rfl, by decide, by decide⟩ 0 gC0 rfl rfl (lw_V q1329 q1330 q1331 q69 q1332) md_X1_undo ⟨(Nat.le_of_ble_eq_true rfl), (Nat.le_of_ble_eq_true rfl)⟩ rfl dX0_undo_3 6 rfl 1 6 rfl rfl (Nat.le_of_ble_eq_true rfl) (Nat.le_of_ble_eq_true rfl) (st := [.int 0, .ref az]) rfl (Nat.le_of_ble_eq_true rfl) (fun _ => rfl) (fun _ => ?_)
  cases h
