/-! 32.carry (printed by gen/system.py) -/
set_option maxRecDepth 100000
theorem md_X1_carryOut : gMd yX1_carryOut 5 := by unfold gMd; decide +kernel
/-! LineEchoes.carryOut(LLineEchoes$Bench;Ljava/lang/String;III)I -/
abbrev rm_X1_carryOut : Room := { frames := 10, cells := 6, slots := 36, locals := 183 }
def F_X1_carryOut_186 (v_n : Int32) (v_pulses : Int32) (v_front : Int32) (v_least : Int32) (v_window : Int32) (v_lengths : Nat → Int32) (v_fractions : Nat → Int32) (v_pulseTimes : Nat → Int32) (v_pulseEnergies : Nat → Int32) (v_brought : Int64) (v_left : Int64) (v_dropped : Int64) (v_away : Int64) (v_mergings : Int32) (v_drops : Int32) (v_fromNear : Nat → Int64) (v_fromFar : Nat → Int64) (v_echoes : Nat → Int64) (v_hash : Int32) (v_hz : Int32) (x3 : Int32) (x4 : Int32) (x5 : Int32) (x7 : Int32) (v_o_energies : Nat → Int64) : Option ((Int32 × Int32 × Int32 × (Nat → Int32) × (Nat → Int32) × (Nat → Int32) × (Nat → Int32) × Int64 × Int64 × Int64 × Int64 × Int32 × Int32 × (Nat → Int64) × (Nat → Int64) × (Nat → Int64) × Int32 × Int32) ⊕ Nat) :=
  if x7 = 0 then
    (bc4 (F_X2_addPart v_n v_lengths v_fractions x3 x4) (fun r1 w2_n w3_lengths w4_fractions =>
    some (.inl (r1, w2_n, v_pulses, w3_lengths, w4_fractions, v_pulseTimes, v_pulseEnergies, v_brought, v_left, v_dropped, v_away, v_mergings, v_drops, v_fromNear, v_fromFar, v_echoes, v_hash, v_hz))) gthr)
  else
    (if x7 = 1 then
      (bc3 (F_X2_setPart v_n v_lengths v_fractions x3 x4 x5) (fun r5 w6_lengths w7_fractions =>
      some (.inl (r5, v_n, v_pulses, w6_lengths, w7_fractions, v_pulseTimes, v_pulseEnergies, v_brought, v_left, v_dropped, v_away, v_mergings, v_drops, v_fromNear, v_fromFar, v_echoes, v_hash, v_hz))) gthr)
    else
      (if x7 = 2 then
        (bc4 (F_X2_removePart v_n v_lengths v_fractions x3) (fun r8 w9_n w10_lengths w11_fractions =>
        some (.inl (r8, w9_n, v_pulses, w10_lengths, w11_fractions, v_pulseTimes, v_pulseEnergies, v_brought, v_left, v_dropped, v_away, v_mergings, v_drops, v_fromNear, v_fromFar, v_echoes, v_hash, v_hz))) gthr)
      else
        (if x7 = 3 then
          (bc4 (F_X2_splitPart v_n v_lengths v_fractions x3 x4 x5) (fun r12 w13_n w14_lengths w15_fractions =>
          some (.inl (r12, w13_n, v_pulses, w14_lengths, w15_fractions, v_pulseTimes, v_pulseEnergies, v_brought, v_left, v_dropped, v_away, v_mergings, v_drops, v_fromNear, v_fromFar, v_echoes, v_hash, v_hz))) gthr)
        else
          (if x7 = 4 then
            (bc4 (F_X2_addPulse v_pulses v_pulseTimes v_pulseEnergies x3 x4) (fun r16 w17_pulses w18_pulseTimes w19_pulseEnergies =>
            some (.inl (r16, v_n, w17_pulses, v_lengths, v_fractions, w18_pulseTimes, w19_pulseEnergies, v_brought, v_left, v_dropped, v_away, v_mergings, v_drops, v_fromNear, v_fromFar, v_echoes, v_hash, v_hz))) gthr)
          else
            (if x7 = 5 then
              (none)
            else
              (if x7 = 6 then
                (none)
              else
                (bd13 (F_X2_adopt v_front v_least v_window v_lengths v_fractions v_pulseEnergies v_brought v_left v_dropped v_away v_mergings v_drops v_fromNear v_fromFar v_echoes v_o_energies) fun r20 w21_n w22_lengths w23_fractions w24_brought w25_left w26_dropped w27_away w28_mergings w29_drops w30_fromNear w31_fromFar w32_echoes =>
                some (.inl (r20, w21_n, v_pulses, w22_lengths, w23_fractions, v_pulseTimes, v_pulseEnergies, w24_brought, w25_left, w26_dropped, w27_away, w28_mergings, w29_drops, w30_fromNear, w31_fromFar, w32_echoes, v_hash, v_hz)))))))))
def F_X1_carryOut (v_n : Int32) (v_pulses : Int32) (v_front : Int32) (v_least : Int32) (v_window : Int32) (v_lengths : Nat → Int32) (v_fractions : Nat → Int32) (v_pulseTimes : Nat → Int32) (v_pulseEnergies : Nat → Int32) (v_brought : Int64) (v_left : Int64) (v_dropped : Int64) (v_away : Int64) (v_mergings : Int32) (v_drops : Int32) (v_fromNear : Nat → Int64) (v_fromFar : Nat → Int64) (v_echoes : Nat → Int64) (v_hash : Int32) (v_hz : Int32) (v_sb : Nat → Int32) (v_slen : Nat) (v_o_energies : Nat → Int64) (x3 : Int32) (x4 : Int32) (x5 : Int32) : Option ((Int32 × Int32 × Int32 × (Nat → Int32) × (Nat → Int32) × (Nat → Int32) × (Nat → Int32) × Int64 × Int64 × Int64 × Int64 × Int32 × Int32 × (Nat → Int64) × (Nat → Int64) × (Nat → Int64) × Int32 × Int32) ⊕ Nat) :=
  bd3 (F_J7_hashCode v_hash v_hz v_sb v_slen) fun r1 w2_hash w3_hz =>
  if r1 = 98882 then
    (bd1 (F_J7_equals v_sb v_slen ([99, 117, 116])) fun r4 =>
    if r4 = 0 then
      (F_X1_carryOut_186 v_n v_pulses v_front v_least v_window v_lengths v_fractions v_pulseTimes v_pulseEnergies v_brought v_left v_dropped v_away v_mergings v_drops v_fromNear v_fromFar v_echoes w2_hash w3_hz x3 x4 x5 (-1) v_o_energies)
    else
      (F_X1_carryOut_186 v_n v_pulses v_front v_least v_window v_lengths v_fractions v_pulseTimes v_pulseEnergies v_brought v_left v_dropped v_away v_mergings v_drops v_fromNear v_fromFar v_echoes w2_hash w3_hz x3 x4 x5 2 v_o_energies))
  else
    (if r1 = 113762 then
      (bd1 (F_J7_equals v_sb v_slen ([115, 101, 116])) fun r5 =>
      if r5 = 0 then
        (F_X1_carryOut_186 v_n v_pulses v_front v_least v_window v_lengths v_fractions v_pulseTimes v_pulseEnergies v_brought v_left v_dropped v_away v_mergings v_drops v_fromNear v_fromFar v_echoes w2_hash w3_hz x3 x4 x5 (-1) v_o_energies)
      else
        (F_X1_carryOut_186 v_n v_pulses v_front v_least v_window v_lengths v_fractions v_pulseTimes v_pulseEnergies v_brought v_left v_dropped v_away v_mergings v_drops v_fromNear v_fromFar v_echoes w2_hash w3_hz x3 x4 x5 1 v_o_energies))
    else
      (if r1 = 3327647 then
        (bd1 (F_J7_equals v_sb v_slen ([108, 111, 111, 107])) fun r6 =>
        if r6 = 0 then
          (F_X1_carryOut_186 v_n v_pulses v_front v_least v_window v_lengths v_fractions v_pulseTimes v_pulseEnergies v_brought v_left v_dropped v_away v_mergings v_drops v_fromNear v_fromFar v_echoes w2_hash w3_hz x3 x4 x5 (-1) v_o_energies)
        else
          (F_X1_carryOut_186 v_n v_pulses v_front v_least v_window v_lengths v_fractions v_pulseTimes v_pulseEnergies v_brought v_left v_dropped v_away v_mergings v_drops v_fromNear v_fromFar v_echoes w2_hash w3_hz x3 x4 x5 6 v_o_energies))
      else
        (if r1 = 3433459 then
          (bd1 (F_J7_equals v_sb v_slen ([112, 97, 114, 116])) fun r7 =>
          if r7 = 0 then
            (F_X1_carryOut_186 v_n v_pulses v_front v_least v_window v_lengths v_fractions v_pulseTimes v_pulseEnergies v_brought v_left v_dropped v_away v_mergings v_drops v_fromNear v_fromFar v_echoes w2_hash w3_hz x3 x4 x5 (-1) v_o_energies)
          else
            (F_X1_carryOut_186 v_n v_pulses v_front v_least v_window v_lengths v_fractions v_pulseTimes v_pulseEnergies v_brought v_left v_dropped v_away v_mergings v_drops v_fromNear v_fromFar v_echoes w2_hash w3_hz x3 x4 x5 0 v_o_energies))
        else
          (if r1 = 107027353 then
            (bd1 (F_J7_equals v_sb v_slen ([112, 117, 108, 115, 101])) fun r8 =>
            if r8 = 0 then
              (F_X1_carryOut_186 v_n v_pulses v_front v_least v_window v_lengths v_fractions v_pulseTimes v_pulseEnergies v_brought v_left v_dropped v_away v_mergings v_drops v_fromNear v_fromFar v_echoes w2_hash w3_hz x3 x4 x5 (-1) v_o_energies)
            else
              (F_X1_carryOut_186 v_n v_pulses v_front v_least v_window v_lengths v_fractions v_pulseTimes v_pulseEnergies v_brought v_left v_dropped v_away v_mergings v_drops v_fromNear v_fromFar v_echoes w2_hash w3_hz x3 x4 x5 4 v_o_energies))
          else
            (if r1 = 109627663 then
              (bd1 (F_J7_equals v_sb v_slen ([115, 111, 117, 110, 100])) fun r9 =>
              if r9 = 0 then
                (F_X1_carryOut_186 v_n v_pulses v_front v_least v_window v_lengths v_fractions v_pulseTimes v_pulseEnergies v_brought v_left v_dropped v_away v_mergings v_drops v_fromNear v_fromFar v_echoes w2_hash w3_hz x3 x4 x5 (-1) v_o_energies)
              else
                (F_X1_carryOut_186 v_n v_pulses v_front v_least v_window v_lengths v_fractions v_pulseTimes v_pulseEnergies v_brought v_left v_dropped v_away v_mergings v_drops v_fromNear v_fromFar v_echoes w2_hash w3_hz x3 x4 x5 5 v_o_energies))
            else
              (if r1 = 109648666 then
                (bd1 (F_J7_equals v_sb v_slen ([115, 112, 108, 105, 116])) fun r10 =>
                if r10 = 0 then
                  (F_X1_carryOut_186 v_n v_pulses v_front v_least v_window v_lengths v_fractions v_pulseTimes v_pulseEnergies v_brought v_left v_dropped v_away v_mergings v_drops v_fromNear v_fromFar v_echoes w2_hash w3_hz x3 x4 x5 (-1) v_o_energies)
                else
                  (F_X1_carryOut_186 v_n v_pulses v_front v_least v_window v_lengths v_fractions v_pulseTimes v_pulseEnergies v_brought v_left v_dropped v_away v_mergings v_drops v_fromNear v_fromFar v_echoes w2_hash w3_hz x3 x4 x5 3 v_o_energies))
              else
                (F_X1_carryOut_186 v_n v_pulses v_front v_least v_window v_lengths v_fractions v_pulseTimes v_pulseEnergies v_brought v_left v_dropped v_away v_mergings v_drops v_fromNear v_fromFar v_echoes w2_hash w3_hz x3 x4 x5 (-1) v_o_energies)))))))
theorem w_X1_carryOut_186 {p : Program} {l : Launch} {e : Env} {s : State} {m : MethodId} {args : Array Value} {below : List Frame} {meth : Method} {c : Code} {Z : gZt} {A : Nat → Prop} (a1 : Nat) (a2 : Nat) (a2_1 : Nat) (a2_2 : Nat) (a2_3 : Nat) (a2_4 : Nat) (a4 : Nat) (a4_1 : Nat) (a4_2 : Nat) (a4_3 : Nat) (a6 : Nat) (a0 : Nat) (a6_1 : Nat) (a5 : Nat) (a5_1 : Nat) (a3 : Nat) (a9 : Nat) (a7 : Nat) (a8 : Nat) (v_depth : Int32) (v_scriptLength : Int32) (v_sb : Nat → Int32) (v_slen : Nat) (v_o_energies : Nat → Int64) (X : gX p s m args meth c Z A cX1_carryOut "LineEchoes" 8 (some .int) [(a0, .inr (0, [.ref a9, .ref a7, .int v_depth, .ref a8, .int v_scriptLength, .ref a4])), (a6_1, .inl (Z.2 2, v_slen, .inl v_sb)), (a5, .inr (3, [.ref a5_1])), (a5_1, .inl (Z.2 1, 201, .inr (.inl v_o_energies)))]) (Xt : gXt c) (hl : l.stackTraces = false) (o : (Int32 × Int32 × Int32 × (Nat → Int32) × (Nat → Int32) × (Nat → Int32) × (Nat → Int32) × Int64 × Int64 × Int64 × Int64 × Int32 × Int32 × (Nat → Int64) × (Nat → Int64) × (Nat → Int64) × Int32 × Int32) ⊕ Nat)  (v_n : Int32) (v_pulses : Int32) (v_front : Int32) (v_least : Int32) (v_window : Int32) (v_lengths : Nat → Int32) (v_fractions : Nat → Int32) (v_pulseTimes : Nat → Int32) (v_pulseEnergies : Nat → Int32) (v_line : Option Nat) (v_brought : Int64) (v_left : Int64) (v_dropped : Int64) (v_away : Int64) (v_mergings : Int32) (v_drops : Int32) (v_fromNear : Nat → Int64) (v_fromFar : Nat → Int64) (v_echoes : Nat → Int64) (v_hash : Int32) (v_hz : Int32) (x3 : Int32) (x4 : Int32) (x5 : Int32) (x7 : Int32) (h : F_X1_carryOut_186 v_n v_pulses v_front v_least v_window v_lengths v_fractions v_pulseTimes v_pulseEnergies v_brought v_left v_dropped v_away v_mergings v_drops v_fromNear v_fromFar v_echoes v_hash v_hz x3 x4 x5 x7 v_o_energies = some o) : G p l e rm_X1_carryOut s m args below meth c Z A 8 (vx_MQ below (gQc Z A (fun x : Int32 × Int32 × Int32 × (Nat → Int32) × (Nat → Int32) × (Nat → Int32) × (Nat → Int32) × Int64 × Int64 × Int64 × Int64 × Int32 × Int32 × (Nat → Int64) × (Nat → Int64) × (Nat → Int64) × Int32 × Int32 => (fun z0 : Option Nat => (some (.int x.1) : Option Value))) (fun x : Int32 × Int32 × Int32 × (Nat → Int32) × (Nat → Int32) × (Nat → Int32) × (Nat → Int32) × Int64 × Int64 × Int64 × Int64 × Int32 × Int32 × (Nat → Int64) × (Nat → Int64) × (Nat → Int64) × Int32 × Int32 => (fun z0 : Option Nat => ([(a1, .inr (1, [.ref a2, .ref a3, .ref a5])), (a2, .inr (2, [.ref a2_1, .ref a2_2, .int x.2.1, .ref a2_3, .ref a2_4, .int x.2.2.1, .int v_front, .int v_least, .int v_window])), (a2_1, .inl (Z.2 0, 8, .inl x.2.2.2.1)), (a2_2, .inl (Z.2 0, 8, .inl x.2.2.2.2.1)), (a2_3, .inl (Z.2 0, 4, .inl x.2.2.2.2.2.1)), (a2_4, .inl (Z.2 0, 4, .inl x.2.2.2.2.2.2.1)), (a4, .inr (4, [.ref a4_1, .ref a4_2, .ref a4_3, (va_rf z0), .long x.2.2.2.2.2.2.2.1, .long x.2.2.2.2.2.2.2.2.1, .long x.2.2.2.2.2.2.2.2.2.1, .long x.2.2.2.2.2.2.2.2.2.2.1, .int x.2.2.2.2.2.2.2.2.2.2.2.1, .int x.2.2.2.2.2.2.2.2.2.2.2.2.1])), (a4_1, .inl (Z.2 1, 1809, .inr (.inl x.2.2.2.2.2.2.2.2.2.2.2.2.2.1))), (a4_2, .inl (Z.2 1, 1809, .inr (.inl x.2.2.2.2.2.2.2.2.2.2.2.2.2.2.1))), (a4_3, .inl (Z.2 1, 201, .inr (.inl x.2.2.2.2.2.2.2.2.2.2.2.2.2.2.2.1))), (a6, .inr (8, [.ref a6_1, .int 0, .int x.2.2.2.2.2.2.2.2.2.2.2.2.2.2.2.2.1, .int x.2.2.2.2.2.2.2.2.2.2.2.2.2.2.2.2.2]))] : va_W))) o) (gXc Z A [(a1, .inr (1, [.ref a2, .ref a3, .ref a5])), (a2, .inr (2, [.ref a2_1, .ref a2_2, .int v_n, .ref a2_3, .ref a2_4, .int v_pulses, .int v_front, .int v_least, .int v_window])), (a2_1, .inl (Z.2 0, 8, .inl v_lengths)), (a2_2, .inl (Z.2 0, 8, .inl v_fractions)), (a2_3, .inl (Z.2 0, 4, .inl v_pulseTimes)), (a2_4, .inl (Z.2 0, 4, .inl v_pulseEnergies)), (a4, .inr (4, [.ref a4_1, .ref a4_2, .ref a4_3, (va_rf v_line), .long v_brought, .long v_left, .long v_dropped, .long v_away, .int v_mergings, .int v_drops])), (a4_1, .inl (Z.2 1, 1809, .inr (.inl v_fromNear))), (a4_2, .inl (Z.2 1, 1809, .inr (.inl v_fromFar))), (a4_3, .inl (Z.2 1, 201, .inr (.inl v_echoes)))] o) args s 6 36 A) [(a1, .inr (1, [.ref a2, .ref a3, .ref a5])), (a2, .inr (2, [.ref a2_1, .ref a2_2, .int v_n, .ref a2_3, .ref a2_4, .int v_pulses, .int v_front, .int v_least, .int v_window])), (a2_1, .inl (Z.2 0, 8, .inl v_lengths)), (a2_2, .inl (Z.2 0, 8, .inl v_fractions)), (a2_3, .inl (Z.2 0, 4, .inl v_pulseTimes)), (a2_4, .inl (Z.2 0, 4, .inl v_pulseEnergies)), (a4, .inr (4, [.ref a4_1, .ref a4_2, .ref a4_3, (va_rf v_line), .long v_brought, .long v_left, .long v_dropped, .long v_away, .int v_mergings, .int v_drops])), (a4_1, .inl (Z.2 1, 1809, .inr (.inl v_fromNear))), (a4_2, .inl (Z.2 1, 1809, .inr (.inl v_fromFar))), (a4_3, .inl (Z.2 1, 201, .inr (.inl v_echoes))), (a6, .inr (8, [.ref a6_1, .int 0, .int v_hash, .int v_hz]))] 0 0 186 [some (.ref a0), some (.ref a1), none, some (.int x3), some (.int x4), some (.int x5), none, some (.int x7)] [] := by
  unfold F_X1_carryOut_186 at h
  refine g_iload X rfl dX1_carryOut_186 188 rfl ?_
  by_cases hc0 : x7 = 0
  · replace h := if_t hc0 h
    refine g_tabIn X dX1_carryOut_188 232 0 hc0 (by decide) (by decide) rfl (by decide) ?_
    refine g_aload_n X rfl dX1_carryOut_232 233 rfl ?_
    refine g_iload_n X rfl dX1_carryOut_233 234 rfl ?_
    refine g_iload X rfl dX1_carryOut_234 236 rfl ?_
    rcases bc4_e h with ⟨k9, hcl, hg⟩ | ⟨r1, w2_n, w3_lengths, w4_fractions, hcl, h⟩
    · obtain rfl := Option.some.inj (show some (Sum.inr k9) = some _ from hg)
      exact g_xoV X (met_X2_addPart l hl Z a2 a2_1 a2_2 a2_3 a2_4 a1 a3 a5 v_n v_pulses v_front v_least v_window v_lengths v_fractions v_pulseTimes v_pulseEnergies x3 x4 _ hcl).thr [1, 2, 3, 4, 5] [0, 6, 7, 8, 9, 10] [0] (wr := [(a1, .inr (1, [.ref a2, .ref a3, .ref a5])), (a4, .inr (4, [.ref a4_1, .ref a4_2, .ref a4_3, (va_rf v_line), .long v_brought, .long v_left, .long v_dropped, .long v_away, .int v_mergings, .int v_drops])), (a4_1, .inl (Z.2 1, 1809, .inr (.inl v_fromNear))), (a4_2, .inl (Z.2 1, 1809, .inr (.inl v_fromFar))), (a4_3, .inl (Z.2 1, 201, .inr (.inl v_echoes))), (a6, .inr (8, [.ref a6_1, .int 0, .int v_hash, .int v_hz]))]) ⟨rfl, rfl, rfl, rfl, rfl, by decide, by decide⟩ 0 gC1 rfl rfl (lw_V q940 q941 q942 q70 q943) md_X2_addPart ⟨(Nat.le_of_ble_eq_true rfl), (Nat.le_of_ble_eq_true rfl)⟩ rfl dX1_carryOut_236 Xt [0, 6, 7, 8, 9, 10, 1, 2, 3, 4] (Nat.le_of_ble_eq_true rfl) (Nat.le_of_ble_eq_true rfl) (st := []) rfl (Nat.le_of_ble_eq_true rfl) rfl rfl (Nat.le_of_ble_eq_true rfl) (Nat.le_of_ble_eq_true rfl)
    refine g_callV1 X (met_X2_addPart l hl Z a2 a2_1 a2_2 a2_3 a2_4 a1 a3 a5 v_n v_pulses v_front v_least v_window v_lengths v_fractions v_pulseTimes v_pulseEnergies x3 x4 _ hcl).ret [1, 2, 3, 4, 5] [0, 6, 7, 8, 9, 10] [0] (wr := [(a1, .inr (1, [.ref a2, .ref a3, .ref a5])), (a4, .inr (4, [.ref a4_1, .ref a4_2, .ref a4_3, (va_rf v_line), .long v_brought, .long v_left, .long v_dropped, .long v_away, .int v_mergings, .int v_drops])), (a4_1, .inl (Z.2 1, 1809, .inr (.inl v_fromNear))), (a4_2, .inl (Z.2 1, 1809, .inr (.inl v_fromFar))), (a4_3, .inl (Z.2 1, 201, .inr (.inl v_echoes))), (a6, .inr (8, [.ref a6_1, .int 0, .int v_hash, .int v_hz]))]) ⟨rfl, rfl, rfl, rfl, rfl, by decide, by decide⟩ 0 gC1 rfl rfl (lw_V q940 q941 q942 q70 q943) md_X2_addPart ⟨(Nat.le_of_ble_eq_true rfl), (Nat.le_of_ble_eq_true rfl)⟩ rfl dX1_carryOut_236 239 rfl 2 12 rfl rfl (Nat.le_of_ble_eq_true rfl) (Nat.le_of_ble_eq_true rfl) (st := []) rfl (Nat.le_of_ble_eq_true rfl) (fun _ => rfl) (fun _ => ?_)
    refine g_wd [(a1, .inr (1, [.ref a2, .ref a3, .ref a5])), (a4, .inr (4, [.ref a4_1, .ref a4_2, .ref a4_3, (va_rf v_line), .long v_brought, .long v_left, .long v_dropped, .long v_away, .int v_mergings, .int v_drops])), (a4_1, .inl (Z.2 1, 1809, .inr (.inl v_fromNear))), (a4_2, .inl (Z.2 1, 1809, .inr (.inl v_fromFar))), (a4_3, .inl (Z.2 1, 201, .inr (.inl v_echoes))), (a6, .inr (8, [.ref a6_1, .int 0, .int v_hash, .int v_hz])), (a2, .inr (2, [.ref a2_1, .ref a2_2, .int w2_n, .ref a2_3, .ref a2_4, .int v_pulses, .int v_front, .int v_least, .int v_window])), (a2_1, .inl (Z.2 0, 8, .inl w3_lengths)), (a2_2, .inl (Z.2 0, 8, .inl w4_fractions)), (a2_3, .inl (Z.2 0, 4, .inl v_pulseTimes)), (a2_4, .inl (Z.2 0, 4, .inl v_pulseEnergies))] rfl ?_
    refine g_keep [0, 6, 7, 8, 9, 10, 1, 2, 3, 4, 5] [(a1, .inr (1, [.ref a2, .ref a3, .ref a5])), (a2, .inr (2, [.ref a2_1, .ref a2_2, .int w2_n, .ref a2_3, .ref a2_4, .int v_pulses, .int v_front, .int v_least, .int v_window])), (a2_1, .inl (Z.2 0, 8, .inl w3_lengths)), (a2_2, .inl (Z.2 0, 8, .inl w4_fractions)), (a2_3, .inl (Z.2 0, 4, .inl v_pulseTimes)), (a2_4, .inl (Z.2 0, 4, .inl v_pulseEnergies)), (a4, .inr (4, [.ref a4_1, .ref a4_2, .ref a4_3, (va_rf v_line), .long v_brought, .long v_left, .long v_dropped, .long v_away, .int v_mergings, .int v_drops])), (a4_1, .inl (Z.2 1, 1809, .inr (.inl v_fromNear))), (a4_2, .inl (Z.2 1, 1809, .inr (.inl v_fromFar))), (a4_3, .inl (Z.2 1, 201, .inr (.inl v_echoes))), (a6, .inr (8, [.ref a6_1, .int 0, .int v_hash, .int v_hz]))] rfl rfl ?_
    obtain rfl := Option.some.inj h
    exact g_retI (g_iret X dX1_carryOut_239 v_line rfl rfl (Nat.le_of_ble_eq_true rfl) (Nat.le_of_ble_eq_true rfl))
  replace h := if_f hc0 h
  by_cases hc1 : x7 = 1
  · replace h := if_t hc1 h
    refine g_tabIn X dX1_carryOut_188 240 1 hc1 (by decide) (by decide) rfl (by decide) ?_
    refine g_aload_n X rfl dX1_carryOut_240 241 rfl ?_
    refine g_iload_n X rfl dX1_carryOut_241 242 rfl ?_
    refine g_iload X rfl dX1_carryOut_242 244 rfl ?_
    refine g_iload X rfl dX1_carryOut_244 246 rfl ?_
    rcases bc3_e h with ⟨k9, hcl, hg⟩ | ⟨r5, w6_lengths, w7_fractions, hcl, h⟩
    · obtain rfl := Option.some.inj (show some (Sum.inr k9) = some _ from hg)
      exact g_xoV X (met_X2_setPart l hl Z a2 a2_1 a2_2 a2_3 a2_4 a1 a3 a5 v_n v_pulses v_front v_least v_window v_lengths v_fractions v_pulseTimes v_pulseEnergies x3 x4 x5 _ hcl).thr [1, 2, 3, 4, 5] [0, 6, 7, 8, 9, 10] [0] (wr := [(a1, .inr (1, [.ref a2, .ref a3, .ref a5])), (a4, .inr (4, [.ref a4_1, .ref a4_2, .ref a4_3, (va_rf v_line), .long v_brought, .long v_left, .long v_dropped, .long v_away, .int v_mergings, .int v_drops])), (a4_1, .inl (Z.2 1, 1809, .inr (.inl v_fromNear))), (a4_2, .inl (Z.2 1, 1809, .inr (.inl v_fromFar))), (a4_3, .inl (Z.2 1, 201, .inr (.inl v_echoes))), (a6, .inr (8, [.ref a6_1, .int 0, .int v_hash, .int v_hz]))]) ⟨rfl, rfl, rfl, rfl, rfl, by decide, by decide⟩ 0 gC1 rfl rfl (lw_V q978 q979 q980 q70 q981) md_X2_setPart ⟨(Nat.le_of_ble_eq_true rfl), (Nat.le_of_ble_eq_true rfl)⟩ rfl dX1_carryOut_246 Xt [0, 6, 7, 8, 9, 10, 1, 2, 3, 4] (Nat.le_of_ble_eq_true rfl) (Nat.le_of_ble_eq_true rfl) (st := []) rfl (Nat.le_of_ble_eq_true rfl) rfl rfl (Nat.le_of_ble_eq_true rfl) (Nat.le_of_ble_eq_true rfl)
    refine g_callV1 X (met_X2_setPart l hl Z a2 a2_1 a2_2 a2_3 a2_4 a1 a3 a5 v_n v_pulses v_front v_least v_window v_lengths v_fractions v_pulseTimes v_pulseEnergies x3 x4 x5 _ hcl).ret [1, 2, 3, 4, 5] [0, 6, 7, 8, 9, 10] [0] (wr := [(a1, .inr (1, [.ref a2, .ref a3, .ref a5])), (a4, .inr (4, [.ref a4_1, .ref a4_2, .ref a4_3, (va_rf v_line), .long v_brought, .long v_left, .long v_dropped, .long v_away, .int v_mergings, .int v_drops])), (a4_1, .inl (Z.2 1, 1809, .inr (.inl v_fromNear))), (a4_2, .inl (Z.2 1, 1809, .inr (.inl v_fromFar))), (a4_3, .inl (Z.2 1, 201, .inr (.inl v_echoes))), (a6, .inr (8, [.ref a6_1, .int 0, .int v_hash, .int v_hz]))]) ⟨rfl, rfl, rfl, rfl, rfl, by decide, by decide⟩ 0 gC1 rfl rfl (lw_V q978 q979 q980 q70 q981) md_X2_setPart ⟨(Nat.le_of_ble_eq_true rfl), (Nat.le_of_ble_eq_true rfl)⟩ rfl dX1_carryOut_246 249 rfl 2 12 rfl rfl (Nat.le_of_ble_eq_true rfl) (Nat.le_of_ble_eq_true rfl) (st := []) rfl (Nat.le_of_ble_eq_true rfl) (fun _ => rfl) (fun _ => ?_)
    refine g_wd [(a1, .inr (1, [.ref a2, .ref a3, .ref a5])), (a4, .inr (4, [.ref a4_1, .ref a4_2, .ref a4_3, (va_rf v_line), .long v_brought, .long v_left, .long v_dropped, .long v_away, .int v_mergings, .int v_drops])), (a4_1, .inl (Z.2 1, 1809, .inr (.inl v_fromNear))), (a4_2, .inl (Z.2 1, 1809, .inr (.inl v_fromFar))), (a4_3, .inl (Z.2 1, 201, .inr (.inl v_echoes))), (a6, .inr (8, [.ref a6_1, .int 0, .int v_hash, .int v_hz])), (a2, .inr (2, [.ref a2_1, .ref a2_2, .int v_n, .ref a2_3, .ref a2_4, .int v_pulses, .int v_front, .int v_least, .int v_window])), (a2_1, .inl (Z.2 0, 8, .inl w6_lengths)), (a2_2, .inl (Z.2 0, 8, .inl w7_fractions)), (a2_3, .inl (Z.2 0, 4, .inl v_pulseTimes)), (a2_4, .inl (Z.2 0, 4, .inl v_pulseEnergies))] rfl ?_
    refine g_keep [0, 6, 7, 8, 9, 10, 1, 2, 3, 4, 5] [(a1, .inr (1, [.ref a2, .ref a3, .ref a5])), (a2, .inr (2, [.ref a2_1, .ref a2_2, .int v_n, .ref a2_3, .ref a2_4, .int v_pulses, .int v_front, .int v_least, .int v_window])), (a2_1, .inl (Z.2 0, 8, .inl w6_lengths)), (a2_2, .inl (Z.2 0, 8, .inl w7_fractions)), (a2_3, .inl (Z.2 0, 4, .inl v_pulseTimes)), (a2_4, .inl (Z.2 0, 4, .inl v_pulseEnergies)), (a4, .inr (4, [.ref a4_1, .ref a4_2, .ref a4_3, (va_rf v_line), .long v_brought, .long v_left, .long v_dropped, .long v_away, .int v_mergings, .int v_drops])), (a4_1, .inl (Z.2 1, 1809, .inr (.inl v_fromNear))), (a4_2, .inl (Z.2 1, 1809, .inr (.inl v_fromFar))), (a4_3, .inl (Z.2 1, 201, .inr (.inl v_echoes))), (a6, .inr (8, [.ref a6_1, .int 0, .int v_hash, .int v_hz]))] rfl rfl ?_
    obtain rfl := Option.some.inj h
    exact g_retI (g_iret X dX1_carryOut_249 v_line rfl rfl (Nat.le_of_ble_eq_true rfl) (Nat.le_of_ble_eq_true rfl))
  replace h := if_f hc1 h
  by_cases hc2 : x7 = 2
  · replace h := if_t hc2 h
    refine g_tabIn X dX1_carryOut_188 250 2 hc2 (by decide) (by decide) rfl (by decide) ?_
    refine g_aload_n X rfl dX1_carryOut_250 251 rfl ?_
    refine g_iload_n X rfl dX1_carryOut_251 252 rfl ?_
    rcases bc4_e h with ⟨k9, hcl, hg⟩ | ⟨r8, w9_n, w10_lengths, w11_fractions, hcl, h⟩
    · obtain rfl := Option.some.inj (show some (Sum.inr k9) = some _ from hg)
      exact g_xoV X (met_X2_removePart l hl Z a2 a2_1 a2_2 a2_3 a2_4 a1 a3 a5 v_n v_pulses v_front v_least v_window v_lengths v_fractions v_pulseTimes v_pulseEnergies x3 _ hcl).thr [1, 2, 3, 4, 5] [0, 6, 7, 8, 9, 10] [0] (wr := [(a1, .inr (1, [.ref a2, .ref a3, .ref a5])), (a4, .inr (4, [.ref a4_1, .ref a4_2, .ref a4_3, (va_rf v_line), .long v_brought, .long v_left, .long v_dropped, .long v_away, .int v_mergings, .int v_drops])), (a4_1, .inl (Z.2 1, 1809, .inr (.inl v_fromNear))), (a4_2, .inl (Z.2 1, 1809, .inr (.inl v_fromFar))), (a4_3, .inl (Z.2 1, 201, .inr (.inl v_echoes))), (a6, .inr (8, [.ref a6_1, .int 0, .int v_hash, .int v_hz]))]) ⟨rfl, rfl, rfl, rfl, rfl, by decide, by decide⟩ 0 gC1 rfl rfl (lw_V q1001 q1002 q1003 q70 q1004) md_X2_removePart ⟨(Nat.le_of_ble_eq_true rfl), (Nat.le_of_ble_eq_true rfl)⟩ rfl dX1_carryOut_252 Xt [0, 6, 7, 8, 9, 10, 1, 2, 3, 4] (Nat.le_of_ble_eq_true rfl) (Nat.le_of_ble_eq_true rfl) (st := []) rfl (Nat.le_of_ble_eq_true rfl) rfl rfl (Nat.le_of_ble_eq_true rfl) (Nat.le_of_ble_eq_true rfl)
    refine g_callV1 X (met_X2_removePart l hl Z a2 a2_1 a2_2 a2_3 a2_4 a1 a3 a5 v_n v_pulses v_front v_least v_window v_lengths v_fractions v_pulseTimes v_pulseEnergies x3 _ hcl).ret [1, 2, 3, 4, 5] [0, 6, 7, 8, 9, 10] [0] (wr := [(a1, .inr (1, [.ref a2, .ref a3, .ref a5])), (a4, .inr (4, [.ref a4_1, .ref a4_2, .ref a4_3, (va_rf v_line), .long v_brought, .long v_left, .long v_dropped, .long v_away, .int v_mergings, .int v_drops])), (a4_1, .inl (Z.2 1, 1809, .inr (.inl v_fromNear))), (a4_2, .inl (Z.2 1, 1809, .inr (.inl v_fromFar))), (a4_3, .inl (Z.2 1, 201, .inr (.inl v_echoes))), (a6, .inr (8, [.ref a6_1, .int 0, .int v_hash, .int v_hz]))]) ⟨rfl, rfl, rfl, rfl, rfl, by decide, by decide⟩ 0 gC1 rfl rfl (lw_V q1001 q1002 q1003 q70 q1004) md_X2_removePart ⟨(Nat.le_of_ble_eq_true rfl), (Nat.le_of_ble_eq_true rfl)⟩ rfl dX1_carryOut_252 255 rfl 1 6 rfl rfl (Nat.le_of_ble_eq_true rfl) (Nat.le_of_ble_eq_true rfl) (st := []) rfl (Nat.le_of_ble_eq_true rfl) (fun _ => rfl) (fun _ => ?_)
    refine g_wd [(a1, .inr (1, [.ref a2, .ref a3, .ref a5])), (a4, .inr (4, [.ref a4_1, .ref a4_2, .ref a4_3, (va_rf v_line), .long v_brought, .long v_left, .long v_dropped, .long v_away, .int v_mergings, .int v_drops])), (a4_1, .inl (Z.2 1, 1809, .inr (.inl v_fromNear))), (a4_2, .inl (Z.2 1, 1809, .inr (.inl v_fromFar))), (a4_3, .inl (Z.2 1, 201, .inr (.inl v_echoes))), (a6, .inr (8, [.ref a6_1, .int 0, .int v_hash, .int v_hz])), (a2, .inr (2, [.ref a2_1, .ref a2_2, .int w9_n, .ref a2_3, .ref a2_4, .int v_pulses, .int v_front, .int v_least, .int v_window])), (a2_1, .inl (Z.2 0, 8, .inl w10_lengths)), (a2_2, .inl (Z.2 0, 8, .inl w11_fractions)), (a2_3, .inl (Z.2 0, 4, .inl v_pulseTimes)), (a2_4, .inl (Z.2 0, 4, .inl v_pulseEnergies))] rfl ?_
    refine g_keep [0, 6, 7, 8, 9, 10, 1, 2, 3, 4, 5] [(a1, .inr (1, [.ref a2, .ref a3, .ref a5])), (a2, .inr (2, [.ref a2_1, .ref a2_2, .int w9_n, .ref a2_3, .ref a2_4, .int v_pulses, .int v_front, .int v_least, .int v_window])), (a2_1, .inl (Z.2 0, 8, .inl w10_lengths)), (a2_2, .inl (Z.2 0, 8, .inl w11_fractions)), (a2_3, .inl (Z.2 0, 4, .inl v_pulseTimes)), (a2_4, .inl (Z.2 0, 4, .inl v_pulseEnergies)), (a4, .inr (4, [.ref a4_1, .ref a4_2, .ref a4_3, (va_rf v_line), .long v_brought, .long v_left, .long v_dropped, .long v_away, .int v_mergings, .int v_drops])), (a4_1, .inl (Z.2 1, 1809, .inr (.inl v_fromNear))), (a4_2, .inl (Z.2 1, 1809, .inr (.inl v_fromFar))), (a4_3, .inl (Z.2 1, 201, .inr (.inl v_echoes))), (a6, .inr (8, [.ref a6_1, .int 0, .int v_hash, .int v_hz]))] rfl rfl ?_
    obtain rfl := Option.some.inj h
    exact g_retI (g_iret X dX1_carryOut_255 v_line rfl rfl (Nat.le_of_ble_eq_true rfl) (Nat.le_of_ble_eq_true rfl))
  replace h := if_f hc2 h
  by_cases hc3 : x7 = 3
  · replace h := if_t hc3 h
    refine g_tabIn X dX1_carryOut_188 256 3 hc3 (by decide) (by decide) rfl (by decide) ?_
    refine g_aload_n X rfl dX1_carryOut_256 257 rfl ?_
    refine g_iload_n X rfl dX1_carryOut_257 258 rfl ?_
    refine g_iload X rfl dX1_carryOut_258 260 rfl ?_
    refine g_iload X rfl dX1_carryOut_260 262 rfl ?_
    rcases bc4_e h with ⟨k9, hcl, hg⟩ | ⟨r12, w13_n, w14_lengths, w15_fractions, hcl, h⟩
    · obtain rfl := Option.some.inj (show some (Sum.inr k9) = some _ from hg)
      exact g_xoV X (met_X2_splitPart l hl Z a2 a2_1 a2_2 a2_3 a2_4 a1 a3 a5 v_n v_pulses v_front v_least v_window v_lengths v_fractions v_pulseTimes v_pulseEnergies x3 x4 x5 _ hcl).thr [1, 2, 3, 4, 5] [0, 6, 7, 8, 9, 10] [0] (wr := [(a1, .inr (1, [.ref a2, .ref a3, .ref a5])), (a4, .inr (4, [.ref a4_1, .ref a4_2, .ref a4_3, (va_rf v_line), .long v_brought, .long v_left, .long v_dropped, .long v_away, .int v_mergings, .int v_drops])), (a4_1, .inl (Z.2 1, 1809, .inr (.inl v_fromNear))), (a4_2, .inl (Z.2 1, 1809, .inr (.inl v_fromFar))), (a4_3, .inl (Z.2 1, 201, .inr (.inl v_echoes))), (a6, .inr (8, [.ref a6_1, .int 0, .int v_hash, .int v_hz]))]) ⟨rfl, rfl, rfl, rfl, rfl, by decide, by decide⟩ 0 gC1 rfl rfl (lw_V q1006 q1007 q1008 q70 q1009) md_X2_splitPart ⟨(Nat.le_of_ble_eq_true rfl), (Nat.le_of_ble_eq_true rfl)⟩ rfl dX1_carryOut_262 Xt [0, 6, 7, 8, 9, 10, 1, 2, 3, 4] (Nat.le_of_ble_eq_true rfl) (Nat.le_of_ble_eq_true rfl) (st := []) rfl (Nat.le_of_ble_eq_true rfl) rfl rfl (Nat.le_of_ble_eq_true rfl) (Nat.le_of_ble_eq_true rfl)
    refine g_callV1 X (met_X2_splitPart l hl Z a2 a2_1 a2_2 a2_3 a2_4 a1 a3 a5 v_n v_pulses v_front v_least v_window v_lengths v_fractions v_pulseTimes v_pulseEnergies x3 x4 x5 _ hcl).ret [1, 2, 3, 4, 5] [0, 6, 7, 8, 9, 10] [0] (wr := [(a1, .inr (1, [.ref a2, .ref a3, .ref a5])), (a4, .inr (4, [.ref a4_1, .ref a4_2, .ref a4_3, (va_rf v_line), .long v_brought, .long v_left, .long v_dropped, .long v_away, .int v_mergings, .int v_drops])), (a4_1, .inl (Z.2 1, 1809, .inr (.inl v_fromNear))), (a4_2, .inl (Z.2 1, 1809, .inr (.inl v_fromFar))), (a4_3, .inl (Z.2 1, 201, .inr (.inl v_echoes))), (a6, .inr (8, [.ref a6_1, .int 0, .int v_hash, .int v_hz]))]) ⟨rfl, rfl, rfl, rfl, rfl, by decide, by decide⟩ 0 gC1 rfl rfl (lw_V q1006 q1007 q1008 q70 q1009) md_X2_splitPart ⟨(Nat.le_of_ble_eq_true rfl), (Nat.le_of_ble_eq_true rfl)⟩ rfl dX1_carryOut_262 265 rfl 3 18 rfl rfl (Nat.le_of_ble_eq_true rfl) (Nat.le_of_ble_eq_true rfl) (st := []) rfl (Nat.le_of_ble_eq_true rfl) (fun _ => rfl) (fun _ => ?_)
    refine g_wd [(a1, .inr (1, [.ref a2, .ref a3, .ref a5])), (a4, .inr (4, [.ref a4_1, .ref a4_2, .ref a4_3, (va_rf v_line), .long v_brought, .long v_left, .long v_dropped, .long v_away, .int v_mergings, .int v_drops])), (a4_1, .inl (Z.2 1, 1809, .inr (.inl v_fromNear))), (a4_2, .inl (Z.2 1, 1809, .inr (.inl v_fromFar))), (a4_3, .inl (Z.2 1, 201, .inr (.inl v_echoes))), (a6, .inr (8, [.ref a6_1, .int 0, .int v_hash, .int v_hz])), (a2, .inr (2, [.ref a2_1, .ref a2_2, .int w13_n, .ref a2_3, .ref a2_4, .int v_pulses, .int v_front, .int v_least, .int v_window])), (a2_1, .inl (Z.2 0, 8, .inl w14_lengths)), (a2_2, .inl (Z.2 0, 8, .inl w15_fractions)), (a2_3, .inl (Z.2 0, 4, .inl v_pulseTimes)), (a2_4, .inl (Z.2 0, 4, .inl v_pulseEnergies))] rfl ?_
    refine g_keep [0, 6, 7, 8, 9, 10, 1, 2, 3, 4, 5] [(a1, .inr (1, [.ref a2, .ref a3, .ref a5])), (a2, .inr (2, [.ref a2_1, .ref a2_2, .int w13_n, .ref a2_3, .ref a2_4, .int v_pulses, .int v_front, .int v_least, .int v_window])), (a2_1, .inl (Z.2 0, 8, .inl w14_lengths)), (a2_2, .inl (Z.2 0, 8, .inl w15_fractions)), (a2_3, .inl (Z.2 0, 4, .inl v_pulseTimes)), (a2_4, .inl (Z.2 0, 4, .inl v_pulseEnergies)), (a4, .inr (4, [.ref a4_1, .ref a4_2, .ref a4_3, (va_rf v_line), .long v_brought, .long v_left, .long v_dropped, .long v_away, .int v_mergings, .int v_drops])), (a4_1, .inl (Z.2 1, 1809, .inr (.inl v_fromNear))), (a4_2, .inl (Z.2 1, 1809, .inr (.inl v_fromFar))), (a4_3, .inl (Z.2 1, 201, .inr (.inl v_echoes))), (a6, .inr (8, [.ref a6_1, .int 0, .int v_hash, .int v_hz]))] rfl rfl ?_
    obtain rfl := Option.some.inj h
    exact g_retI (g_iret X dX1_carryOut_265 v_line rfl rfl (Nat.le_of_ble_eq_true rfl) (Nat.le_of_ble_eq_true rfl))
  replace h := if_f hc3 h
  by_cases hc4 : x7 = 4
  · replace h := if_t hc4 h
    refine g_tabIn X dX1_carryOut_188 266 4 hc4 (by decide) (by decide) rfl (by decide) ?_
    refine g_aload_n X rfl dX1_carryOut_266 267 rfl ?_
    refine g_iload_n X rfl dX1_carryOut_267 268 rfl ?_
    refine g_iload X rfl dX1_carryOut_268 270 rfl ?_
    rcases bc4_e h with ⟨k9, hcl, hg⟩ | ⟨r16, w17_pulses, w18_pulseTimes, w19_pulseEnergies, hcl, h⟩
    · obtain rfl := Option.some.inj (show some (Sum.inr k9) = some _ from hg)
      exact g_xoV X (met_X2_addPulse l hl Z a2 a2_1 a2_2 a2_3 a2_4 a1 a3 a5 v_n v_pulses v_front v_least v_window v_lengths v_fractions v_pulseTimes v_pulseEnergies x3 x4 _ hcl).thr [1, 2, 3, 4, 5] [0, 6, 7, 8, 9, 10] [0] (wr := [(a1, .inr (1, [.ref a2, .ref a3, .ref a5])), (a4, .inr (4, [.ref a4_1, .ref a4_2, .ref a4_3, (va_rf v_line), .long v_brought, .long v_left, .long v_dropped, .long v_away, .int v_mergings, .int v_drops])), (a4_1, .inl (Z.2 1, 1809, .inr (.inl v_fromNear))), (a4_2, .inl (Z.2 1, 1809, .inr (.inl v_fromFar))), (a4_3, .inl (Z.2 1, 201, .inr (.inl v_echoes))), (a6, .inr (8, [.ref a6_1, .int 0, .int v_hash, .int v_hz]))]) ⟨rfl, rfl, rfl, rfl, rfl, by decide, by decide⟩ 0 gC1 rfl rfl (lw_V q1011 q1012 q1013 q70 q1014) md_X2_addPulse ⟨(Nat.le_of_ble_eq_true rfl), (Nat.le_of_ble_eq_true rfl)⟩ rfl dX1_carryOut_270 Xt [0, 6, 7, 8, 9, 10, 1, 2, 3, 4] (Nat.le_of_ble_eq_true rfl) (Nat.le_of_ble_eq_true rfl) (st := []) rfl (Nat.le_of_ble_eq_true rfl) rfl rfl (Nat.le_of_ble_eq_true rfl) (Nat.le_of_ble_eq_true rfl)
    refine g_callV1 X (met_X2_addPulse l hl Z a2 a2_1 a2_2 a2_3 a2_4 a1 a3 a5 v_n v_pulses v_front v_least v_window v_lengths v_fractions v_pulseTimes v_pulseEnergies x3 x4 _ hcl).ret [1, 2, 3, 4, 5] [0, 6, 7, 8, 9, 10] [0] (wr := [(a1, .inr (1, [.ref a2, .ref a3, .ref a5])), (a4, .inr (4, [.ref a4_1, .ref a4_2, .ref a4_3, (va_rf v_line), .long v_brought, .long v_left, .long v_dropped, .long v_away, .int v_mergings, .int v_drops])), (a4_1, .inl (Z.2 1, 1809, .inr (.inl v_fromNear))), (a4_2, .inl (Z.2 1, 1809, .inr (.inl v_fromFar))), (a4_3, .inl (Z.2 1, 201, .inr (.inl v_echoes))), (a6, .inr (8, [.ref a6_1, .int 0, .int v_hash, .int v_hz]))]) ⟨rfl, rfl, rfl, rfl, rfl, by decide, by decide⟩ 0 gC1 rfl rfl (lw_V q1011 q1012 q1013 q70 q1014) md_X2_addPulse ⟨(Nat.le_of_ble_eq_true rfl), (Nat.le_of_ble_eq_true rfl)⟩ rfl dX1_carryOut_270 273 rfl 2 12 rfl rfl (Nat.le_of_ble_eq_true rfl) (Nat.le_of_ble_eq_true rfl) (st := []) rfl (Nat.le_of_ble_eq_true rfl) (fun _ => rfl) (fun _ => ?_)
    refine g_wd [(a1, .inr (1, [.ref a2, .ref a3, .ref a5])), (a4, .inr (4, [.ref a4_1, .ref a4_2, .ref a4_3, (va_rf v_line), .long v_brought, .long v_left, .long v_dropped, .long v_away, .int v_mergings, .int v_drops])), (a4_1, .inl (Z.2 1, 1809, .inr (.inl v_fromNear))), (a4_2, .inl (Z.2 1, 1809, .inr (.inl v_fromFar))), (a4_3, .inl (Z.2 1, 201, .inr (.inl v_echoes))), (a6, .inr (8, [.ref a6_1, .int 0, .int v_hash, .int v_hz])), (a2, .inr (2, [.ref a2_1, .ref a2_2, .int v_n, .ref a2_3, .ref a2_4, .int w17_pulses, .int v_front, .int v_least, .int v_window])), (a2_1, .inl (Z.2 0, 8, .inl v_lengths)), (a2_2, .inl (Z.2 0, 8, .inl v_fractions)), (a2_3, .inl (Z.2 0, 4, .inl w18_pulseTimes)), (a2_4, .inl (Z.2 0, 4, .inl w19_pulseEnergies))] rfl ?_
    refine g_keep [0, 6, 7, 8, 9, 10, 1, 2, 3, 4, 5] [(a1, .inr (1, [.ref a2, .ref a3, .ref a5])), (a2, .inr (2, [.ref a2_1, .ref a2_2, .int v_n, .ref a2_3, .ref a2_4, .int w17_pulses, .int v_front, .int v_least, .int v_window])), (a2_1, .inl (Z.2 0, 8, .inl v_lengths)), (a2_2, .inl (Z.2 0, 8, .inl v_fractions)), (a2_3, .inl (Z.2 0, 4, .inl w18_pulseTimes)), (a2_4, .inl (Z.2 0, 4, .inl w19_pulseEnergies)), (a4, .inr (4, [.ref a4_1, .ref a4_2, .ref a4_3, (va_rf v_line), .long v_brought, .long v_left, .long v_dropped, .long v_away, .int v_mergings, .int v_drops])), (a4_1, .inl (Z.2 1, 1809, .inr (.inl v_fromNear))), (a4_2, .inl (Z.2 1, 1809, .inr (.inl v_fromFar))), (a4_3, .inl (Z.2 1, 201, .inr (.inl v_echoes))), (a6, .inr (8, [.ref a6_1, .int 0, .int v_hash, .int v_hz]))] rfl rfl ?_
    obtain rfl := Option.some.inj h
    exact g_retI (g_iret X dX1_carryOut_273 v_line rfl rfl (Nat.le_of_ble_eq_true rfl) (Nat.le_of_ble_eq_true rfl))
  replace h := if_f hc4 h
  by_cases hc5 : x7 = 5
  · replace h := if_t hc5 h
    refine g_tabIn X dX1_carryOut_188 274 5 hc5 (by decide) (by decide) rfl (by decide) ?_
    cases h
  replace h := if_f hc5 h
  by_cases hc6 : x7 = 6
  · replace h := if_t hc6 h
    refine g_tabIn X dX1_carryOut_188 283 6 hc6 (by decide) (by decide) rfl (by decide) ?_
    cases h
  replace h := if_f hc6 h
  refine g_tabOut X dX1_carryOut_188 292 (g_rng (lo := 0) (n := 7) (fun i hi => match i, hi with | 0, _ => lv_neT hc0 (by decide) | 1, _ => lv_neT hc1 (by decide) | 2, _ => lv_neT hc2 (by decide) | 3, _ => lv_neT hc3 (by decide) | 4, _ => lv_neT hc4 (by decide) | 5, _ => lv_neT hc5 (by decide) | 6, _ => lv_neT hc6 (by decide) | n + 7, hi => absurd hi (by omega)) (by decide)) (by decide) ?_
  refine g_aload_n X rfl dX1_carryOut_292 293 rfl ?_
  refine g_aload_n X rfl dX1_carryOut_293 294 rfl ?_
  refine g_getR X gC0 0 rfl 5 (by decide) q248 (fun _ h9 => h9) rfl dX1_carryOut_294 297 rfl ?_
  obtain ⟨r20, w21_n, w22_lengths, w23_fractions, w24_brought, w25_left, w26_dropped, w27_away, w28_mergings, w29_drops, w30_fromNear, w31_fromFar, w32_echoes, hcl, h⟩ := bd13_e h
  refine g_callV1 X (met_X2_adopt l Z a2 a2_1 a2_2 a2_3 a2_4 a4 a4_1 a4_2 a4_3 a1 a5 a5_1 a3 v_n v_pulses v_front v_least v_window v_lengths v_fractions v_pulseTimes v_pulseEnergies v_line v_brought v_left v_dropped v_away v_mergings v_drops v_fromNear v_fromFar v_echoes v_o_energies  r20 w21_n w22_lengths w23_fractions w24_brought w25_left w26_dropped w27_away w28_mergings w29_drops w30_fromNear w31_fromFar w32_echoes hcl) [1, 2, 3, 4, 5, 6, 7, 8, 9] [0, 10] [0, 13, 14] (wr := [(a1, .inr (1, [.ref a2, .ref a3, .ref a5])), (a6, .inr (8, [.ref a6_1, .int 0, .int v_hash, .int v_hz]))]) ⟨rfl, rfl, rfl, rfl, rfl, by decide, by decide⟩ 0 gC1 rfl rfl (lw_V q380 q381 q382 q70 q383) md_X2_adopt ⟨(Nat.le_of_ble_eq_true rfl), (Nat.le_of_ble_eq_true rfl)⟩ rfl dX1_carryOut_297 300 rfl 6 36 rfl rfl (Nat.le_of_ble_eq_true rfl) (Nat.le_of_ble_eq_true rfl) (st := []) rfl (Nat.le_of_ble_eq_true rfl) (fun _ => rfl) (fun z33 => ?_)
  refine g_wd [(a1, .inr (1, [.ref a2, .ref a3, .ref a5])), (a6, .inr (8, [.ref a6_1, .int 0, .int v_hash, .int v_hz])), (a2, .inr (2, [.ref a2_1, .ref a2_2, .int w21_n, .ref a2_3, .ref a2_4, .int v_pulses, .int v_front, .int v_least, .int v_window])), (a2_1, .inl (Z.2 0, 8, .inl w22_lengths)), (a2_2, .inl (Z.2 0, 8, .inl w23_fractions)), (a2_3, .inl (Z.2 0, 4, .inl v_pulseTimes)), (a2_4, .inl (Z.2 0, 4, .inl v_pulseEnergies)), (a4, .inr (4, [.ref a4_1, .ref a4_2, .ref a4_3, (va_rf z33), .long w24_brought, .long w25_left, .long w26_dropped, .long w27_away, .int w28_mergings, .int w29_drops])), (a4_1, .inl (Z.2 1, 1809, .inr (.inl w30_fromNear))), (a4_2, .inl (Z.2 1, 1809, .inr (.inl w31_fromFar))), (a4_3, .inl (Z.2 1, 201, .inr (.inl w32_echoes)))] rfl ?_
  refine g_keep [0, 2, 3, 4, 5, 6, 7, 8, 9, 10, 1] [(a1, .inr (1, [.ref a2, .ref a3, .ref a5])), (a2, .inr (2, [.ref a2_1, .ref a2_2, .int w21_n, .ref a2_3, .ref a2_4, .int v_pulses, .int v_front, .int v_least, .int v_window])), (a2_1, .inl (Z.2 0, 8, .inl w22_lengths)), (a2_2, .inl (Z.2 0, 8, .inl w23_fractions)), (a2_3, .inl (Z.2 0, 4, .inl v_pulseTimes)), (a2_4, .inl (Z.2 0, 4, .inl v_pulseEnergies)), (a4, .inr (4, [.ref a4_1, .ref a4_2, .ref a4_3, (va_rf z33), .long w24_brought, .long w25_left, .long w26_dropped, .long w27_away, .int w28_mergings, .int w29_drops])), (a4_1, .inl (Z.2 1, 1809, .inr (.inl w30_fromNear))), (a4_2, .inl (Z.2 1, 1809, .inr (.inl w31_fromFar))), (a4_3, .inl (Z.2 1, 201, .inr (.inl w32_echoes))), (a6, .inr (8, [.ref a6_1, .int 0, .int v_hash, .int v_hz]))] rfl rfl ?_
  obtain rfl := Option.some.inj h
  exact g_retI (g_iret X dX1_carryOut_300 z33 rfl rfl (Nat.le_of_ble_eq_true rfl) (Nat.le_of_ble_eq_true rfl))
theorem met_X1_carryOut (l : Launch) (hl : l.stackTraces = false) (Z : gZt) (a1 : Nat) (a2 : Nat) (a2_1 : Nat) (a2_2 : Nat) (a2_3 : Nat) (a2_4 : Nat) (a4 : Nat) (a4_1 : Nat) (a4_2 : Nat) (a4_3 : Nat) (a6 : Nat) (a0 : Nat) (a6_1 : Nat) (a5 : Nat) (a5_1 : Nat) (a3 : Nat) (a9 : Nat) (a7 : Nat) (a8 : Nat) (v_n : Int32) (v_pulses : Int32) (v_front : Int32) (v_least : Int32) (v_window : Int32) (v_lengths : Nat → Int32) (v_fractions : Nat → Int32) (v_pulseTimes : Nat → Int32) (v_pulseEnergies : Nat → Int32) (v_line : Option Nat) (v_brought : Int64) (v_left : Int64) (v_dropped : Int64) (v_away : Int64) (v_mergings : Int32) (v_drops : Int32) (v_fromNear : Nat → Int64) (v_fromFar : Nat → Int64) (v_echoes : Nat → Int64) (v_hash : Int32) (v_hz : Int32) (v_depth : Int32) (v_scriptLength : Int32) (v_sb : Nat → Int32) (v_slen : Nat) (v_o_energies : Nat → Int64) (x3 : Int32) (x4 : Int32) (x5 : Int32) (o : (Int32 × Int32 × Int32 × (Nat → Int32) × (Nat → Int32) × (Nat → Int32) × (Nat → Int32) × Int64 × Int64 × Int64 × Int64 × Int32 × Int32 × (Nat → Int64) × (Nat → Int64) × (Nat → Int64) × Int32 × Int32) ⊕ Nat) (h : F_X1_carryOut v_n v_pulses v_front v_least v_window v_lengths v_fractions v_pulseTimes v_pulseEnergies v_brought v_left v_dropped v_away v_mergings v_drops v_fromNear v_fromFar v_echoes v_hash v_hz v_sb v_slen v_o_energies x3 x4 x5 = some o) : Cx l yX1_carryOut (ws_ yX1_carryOut cX1_carryOut 8 (some .int)) rm_X1_carryOut Z [.ref a0, .ref a1, .ref a6, .int x3, .int x4, .int x5] [(a1, .inr (1, [.ref a2, .ref a3, .ref a5])), (a2, .inr (2, [.ref a2_1, .ref a2_2, .int v_n, .ref a2_3, .ref a2_4, .int v_pulses, .int v_front, .int v_least, .int v_window])), (a2_1, .inl (Z.2 0, 8, .inl v_lengths)), (a2_2, .inl (Z.2 0, 8, .inl v_fractions)), (a2_3, .inl (Z.2 0, 4, .inl v_pulseTimes)), (a2_4, .inl (Z.2 0, 4, .inl v_pulseEnergies)), (a4, .inr (4, [.ref a4_1, .ref a4_2, .ref a4_3, (va_rf v_line), .long v_brought, .long v_left, .long v_dropped, .long v_away, .int v_mergings, .int v_drops])), (a4_1, .inl (Z.2 1, 1809, .inr (.inl v_fromNear))), (a4_2, .inl (Z.2 1, 1809, .inr (.inl v_fromFar))), (a4_3, .inl (Z.2 1, 201, .inr (.inl v_echoes))), (a6, .inr (8, [.ref a6_1, .int 0, .int v_hash, .int v_hz]))] [(a0, .inr (0, [.ref a9, .ref a7, .int v_depth, .ref a8, .int v_scriptLength, .ref a4])), (a6_1, .inl (Z.2 2, v_slen, .inl v_sb)), (a5, .inr (3, [.ref a5_1])), (a5_1, .inl (Z.2 1, 201, .inr (.inl v_o_energies)))] [(a1, .inr (1, [.ref a2, .ref a3, .ref a5])), (a2, .inr (2, [.ref a2_1, .ref a2_2, .int v_n, .ref a2_3, .ref a2_4, .int v_pulses, .int v_front, .int v_least, .int v_window])), (a2_1, .inl (Z.2 0, 8, .inl v_lengths)), (a2_2, .inl (Z.2 0, 8, .inl v_fractions)), (a2_3, .inl (Z.2 0, 4, .inl v_pulseTimes)), (a2_4, .inl (Z.2 0, 4, .inl v_pulseEnergies)), (a4, .inr (4, [.ref a4_1, .ref a4_2, .ref a4_3, (va_rf v_line), .long v_brought, .long v_left, .long v_dropped, .long v_away, .int v_mergings, .int v_drops])), (a4_1, .inl (Z.2 1, 1809, .inr (.inl v_fromNear))), (a4_2, .inl (Z.2 1, 1809, .inr (.inl v_fromFar))), (a4_3, .inl (Z.2 1, 201, .inr (.inl v_echoes)))] (fun x : Int32 × Int32 × Int32 × (Nat → Int32) × (Nat → Int32) × (Nat → Int32) × (Nat → Int32) × Int64 × Int64 × Int64 × Int64 × Int32 × Int32 × (Nat → Int64) × (Nat → Int64) × (Nat → Int64) × Int32 × Int32 => (fun z0 : Option Nat => (some (.int x.1) : Option Value))) (fun x : Int32 × Int32 × Int32 × (Nat → Int32) × (Nat → Int32) × (Nat → Int32) × (Nat → Int32) × Int64 × Int64 × Int64 × Int64 × Int32 × Int32 × (Nat → Int64) × (Nat → Int64) × (Nat → Int64) × Int32 × Int32 => (fun z0 : Option Nat => ([(a1, .inr (1, [.ref a2, .ref a3, .ref a5])), (a2, .inr (2, [.ref a2_1, .ref a2_2, .int x.2.1, .ref a2_3, .ref a2_4, .int x.2.2.1, .int v_front, .int v_least, .int v_window])), (a2_1, .inl (Z.2 0, 8, .inl x.2.2.2.1)), (a2_2, .inl (Z.2 0, 8, .inl x.2.2.2.2.1)), (a2_3, .inl (Z.2 0, 4, .inl x.2.2.2.2.2.1)), (a2_4, .inl (Z.2 0, 4, .inl x.2.2.2.2.2.2.1)), (a4, .inr (4, [.ref a4_1, .ref a4_2, .ref a4_3, (va_rf z0), .long x.2.2.2.2.2.2.2.1, .long x.2.2.2.2.2.2.2.2.1, .long x.2.2.2.2.2.2.2.2.2.1, .long x.2.2.2.2.2.2.2.2.2.2.1, .int x.2.2.2.2.2.2.2.2.2.2.2.1, .int x.2.2.2.2.2.2.2.2.2.2.2.2.1])), (a4_1, .inl (Z.2 1, 1809, .inr (.inl x.2.2.2.2.2.2.2.2.2.2.2.2.2.1))), (a4_2, .inl (Z.2 1, 1809, .inr (.inl x.2.2.2.2.2.2.2.2.2.2.2.2.2.2.1))), (a4_3, .inl (Z.2 1, 201, .inr (.inl x.2.2.2.2.2.2.2.2.2.2.2.2.2.2.2.1))), (a6, .inr (8, [.ref a6_1, .int 0, .int x.2.2.2.2.2.2.2.2.2.2.2.2.2.2.2.2.1, .int x.2.2.2.2.2.2.2.2.2.2.2.2.2.2.2.2.2]))] : va_W))) o := by
  refine Cx.of cX1_carryOut 8 (some .int) "LineEchoes" [some (.ref a0), some (.ref a1), some (.ref a6), some (.int x3), some (.int x4), some (.int x5), none, none] 2 (by decide) rfl (Nat.le_of_ble_eq_true rfl) rfl (fun p e s m args below meth c A X Xt => ?_)
  unfold F_X1_carryOut at h
  refine g_aload_n X rfl dX1_carryOut_0 1 rfl ?_
  refine g_astore X dX1_carryOut_1 3 rfl (Nat.le_of_ble_eq_true rfl) rfl [some (.ref a0), some (.ref a1), some (.ref a6), some (.int x3), some (.int x4), some (.int x5), some (.ref a6), none] rfl ?_
  refine g_iconst X (-1) dX1_carryOut_3 4 rfl kI_m1 ?_
  refine g_istore X dX1_carryOut_4 6 rfl (Nat.le_of_ble_eq_true rfl) rfl [some (.ref a0), some (.ref a1), some (.ref a6), some (.int x3), some (.int x4), some (.int x5), some (.ref a6), some (.int (-1))] rfl ?_
  refine g_aload X rfl dX1_carryOut_6 8 rfl ?_
  obtain ⟨r1, w2_hash, w3_hz, hcl, h⟩ := bd3_e h
  refine g_callV1 X (met_J7_hashCode l Z a6 a6_1 v_hash v_hz v_sb v_slen  r1 w2_hash w3_hz hcl) [10] [0, 1, 2, 3, 4, 5, 6, 7, 8, 9] [12] (wr := [(a1, .inr (1, [.ref a2, .ref a3, .ref a5])), (a2, .inr (2, [.ref a2_1, .ref a2_2, .int v_n, .ref a2_3, .ref a2_4, .int v_pulses, .int v_front, .int v_least, .int v_window])), (a2_1, .inl (Z.2 0, 8, .inl v_lengths)), (a2_2, .inl (Z.2 0, 8, .inl v_fractions)), (a2_3, .inl (Z.2 0, 4, .inl v_pulseTimes)), (a2_4, .inl (Z.2 0, 4, .inl v_pulseEnergies)), (a4, .inr (4, [.ref a4_1, .ref a4_2, .ref a4_3, (va_rf v_line), .long v_brought, .long v_left, .long v_dropped, .long v_away, .int v_mergings, .int v_drops])), (a4_1, .inl (Z.2 1, 1809, .inr (.inl v_fromNear))), (a4_2, .inl (Z.2 1, 1809, .inr (.inl v_fromFar))), (a4_3, .inl (Z.2 1, 201, .inr (.inl v_echoes)))]) ⟨rfl, rfl, rfl, rfl, rfl, by decide, by decide⟩ 10 gC8 rfl rfl (lw_V q826 q827 q828 q83 q829) md_J7_hashCode ⟨(Nat.le_of_ble_eq_true rfl), (Nat.le_of_ble_eq_true rfl)⟩ rfl dX1_carryOut_8 11 rfl 0 0 rfl rfl (Nat.le_of_ble_eq_true rfl) (Nat.le_of_ble_eq_true rfl) (st := []) rfl (Nat.le_of_ble_eq_true rfl) (fun _ => rfl) (fun _ => ?_)
  by_cases hc0 : r1 = 98882
  · replace h := if_t hc0 h
    refine g_look (off := 97) X dX1_carryOut_11 108 (by decide) (by rw [hc0] <;> rfl) (by decide) ?_
    refine g_aload X rfl dX1_carryOut_108 110 rfl ?_
    refine g_ldcS X 4 rfl dX1_carryOut_110 112 rfl ?_
    refine g_neK X 10 4 rfl rfl (fun hne => ?_)
    obtain ⟨r4, hcl, h⟩ := bd1_e h
    refine g_callV1 X (met_J7_equals l Z a6 a6_1 w2_hash w3_hz v_sb v_slen  [99, 117, 116] 4 rfl hne r4 hcl) [] [0, 1, 2, 3, 4, 5, 6, 7, 8, 9, 10] [10, 12] (wr := [(a1, .inr (1, [.ref a2, .ref a3, .ref a5])), (a2, .inr (2, [.ref a2_1, .ref a2_2, .int v_n, .ref a2_3, .ref a2_4, .int v_pulses, .int v_front, .int v_least, .int v_window])), (a2_1, .inl (Z.2 0, 8, .inl v_lengths)), (a2_2, .inl (Z.2 0, 8, .inl v_fractions)), (a2_3, .inl (Z.2 0, 4, .inl v_pulseTimes)), (a2_4, .inl (Z.2 0, 4, .inl v_pulseEnergies)), (a4, .inr (4, [.ref a4_1, .ref a4_2, .ref a4_3, (va_rf v_line), .long v_brought, .long v_left, .long v_dropped, .long v_away, .int v_mergings, .int v_drops])), (a4_1, .inl (Z.2 1, 1809, .inr (.inl v_fromNear))), (a4_2, .inl (Z.2 1, 1809, .inr (.inl v_fromFar))), (a4_3, .inl (Z.2 1, 201, .inr (.inl v_echoes))), (a6, .inr (8, [.ref a6_1, .int 0, .int w2_hash, .int w3_hz]))]) ⟨rfl, rfl, rfl, rfl, rfl, by decide, by decide⟩ 10 gC8 rfl rfl (lw_V q888 q889 q890 q83 q891) md_J7_equals ⟨(Nat.le_of_ble_eq_true rfl), (Nat.le_of_ble_eq_true rfl)⟩ rfl dX1_carryOut_112 115 rfl 0 0 rfl rfl (Nat.le_of_ble_eq_true rfl) (Nat.le_of_ble_eq_true rfl) (st := []) rfl (Nat.le_of_ble_eq_true rfl) (fun _ => rfl) (fun _ => ?_)
    refine g_if_eq X dX1_carryOut_115 186 (by decide) 118 rfl (fun hc => ?_) (fun hc => ?_)
    · replace h := if_t hc h
      refine g_kill (j := 2) [some (.ref a0), some (.ref a1), none, some (.int x3), some (.int x4), some (.int x5), some (.ref a6), some (.int (-1))] rfl ?_
      refine g_kill (j := 6) [some (.ref a0), some (.ref a1), none, some (.int x3), some (.int x4), some (.int x5), none, some (.int (-1))] rfl ?_
      exact w_X1_carryOut_186 a1 a2 a2_1 a2_2 a2_3 a2_4 a4 a4_1 a4_2 a4_3 a6 a0 a6_1 a5 a5_1 a3 a9 a7 a8 v_depth v_scriptLength v_sb v_slen v_o_energies X Xt hl  _    v_n v_pulses v_front v_least v_window v_lengths v_fractions v_pulseTimes v_pulseEnergies v_line v_brought v_left v_dropped v_away v_mergings v_drops v_fromNear v_fromFar v_echoes w2_hash w3_hz x3 x4 x5 (-1) h
    · replace h := if_f hc h
      refine g_iconst X 2 dX1_carryOut_118 119 rfl kI_2 ?_
      refine g_istore X dX1_carryOut_119 121 rfl (Nat.le_of_ble_eq_true rfl) rfl [some (.ref a0), some (.ref a1), some (.ref a6), some (.int x3), some (.int x4), some (.int x5), some (.ref a6), some (.int 2)] rfl ?_
      refine g_goto X dX1_carryOut_121 186 (by decide) ?_
      refine g_kill (j := 2) [some (.ref a0), some (.ref a1), none, some (.int x3), some (.int x4), some (.int x5), some (.ref a6), some (.int 2)] rfl ?_
      refine g_kill (j := 6) [some (.ref a0), some (.ref a1), none, some (.int x3), some (.int x4), some (.int x5), none, some (.int 2)] rfl ?_
      exact w_X1_carryOut_186 a1 a2 a2_1 a2_2 a2_3 a2_4 a4 a4_1 a4_2 a4_3 a6 a0 a6_1 a5 a5_1 a3 a9 a7 a8 v_depth v_scriptLength v_sb v_slen v_o_energies X Xt hl  _    v_n v_pulses v_front v_least v_window v_lengths v_fractions v_pulseTimes v_pulseEnergies v_line v_brought v_left v_dropped v_away v_mergings v_drops v_fromNear v_fromFar v_echoes w2_hash w3_hz x3 x4 x5 2 h
  replace h := if_f hc0 h
  by_cases hc1 : r1 = 113762
  · replace h := if_t hc1 h
    refine g_look (off := 81) X dX1_carryOut_11 92 (by decide) (by rw [hc1] <;> rfl) (by decide) ?_
    refine g_aload X rfl dX1_carryOut_92 94 rfl ?_
    refine g_ldcS X 0 rfl dX1_carryOut_94 96 rfl ?_
    refine g_neK X 10 0 rfl rfl (fun hne => ?_)
    obtain ⟨r5, hcl, h⟩ := bd1_e h
    refine g_callV1 X (met_J7_equals l Z a6 a6_1 w2_hash w3_hz v_sb v_slen  [115, 101, 116] 0 rfl hne r5 hcl) [] [0, 1, 2, 3, 4, 5, 6, 7, 8, 9, 10] [10, 12] (wr := [(a1, .inr (1, [.ref a2, .ref a3, .ref a5])), (a2, .inr (2, [.ref a2_1, .ref a2_2, .int v_n, .ref a2_3, .ref a2_4, .int v_pulses, .int v_front, .int v_least, .int v_window])), (a2_1, .inl (Z.2 0, 8, .inl v_lengths)), (a2_2, .inl (Z.2 0, 8, .inl v_fractions)), (a2_3, .inl (Z.2 0, 4, .inl v_pulseTimes)), (a2_4, .inl (Z.2 0, 4, .inl v_pulseEnergies)), (a4, .inr (4, [.ref a4_1, .ref a4_2, .ref a4_3, (va_rf v_line), .long v_brought, .long v_left, .long v_dropped, .long v_away, .int v_mergings, .int v_drops])), (a4_1, .inl (Z.2 1, 1809, .inr (.inl v_fromNear))), (a4_2, .inl (Z.2 1, 1809, .inr (.inl v_fromFar))), (a4_3, .inl (Z.2 1, 201, .inr (.inl v_echoes))), (a6, .inr (8, [.ref a6_1, .int 0, .int w2_hash, .int w3_hz]))]) ⟨rfl, rfl, rfl, rfl, rfl, by decide, by decide⟩ 10 gC8 rfl rfl (lw_V q888 q889 q890 q83 q891) md_J7_equals ⟨(Nat.le_of_ble_eq_true rfl), (Nat.le_of_ble_eq_true rfl)⟩ rfl dX1_carryOut_96 99 rfl 0 0 rfl rfl (Nat.le_of_ble_eq_true rfl) (Nat.le_of_ble_eq_true rfl) (st := []) rfl (Nat.le_of_ble_eq_true rfl) (fun _ => rfl) (fun _ => ?_)
    refine g_if_eq X dX1_carryOut_99 186 (by decide) 102 rfl (fun hc => ?_) (fun hc => ?_)
    · replace h := if_t hc h
      refine g_kill (j := 2) [some (.ref a0), some (.ref a1), none, some (.int x3), some (.int x4), some (.int x5), some (.ref a6), some (.int (-1))] rfl ?_
      refine g_kill (j := 6) [some (.ref a0), some (.ref a1), none, some (.int x3), some (.int x4), some (.int x5), none, some (.int (-1))] rfl ?_
      exact w_X1_carryOut_186 a1 a2 a2_1 a2_2 a2_3 a2_4 a4 a4_1 a4_2 a4_3 a6 a0 a6_1 a5 a5_1 a3 a9 a7 a8 v_depth v_scriptLength v_sb v_slen v_o_energies X Xt hl  _    v_n v_pulses v_front v_least v_window v_lengths v_fractions v_pulseTimes v_pulseEnergies v_line v_brought v_left v_dropped v_away v_mergings v_drops v_fromNear v_fromFar v_echoes w2_hash w3_hz x3 x4 x5 (-1) h
    · replace h := if_f hc h
      refine g_iconst X 1 dX1_carryOut_102 103 rfl kI_1 ?_
      refine g_istore X dX1_carryOut_103 105 rfl (Nat.le_of_ble_eq_true rfl) rfl [some (.ref a0), some (.ref a1), some (.ref a6), some (.int x3), some (.int x4), some (.int x5), some (.ref a6), some (.int 1)] rfl ?_
      refine g_goto X dX1_carryOut_105 186 (by decide) ?_
      refine g_kill (j := 2) [some (.ref a0), some (.ref a1), none, some (.int x3), some (.int x4), some (.int x5), some (.ref a6), some (.int 1)] rfl ?_
      refine g_kill (j := 6) [some (.ref a0), some (.ref a1), none, some (.int x3), some (.int x4), some (.int x5), none, some (.int 1)] rfl ?_
      exact w_X1_carryOut_186 a1 a2 a2_1 a2_2 a2_3 a2_4 a4 a4_1 a4_2 a4_3 a6 a0 a6_1 a5 a5_1 a3 a9 a7 a8 v_depth v_scriptLength v_sb v_slen v_o_energies X Xt hl  _    v_n v_pulses v_front v_least v_window v_lengths v_fractions v_pulseTimes v_pulseEnergies v_line v_brought v_left v_dropped v_away v_mergings v_drops v_fromNear v_fromFar v_echoes w2_hash w3_hz x3 x4 x5 1 h
  replace h := if_f hc1 h
  by_cases hc2 : r1 = 3327647
  · replace h := if_t hc2 h
    refine g_look (off := 161) X dX1_carryOut_11 172 (by decide) (by rw [hc2] <;> rfl) (by decide) ?_
    refine g_aload X rfl dX1_carryOut_172 174 rfl ?_
    refine g_ldcS X 6 rfl dX1_carryOut_174 176 rfl ?_
    refine g_neK X 10 6 rfl rfl (fun hne => ?_)
    obtain ⟨r6, hcl, h⟩ := bd1_e h
    refine g_callV1 X (met_J7_equals l Z a6 a6_1 w2_hash w3_hz v_sb v_slen  [108, 111, 111, 107] 6 rfl hne r6 hcl) [] [0, 1, 2, 3, 4, 5, 6, 7, 8, 9, 10] [10, 12] (wr := [(a1, .inr (1, [.ref a2, .ref a3, .ref a5])), (a2, .inr (2, [.ref a2_1, .ref a2_2, .int v_n, .ref a2_3, .ref a2_4, .int v_pulses, .int v_front, .int v_least, .int v_window])), (a2_1, .inl (Z.2 0, 8, .inl v_lengths)), (a2_2, .inl (Z.2 0, 8, .inl v_fractions)), (a2_3, .inl (Z.2 0, 4, .inl v_pulseTimes)), (a2_4, .inl (Z.2 0, 4, .inl v_pulseEnergies)), (a4, .inr (4, [.ref a4_1, .ref a4_2, .ref a4_3, (va_rf v_line), .long v_brought, .long v_left, .long v_dropped, .long v_away, .int v_mergings, .int v_drops])), (a4_1, .inl (Z.2 1, 1809, .inr (.inl v_fromNear))), (a4_2, .inl (Z.2 1, 1809, .inr (.inl v_fromFar))), (a4_3, .inl (Z.2 1, 201, .inr (.inl v_echoes))), (a6, .inr (8, [.ref a6_1, .int 0, .int w2_hash, .int w3_hz]))]) ⟨rfl, rfl, rfl, rfl, rfl, by decide, by decide⟩ 10 gC8 rfl rfl (lw_V q888 q889 q890 q83 q891) md_J7_equals ⟨(Nat.le_of_ble_eq_true rfl), (Nat.le_of_ble_eq_true rfl)⟩ rfl dX1_carryOut_176 179 rfl 0 0 rfl rfl (Nat.le_of_ble_eq_true rfl) (Nat.le_of_ble_eq_true rfl) (st := []) rfl (Nat.le_of_ble_eq_true rfl) (fun _ => rfl) (fun _ => ?_)
    refine g_if_eq X dX1_carryOut_179 186 (by decide) 182 rfl (fun hc => ?_) (fun hc => ?_)
    · replace h := if_t hc h
      refine g_kill (j := 2) [some (.ref a0), some (.ref a1), none, some (.int x3), some (.int x4), some (.int x5), some (.ref a6), some (.int (-1))] rfl ?_
      refine g_kill (j := 6) [some (.ref a0), some (.ref a1), none, some (.int x3), some (.int x4), some (.int x5), none, some (.int (-1))] rfl ?_
      exact w_X1_carryOut_186 a1 a2 a2_1 a2_2 a2_3 a2_4 a4 a4_1 a4_2 a4_3 a6 a0 a6_1 a5 a5_1 a3 a9 a7 a8 v_depth v_scriptLength v_sb v_slen v_o_energies X Xt hl  _    v_n v_pulses v_front v_least v_window v_lengths v_fractions v_pulseTimes v_pulseEnergies v_line v_brought v_left v_dropped v_away v_mergings v_drops v_fromNear v_fromFar v_echoes w2_hash w3_hz x3 x4 x5 (-1) h
    · replace h := if_f hc h
      refine g_bipush X 6 dX1_carryOut_182 184 rfl kB_6 ?_
      refine g_istore X dX1_carryOut_184 186 rfl (Nat.le_of_ble_eq_true rfl) rfl [some (.ref a0), some (.ref a1), some (.ref a6), some (.int x3), some (.int x4), some (.int x5), some (.ref a6), some (.int 6)] rfl ?_
      refine g_kill (j := 2) [some (.ref a0), some (.ref a1), none, some (.int x3), some (.int x4), some (.int x5), some (.ref a6), some (.int 6)] rfl ?_
      refine g_kill (j := 6) [some (.ref a0), some (.ref a1), none, some (.int x3), some (.int x4), some (.int x5), none, some (.int 6)] rfl ?_
      exact w_X1_carryOut_186 a1 a2 a2_1 a2_2 a2_3 a2_4 a4 a4_1 a4_2 a4_3 a6 a0 a6_1 a5 a5_1 a3 a9 a7 a8 v_depth v_scriptLength v_sb v_slen v_o_energies X Xt hl  _    v_n v_pulses v_front v_least v_window v_lengths v_fractions v_pulseTimes v_pulseEnergies v_line v_brought v_left v_dropped v_away v_mergings v_drops v_fromNear v_fromFar v_echoes w2_hash w3_hz x3 x4 x5 6 h
  replace h := if_f hc2 h
  by_cases hc3 : r1 = 3433459
  · replace h := if_t hc3 h
    refine g_look (off := 65) X dX1_carryOut_11 76 (by decide) (by rw [hc3] <;> rfl) (by decide) ?_
    refine g_aload X rfl dX1_carryOut_76 78 rfl ?_
    refine g_ldcS X 2 rfl dX1_carryOut_78 80 rfl ?_
    refine g_neK X 10 2 rfl rfl (fun hne => ?_)
    obtain ⟨r7, hcl, h⟩ := bd1_e h
    refine g_callV1 X (met_J7_equals l Z a6 a6_1 w2_hash w3_hz v_sb v_slen  [112, 97, 114, 116] 2 rfl hne r7 hcl) [] [0, 1, 2, 3, 4, 5, 6, 7, 8, 9, 10] [10, 12] (wr := [(a1, .inr (1, [.ref a2, .ref a3, .ref a5])), (a2, .inr (2, [.ref a2_1, .ref a2_2, .int v_n, .ref a2_3, .ref a2_4, .int v_pulses, .int v_front, .int v_least, .int v_window])), (a2_1, .inl (Z.2 0, 8, .inl v_lengths)), (a2_2, .inl (Z.2 0, 8, .inl v_fractions)), (a2_3, .inl (Z.2 0, 4, .inl v_pulseTimes)), (a2_4, .inl (Z.2 0, 4, .inl v_pulseEnergies)), (a4, .inr (4, [.ref a4_1, .ref a4_2, .ref a4_3, (va_rf v_line), .long v_brought, .long v_left, .long v_dropped, .long v_away, .int v_mergings, .int v_drops])), (a4_1, .inl (Z.2 1, 1809, .inr (.inl v_fromNear))), (a4_2, .inl (Z.2 1, 1809, .inr (.inl v_fromFar))), (a4_3, .inl (Z.2 1, 201, .inr (.inl v_echoes))), (a6, .inr (8, [.ref a6_1, .int 0, .int w2_hash, .int w3_hz]))]) ⟨rfl, rfl, rfl, rfl, rfl, by decide, by decide⟩ 10 gC8 rfl rfl (lw_V q888 q889 q890 q83 q891) md_J7_equals ⟨(Nat.le_of_ble_eq_true rfl), (Nat.le_of_ble_eq_true rfl)⟩ rfl dX1_carryOut_80 83 rfl 0 0 rfl rfl (Nat.le_of_ble_eq_true rfl) (Nat.le_of_ble_eq_true rfl) (st := []) rfl (Nat.le_of_ble_eq_true rfl) (fun _ => rfl) (fun _ => ?_)
    refine g_if_eq X dX1_carryOut_83 186 (by decide) 86 rfl (fun hc => ?_) (fun hc => ?_)
    · replace h := if_t hc h
      refine g_kill (j := 2) [some (.ref a0), some (.ref a1), none, some (.int x3), some (.int x4), some (.int x5), some (.ref a6), some (.int (-1))] rfl ?_
      refine g_kill (j := 6) [some (.ref a0), some (.ref a1), none, some (.int x3), some (.int x4), some (.int x5), none, some (.int (-1))] rfl ?_
      exact w_X1_carryOut_186 a1 a2 a2_1 a2_2 a2_3 a2_4 a4 a4_1 a4_2 a4_3 a6 a0 a6_1 a5 a5_1 a3 a9 a7 a8 v_depth v_scriptLength v_sb v_slen v_o_energies X Xt hl  _    v_n v_pulses v_front v_least v_window v_lengths v_fractions v_pulseTimes v_pulseEnergies v_line v_brought v_left v_dropped v_away v_mergings v_drops v_fromNear v_fromFar v_echoes w2_hash w3_hz x3 x4 x5 (-1) h
    · replace h := if_f hc h
      refine g_iconst X 0 dX1_carryOut_86 87 rfl kI_0 ?_
      refine g_istore X dX1_carryOut_87 89 rfl (Nat.le_of_ble_eq_true rfl) rfl [some (.ref a0), some (.ref a1), some (.ref a6), some (.int x3), some (.int x4), some (.int x5), some (.ref a6), some (.int 0)] rfl ?_
      refine g_goto X dX1_carryOut_89 186 (by decide) ?_
      refine g_kill (j := 2) [some (.ref a0), some (.ref a1), none, some (.int x3), some (.int x4), some (.int x5), some (.ref a6), some (.int 0)] rfl ?_
      refine g_kill (j := 6) [some (.ref a0), some (.ref a1), none, some (.int x3), some (.int x4), some (.int x5), none, some (.int 0)] rfl ?_
      exact w_X1_carryOut_186 a1 a2 a2_1 a2_2 a2_3 a2_4 a4 a4_1 a4_2 a4_3 a6 a0 a6_1 a5 a5_1 a3 a9 a7 a8 v_depth v_scriptLength v_sb v_slen v_o_energies X Xt hl  _    v_n v_pulses v_front v_least v_window v_lengths v_fractions v_pulseTimes v_pulseEnergies v_line v_brought v_left v_dropped v_away v_mergings v_drops v_fromNear v_fromFar v_echoes w2_hash w3_hz x3 x4 x5 0 h
  replace h := if_f hc3 h
  by_cases hc4 : r1 = 107027353
  · replace h := if_t hc4 h
    refine g_look (off := 129) X dX1_carryOut_11 140 (by decide) (by rw [hc4] <;> rfl) (by decide) ?_
    refine g_aload X rfl dX1_carryOut_140 142 rfl ?_
    refine g_ldcS X 3 rfl dX1_carryOut_142 144 rfl ?_
    refine g_neK X 10 3 rfl rfl (fun hne => ?_)
    obtain ⟨r8, hcl, h⟩ := bd1_e h
    refine g_callV1 X (met_J7_equals l Z a6 a6_1 w2_hash w3_hz v_sb v_slen  [112, 117, 108, 115, 101] 3 rfl hne r8 hcl) [] [0, 1, 2, 3, 4, 5, 6, 7, 8, 9, 10] [10, 12] (wr := [(a1, .inr (1, [.ref a2, .ref a3, .ref a5])), (a2, .inr (2, [.ref a2_1, .ref a2_2, .int v_n, .ref a2_3, .ref a2_4, .int v_pulses, .int v_front, .int v_least, .int v_window])), (a2_1, .inl (Z.2 0, 8, .inl v_lengths)), (a2_2, .inl (Z.2 0, 8, .inl v_fractions)), (a2_3, .inl (Z.2 0, 4, .inl v_pulseTimes)), (a2_4, .inl (Z.2 0, 4, .inl v_pulseEnergies)), (a4, .inr (4, [.ref a4_1, .ref a4_2, .ref a4_3, (va_rf v_line), .long v_brought, .long v_left, .long v_dropped, .long v_away, .int v_mergings, .int v_drops])), (a4_1, .inl (Z.2 1, 1809, .inr (.inl v_fromNear))), (a4_2, .inl (Z.2 1, 1809, .inr (.inl v_fromFar))), (a4_3, .inl (Z.2 1, 201, .inr (.inl v_echoes))), (a6, .inr (8, [.ref a6_1, .int 0, .int w2_hash, .int w3_hz]))]) ⟨rfl, rfl, rfl, rfl, rfl, by decide, by decide⟩ 10 gC8 rfl rfl (lw_V q888 q889 q890 q83 q891) md_J7_equals ⟨(Nat.le_of_ble_eq_true rfl), (Nat.le_of_ble_eq_true rfl)⟩ rfl dX1_carryOut_144 147 rfl 0 0 rfl rfl (Nat.le_of_ble_eq_true rfl) (Nat.le_of_ble_eq_true rfl) (st := []) rfl (Nat.le_of_ble_eq_true rfl) (fun _ => rfl) (fun _ => ?_)
    refine g_if_eq X dX1_carryOut_147 186 (by decide) 150 rfl (fun hc => ?_) (fun hc => ?_)
    · replace h := if_t hc h
      refine g_kill (j := 2) [some (.ref a0), some (.ref a1), none, some (.int x3), some (.int x4), some (.int x5), some (.ref a6), some (.int (-1))] rfl ?_
      refine g_kill (j := 6) [some (.ref a0), some (.ref a1), none, some (.int x3), some (.int x4), some (.int x5), none, some (.int (-1))] rfl ?_
      exact w_X1_carryOut_186 a1 a2 a2_1 a2_2 a2_3 a2_4 a4 a4_1 a4_2 a4_3 a6 a0 a6_1 a5 a5_1 a3 a9 a7 a8 v_depth v_scriptLength v_sb v_slen v_o_energies X Xt hl  _    v_n v_pulses v_front v_least v_window v_lengths v_fractions v_pulseTimes v_pulseEnergies v_line v_brought v_left v_dropped v_away v_mergings v_drops v_fromNear v_fromFar v_echoes w2_hash w3_hz x3 x4 x5 (-1) h
    · replace h := if_f hc h
      refine g_iconst X 4 dX1_carryOut_150 151 rfl kI_4 ?_
      refine g_istore X dX1_carryOut_151 153 rfl (Nat.le_of_ble_eq_true rfl) rfl [some (.ref a0), some (.ref a1), some (.ref a6), some (.int x3), some (.int x4), some (.int x5), some (.ref a6), some (.int 4)] rfl ?_
      refine g_goto X dX1_carryOut_153 186 (by decide) ?_
      refine g_kill (j := 2) [some (.ref a0), some (.ref a1), none, some (.int x3), some (.int x4), some (.int x5), some (.ref a6), some (.int 4)] rfl ?_
      refine g_kill (j := 6) [some (.ref a0), some (.ref a1), none, some (.int x3), some (.int x4), some (.int x5), none, some (.int 4)] rfl ?_
      exact w_X1_carryOut_186 a1 a2 a2_1 a2_2 a2_3 a2_4 a4 a4_1 a4_2 a4_3 a6 a0 a6_1 a5 a5_1 a3 a9 a7 a8 v_depth v_scriptLength v_sb v_slen v_o_energies X Xt hl  _    v_n v_pulses v_front v_least v_window v_lengths v_fractions v_pulseTimes v_pulseEnergies v_line v_brought v_left v_dropped v_away v_mergings v_drops v_fromNear v_fromFar v_echoes w2_hash w3_hz x3 x4 x5 4 h
  replace h := if_f hc4 h
  by_cases hc5 : r1 = 109627663
  · replace h := if_t hc5 h
    refine g_look (off := 145) X dX1_carryOut_11 156 (by decide) (by rw [hc5] <;> rfl) (by decide) ?_
    refine g_aload X rfl dX1_carryOut_156 158 rfl ?_
    refine g_ldcS X 5 rfl dX1_carryOut_158 160 rfl ?_
    refine g_neK X 10 5 rfl rfl (fun hne => ?_)
    obtain ⟨r9, hcl, h⟩ := bd1_e h
    refine g_callV1 X (met_J7_equals l Z a6 a6_1 w2_hash w3_hz v_sb v_slen  [115, 111, 117, 110, 100] 5 rfl hne r9 hcl) [] [0, 1, 2, 3, 4, 5, 6, 7, 8, 9, 10] [10, 12] (wr := [(a1, .inr (1, [.ref a2, .ref a3, .ref a5])), (a2, .inr (2, [.ref a2_1, .ref a2_2, .int v_n, .ref a2_3, .ref a2_4, .int v_pulses, .int v_front, .int v_least, .int v_window])), (a2_1, .inl (Z.2 0, 8, .inl v_lengths)), (a2_2, .inl (Z.2 0, 8, .inl v_fractions)), (a2_3, .inl (Z.2 0, 4, .inl v_pulseTimes)), (a2_4, .inl (Z.2 0, 4, .inl v_pulseEnergies)), (a4, .inr (4, [.ref a4_1, .ref a4_2, .ref a4_3, (va_rf v_line), .long v_brought, .long v_left, .long v_dropped, .long v_away, .int v_mergings, .int v_drops])), (a4_1, .inl (Z.2 1, 1809, .inr (.inl v_fromNear))), (a4_2, .inl (Z.2 1, 1809, .inr (.inl v_fromFar))), (a4_3, .inl (Z.2 1, 201, .inr (.inl v_echoes))), (a6, .inr (8, [.ref a6_1, .int 0, .int w2_hash, .int w3_hz]))]) ⟨rfl, rfl, rfl, rfl, rfl, by decide, by decide⟩ 10 gC8 rfl rfl (lw_V q888 q889 q890 q83 q891) md_J7_equals ⟨(Nat.le_of_ble_eq_true rfl), (Nat.le_of_ble_eq_true rfl)⟩ rfl dX1_carryOut_160 163 rfl 0 0 rfl rfl (Nat.le_of_ble_eq_true rfl) (Nat.le_of_ble_eq_true rfl) (st := []) rfl (Nat.le_of_ble_eq_true rfl) (fun _ => rfl) (fun _ => ?_)
    refine g_if_eq X dX1_carryOut_163 186 (by decide) 166 rfl (fun hc => ?_) (fun hc => ?_)
    · replace h := if_t hc h
      refine g_kill (j := 2) [some (.ref a0), some (.ref a1), none, some (.int x3), some (.int x4), some (.int x5), some (.ref a6), some (.int (-1))] rfl ?_
      refine g_kill (j := 6) [some (.ref a0), some (.ref a1), none, some (.int x3), some (.int x4), some (.int x5), none, some (.int (-1))] rfl ?_
      exact w_X1_carryOut_186 a1 a2 a2_1 a2_2 a2_3 a2_4 a4 a4_1 a4_2 a4_3 a6 a0 a6_1 a5 a5_1 a3 a9 a7 a8 v_depth v_scriptLength v_sb v_slen v_o_energies X Xt hl  _    v_n v_pulses v_front v_least v_window v_lengths v_fractions v_pulseTimes v_pulseEnergies v_line v_brought v_left v_dropped v_away v_mergings v_drops v_fromNear v_fromFar v_echoes w2_hash w3_hz x3 x4 x5 (-1) h
    · replace h := if_f hc h
      refine g_iconst X 5 dX1_carryOut_166 167 rfl kI_5 ?_
      refine g_istore X dX1_carryOut_167 169 rfl (Nat.le_of_ble_eq_true rfl) rfl [some (.ref a0), some (.ref a1), some (.ref a6), some (.int x3), some (.int x4), some (.int x5), some (.ref a6), some (.int 5)] rfl ?_
      refine g_goto X dX1_carryOut_169 186 (by decide) ?_
      refine g_kill (j := 2) [some (.ref a0), some (.ref a1), none, some (.int x3), some (.int x4), some (.int x5), some (.ref a6), some (.int 5)] rfl ?_
      refine g_kill (j := 6) [some (.ref a0), some (.ref a1), none, some (.int x3), some (.int x4), some (.int x5), none, some (.int 5)] rfl ?_
      exact w_X1_carryOut_186 a1 a2 a2_1 a2_2 a2_3 a2_4 a4 a4_1 a4_2 a4_3 a6 a0 a6_1 a5 a5_1 a3 a9 a7 a8 v_depth v_scriptLength v_sb v_slen v_o_energies X Xt hl  _    v_n v_pulses v_front v_least v_window v_lengths v_fractions v_pulseTimes v_pulseEnergies v_line v_brought v_left v_dropped v_away v_mergings v_drops v_fromNear v_fromFar v_echoes w2_hash w3_hz x3 x4 x5 5 h
  replace h := if_f hc5 h
  by_cases hc6 : r1 = 109648666
  · replace h := if_t hc6 h
    refine g_look (off := 113) X dX1_carryOut_11 124 (by decide) (by rw [hc6] <;> rfl) (by decide) ?_
    refine g_aload X rfl dX1_carryOut_124 126 rfl ?_
    refine g_ldcS X 1 rfl dX1_carryOut_126 128 rfl ?_
    refine g_neK X 10 1 rfl rfl (fun hne => ?_)
    obtain ⟨r10, hcl, h⟩ := bd1_e h
    refine g_callV1 X (met_J7_equals l Z a6 a6_1 w2_hash w3_hz v_sb v_slen  [115, 112, 108, 105, 116] 1 rfl hne r10 hcl) [] [0, 1, 2, 3, 4, 5, 6, 7, 8, 9, 10] [10, 12] (wr := [(a1, .inr (1, [.ref a2, .ref a3, .ref a5])), (a2, .inr (2, [.ref a2_1, .ref a2_2, .int v_n, .ref a2_3, .ref a2_4, .int v_pulses, .int v_front, .int v_least, .int v_window])), (a2_1, .inl (Z.2 0, 8, .inl v_lengths)), (a2_2, .inl (Z.2 0, 8, .inl v_fractions)), (a2_3, .inl (Z.2 0, 4, .inl v_pulseTimes)), (a2_4, .inl (Z.2 0, 4, .inl v_pulseEnergies)), (a4, .inr (4, [.ref a4_1, .ref a4_2, .ref a4_3, (va_rf v_line), .long v_brought, .long v_left, .long v_dropped, .long v_away, .int v_mergings, .int v_drops])), (a4_1, .inl (Z.2 1, 1809, .inr (.inl v_fromNear))), (a4_2, .inl (Z.2 1, 1809, .inr (.inl v_fromFar))), (a4_3, .inl (Z.2 1, 201, .inr (.inl v_echoes))), (a6, .inr (8, [.ref a6_1, .int 0, .int w2_hash, .int w3_hz]))]) ⟨rfl, rfl, rfl, rfl, rfl, by decide, by decide⟩ 10 gC8 rfl rfl (lw_V q888 q889 q890 q83 q891) md_J7_equals ⟨(Nat.le_of_ble_eq_true rfl), (Nat.le_of_ble_eq_true rfl)⟩ rfl dX1_carryOut_128 131 rfl 0 0 rfl rfl (Nat.le_of_ble_eq_true rfl) (Nat.le_of_ble_eq_true rfl) (st := []) rfl (Nat.le_of_ble_eq_true rfl) (fun _ => rfl) (fun _ => ?_)
    refine g_if_eq X dX1_carryOut_131 186 (by decide) 134 rfl (fun hc => ?_) (fun hc => ?_)
    · replace h := if_t hc h
      refine g_kill (j := 2) [some (.ref a0), some (.ref a1), none, some (.int x3), some (.int x4), some (.int x5), some (.ref a6), some (.int (-1))] rfl ?_
      refine g_kill (j := 6) [some (.ref a0), some (.ref a1), none, some (.int x3), some (.int x4), some (.int x5), none, some (.int (-1))] rfl ?_
      exact w_X1_carryOut_186 a1 a2 a2_1 a2_2 a2_3 a2_4 a4 a4_1 a4_2 a4_3 a6 a0 a6_1 a5 a5_1 a3 a9 a7 a8 v_depth v_scriptLength v_sb v_slen v_o_energies X Xt hl  _    v_n v_pulses v_front v_least v_window v_lengths v_fractions v_pulseTimes v_pulseEnergies v_line v_brought v_left v_dropped v_away v_mergings v_drops v_fromNear v_fromFar v_echoes w2_hash w3_hz x3 x4 x5 (-1) h
    · replace h := if_f hc h
      refine g_iconst X 3 dX1_carryOut_134 135 rfl kI_3 ?_
      refine g_istore X dX1_carryOut_135 137 rfl (Nat.le_of_ble_eq_true rfl) rfl [some (.ref a0), some (.ref a1), some (.ref a6), some (.int x3), some (.int x4), some (.int x5), some (.ref a6), some (.int 3)] rfl ?_
      refine g_goto X dX1_carryOut_137 186 (by decide) ?_
      refine g_kill (j := 2) [some (.ref a0), some (.ref a1), none, some (.int x3), some (.int x4), some (.int x5), some (.ref a6), some (.int 3)] rfl ?_
      refine g_kill (j := 6) [some (.ref a0), some (.ref a1), none, some (.int x3), some (.int x4), some (.int x5), none, some (.int 3)] rfl ?_
      exact w_X1_carryOut_186 a1 a2 a2_1 a2_2 a2_3 a2_4 a4 a4_1 a4_2 a4_3 a6 a0 a6_1 a5 a5_1 a3 a9 a7 a8 v_depth v_scriptLength v_sb v_slen v_o_energies X Xt hl  _    v_n v_pulses v_front v_least v_window v_lengths v_fractions v_pulseTimes v_pulseEnergies v_line v_brought v_left v_dropped v_away v_mergings v_drops v_fromNear v_fromFar v_echoes w2_hash w3_hz x3 x4 x5 3 h
  replace h := if_f hc6 h
  refine g_look (off := 175) X dX1_carryOut_11 186 (by decide) ((lv_osw hc0 (by decide)).trans ((lv_osw hc1 (by decide)).trans ((lv_osw hc2 (by decide)).trans ((lv_osw hc3 (by decide)).trans ((lv_osw hc4 (by decide)).trans ((lv_osw hc5 (by decide)).trans ((lv_osw hc6 (by decide)).trans rfl))))))) (by decide) ?_
  refine g_kill (j := 2) [some (.ref a0), some (.ref a1), none, some (.int x3), some (.int x4), some (.int x5), some (.ref a6), some (.int (-1))] rfl ?_
  refine g_kill (j := 6) [some (.ref a0), some (.ref a1), none, some (.int x3), some (.int x4), some (.int x5), none, some (.int (-1))] rfl ?_
  exact w_X1_carryOut_186 a1 a2 a2_1 a2_2 a2_3 a2_4 a4 a4_1 a4_2 a4_3 a6 a0 a6_1 a5 a5_1 a3 a9 a7 a8 v_depth v_scriptLength v_sb v_slen v_o_energies X Xt hl  _    v_n v_pulses v_front v_least v_window v_lengths v_fractions v_pulseTimes v_pulseEnergies v_line v_brought v_left v_dropped v_away v_mergings v_drops v_fromNear v_fromFar v_echoes w2_hash w3_hz x3 x4 x5 (-1) h
/-! LineEchoes$Reader.carryOutOn(LLineEchoes$Bench;)I -/
abbrev rm_X9_carryOutOn : Room := { frames := 11, cells := 6, slots := 36, locals := 210 }
def F_X9_carryOutOn (v_n : Int32) (v_pulses : Int32) (v_front : Int32) (v_least : Int32) (v_window : Int32) (v_lengths : Nat → Int32) (v_fractions : Nat → Int32) (v_pulseTimes : Nat → Int32) (v_pulseEnergies : Nat → Int32) (v_brought : Int64) (v_left : Int64) (v_dropped : Int64) (v_away : Int64) (v_mergings : Int32) (v_drops : Int32) (v_fromNear : Nat → Int64) (v_fromFar : Nat → Int64) (v_echoes : Nat → Int64) (v_hash : Int32) (v_hz : Int32) (v_numbers : Nat → Int32) (v_sb : Nat → Int32) (v_slen : Nat) (v_o_energies : Nat → Int64) : Option ((Int32 × Int32 × Int32 × (Nat → Int32) × (Nat → Int32) × (Nat → Int32) × (Nat → Int32) × Int64 × Int64 × Int64 × Int64 × Int32 × Int32 × (Nat → Int64) × (Nat → Int64) × (Nat → Int64) × Int32 × Int32) ⊕ Nat) :=
  gin 0 3 <|
  gin 1 3 <|
  gin 2 3 <|
  bc18 (F_X1_carryOut v_n v_pulses v_front v_least v_window v_lengths v_fractions v_pulseTimes v_pulseEnergies v_brought v_left v_dropped v_away v_mergings v_drops v_fromNear v_fromFar v_echoes v_hash v_hz v_sb v_slen v_o_energies (v_numbers (Int32.toNatClampNeg 0)) (v_numbers (Int32.toNatClampNeg 1)) (v_numbers (Int32.toNatClampNeg 2))) (fun r1 w2_n w3_pulses w4_lengths w5_fractions w6_pulseTimes w7_pulseEnergies w8_brought w9_left w10_dropped w11_away w12_mergings w13_drops w14_fromNear w15_fromFar w16_echoes w17_hash w18_hz =>
  some (.inl (r1, w2_n, w3_pulses, w4_lengths, w5_fractions, w6_pulseTimes, w7_pulseEnergies, w8_brought, w9_left, w10_dropped, w11_away, w12_mergings, w13_drops, w14_fromNear, w15_fromFar, w16_echoes, w17_hash, w18_hz))) gthr
theorem met_X9_carryOutOn (l : Launch) (hl : l.stackTraces = false) (Z : gZt) (ab : Nat) (a2 : Nat) (a2_1 : Nat) (a2_2 : Nat) (a2_3 : Nat) (a2_4 : Nat) (a4 : Nat) (a4_1 : Nat) (a4_2 : Nat) (a4_3 : Nat) (a6 : Nat) (a0 : Nat) (a0_1 : Nat) (a1 : Nat) (a6_1 : Nat) (a5 : Nat) (a5_1 : Nat) (a3 : Nat) (a9 : Nat) (a7 : Nat) (a8 : Nat) (v_n : Int32) (v_pulses : Int32) (v_front : Int32) (v_least : Int32) (v_window : Int32) (v_lengths : Nat → Int32) (v_fractions : Nat → Int32) (v_pulseTimes : Nat → Int32) (v_pulseEnergies : Nat → Int32) (v_line : Option Nat) (v_brought : Int64) (v_left : Int64) (v_dropped : Int64) (v_away : Int64) (v_mergings : Int32) (v_drops : Int32) (v_fromNear : Nat → Int64) (v_fromFar : Nat → Int64) (v_echoes : Nat → Int64) (v_hash : Int32) (v_hz : Int32) (v_at : Int32) (v_fault : Int32) (v_numbers : Nat → Int32) (v_depth : Int32) (v_scriptLength : Int32) (v_sb : Nat → Int32) (v_slen : Nat) (v_o_energies : Nat → Int64) (o : (Int32 × Int32 × Int32 × (Nat → Int32) × (Nat → Int32) × (Nat → Int32) × (Nat → Int32) × Int64 × Int64 × Int64 × Int64 × Int32 × Int32 × (Nat → Int64) × (Nat → Int64) × (Nat → Int64) × Int32 × Int32) ⊕ Nat) (h : F_X9_carryOutOn v_n v_pulses v_front v_least v_window v_lengths v_fractions v_pulseTimes v_pulseEnergies v_brought v_left v_dropped v_away v_mergings v_drops v_fromNear v_fromFar v_echoes v_hash v_hz v_numbers v_sb v_slen v_o_energies = some o) : Cx l yX9_carryOutOn (ws_ yX9_carryOutOn cX9_carryOutOn 2 (some .int)) rm_X9_carryOutOn Z [.ref a0, .ref ab] [(ab, .inr (1, [.ref a2, .ref a3, .ref a5])), (a2, .inr (2, [.ref a2_1, .ref a2_2, .int v_n, .ref a2_3, .ref a2_4, .int v_pulses, .int v_front, .int v_least, .int v_window])), (a2_1, .inl (Z.2 0, 8, .inl v_lengths)), (a2_2, .inl (Z.2 0, 8, .inl v_fractions)), (a2_3, .inl (Z.2 0, 4, .inl v_pulseTimes)), (a2_4, .inl (Z.2 0, 4, .inl v_pulseEnergies)), (a4, .inr (4, [.ref a4_1, .ref a4_2, .ref a4_3, (va_rf v_line), .long v_brought, .long v_left, .long v_dropped, .long v_away, .int v_mergings, .int v_drops])), (a4_1, .inl (Z.2 1, 1809, .inr (.inl v_fromNear))), (a4_2, .inl (Z.2 1, 1809, .inr (.inl v_fromFar))), (a4_3, .inl (Z.2 1, 201, .inr (.inl v_echoes))), (a6, .inr (8, [.ref a6_1, .int 0, .int v_hash, .int v_hz]))] [(a0, .inr (7, [.int v_at, .int v_fault, .ref a6, .ref a0_1, .ref a1])), (a0_1, .inl (Z.2 0, 3, .inl v_numbers)), (a1, .inr (0, [.ref a9, .ref a7, .int v_depth, .ref a8, .int v_scriptLength, .ref a4])), (a6_1, .inl (Z.2 2, v_slen, .inl v_sb)), (a5, .inr (3, [.ref a5_1])), (a5_1, .inl (Z.2 1, 201, .inr (.inl v_o_energies)))] [(ab, .inr (1, [.ref a2, .ref a3, .ref a5])), (a2, .inr (2, [.ref a2_1, .ref a2_2, .int v_n, .ref a2_3, .ref a2_4, .int v_pulses, .int v_front, .int v_least, .int v_window])), (a2_1, .inl (Z.2 0, 8, .inl v_lengths)), (a2_2, .inl (Z.2 0, 8, .inl v_fractions)), (a2_3, .inl (Z.2 0, 4, .inl v_pulseTimes)), (a2_4, .inl (Z.2 0, 4, .inl v_pulseEnergies)), (a4, .inr (4, [.ref a4_1, .ref a4_2, .ref a4_3, (va_rf v_line), .long v_brought, .long v_left, .long v_dropped, .long v_away, .int v_mergings, .int v_drops])), (a4_1, .inl (Z.2 1, 1809, .inr (.inl v_fromNear))), (a4_2, .inl (Z.2 1, 1809, .inr (.inl v_fromFar))), (a4_3, .inl (Z.2 1, 201, .inr (.inl v_echoes)))] (fun x : Int32 × Int32 × Int32 × (Nat → Int32) × (Nat → Int32) × (Nat → Int32) × (Nat → Int32) × Int64 × Int64 × Int64 × Int64 × Int32 × Int32 × (Nat → Int64) × (Nat → Int64) × (Nat → Int64) × Int32 × Int32 => (fun z0 : Option Nat => (some (.int x.1) : Option Value))) (fun x : Int32 × Int32 × Int32 × (Nat → Int32) × (Nat → Int32) × (Nat → Int32) × (Nat → Int32) × Int64 × Int64 × Int64 × Int64 × Int32 × Int32 × (Nat → Int64) × (Nat → Int64) × (Nat → Int64) × Int32 × Int32 => (fun z0 : Option Nat => ([(ab, .inr (1, [.ref a2, .ref a3, .ref a5])), (a2, .inr (2, [.ref a2_1, .ref a2_2, .int x.2.1, .ref a2_3, .ref a2_4, .int x.2.2.1, .int v_front, .int v_least, .int v_window])), (a2_1, .inl (Z.2 0, 8, .inl x.2.2.2.1)), (a2_2, .inl (Z.2 0, 8, .inl x.2.2.2.2.1)), (a2_3, .inl (Z.2 0, 4, .inl x.2.2.2.2.2.1)), (a2_4, .inl (Z.2 0, 4, .inl x.2.2.2.2.2.2.1)), (a4, .inr (4, [.ref a4_1, .ref a4_2, .ref a4_3, (va_rf z0), .long x.2.2.2.2.2.2.2.1, .long x.2.2.2.2.2.2.2.2.1, .long x.2.2.2.2.2.2.2.2.2.1, .long x.2.2.2.2.2.2.2.2.2.2.1, .int x.2.2.2.2.2.2.2.2.2.2.2.1, .int x.2.2.2.2.2.2.2.2.2.2.2.2.1])), (a4_1, .inl (Z.2 1, 1809, .inr (.inl x.2.2.2.2.2.2.2.2.2.2.2.2.2.1))), (a4_2, .inl (Z.2 1, 1809, .inr (.inl x.2.2.2.2.2.2.2.2.2.2.2.2.2.2.1))), (a4_3, .inl (Z.2 1, 201, .inr (.inl x.2.2.2.2.2.2.2.2.2.2.2.2.2.2.2.1))), (a6, .inr (8, [.ref a6_1, .int 0, .int x.2.2.2.2.2.2.2.2.2.2.2.2.2.2.2.2.1, .int x.2.2.2.2.2.2.2.2.2.2.2.2.2.2.2.2.2]))] : va_W))) o := by
  refine Cx.of cX9_carryOutOn 2 (some .int) "LineEchoes$Reader" [some (.ref a0), some (.ref ab)] 0 (by decide) rfl (Nat.le_of_ble_eq_true rfl) rfl (fun p e s m args below meth c A X Xt => ?_)
  unfold F_X9_carryOutOn at h
  refine g_aload_n X rfl dX9_carryOutOn_0 1 rfl ?_
  refine g_getR X gC7 0 rfl 4 (by decide) q463 (fun _ h9 => h9) rfl dX9_carryOutOn_1 4 rfl ?_
  refine g_aload_n X rfl dX9_carryOutOn_4 5 rfl ?_
  refine g_aload_n X rfl dX9_carryOutOn_5 6 rfl ?_
  refine g_getR X gC7 0 rfl 2 (by decide) q461 (fun _ h9 => h9) rfl dX9_carryOutOn_6 9 rfl ?_
  refine g_aload_n X rfl dX9_carryOutOn_9 10 rfl ?_
  refine g_getR X gC7 0 rfl 3 (by decide) q462 (fun _ h9 => h9) rfl dX9_carryOutOn_10 13 rfl ?_
  refine g_iconst X 0 dX9_carryOutOn_13 14 rfl kI_0 ?_
  obtain ⟨hi, h⟩ := gin_e h
  refine g_ialdR X 1 rfl hi dX9_carryOutOn_14 15 rfl ?_
  refine g_aload_n X rfl dX9_carryOutOn_15 16 rfl ?_
  refine g_getR X gC7 0 rfl 3 (by decide) q462 (fun _ h9 => h9) rfl dX9_carryOutOn_16 19 rfl ?_
  refine g_iconst X 1 dX9_carryOutOn_19 20 rfl kI_1 ?_
  obtain ⟨hi, h⟩ := gin_e h
  refine g_ialdR X 1 rfl hi dX9_carryOutOn_20 21 rfl ?_
  refine g_aload_n X rfl dX9_carryOutOn_21 22 rfl ?_
  refine g_getR X gC7 0 rfl 3 (by decide) q462 (fun _ h9 => h9) rfl dX9_carryOutOn_22 25 rfl ?_
  refine g_iconst X 2 dX9_carryOutOn_25 26 rfl kI_2 ?_
  obtain ⟨hi, h⟩ := gin_e h
  refine g_ialdR X 1 rfl hi dX9_carryOutOn_26 27 rfl ?_
  rcases bc18_e h with ⟨k9, hcl, hg⟩ | ⟨r1, w2_n, w3_pulses, w4_lengths, w5_fractions, w6_pulseTimes, w7_pulseEnergies, w8_brought, w9_left, w10_dropped, w11_away, w12_mergings, w13_drops, w14_fromNear, w15_fromFar, w16_echoes, w17_hash, w18_hz, hcl, h⟩
  · obtain rfl := Option.some.inj (show some (Sum.inr k9) = some _ from hg)
    exact g_xoVN X (met_X1_carryOut l hl Z ab a2 a2_1 a2_2 a2_3 a2_4 a4 a4_1 a4_2 a4_3 a6 a1 a6_1 a5 a5_1 a3 a9 a7 a8 v_n v_pulses v_front v_least v_window v_lengths v_fractions v_pulseTimes v_pulseEnergies v_line v_brought v_left v_dropped v_away v_mergings v_drops v_fromNear v_fromFar v_echoes v_hash v_hz v_depth v_scriptLength v_sb v_slen v_o_energies (v_numbers (Int32.toNatClampNeg 0)) (v_numbers (Int32.toNatClampNeg 1)) (v_numbers (Int32.toNatClampNeg 2)) _ hcl).thr [0, 1, 2, 3, 4, 5, 6, 7, 8, 9, 10] [] [13, 14, 15, 16] (wr := []) ⟨rfl, rfl, rfl, rfl, rfl, by decide, by decide⟩ 13 gC0 rfl q939 q69 q936 q938 qs13 md_X1_carryOut ⟨(Nat.le_of_ble_eq_true rfl), (Nat.le_of_ble_eq_true rfl)⟩ rfl dX9_carryOutOn_27 Xt [0, 1, 2, 3, 4, 5, 6, 7, 8, 9] (Nat.le_of_ble_eq_true rfl) (Nat.le_of_ble_eq_true rfl) (st := []) rfl (Nat.le_of_ble_eq_true rfl) rfl rfl (Nat.le_of_ble_eq_true rfl) (Nat.le_of_ble_eq_true rfl)
  refine g_callVN1 X (met_X1_carryOut l hl Z ab a2 a2_1 a2_2 a2_3 a2_4 a4 a4_1 a4_2 a4_3 a6 a1 a6_1 a5 a5_1 a3 a9 a7 a8 v_n v_pulses v_front v_least v_window v_lengths v_fractions v_pulseTimes v_pulseEnergies v_line v_brought v_left v_dropped v_away v_mergings v_drops v_fromNear v_fromFar v_echoes v_hash v_hz v_depth v_scriptLength v_sb v_slen v_o_energies (v_numbers (Int32.toNatClampNeg 0)) (v_numbers (Int32.toNatClampNeg 1)) (v_numbers (Int32.toNatClampNeg 2)) _ hcl).ret [0, 1, 2, 3, 4, 5, 6, 7, 8, 9, 10] [] [13, 14, 15, 16] (wr := []) ⟨rfl, rfl, rfl, rfl, rfl, by decide, by decide⟩ 13 gC0 rfl q939 q69 q936 q938 qs13 md_X1_carryOut ⟨(Nat.le_of_ble_eq_true rfl), (Nat.le_of_ble_eq_true rfl)⟩ rfl dX9_carryOutOn_27 30 rfl 6 36 rfl rfl (Nat.le_of_ble_eq_true rfl) (Nat.le_of_ble_eq_true rfl) (st := []) rfl (Nat.le_of_ble_eq_true rfl) (fun _ => rfl) (fun z19 => ?_)
  obtain rfl := Option.some.inj h
  exact g_retI (g_iret X dX9_carryOutOn_30 z19 rfl rfl (Nat.le_of_ble_eq_true rfl) (Nat.le_of_ble_eq_true rfl))
/-! LineEchoes.carryOut(LLineEchoes$Bench;Ljava/lang/String;III)I -/
abbrev rm_X1_carryOutS : Room := { frames := 4, cells := 2, slots := 202, locals := 106 }
def F_X1_carryOutS_186 (v_n : Int32) (v_pulses : Int32) (v_front : Int32) (v_least : Int32) (v_window : Int32) (v_lengths : Nat → Int32) (v_fractions : Nat → Int32) (v_pulseTimes : Nat → Int32) (v_pulseEnergies : Nat → Int32) (v_fromNear : Nat → Int64) (v_fromFar : Nat → Int64) (v_echoes : Nat → Int64) (v_hash : Int32) (v_hz : Int32) (x7 : Int32) : Option ((Int32 × Int64 × Int64 × Int64 × Int64 × Int32 × Int32 × (Nat → Int64) × (Nat → Int64) × (Nat → Int64) × Int32 × Int32 × (Nat → Int64)) ⊕ Nat) :=
  if x7 = 0 then
    (none)
  else
    (if x7 = 1 then
      (none)
    else
      (if x7 = 2 then
        (none)
      else
        (if x7 = 3 then
          (none)
        else
          (if x7 = 4 then
            (none)
          else
            (if x7 = 5 then
              (bd11 (F_X2_keepSound v_fromNear v_fromFar v_echoes v_n v_pulses v_front v_least v_window v_lengths v_fractions v_pulseTimes v_pulseEnergies) fun r1 w2_brought w3_left w4_dropped w5_away w6_mergings w7_drops w8_fromNear w9_fromFar w10_echoes w11_o1 =>
              some (.inl (r1, w2_brought, w3_left, w4_dropped, w5_away, w6_mergings, w7_drops, w8_fromNear, w9_fromFar, w10_echoes, v_hash, v_hz, w11_o1)))
            else
              (if x7 = 6 then
                (none)
              else
                (none)))))))
def F_X1_carryOutS (v_n : Int32) (v_pulses : Int32) (v_front : Int32) (v_least : Int32) (v_window : Int32) (v_lengths : Nat → Int32) (v_fractions : Nat → Int32) (v_pulseTimes : Nat → Int32) (v_pulseEnergies : Nat → Int32) (v_fromNear : Nat → Int64) (v_fromFar : Nat → Int64) (v_echoes : Nat → Int64) (v_hash : Int32) (v_hz : Int32) (v_sb : Nat → Int32) (v_slen : Nat) : Option ((Int32 × Int64 × Int64 × Int64 × Int64 × Int32 × Int32 × (Nat → Int64) × (Nat → Int64) × (Nat → Int64) × Int32 × Int32 × (Nat → Int64)) ⊕ Nat) :=
  bd3 (F_J7_hashCode v_hash v_hz v_sb v_slen) fun r1 w2_hash w3_hz =>
  if r1 = 98882 then
    (bd1 (F_J7_equals v_sb v_slen ([99, 117, 116])) fun r4 =>
    if r4 = 0 then
      (F_X1_carryOutS_186 v_n v_pulses v_front v_least v_window v_lengths v_fractions v_pulseTimes v_pulseEnergies v_fromNear v_fromFar v_echoes w2_hash w3_hz (-1))
    else
      (F_X1_carryOutS_186 v_n v_pulses v_front v_least v_window v_lengths v_fractions v_pulseTimes v_pulseEnergies v_fromNear v_fromFar v_echoes w2_hash w3_hz 2))
  else
    (if r1 = 113762 then
      (bd1 (F_J7_equals v_sb v_slen ([115, 101, 116])) fun r5 =>
      if r5 = 0 then
        (F_X1_carryOutS_186 v_n v_pulses v_front v_least v_window v_lengths v_fractions v_pulseTimes v_pulseEnergies v_fromNear v_fromFar v_echoes w2_hash w3_hz (-1))
      else
        (F_X1_carryOutS_186 v_n v_pulses v_front v_least v_window v_lengths v_fractions v_pulseTimes v_pulseEnergies v_fromNear v_fromFar v_echoes w2_hash w3_hz 1))
    else
      (if r1 = 3327647 then
        (bd1 (F_J7_equals v_sb v_slen ([108, 111, 111, 107])) fun r6 =>
        if r6 = 0 then
          (F_X1_carryOutS_186 v_n v_pulses v_front v_least v_window v_lengths v_fractions v_pulseTimes v_pulseEnergies v_fromNear v_fromFar v_echoes w2_hash w3_hz (-1))
        else
          (F_X1_carryOutS_186 v_n v_pulses v_front v_least v_window v_lengths v_fractions v_pulseTimes v_pulseEnergies v_fromNear v_fromFar v_echoes w2_hash w3_hz 6))
      else
        (if r1 = 3433459 then
          (bd1 (F_J7_equals v_sb v_slen ([112, 97, 114, 116])) fun r7 =>
          if r7 = 0 then
            (F_X1_carryOutS_186 v_n v_pulses v_front v_least v_window v_lengths v_fractions v_pulseTimes v_pulseEnergies v_fromNear v_fromFar v_echoes w2_hash w3_hz (-1))
          else
            (F_X1_carryOutS_186 v_n v_pulses v_front v_least v_window v_lengths v_fractions v_pulseTimes v_pulseEnergies v_fromNear v_fromFar v_echoes w2_hash w3_hz 0))
        else
          (if r1 = 107027353 then
            (bd1 (F_J7_equals v_sb v_slen ([112, 117, 108, 115, 101])) fun r8 =>
            if r8 = 0 then
              (F_X1_carryOutS_186 v_n v_pulses v_front v_least v_window v_lengths v_fractions v_pulseTimes v_pulseEnergies v_fromNear v_fromFar v_echoes w2_hash w3_hz (-1))
            else
              (F_X1_carryOutS_186 v_n v_pulses v_front v_least v_window v_lengths v_fractions v_pulseTimes v_pulseEnergies v_fromNear v_fromFar v_echoes w2_hash w3_hz 4))
          else
            (if r1 = 109627663 then
              (bd1 (F_J7_equals v_sb v_slen ([115, 111, 117, 110, 100])) fun r9 =>
              if r9 = 0 then
                (F_X1_carryOutS_186 v_n v_pulses v_front v_least v_window v_lengths v_fractions v_pulseTimes v_pulseEnergies v_fromNear v_fromFar v_echoes w2_hash w3_hz (-1))
              else
                (F_X1_carryOutS_186 v_n v_pulses v_front v_least v_window v_lengths v_fractions v_pulseTimes v_pulseEnergies v_fromNear v_fromFar v_echoes w2_hash w3_hz 5))
            else
              (if r1 = 109648666 then
                (bd1 (F_J7_equals v_sb v_slen ([115, 112, 108, 105, 116])) fun r10 =>
                if r10 = 0 then
                  (F_X1_carryOutS_186 v_n v_pulses v_front v_least v_window v_lengths v_fractions v_pulseTimes v_pulseEnergies v_fromNear v_fromFar v_echoes w2_hash w3_hz (-1))
                else
                  (F_X1_carryOutS_186 v_n v_pulses v_front v_least v_window v_lengths v_fractions v_pulseTimes v_pulseEnergies v_fromNear v_fromFar v_echoes w2_hash w3_hz 3))
              else
                (F_X1_carryOutS_186 v_n v_pulses v_front v_least v_window v_lengths v_fractions v_pulseTimes v_pulseEnergies v_fromNear v_fromFar v_echoes w2_hash w3_hz (-1))))))))
theorem w_X1_carryOutS_186 {p : Program} {l : Launch} {e : Env} {s : State} {m : MethodId} {args : Array Value} {below : List Frame} {meth : Method} {c : Code} {Z : gZt} {A : Nat → Prop} (a1 : Nat) (a2 : Nat) (a2_1 : Nat) (a2_2 : Nat) (a2_3 : Nat) (a2_4 : Nat) (a4 : Nat) (a4_1 : Nat) (a4_2 : Nat) (a4_3 : Nat) (a6 : Nat) (a0 : Nat) (a6_1 : Nat) (a5 : Nat) (a5_1 : Nat) (a3 : Nat) (a9 : Nat) (a7 : Nat) (a8 : Nat) (v_depth : Int32) (v_scriptLength : Int32) (v_sb : Nat → Int32) (v_slen : Nat) (v_o_energies : Nat → Int64) (X : gX p s m args meth c Z A cX1_carryOut "LineEchoes" 8 (some .int) [(a0, .inr (0, [.ref a9, .ref a7, .int v_depth, .ref a8, .int v_scriptLength, .ref a4])), (a6_1, .inl (Z.2 2, v_slen, .inl v_sb)), (a5, .inr (3, [.ref a5_1])), (a5_1, .inl (Z.2 1, 201, .inr (.inl v_o_energies)))]) (Xt : gXt c) (hl : l.stackTraces = false) (o : (Int32 × Int64 × Int64 × Int64 × Int64 × Int32 × Int32 × (Nat → Int64) × (Nat → Int64) × (Nat → Int64) × Int32 × Int32 × (Nat → Int64)) ⊕ Nat)  (v_n : Int32) (v_pulses : Int32) (v_front : Int32) (v_least : Int32) (v_window : Int32) (v_lengths : Nat → Int32) (v_fractions : Nat → Int32) (v_pulseTimes : Nat → Int32) (v_pulseEnergies : Nat → Int32) (v_line : Option Nat) (v_brought : Int64) (v_left : Int64) (v_dropped : Int64) (v_away : Int64) (v_mergings : Int32) (v_drops : Int32) (v_fromNear : Nat → Int64) (v_fromFar : Nat → Int64) (v_echoes : Nat → Int64) (v_hash : Int32) (v_hz : Int32) (x7 : Int32) (h : F_X1_carryOutS_186 v_n v_pulses v_front v_least v_window v_lengths v_fractions v_pulseTimes v_pulseEnergies v_fromNear v_fromFar v_echoes v_hash v_hz x7 = some o) : G p l e rm_X1_carryOutS s m args below meth c Z A 8 (vx_MQ below (gQc Z A (fun x : Int32 × Int64 × Int64 × Int64 × Int64 × Int32 × Int32 × (Nat → Int64) × (Nat → Int64) × (Nat → Int64) × Int32 × Int32 × (Nat → Int64) => (fun u : Nat × Nat × Option Nat => (some (.int x.1) : Option Value))) (fun x : Int32 × Int64 × Int64 × Int64 × Int64 × Int32 × Int32 × (Nat → Int64) × (Nat → Int64) × (Nat → Int64) × Int32 × Int32 × (Nat → Int64) => (fun u : Nat × Nat × Option Nat => ([(a1, .inr (1, [.ref a2, .ref u.1, .ref a5])), (a2, .inr (2, [.ref a2_1, .ref a2_2, .int v_n, .ref a2_3, .ref a2_4, .int v_pulses, .int v_front, .int v_least, .int v_window])), (a2_1, .inl (Z.2 0, 8, .inl v_lengths)), (a2_2, .inl (Z.2 0, 8, .inl v_fractions)), (a2_3, .inl (Z.2 0, 4, .inl v_pulseTimes)), (a2_4, .inl (Z.2 0, 4, .inl v_pulseEnergies)), (a4, .inr (4, [.ref a4_1, .ref a4_2, .ref a4_3, (va_rf u.2.2), .long x.2.1, .long x.2.2.1, .long x.2.2.2.1, .long x.2.2.2.2.1, .int x.2.2.2.2.2.1, .int x.2.2.2.2.2.2.1])), (a4_1, .inl (Z.2 1, 1809, .inr (.inl x.2.2.2.2.2.2.2.1))), (a4_2, .inl (Z.2 1, 1809, .inr (.inl x.2.2.2.2.2.2.2.2.1))), (a4_3, .inl (Z.2 1, 201, .inr (.inl x.2.2.2.2.2.2.2.2.2.1))), (a6, .inr (8, [.ref a6_1, .int 0, .int x.2.2.2.2.2.2.2.2.2.2.1, .int x.2.2.2.2.2.2.2.2.2.2.2.1])), (u.1, .inr (3, [.ref u.2.1])), (u.2.1, .inl (Z.2 1, 201, .inr (.inl x.2.2.2.2.2.2.2.2.2.2.2.2)))] : va_W))) o) (gXc Z A [(a1, .inr (1, [.ref a2, .ref a3, .ref a5])), (a2, .inr (2, [.ref a2_1, .ref a2_2, .int v_n, .ref a2_3, .ref a2_4, .int v_pulses, .int v_front, .int v_least, .int v_window])), (a2_1, .inl (Z.2 0, 8, .inl v_lengths)), (a2_2, .inl (Z.2 0, 8, .inl v_fractions)), (a2_3, .inl (Z.2 0, 4, .inl v_pulseTimes)), (a2_4, .inl (Z.2 0, 4, .inl v_pulseEnergies)), (a4, .inr (4, [.ref a4_1, .ref a4_2, .ref a4_3, (va_rf v_line), .long v_brought, .long v_left, .long v_dropped, .long v_away, .int v_mergings, .int v_drops])), (a4_1, .inl (Z.2 1, 1809, .inr (.inl v_fromNear))), (a4_2, .inl (Z.2 1, 1809, .inr (.inl v_fromFar))), (a4_3, .inl (Z.2 1, 201, .inr (.inl v_echoes)))] o) args s 2 202 A) [(a1, .inr (1, [.ref a2, .ref a3, .ref a5])), (a2, .inr (2, [.ref a2_1, .ref a2_2, .int v_n, .ref a2_3, .ref a2_4, .int v_pulses, .int v_front, .int v_least, .int v_window])), (a2_1, .inl (Z.2 0, 8, .inl v_lengths)), (a2_2, .inl (Z.2 0, 8, .inl v_fractions)), (a2_3, .inl (Z.2 0, 4, .inl v_pulseTimes)), (a2_4, .inl (Z.2 0, 4, .inl v_pulseEnergies)), (a4, .inr (4, [.ref a4_1, .ref a4_2, .ref a4_3, (va_rf v_line), .long v_brought, .long v_left, .long v_dropped, .long v_away, .int v_mergings, .int v_drops])), (a4_1, .inl (Z.2 1, 1809, .inr (.inl v_fromNear))), (a4_2, .inl (Z.2 1, 1809, .inr (.inl v_fromFar))), (a4_3, .inl (Z.2 1, 201, .inr (.inl v_echoes))), (a6, .inr (8, [.ref a6_1, .int 0, .int v_hash, .int v_hz]))] 0 0 186 [some (.ref a0), some (.ref a1), none, none, none, none, none, some (.int x7)] [] := by
  unfold F_X1_carryOutS_186 at h
  refine g_iload X rfl dX1_carryOut_186 188 rfl ?_
  by_cases hc0 : x7 = 0
  · replace h := if_t hc0 h
    refine g_tabIn X dX1_carryOut_188 232 0 hc0 (by decide) (by decide) rfl (by decide) ?_
    cases h
  replace h := if_f hc0 h
  by_cases hc1 : x7 = 1
  · replace h := if_t hc1 h
    refine g_tabIn X dX1_carryOut_188 240 1 hc1 (by decide) (by decide) rfl (by decide) ?_
    cases h
  replace h := if_f hc1 h
  by_cases hc2 : x7 = 2
  · replace h := if_t hc2 h
    refine g_tabIn X dX1_carryOut_188 250 2 hc2 (by decide) (by decide) rfl (by decide) ?_
    cases h
  replace h := if_f hc2 h
  by_cases hc3 : x7 = 3
  · replace h := if_t hc3 h
    refine g_tabIn X dX1_carryOut_188 256 3 hc3 (by decide) (by decide) rfl (by decide) ?_
    cases h
  replace h := if_f hc3 h
  by_cases hc4 : x7 = 4
  · replace h := if_t hc4 h
    refine g_tabIn X dX1_carryOut_188 266 4 hc4 (by decide) (by decide) rfl (by decide) ?_
    cases h
  replace h := if_f hc4 h
  by_cases hc5 : x7 = 5
  · replace h := if_t hc5 h
    refine g_tabIn X dX1_carryOut_188 274 5 hc5 (by decide) (by decide) rfl (by decide) ?_
    refine g_aload_n X rfl dX1_carryOut_274 275 rfl ?_
    refine g_aload_n X rfl dX1_carryOut_275 276 rfl ?_
    refine g_getR X gC0 0 rfl 5 (by decide) q248 (fun _ h9 => h9) rfl dX1_carryOut_276 279 rfl ?_
    obtain ⟨r1, w2_brought, w3_left, w4_dropped, w5_away, w6_mergings, w7_drops, w8_fromNear, w9_fromFar, w10_echoes, w11_o1, hcl, h⟩ := bd11_e h
    refine g_callV1 X (met_X2_keepSound l Z a1 a4 a4_1 a4_2 a4_3 a2 a2_1 a2_2 a2_3 a2_4 a3 a5 v_line v_brought v_left v_dropped v_away v_mergings v_drops v_fromNear v_fromFar v_echoes v_n v_pulses v_front v_least v_window v_lengths v_fractions v_pulseTimes v_pulseEnergies  r1 w2_brought w3_left w4_dropped w5_away w6_mergings w7_drops w8_fromNear w9_fromFar w10_echoes w11_o1 hcl) [0, 6, 7, 8, 9] [1, 2, 3, 4, 5, 10] [1, 2, 3, 4, 5] (wr := [(a2, .inr (2, [.ref a2_1, .ref a2_2, .int v_n, .ref a2_3, .ref a2_4, .int v_pulses, .int v_front, .int v_least, .int v_window])), (a2_1, .inl (Z.2 0, 8, .inl v_lengths)), (a2_2, .inl (Z.2 0, 8, .inl v_fractions)), (a2_3, .inl (Z.2 0, 4, .inl v_pulseTimes)), (a2_4, .inl (Z.2 0, 4, .inl v_pulseEnergies)), (a6, .inr (8, [.ref a6_1, .int 0, .int v_hash, .int v_hz]))]) ⟨rfl, rfl, rfl, rfl, rfl, by decide, by decide⟩ 0 gC1 rfl rfl (lw_V q303 q304 q305 q70 q306) md_X2_keepSound ⟨(Nat.le_of_ble_eq_true rfl), (Nat.le_of_ble_eq_true rfl)⟩ rfl dX1_carryOut_279 282 rfl 2 202 rfl rfl (Nat.le_of_ble_eq_true rfl) (Nat.le_of_ble_eq_true rfl) (st := []) rfl (Nat.le_of_ble_eq_true rfl) (fun _ => rfl) (fun u => ?_)
    obtain ⟨b12, b13⟩ := u
    refine g_wd [(a2, .inr (2, [.ref a2_1, .ref a2_2, .int v_n, .ref a2_3, .ref a2_4, .int v_pulses, .int v_front, .int v_least, .int v_window])), (a2_1, .inl (Z.2 0, 8, .inl v_lengths)), (a2_2, .inl (Z.2 0, 8, .inl v_fractions)), (a2_3, .inl (Z.2 0, 4, .inl v_pulseTimes)), (a2_4, .inl (Z.2 0, 4, .inl v_pulseEnergies)), (a6, .inr (8, [.ref a6_1, .int 0, .int v_hash, .int v_hz])), (a1, .inr (1, [.ref a2, .ref b12, .ref a5])), (a4, .inr (4, [.ref a4_1, .ref a4_2, .ref a4_3, .ref a2, .long w2_brought, .long w3_left, .long w4_dropped, .long w5_away, .int w6_mergings, .int w7_drops])), (a4_1, .inl (Z.2 1, 1809, .inr (.inl w8_fromNear))), (a4_2, .inl (Z.2 1, 1809, .inr (.inl w9_fromFar))), (a4_3, .inl (Z.2 1, 201, .inr (.inl w10_echoes))), (b12, .inr (3, [.ref b13])), (b13, .inl (Z.2 1, 201, .inr (.inl w11_o1)))] rfl ?_
    refine g_keep [6, 0, 1, 2, 3, 4, 7, 8, 9, 10, 5, 11, 12] [(a1, .inr (1, [.ref a2, .ref b12, .ref a5])), (a2, .inr (2, [.ref a2_1, .ref a2_2, .int v_n, .ref a2_3, .ref a2_4, .int v_pulses, .int v_front, .int v_least, .int v_window])), (a2_1, .inl (Z.2 0, 8, .inl v_lengths)), (a2_2, .inl (Z.2 0, 8, .inl v_fractions)), (a2_3, .inl (Z.2 0, 4, .inl v_pulseTimes)), (a2_4, .inl (Z.2 0, 4, .inl v_pulseEnergies)), (a4, .inr (4, [.ref a4_1, .ref a4_2, .ref a4_3, .ref a2, .long w2_brought, .long w3_left, .long w4_dropped, .long w5_away, .int w6_mergings, .int w7_drops])), (a4_1, .inl (Z.2 1, 1809, .inr (.inl w8_fromNear))), (a4_2, .inl (Z.2 1, 1809, .inr (.inl w9_fromFar))), (a4_3, .inl (Z.2 1, 201, .inr (.inl w10_echoes))), (a6, .inr (8, [.ref a6_1, .int 0, .int v_hash, .int v_hz])), (b12, .inr (3, [.ref b13])), (b13, .inl (Z.2 1, 201, .inr (.inl w11_o1)))] rfl rfl ?_
    obtain rfl := Option.some.inj h
    exact g_retI (g_iret X dX1_carryOut_282 (b12, b13, (some a2)) rfl rfl (Nat.le_of_ble_eq_true rfl) (Nat.le_of_ble_eq_true rfl))
  replace h := if_f hc5 h
  by_cases hc6 : x7 = 6
  · replace h := if_t hc6 h
    refine g_tabIn X dX1_carryOut_188 283 6 hc6 (by decide) (by decide) rfl (by decide) ?_
    cases h
  replace h := if_f hc6 h
  refine g_tabOut X dX1_carryOut_188 292 (g_rng (lo := 0) (n := 7) (fun i hi => match i, hi with | 0, _ => lv_neT hc0 (by decide) | 1, _ => lv_neT hc1 (by decide) | 2, _ => lv_neT hc2 (by decide) | 3, _ => lv_neT hc3 (by decide) | 4, _ => lv_neT hc4 (by decide) | 5, _ => lv_neT hc5 (by decide) | 6, _ => lv_neT hc6 (by decide) | n + 7, hi => absurd hi (by omega)) (by decide)) (by decide) ?_
  cases h
theorem met_X1_carryOutS (l : Launch) (hl : l.stackTraces = false) (Z : gZt) (a1 : Nat) (a2 : Nat) (a2_1 : Nat) (a2_2 : Nat) (a2_3 : Nat) (a2_4 : Nat) (a4 : Nat) (a4_1 : Nat) (a4_2 : Nat) (a4_3 : Nat) (a6 : Nat) (a0 : Nat) (a6_1 : Nat) (a5 : Nat) (a5_1 : Nat) (a3 : Nat) (a9 : Nat) (a7 : Nat) (a8 : Nat) (v_n : Int32) (v_pulses : Int32) (v_front : Int32) (v_least : Int32) (v_window : Int32) (v_lengths : Nat → Int32) (v_fractions : Nat → Int32) (v_pulseTimes : Nat → Int32) (v_pulseEnergies : Nat → Int32) (v_line : Option Nat) (v_brought : Int64) (v_left : Int64) (v_dropped : Int64) (v_away : Int64) (v_mergings : Int32) (v_drops : Int32) (v_fromNear : Nat → Int64) (v_fromFar : Nat → Int64) (v_echoes : Nat → Int64) (v_hash : Int32) (v_hz : Int32) (v_depth : Int32) (v_scriptLength : Int32) (v_sb : Nat → Int32) (v_slen : Nat) (v_o_energies : Nat → Int64) (x3 : Int32) (x4 : Int32) (x5 : Int32) (o : (Int32 × Int64 × Int64 × Int64 × Int64 × Int32 × Int32 × (Nat → Int64) × (Nat → Int64) × (Nat → Int64) × Int32 × Int32 × (Nat → Int64)) ⊕ Nat) (h : F_X1_carryOutS v_n v_pulses v_front v_least v_window v_lengths v_fractions v_pulseTimes v_pulseEnergies v_fromNear v_fromFar v_echoes v_hash v_hz v_sb v_slen = some o) : Cx l yX1_carryOut (ws_ yX1_carryOut cX1_carryOut 8 (some .int)) rm_X1_carryOutS Z [.ref a0, .ref a1, .ref a6, .int x3, .int x4, .int x5] [(a1, .inr (1, [.ref a2, .ref a3, .ref a5])), (a2, .inr (2, [.ref a2_1, .ref a2_2, .int v_n, .ref a2_3, .ref a2_4, .int v_pulses, .int v_front, .int v_least, .int v_window])), (a2_1, .inl (Z.2 0, 8, .inl v_lengths)), (a2_2, .inl (Z.2 0, 8, .inl v_fractions)), (a2_3, .inl (Z.2 0, 4, .inl v_pulseTimes)), (a2_4, .inl (Z.2 0, 4, .inl v_pulseEnergies)), (a4, .inr (4, [.ref a4_1, .ref a4_2, .ref a4_3, (va_rf v_line), .long v_brought, .long v_left, .long v_dropped, .long v_away, .int v_mergings, .int v_drops])), (a4_1, .inl (Z.2 1, 1809, .inr (.inl v_fromNear))), (a4_2, .inl (Z.2 1, 1809, .inr (.inl v_fromFar))), (a4_3, .inl (Z.2 1, 201, .inr (.inl v_echoes))), (a6, .inr (8, [.ref a6_1, .int 0, .int v_hash, .int v_hz]))] [(a0, .inr (0, [.ref a9, .ref a7, .int v_depth, .ref a8, .int v_scriptLength, .ref a4])), (a6_1, .inl (Z.2 2, v_slen, .inl v_sb)), (a5, .inr (3, [.ref a5_1])), (a5_1, .inl (Z.2 1, 201, .inr (.inl v_o_energies)))] [(a1, .inr (1, [.ref a2, .ref a3, .ref a5])), (a2, .inr (2, [.ref a2_1, .ref a2_2, .int v_n, .ref a2_3, .ref a2_4, .int v_pulses, .int v_front, .int v_least, .int v_window])), (a2_1, .inl (Z.2 0, 8, .inl v_lengths)), (a2_2, .inl (Z.2 0, 8, .inl v_fractions)), (a2_3, .inl (Z.2 0, 4, .inl v_pulseTimes)), (a2_4, .inl (Z.2 0, 4, .inl v_pulseEnergies)), (a4, .inr (4, [.ref a4_1, .ref a4_2, .ref a4_3, (va_rf v_line), .long v_brought, .long v_left, .long v_dropped, .long v_away, .int v_mergings, .int v_drops])), (a4_1, .inl (Z.2 1, 1809, .inr (.inl v_fromNear))), (a4_2, .inl (Z.2 1, 1809, .inr (.inl v_fromFar))), (a4_3, .inl (Z.2 1, 201, .inr (.inl v_echoes)))] (fun x : Int32 × Int64 × Int64 × Int64 × Int64 × Int32 × Int32 × (Nat → Int64) × (Nat → Int64) × (Nat → Int64) × Int32 × Int32 × (Nat → Int64) => (fun u : Nat × Nat × Option Nat => (some (.int x.1) : Option Value))) (fun x : Int32 × Int64 × Int64 × Int64 × Int64 × Int32 × Int32 × (Nat → Int64) × (Nat → Int64) × (Nat → Int64) × Int32 × Int32 × (Nat → Int64) => (fun u : Nat × Nat × Option Nat => ([(a1, .inr (1, [.ref a2, .ref u.1, .ref a5])), (a2, .inr (2, [.ref a2_1, .ref a2_2, .int v_n, .ref a2_3, .ref a2_4, .int v_pulses, .int v_front, .int v_least, .int v_window])), (a2_1, .inl (Z.2 0, 8, .inl v_lengths)), (a2_2, .inl (Z.2 0, 8, .inl v_fractions)), (a2_3, .inl (Z.2 0, 4, .inl v_pulseTimes)), (a2_4, .inl (Z.2 0, 4, .inl v_pulseEnergies)), (a4, .inr (4, [.ref a4_1, .ref a4_2, .ref a4_3, (va_rf u.2.2), .long x.2.1, .long x.2.2.1, .long x.2.2.2.1, .long x.2.2.2.2.1, .int x.2.2.2.2.2.1, .int x.2.2.2.2.2.2.1])), (a4_1, .inl (Z.2 1, 1809, .inr (.inl x.2.2.2.2.2.2.2.1))), (a4_2, .inl (Z.2 1, 1809, .inr (.inl x.2.2.2.2.2.2.2.2.1))), (a4_3, .inl (Z.2 1, 201, .inr (.inl x.2.2.2.2.2.2.2.2.2.1))), (a6, .inr (8, [.ref a6_1, .int 0, .int x.2.2.2.2.2.2.2.2.2.2.1, .int x.2.2.2.2.2.2.2.2.2.2.2.1])), (u.1, .inr (3, [.ref u.2.1])), (u.2.1, .inl (Z.2 1, 201, .inr (.inl x.2.2.2.2.2.2.2.2.2.2.2.2)))] : va_W))) o := by
  refine Cx.of cX1_carryOut 8 (some .int) "LineEchoes" [some (.ref a0), some (.ref a1), some (.ref a6), some (.int x3), some (.int x4), some (.int x5), none, none] 2 (by decide) rfl (Nat.le_of_ble_eq_true rfl) rfl (fun p e s m args below meth c A X Xt => ?_)
  unfold F_X1_carryOutS at h
  refine g_aload_n X rfl dX1_carryOut_0 1 rfl ?_
  refine g_astore X dX1_carryOut_1 3 rfl (Nat.le_of_ble_eq_true rfl) rfl [some (.ref a0), some (.ref a1), some (.ref a6), some (.int x3), some (.int x4), some (.int x5), some (.ref a6), none] rfl ?_
  refine g_iconst X (-1) dX1_carryOut_3 4 rfl kI_m1 ?_
  refine g_istore X dX1_carryOut_4 6 rfl (Nat.le_of_ble_eq_true rfl) rfl [some (.ref a0), some (.ref a1), some (.ref a6), some (.int x3), some (.int x4), some (.int x5), some (.ref a6), some (.int (-1))] rfl ?_
  refine g_aload X rfl dX1_carryOut_6 8 rfl ?_
  obtain ⟨r1, w2_hash, w3_hz, hcl, h⟩ := bd3_e h
  refine g_callV1 X (met_J7_hashCode l Z a6 a6_1 v_hash v_hz v_sb v_slen  r1 w2_hash w3_hz hcl) [10] [0, 1, 2, 3, 4, 5, 6, 7, 8, 9] [12] (wr := [(a1, .inr (1, [.ref a2, .ref a3, .ref a5])), (a2, .inr (2, [.ref a2_1, .ref a2_2, .int v_n, .ref a2_3, .ref a2_4, .int v_pulses, .int v_front, .int v_least, .int v_window])), (a2_1, .inl (Z.2 0, 8, .inl v_lengths)), (a2_2, .inl (Z.2 0, 8, .inl v_fractions)), (a2_3, .inl (Z.2 0, 4, .inl v_pulseTimes)), (a2_4, .inl (Z.2 0, 4, .inl v_pulseEnergies)), (a4, .inr (4, [.ref a4_1, .ref a4_2, .ref a4_3, (va_rf v_line), .long v_brought, .long v_left, .long v_dropped, .long v_away, .int v_mergings, .int v_drops])), (a4_1, .inl (Z.2 1, 1809, .inr (.inl v_fromNear))), (a4_2, .inl (Z.2 1, 1809, .inr (.inl v_fromFar))), (a4_3, .inl (Z.2 1, 201, .inr (.inl v_echoes)))]) ⟨rfl, rfl, rfl, rfl, rfl, by decide, by decide⟩ 10 gC8 rfl rfl (lw_V q826 q827 q828 q83 q829) md_J7_hashCode ⟨(Nat.le_of_ble_eq_true rfl), (Nat.le_of_ble_eq_true rfl)⟩ rfl dX1_carryOut_8 11 rfl 0 0 rfl rfl (Nat.le_of_ble_eq_true rfl) (Nat.le_of_ble_eq_true rfl) (st := []) rfl (Nat.le_of_ble_eq_true rfl) (fun _ => rfl) (fun _ => ?_)
  by_cases hc0 : r1 = 98882
  · replace h := if_t hc0 h
    refine g_look (off := 97) X dX1_carryOut_11 108 (by decide) (by rw [hc0] <;> rfl) (by decide) ?_
    refine g_aload X rfl dX1_carryOut_108 110 rfl ?_
    refine g_ldcS X 4 rfl dX1_carryOut_110 112 rfl ?_
    refine g_neK X 10 4 rfl rfl (fun hne => ?_)
    obtain ⟨r4, hcl, h⟩ := bd1_e h
    refine g_callV1 X (met_J7_equals l Z a6 a6_1 w2_hash w3_hz v_sb v_slen  [99, 117, 116] 4 rfl hne r4 hcl) [] [0, 1, 2, 3, 4, 5, 6, 7, 8, 9, 10] [10, 12] (wr := [(a1, .inr (1, [.ref a2, .ref a3, .ref a5])), (a2, .inr (2, [.ref a2_1, .ref a2_2, .int v_n, .ref a2_3, .ref a2_4, .int v_pulses, .int v_front, .int v_least, .int v_window])), (a2_1, .inl (Z.2 0, 8, .inl v_lengths)), (a2_2, .inl (Z.2 0, 8, .inl v_fractions)), (a2_3, .inl (Z.2 0, 4, .inl v_pulseTimes)), (a2_4, .inl (Z.2 0, 4, .inl v_pulseEnergies)), (a4, .inr (4, [.ref a4_1, .ref a4_2, .ref a4_3, (va_rf v_line), .long v_brought, .long v_left, .long v_dropped, .long v_away, .int v_mergings, .int v_drops])), (a4_1, .inl (Z.2 1, 1809, .inr (.inl v_fromNear))), (a4_2, .inl (Z.2 1, 1809, .inr (.inl v_fromFar))), (a4_3, .inl (Z.2 1, 201, .inr (.inl v_echoes))), (a6, .inr (8, [.ref a6_1, .int 0, .int w2_hash, .int w3_hz]))]) ⟨rfl, rfl, rfl, rfl, rfl, by decide, by decide⟩ 10 gC8 rfl rfl (lw_V q888 q889 q890 q83 q891) md_J7_equals ⟨(Nat.le_of_ble_eq_true rfl), (Nat.le_of_ble_eq_true rfl)⟩ rfl dX1_carryOut_112 115 rfl 0 0 rfl rfl (Nat.le_of_ble_eq_true rfl) (Nat.le_of_ble_eq_true rfl) (st := []) rfl (Nat.le_of_ble_eq_true rfl) (fun _ => rfl) (fun _ => ?_)
    refine g_if_eq X dX1_carryOut_115 186 (by decide) 118 rfl (fun hc => ?_) (fun hc => ?_)
    · replace h := if_t hc h
      refine g_kill (j := 2) [some (.ref a0), some (.ref a1), none, some (.int x3), some (.int x4), some (.int x5), some (.ref a6), some (.int (-1))] rfl ?_
      refine g_kill (j := 3) [some (.ref a0), some (.ref a1), none, none, some (.int x4), some (.int x5), some (.ref a6), some (.int (-1))] rfl ?_
      refine g_kill (j := 4) [some (.ref a0), some (.ref a1), none, none, none, some (.int x5), some (.ref a6), some (.int (-1))] rfl ?_
      refine g_kill (j := 5) [some (.ref a0), some (.ref a1), none, none, none, none, some (.ref a6), some (.int (-1))] rfl ?_
      refine g_kill (j := 6) [some (.ref a0), some (.ref a1), none, none, none, none, none, some (.int (-1))] rfl ?_
      exact w_X1_carryOutS_186 a1 a2 a2_1 a2_2 a2_3 a2_4 a4 a4_1 a4_2 a4_3 a6 a0 a6_1 a5 a5_1 a3 a9 a7 a8 v_depth v_scriptLength v_sb v_slen v_o_energies X Xt hl  _    v_n v_pulses v_front v_least v_window v_lengths v_fractions v_pulseTimes v_pulseEnergies v_line v_brought v_left v_dropped v_away v_mergings v_drops v_fromNear v_fromFar v_echoes w2_hash w3_hz (-1) h
    · replace h := if_f hc h
      refine g_iconst X 2 dX1_carryOut_118 119 rfl kI_2 ?_
      refine g_istore X dX1_carryOut_119 121 rfl (Nat.le_of_ble_eq_true rfl) rfl [some (.ref a0), some (.ref a1), some (.ref a6), some (.int x3), some (.int x4), some (.int x5), some (.ref a6), some (.int 2)] rfl ?_
      refine g_goto X dX1_carryOut_121 186 (by decide) ?_
      refine g_kill (j := 2) [some (.ref a0), some (.ref a1), none, some (.int x3), some (.int x4), some (.int x5), some (.ref a6), some (.int 2)] rfl ?_
      refine g_kill (j := 3) [some (.ref a0), some (.ref a1), none, none, some (.int x4), some (.int x5), some (.ref a6), some (.int 2)] rfl ?_
      refine g_kill (j := 4) [some (.ref a0), some (.ref a1), none, none, none, some (.int x5), some (.ref a6), some (.int 2)] rfl ?_
      refine g_kill (j := 5) [some (.ref a0), some (.ref a1), none, none, none, none, some (.ref a6), some (.int 2)] rfl ?_
      refine g_kill (j := 6) [some (.ref a0), some (.ref a1), none, none, none, none, none, some (.int 2)] rfl ?_
      exact w_X1_carryOutS_186 a1 a2 a2_1 a2_2 a2_3 a2_4 a4 a4_1 a4_2 a4_3 a6 a0 a6_1 a5 a5_1 a3 a9 a7 a8 v_depth v_scriptLength v_sb v_slen v_o_energies X Xt hl  _    v_n v_pulses v_front v_least v_window v_lengths v_fractions v_pulseTimes v_pulseEnergies v_line v_brought v_left v_dropped v_away v_mergings v_drops v_fromNear v_fromFar v_echoes w2_hash w3_hz 2 h
  replace h := if_f hc0 h
  by_cases hc1 : r1 = 113762
  · replace h := if_t hc1 h
    refine g_look (off := 81) X dX1_carryOut_11 92 (by decide) (by rw [hc1] <;> rfl) (by decide) ?_
    refine g_aload X rfl dX1_carryOut_92 94 rfl ?_
    refine g_ldcS X 0 rfl dX1_carryOut_94 96 rfl ?_
    refine g_neK X 10 0 rfl rfl (fun hne => ?_)
    obtain ⟨r5, hcl, h⟩ := bd1_e h
    refine g_callV1 X (met_J7_equals l Z a6 a6_1 w2_hash w3_hz v_sb v_slen  [115, 101, 116] 0 rfl hne r5 hcl) [] [0, 1, 2, 3, 4, 5, 6, 7, 8, 9, 10] [10, 12] (wr := [(a1, .inr (1, [.ref a2, .ref a3, .ref a5])), (a2, .inr (2, [.ref a2_1, .ref a2_2, .int v_n, .ref a2_3, .ref a2_4, .int v_pulses, .int v_front, .int v_least, .int v_window])), (a2_1, .inl (Z.2 0, 8, .inl v_lengths)), (a2_2, .inl (Z.2 0, 8, .inl v_fractions)), (a2_3, .inl (Z.2 0, 4, .inl v_pulseTimes)), (a2_4, .inl (Z.2 0, 4, .inl v_pulseEnergies)), (a4, .inr (4, [.ref a4_1, .ref a4_2, .ref a4_3, (va_rf v_line), .long v_brought, .long v_left, .long v_dropped, .long v_away, .int v_mergings, .int v_drops])), (a4_1, .inl (Z.2 1, 1809, .inr (.inl v_fromNear))), (a4_2, .inl (Z.2 1, 1809, .inr (.inl v_fromFar))), (a4_3, .inl (Z.2 1, 201, .inr (.inl v_echoes))), (a6, .inr (8, [.ref a6_1, .int 0, .int w2_hash, .int w3_hz]))]) ⟨rfl, rfl, rfl, rfl, rfl, by decide, by decide⟩ 10 gC8 rfl rfl (lw_V q888 q889 q890 q83 q891) md_J7_equals ⟨(Nat.le_of_ble_eq_true rfl), (Nat.le_of_ble_eq_true rfl)⟩ rfl dX1_carryOut_96 99 rfl 0 0 rfl rfl (Nat.le_of_ble_eq_true rfl) (Nat.le_of_ble_eq_true rfl) (st := []) rfl (Nat.le_of_ble_eq_true rfl) (fun _ => rfl) (fun _ => ?_)
    refine g_if_eq X dX1_carryOut_99 186 (by decide) 102 rfl (fun hc => ?_) (fun hc => ?_)
    · replace h := if_t hc h
      refine g_kill (j := 2) [some (.ref a0), some (.ref a1), none, some (.int x3), some (.int x4), some (.int x5), some (.ref a6), some (.int (-1))] rfl ?_
      refine g_kill (j := 3) [some (.ref a0), some (.ref a1), none, none, some (.int x4), some (.int x5), some (.ref a6), some (.int (-1))] rfl ?_
      refine g_kill (j := 4) [some (.ref a0), some (.ref a1), none, none, none, some (.int x5), some (.ref a6), some (.int (-1))] rfl ?_
      refine g_kill (j := 5) [some (.ref a0), some (.ref a1), none, none, none, none, some (.ref a6), some (.int (-1))] rfl ?_
      refine g_kill (j := 6) [some (.ref a0), some (.ref a1), none, none, none, none, none, some (.int (-1))] rfl ?_
      exact w_X1_carryOutS_186 a1 a2 a2_1 a2_2 a2_3 a2_4 a4 a4_1 a4_2 a4_3 a6 a0 a6_1 a5 a5_1 a3 a9 a7 a8 v_depth v_scriptLength v_sb v_slen v_o_energies X Xt hl  _    v_n v_pulses v_front v_least v_window v_lengths v_fractions v_pulseTimes v_pulseEnergies v_line v_brought v_left v_dropped v_away v_mergings v_drops v_fromNear v_fromFar v_echoes w2_hash w3_hz (-1) h
    · replace h := if_f hc h
      refine g_iconst X 1 dX1_carryOut_102 103 rfl kI_1 ?_
      refine g_istore X dX1_carryOut_103 105 rfl (Nat.le_of_ble_eq_true rfl) rfl [some (.ref a0), some (.ref a1), some (.ref a6), some (.int x3), some (.int x4), some (.int x5), some (.ref a6), some (.int 1)] rfl ?_
      refine g_goto X dX1_carryOut_105 186 (by decide) ?_
      refine g_kill (j := 2) [some (.ref a0), some (.ref a1), none, some (.int x3), some (.int x4), some (.int x5), some (.ref a6), some (.int 1)] rfl ?_
      refine g_kill (j := 3) [some (.ref a0), some (.ref a1), none, none, some (.int x4), some (.int x5), some (.ref a6), some (.int 1)] rfl ?_
      refine g_kill (j := 4) [some (.ref a0), some (.ref a1), none, none, none, some (.int x5), some (.ref a6), some (.int 1)] rfl ?_
      refine g_kill (j := 5) [some (.ref a0), some (.ref a1), none, none, none, none, some (.ref a6), some (.int 1)] rfl ?_
      refine g_kill (j := 6) [some (.ref a0), some (.ref a1), none, none, none, none, none, some (.int 1)] rfl ?_
      exact w_X1_carryOutS_186 a1 a2 a2_1 a2_2 a2_3 a2_4 a4 a4_1 a4_2 a4_3 a6 a0 a6_1 a5 a5_1 a3 a9 a7 a8 v_depth v_scriptLength v_sb v_slen v_o_energies X Xt hl  _    v_n v_pulses v_front v_least v_window v_lengths v_fractions v_pulseTimes v_pulseEnergies v_line v_brought v_left v_dropped v_away v_mergings v_drops v_fromNear v_fromFar v_echoes w2_hash w3_hz 1 h
  replace h := if_f hc1 h
  by_cases hc2 : r1 = 3327647
  · replace h := if_t hc2 h
    refine g_look (off := 161) X dX1_carryOut_11 172 (by decide) (by rw [hc2] <;> rfl) (by decide) ?_
    refine g_aload X rfl dX1_carryOut_172 174 rfl ?_
    refine g_ldcS X 6 rfl dX1_carryOut_174 176 rfl ?_
    refine g_neK X 10 6 rfl rfl (fun hne => ?_)
    obtain ⟨r6, hcl, h⟩ := bd1_e h
    refine g_callV1 X (met_J7_equals l Z a6 a6_1 w2_hash w3_hz v_sb v_slen  [108, 111, 111, 107] 6 rfl hne r6 hcl) [] [0, 1, 2, 3, 4, 5, 6, 7, 8, 9, 10] [10, 12] (wr := [(a1, .inr (1, [.ref a2, .ref a3, .ref a5])), (a2, .inr (2, [.ref a2_1, .ref a2_2, .int v_n, .ref a2_3, .ref a2_4, .int v_pulses, .int v_front, .int v_least, .int v_window])), (a2_1, .inl (Z.2 0, 8, .inl v_lengths)), (a2_2, .inl (Z.2 0, 8, .inl v_fractions)), (a2_3, .inl (Z.2 0, 4, .inl v_pulseTimes)), (a2_4, .inl (Z.2 0, 4, .inl v_pulseEnergies)), (a4, .inr (4, [.ref a4_1, .ref a4_2, .ref a4_3, (va_rf v_line), .long v_brought, .long v_left, .long v_dropped, .long v_away, .int v_mergings, .int v_drops])), (a4_1, .inl (Z.2 1, 1809, .inr (.inl v_fromNear))), (a4_2, .inl (Z.2 1, 1809, .inr (.inl v_fromFar))), (a4_3, .inl (Z.2 1, 201, .inr (.inl v_echoes))), (a6, .inr (8, [.ref a6_1, .int 0, .int w2_hash, .int w3_hz]))]) ⟨rfl, rfl, rfl, rfl, rfl, by decide, by decide⟩ 10 gC8 rfl rfl (lw_V q888 q889 q890 q83 q891) md_J7_equals ⟨(Nat.le_of_ble_eq_true rfl), (Nat.le_of_ble_eq_true rfl)⟩ rfl dX1_carryOut_176 179 rfl 0 0 rfl rfl (Nat.le_of_ble_eq_true rfl) (Nat.le_of_ble_eq_true rfl) (st := []) rfl (Nat.le_of_ble_eq_true rfl) (fun _ => rfl) (fun _ => ?_)
    refine g_if_eq X dX1_carryOut_179 186 (by decide) 182 rfl (fun hc => ?_) (fun hc => ?_)
    · replace h := if_t hc h
      refine g_kill (j := 2) [some (.ref a0), some (.ref a1), none, some (.int x3), some (.int x4), some (.int x5), some (.ref a6), some (.int (-1))] rfl ?_
      refine g_kill (j := 3) [some (.ref a0), some (.ref a1), none, none, some (.int x4), some (.int x5), some (.ref a6), some (.int (-1))] rfl ?_
      refine g_kill (j := 4) [some (.ref a0), some (.ref a1), none, none, none, some (.int x5), some (.ref a6), some (.int (-1))] rfl ?_
      refine g_kill (j := 5) [some (.ref a0), some (.ref a1), none, none, none, none, some (.ref a6), some (.int (-1))] rfl ?_
      refine g_kill (j := 6) [some (.ref a0), some (.ref a1), none, none, none, none, none, some (.int (-1))] rfl ?_
      exact w_X1_carryOutS_186 a1 a2 a2_1 a2_2 a2_3 a2_4 a4 a4_1 a4_2 a4_3 a6 a0 a6_1 a5 a5_1 a3 a9 a7 a8 v_depth v_scriptLength v_sb v_slen v_o_energies X Xt hl  _    v_n v_pulses v_front v_least v_window v_lengths v_fractions v_pulseTimes v_pulseEnergies v_line v_brought v_left v_dropped v_away v_mergings v_drops v_fromNear v_fromFar v_echoes w2_hash w3_hz (-1) h
    · replace h := if_f hc h
      refine g_bipush X 6 dX1_carryOut_182 184 rfl kB_6 ?_
      refine g_istore X dX1_carryOut_184 186 rfl (Nat.le_of_ble_eq_true rfl) rfl [some (.ref a0), some (.ref a1), some (.ref a6), some (.int x3), some (.int x4), some (.int x5), some (.ref a6), some (.int 6)] rfl ?_
      refine g_kill (j := 2) [some (.ref a0), some (.ref a1), none, some (.int x3), some (.int x4), some (.int x5), some (.ref a6), some (.int 6)] rfl ?_
      refine g_kill (j := 3) [some (.ref a0), some (.ref a1), none, none, some (.int x4), some (.int x5), some (.ref a6), some (.int 6)] rfl ?_
      refine g_kill (j := 4) [some (.ref a0), some (.ref a1), none, none, none, some (.int x5), some (.ref a6), some (.int 6)] rfl ?_
      refine g_kill (j := 5) [some (.ref a0), some (.ref a1), none, none, none, none, some (.ref a6), some (.int 6)] rfl ?_
      refine g_kill (j := 6) [some (.ref a0), some (.ref a1), none, none, none, none, none, some (.int 6)] rfl ?_
      exact w_X1_carryOutS_186 a1 a2 a2_1 a2_2 a2_3 a2_4 a4 a4_1 a4_2 a4_3 a6 a0 a6_1 a5 a5_1 a3 a9 a7 a8 v_depth v_scriptLength v_sb v_slen v_o_energies X Xt hl  _    v_n v_pulses v_front v_least v_window v_lengths v_fractions v_pulseTimes v_pulseEnergies v_line v_brought v_left v_dropped v_away v_mergings v_drops v_fromNear v_fromFar v_echoes w2_hash w3_hz 6 h
  replace h := if_f hc2 h
  by_cases hc3 : r1 = 3433459
  · replace h := if_t hc3 h
    refine g_look (off := 65) X dX1_carryOut_11 76 (by decide) (by rw [hc3] <;> rfl) (by decide) ?_
    refine g_aload X rfl dX1_carryOut_76 78 rfl ?_
    refine g_ldcS X 2 rfl dX1_carryOut_78 80 rfl ?_
    refine g_neK X 10 2 rfl rfl (fun hne => ?_)
    obtain ⟨r7, hcl, h⟩ := bd1_e h
    refine g_callV1 X (met_J7_equals l Z a6 a6_1 w2_hash w3_hz v_sb v_slen  [112, 97, 114, 116] 2 rfl hne r7 hcl) [] [0, 1, 2, 3, 4, 5, 6, 7, 8, 9, 10] [10, 12] (wr := [(a1, .inr (1, [.ref a2, .ref a3, .ref a5])), (a2, .inr (2, [.ref a2_1, .ref a2_2, .int v_n, .ref a2_3, .ref a2_4, .int v_pulses, .int v_front, .int v_least, .int v_window])), (a2_1, .inl (Z.2 0, 8, .inl v_lengths)), (a2_2, .inl (Z.2 0, 8, .inl v_fractions)), (a2_3, .inl (Z.2 0, 4, .inl v_pulseTimes)), (a2_4, .inl (Z.2 0, 4, .inl v_pulseEnergies)), (a4, .inr (4, [.ref a4_1, .ref a4_2, .ref a4_3, (va_rf v_line), .long v_brought, .long v_left, .long v_dropped, .long v_away, .int v_mergings, .int v_drops])), (a4_1, .inl (Z.2 1, 1809, .inr (.inl v_fromNear))), (a4_2, .inl (Z.2 1, 1809, .inr (.inl v_fromFar))), (a4_3, .inl (Z.2 1, 201, .inr (.inl v_echoes))), (a6, .inr (8, [.ref a6_1, .int 0, .int w2_hash, .int w3_hz]))]) ⟨rfl, rfl, rfl, rfl, rfl, by decide, by decide⟩ 10 gC8 rfl rfl (lw_V q888 q889 q890 q83 q891) md_J7_equals ⟨(Nat.le_of_ble_eq_true rfl), (Nat.le_of_ble_eq_true rfl)⟩ rfl dX1_carryOut_80 83 rfl 0 0 rfl rfl (Nat.le_of_ble_eq_true rfl) (Nat.le_of_ble_eq_true rfl) (st := []) rfl (Nat.le_of_ble_eq_true rfl) (fun _ => rfl) (fun _ => ?_)
    refine g_if_eq X dX1_carryOut_83 186 (by decide) 86 rfl (fun hc => ?_) (fun hc => ?_)
    · replace h := if_t hc h
      refine g_kill (j := 2) [some (.ref a0), some (.ref a1), none, some (.int x3), some (.int x4), some (.int x5), some (.ref a6), some (.int (-1))] rfl ?_
      refine g_kill (j := 3) [some (.ref a0), some (.ref a1), none, none, some (.int x4), some (.int x5), some (.ref a6), some (.int (-1))] rfl ?_
      refine g_kill (j := 4) [some (.ref a0), some (.ref a1), none, none, none, some (.int x5), some (.ref a6), some (.int (-1))] rfl ?_
      refine g_kill (j := 5) [some (.ref a0), some (.ref a1), none, none, none, none, some (.ref a6), some (.int (-1))] rfl ?_
      refine g_kill (j := 6) [some (.ref a0), some (.ref a1), none, none, none, none, none, some (.int (-1))] rfl ?_
      exact w_X1_carryOutS_186 a1 a2 a2_1 a2_2 a2_3 a2_4 a4 a4_1 a4_2 a4_3 a6 a0 a6_1 a5 a5_1 a3 a9 a7 a8 v_depth v_scriptLength v_sb v_slen v_o_energies X Xt hl  _    v_n v_pulses v_front v_least v_window v_lengths v_fractions v_pulseTimes v_pulseEnergies v_line v_brought v_left v_dropped v_away v_mergings v_drops v_fromNear v_fromFar v_echoes w2_hash w3_hz (-1) h
    · replace h := if_f hc h
      refine g_iconst X 0 dX1_carryOut_86 87 rfl kI_0 ?_
      refine g_istore X dX1_carryOut_87 89 rfl (Nat.le_of_ble_eq_true rfl) rfl [some (.ref a0), some (.ref a1), some (.ref a6), some (.int x3), some (.int x4), some (.int x5), some (.ref a6), some (.int 0)] rfl ?_
      refine g_goto X dX1_carryOut_89 186 (by decide) ?_
      refine g_kill (j := 2) [some (.ref a0), some (.ref a1), none, some (.int x3), some (.int x4), some (.int x5), some (.ref a6), some (.int 0)] rfl ?_
      refine g_kill (j := 3) [some (.ref a0), some (.ref a1), none, none, some (.int x4), some (.int x5), some (.ref a6), some (.int 0)] rfl ?_
      refine g_kill (j := 4) [some (.ref a0), some (.ref a1), none, none, none, some (.int x5), some (.ref a6), some (.int 0)] rfl ?_
      refine g_kill (j := 5) [some (.ref a0), some (.ref a1), none, none, none, none, some (.ref a6), some (.int 0)] rfl ?_
      refine g_kill (j := 6) [some (.ref a0), some (.ref a1), none, none, none, none, none, some (.int 0)] rfl ?_
      exact w_X1_carryOutS_186 a1 a2 a2_1 a2_2 a2_3 a2_4 a4 a4_1 a4_2 a4_3 a6 a0 a6_1 a5 a5_1 a3 a9 a7 a8 v_depth v_scriptLength v_sb v_slen v_o_energies X Xt hl  _    v_n v_pulses v_front v_least v_window v_lengths v_fractions v_pulseTimes v_pulseEnergies v_line v_brought v_left v_dropped v_away v_mergings v_drops v_fromNear v_fromFar v_echoes w2_hash w3_hz 0 h
  replace h := if_f hc3 h
  by_cases hc4 : r1 = 107027353
  · replace h := if_t hc4 h
    refine g_look (off := 129) X dX1_carryOut_11 140 (by decide) (by rw [hc4] <;> rfl) (by decide) ?_
    refine g_aload X rfl dX1_carryOut_140 142 rfl ?_
    refine g_ldcS X 3 rfl dX1_carryOut_142 144 rfl ?_
    refine g_neK X 10 3 rfl rfl (fun hne => ?_)
    obtain ⟨r8, hcl, h⟩ := bd1_e h
    refine g_callV1 X (met_J7_equals l Z a6 a6_1 w2_hash w3_hz v_sb v_slen  [112, 117, 108, 115, 101] 3 rfl hne r8 hcl) [] [0, 1, 2, 3, 4, 5, 6, 7, 8, 9, 10] [10, 12] (wr := [(a1, .inr (1, [.ref a2, .ref a3, .ref a5])), (a2, .inr (2, [.ref a2_1, .ref a2_2, .int v_n, .ref a2_3, .ref a2_4, .int v_pulses, .int v_front, .int v_least, .int v_window])), (a2_1, .inl (Z.2 0, 8, .inl v_lengths)), (a2_2, .inl (Z.2 0, 8, .inl v_fractions)), (a2_3, .inl (Z.2 0, 4, .inl v_pulseTimes)), (a2_4, .inl (Z.2 0, 4, .inl v_pulseEnergies)), (a4, .inr (4, [.ref a4_1, .ref a4_2, .ref a4_3, (va_rf v_line), .long v_brought, .long v_left, .long v_dropped, .long v_away, .int v_mergings, .int v_drops])), (a4_1, .inl (Z.2 1, 1809, .inr (.inl v_fromNear))), (a4_2, .inl (Z.2 1, 1809, .inr (.inl v_fromFar))), (a4_3, .inl (Z.2 1, 201, .inr (.inl v_echoes))), (a6, .inr (8, [.ref a6_1, .int 0, .int w2_hash, .int w3_hz]))]) ⟨rfl, rfl, rfl, rfl, rfl, by decide, by decide⟩ 10 gC8 rfl rfl (lw_V q888 q889 q890 q83 q891) md_J7_equals ⟨(Nat.le_of_ble_eq_true rfl), (Nat.le_of_ble_eq_true rfl)⟩ rfl dX1_carryOut_144 147 rfl 0 0 rfl rfl (Nat.le_of_ble_eq_true rfl) (Nat.le_of_ble_eq_true rfl) (st := []) rfl (Nat.le_of_ble_eq_true rfl) (fun _ => rfl) (fun _ => ?_)
    refine g_if_eq X dX1_carryOut_147 186 (by decide) 150 rfl (fun hc => ?_) (fun hc => ?_)
    · replace h := if_t hc h
      refine g_kill (j := 2) [some (.ref a0), some (.ref a1), none, some (.int x3), some (.int x4), some (.int x5), some (.ref a6), some (.int (-1))] rfl ?_
      refine g_kill (j := 3) [some (.ref a0), some (.ref a1), none, none, some (.int x4), some (.int x5), some (.ref a6), some (.int (-1))] rfl ?_
      refine g_kill (j := 4) [some (.ref a0), some (.ref a1), none, none, none, some (.int x5), some (.ref a6), some (.int (-1))] rfl ?_
      refine g_kill (j := 5) [some (.ref a0), some (.ref a1), none, none, none, none, some (.ref a6), some (.int (-1))] rfl ?_
      refine g_kill (j := 6) [some (.ref a0), some (.ref a1), none, none, none, none, none, some (.int (-1))] rfl ?_
      exact w_X1_carryOutS_186 a1 a2 a2_1 a2_2 a2_3 a2_4 a4 a4_1 a4_2 a4_3 a6 a0 a6_1 a5 a5_1 a3 a9 a7 a8 v_depth v_scriptLength v_sb v_slen v_o_energies X Xt hl  _    v_n v_pulses v_front v_least v_window v_lengths v_fractions v_pulseTimes v_pulseEnergies v_line v_brought v_left v_dropped v_away v_mergings v_drops v_fromNear v_fromFar v_echoes w2_hash w3_hz (-1) h
    · replace h := if_f hc h
      refine g_iconst X 4 dX1_carryOut_150 151 rfl kI_4 ?_
      refine g_istore X dX1_carryOut_151 153 rfl (Nat.le_of_ble_eq_true rfl) rfl [some (.ref a0), some (.ref a1), some (.ref a6), some (.int x3), some (.int x4), some (.int x5), some (.ref a6), some (.int 4)] rfl ?_
      refine g_goto X dX1_carryOut_153 186 (by decide) ?_
      refine g_kill (j := 2) [some (.ref a0), some (.ref a1), none, some (.int x3), some (.int x4), some (.int x5), some (.ref a6), some (.int 4)] rfl ?_
      refine g_kill (j := 3) [some (.ref a0), some (.ref a1), none, none, some (.int x4), some (.int x5), some (.ref a6), some (.int 4)] rfl ?_
      refine g_kill (j := 4) [some (.ref a0), some (.ref a1), none, none, none, some (.int x5), some (.ref a6), some (.int 4)] rfl ?_
      refine g_kill (j := 5) [some (.ref a0), some (.ref a1), none, none, none, none, some (.ref a6), some (.int 4)] rfl ?_
      refine g_kill (j := 6) [some (.ref a0), some (.ref a1), none, none, none, none, none, some (.int 4)] rfl ?_
      exact w_X1_carryOutS_186 a1 a2 a2_1 a2_2 a2_3 a2_4 a4 a4_1 a4_2 a4_3 a6 a0 a6_1 a5 a5_1 a3 a9 a7 a8 v_depth v_scriptLength v_sb v_slen v_o_energies X Xt hl  _    v_n v_pulses v_front v_least v_window v_lengths v_fractions v_pulseTimes v_pulseEnergies v_line v_brought v_left v_dropped v_away v_mergings v_drops v_fromNear v_fromFar v_echoes w2_hash w3_hz 4 h
  replace h := if_f hc4 h
  by_cases hc5 : r1 = 109627663
  · replace h := if_t hc5 h
    refine g_look (off := 145) X dX1_carryOut_11 156 (by decide) (by rw [hc5] <;> rfl) (by decide) ?_
    refine g_aload X rfl dX1_carryOut_156 158 rfl ?_
    refine g_ldcS X 5 rfl dX1_carryOut_158 160 rfl ?_
    refine g_neK X 10 5 rfl rfl (fun hne => ?_)
    obtain ⟨r9, hcl, h⟩ := bd1_e h
    refine g_callV1 X (met_J7_equals l Z a6 a6_1 w2_hash w3_hz v_sb v_slen  [115, 111, 117, 110, 100] 5 rfl hne r9 hcl) [] [0, 1, 2, 3, 4, 5, 6, 7, 8, 9, 10] [10, 12] (wr := [(a1, .inr (1, [.ref a2, .ref a3, .ref a5])), (a2, .inr (2, [.ref a2_1, .ref a2_2, .int v_n, .ref a2_3, .ref a2_4, .int v_pulses, .int v_front, .int v_least, .int v_window])), (a2_1, .inl (Z.2 0, 8, .inl v_lengths)), (a2_2, .inl (Z.2 0, 8, .inl v_fractions)), (a2_3, .inl (Z.2 0, 4, .inl v_pulseTimes)), (a2_4, .inl (Z.2 0, 4, .inl v_pulseEnergies)), (a4, .inr (4, [.ref a4_1, .ref a4_2, .ref a4_3, (va_rf v_line), .long v_brought, .long v_left, .long v_dropped, .long v_away, .int v_mergings, .int v_drops])), (a4_1, .inl (Z.2 1, 1809, .inr (.inl v_fromNear))), (a4_2, .inl (Z.2 1, 1809, .inr (.inl v_fromFar))), (a4_3, .inl (Z.2 1, 201, .inr (.inl v_echoes))), (a6, .inr (8, [.ref a6_1, .int 0, .int w2_hash, .int w3_hz]))]) ⟨rfl, rfl, rfl, rfl, rfl, by decide, by decide⟩ 10 gC8 rfl rfl (lw_V q888 q889 q890 q83 q891) md_J7_equals ⟨(Nat.le_of_ble_eq_true rfl), (Nat.le_of_ble_eq_true rfl)⟩ rfl dX1_carryOut_160 163 rfl 0 0 rfl rfl (Nat.le_of_ble_eq_true rfl) (Nat.le_of_ble_eq_true rfl) (st := []) rfl (Nat.le_of_ble_eq_true rfl) (fun _ => rfl) (fun _ => ?_)
    refine g_if_eq X dX1_carryOut_163 186 (by decide) 166 rfl (fun hc => ?_) (fun hc => ?_)
    · replace h := if_t hc h
      refine g_kill (j := 2) [some (.ref a0), some (.ref a1), none, some (.int x3), some (.int x4), some (.int x5), some (.ref a6), some (.int (-1))] rfl ?_
      refine g_kill (j := 3) [some (.ref a0), some (.ref a1), none, none, some (.int x4), some (.int x5), some (.ref a6), some (.int (-1))] rfl ?_
      refine g_kill (j := 4) [some (.ref a0), some (.ref a1), none, none, none, some (.int x5), some (.ref a6), some (.int (-1))] rfl ?_
      refine g_kill (j := 5) [some (.ref a0), some (.ref a1), none, none, none, none, some (.ref a6), some (.int (-1))] rfl ?_
      refine g_kill (j := 6) [some (.ref a0), some (.ref a1), none, none, none, none, none, some (.int (-1))] rfl ?_
      exact w_X1_carryOutS_186 a1 a2 a2_1 a2_2 a2_3 a2_4 a4 a4_1 a4_2 a4_3 a6 a0 a6_1 a5 a5_1 a3 a9 a7 a8 v_depth v_scriptLength v_sb v_slen v_o_energies X Xt hl  _    v_n v_pulses v_front v_least v_window v_lengths v_fractions v_pulseTimes v_pulseEnergies v_line v_brought v_left v_dropped v_away v_mergings v_drops v_fromNear v_fromFar v_echoes w2_hash w3_hz (-1) h
    · replace h := if_f hc h
      refine g_iconst X 5 dX1_carryOut_166 167 rfl kI_5 ?_
      refine g_istore X dX1_carryOut_167 169 rfl (Nat.le_of_ble_eq_true rfl) rfl [some (.ref a0), some (.ref a1), some (.ref a6), some (.int x3), some (.int x4), some (.int x5), some (.ref a6), some (.int 5)] rfl ?_
      refine g_goto X dX1_carryOut_169 186 (by decide) ?_
      refine g_kill (j := 2) [some (.ref a0), some (.ref a1), none, some (.int x3), some (.int x4), some (.int x5), some (.ref a6), some (.int 5)] rfl ?_
      refine g_kill (j := 3) [some (.ref a0), some (.ref a1), none, none, some (.int x4), some (.int x5), some (.ref a6), some (.int 5)] rfl ?_
      refine g_kill (j := 4) [some (.ref a0), some (.ref a1), none, none, none, some (.int x5), some (.ref a6), some (.int 5)] rfl ?_
      refine g_kill (j := 5) [some (.ref a0), some (.ref a1), none, none, none, none, some (.ref a6), some (.int 5)] rfl ?_
      refine g_kill (j := 6) [some (.ref a0), some (.ref a1), none, none, none, none, none, some (.int 5)] rfl ?_
      exact w_X1_carryOutS_186 a1 a2 a2_1 a2_2 a2_3 a2_4 a4 a4_1 a4_2 a4_3 a6 a0 a6_1 a5 a5_1 a3 a9 a7 a8 v_depth v_scriptLength v_sb v_slen v_o_energies X Xt hl  _    v_n v_pulses v_front v_least v_window v_lengths v_fractions v_pulseTimes v_pulseEnergies v_line v_brought v_left v_dropped v_away v_mergings v_drops v_fromNear v_fromFar v_echoes w2_hash w3_hz 5 h
  replace h := if_f hc5 h
  by_cases hc6 : r1 = 109648666
  · replace h := if_t hc6 h
    refine g_look (off := 113) X dX1_carryOut_11 124 (by decide) (by rw [hc6] <;> rfl) (by decide) ?_
    refine g_aload X rfl dX1_carryOut_124 126 rfl ?_
    refine g_ldcS X 1 rfl dX1_carryOut_126 128 rfl ?_
    refine g_neK X 10 1 rfl rfl (fun hne => ?_)
    obtain ⟨r10, hcl, h⟩ := bd1_e h
    refine g_callV1 X (met_J7_equals l Z a6 a6_1 w2_hash w3_hz v_sb v_slen  [115, 112, 108, 105, 116] 1 rfl hne r10 hcl) [] [0, 1, 2, 3, 4, 5, 6, 7, 8, 9, 10] [10, 12] (wr := [(a1, .inr (1, [.ref a2, .ref a3, .ref a5])), (a2, .inr (2, [.ref a2_1, .ref a2_2, .int v_n, .ref a2_3, .ref a2_4, .int v_pulses, .int v_front, .int v_least, .int v_window])), (a2_1, .inl (Z.2 0, 8, .inl v_lengths)), (a2_2, .inl (Z.2 0, 8, .inl v_fractions)), (a2_3, .inl (Z.2 0, 4, .inl v_pulseTimes)), (a2_4, .inl (Z.2 0, 4, .inl v_pulseEnergies)), (a4, .inr (4, [.ref a4_1, .ref a4_2, .ref a4_3, (va_rf v_line), .long v_brought, .long v_left, .long v_dropped, .long v_away, .int v_mergings, .int v_drops])), (a4_1, .inl (Z.2 1, 1809, .inr (.inl v_fromNear))), (a4_2, .inl (Z.2 1, 1809, .inr (.inl v_fromFar))), (a4_3, .inl (Z.2 1, 201, .inr (.inl v_echoes))), (a6, .inr (8, [.ref a6_1, .int 0, .int w2_hash, .int w3_hz]))]) ⟨rfl, rfl, rfl, rfl, rfl, by decide, by decide⟩ 10 gC8 rfl rfl (lw_V q888 q889 q890 q83 q891) md_J7_equals ⟨(Nat.le_of_ble_eq_true rfl), (Nat.le_of_ble_eq_true rfl)⟩ rfl dX1_carryOut_128 131 rfl 0 0 rfl rfl (Nat.le_of_ble_eq_true rfl) (Nat.le_of_ble_eq_true rfl) (st := []) rfl (Nat.le_of_ble_eq_true rfl) (fun _ => rfl) (fun _ => ?_)
    refine g_if_eq X dX1_carryOut_131 186 (by decide) 134 rfl (fun hc => ?_) (fun hc => ?_)
    · replace h := if_t hc h
      refine g_kill (j := 2) [some (.ref a0), some (.ref a1), none, some (.int x3), some (.int x4), some (.int x5), some (.ref a6), some (.int (-1))] rfl ?_
      refine g_kill (j := 3) [some (.ref a0), some (.ref a1), none, none, some (.int x4), some (.int x5), some (.ref a6), some (.int (-1))] rfl ?_
      refine g_kill (j := 4) [some (.ref a0), some (.ref a1), none, none, none, some (.int x5), some (.ref a6), some (.int (-1))] rfl ?_
      refine g_kill (j := 5) [some (.ref a0), some (.ref a1), none, none, none, none, some (.ref a6), some (.int (-1))] rfl ?_
      refine g_kill (j := 6) [some (.ref a0), some (.ref a1), none, none, none, none, none, some (.int (-1))] rfl ?_
      exact w_X1_carryOutS_186 a1 a2 a2_1 a2_2 a2_3 a2_4 a4 a4_1 a4_2 a4_3 a6 a0 a6_1 a5 a5_1 a3 a9 a7 a8 v_depth v_scriptLength v_sb v_slen v_o_energies X Xt hl  _    v_n v_pulses v_front v_least v_window v_lengths v_fractions v_pulseTimes v_pulseEnergies v_line v_brought v_left v_dropped v_away v_mergings v_drops v_fromNear v_fromFar v_echoes w2_hash w3_hz (-1) h
    · replace h := if_f hc h
      refine g_iconst X 3 dX1_carryOut_134 135 rfl kI_3 ?_
      refine g_istore X dX1_carryOut_135 137 rfl (Nat.le_of_ble_eq_true rfl) rfl [some (.ref a0), some (.ref a1), some (.ref a6), some (.int x3), some (.int x4), some (.int x5), some (.ref a6), some (.int 3)] rfl ?_
      refine g_goto X dX1_carryOut_137 186 (by decide) ?_
      refine g_kill (j := 2) [some (.ref a0), some (.ref a1), none, some (.int x3), some (.int x4), some (.int x5), some (.ref a6), some (.int 3)] rfl ?_
      refine g_kill (j := 3) [some (.ref a0), some (.ref a1), none, none, some (.int x4), some (.int x5), some (.ref a6), some (.int 3)] rfl ?_
      refine g_kill (j := 4) [some (.ref a0), some (.ref a1), none, none, none, some (.int x5), some (.ref a6), some (.int 3)] rfl ?_
      refine g_kill (j := 5) [some (.ref a0), some (.ref a1), none, none, none, none, some (.ref a6), some (.int 3)] rfl ?_
      refine g_kill (j := 6) [some (.ref a0), some (.ref a1), none, none, none, none, none, some (.int 3)] rfl ?_
      exact w_X1_carryOutS_186 a1 a2 a2_1 a2_2 a2_3 a2_4 a4 a4_1 a4_2 a4_3 a6 a0 a6_1 a5 a5_1 a3 a9 a7 a8 v_depth v_scriptLength v_sb v_slen v_o_energies X Xt hl  _    v_n v_pulses v_front v_least v_window v_lengths v_fractions v_pulseTimes v_pulseEnergies v_line v_brought v_left v_dropped v_away v_mergings v_drops v_fromNear v_fromFar v_echoes w2_hash w3_hz 3 h
  replace h := if_f hc6 h
  refine g_look (off := 175) X dX1_carryOut_11 186 (by decide) ((lv_osw hc0 (by decide)).trans ((lv_osw hc1 (by decide)).trans ((lv_osw hc2 (by decide)).trans ((lv_osw hc3 (by decide)).trans ((lv_osw hc4 (by decide)).trans ((lv_osw hc5 (by decide)).trans ((lv_osw hc6 (by decide)).trans rfl))))))) (by decide) ?_
  refine g_kill (j := 2) [some (.ref a0), some (.ref a1), none, some (.int x3), some (.int x4), some (.int x5), some (.ref a6), some (.int (-1))] rfl ?_
  refine g_kill (j := 3) [some (.ref a0), some (.ref a1), none, none, some (.int x4), some (.int x5), some (.ref a6), some (.int (-1))] rfl ?_
  refine g_kill (j := 4) [some (.ref a0), some (.ref a1), none, none, none, some (.int x5), some (.ref a6), some (.int (-1))] rfl ?_
  refine g_kill (j := 5) [some (.ref a0), some (.ref a1), none, none, none, none, some (.ref a6), some (.int (-1))] rfl ?_
  refine g_kill (j := 6) [some (.ref a0), some (.ref a1), none, none, none, none, none, some (.int (-1))] rfl ?_
  exact w_X1_carryOutS_186 a1 a2 a2_1 a2_2 a2_3 a2_4 a4 a4_1 a4_2 a4_3 a6 a0 a6_1 a5 a5_1 a3 a9 a7 a8 v_depth v_scriptLength v_sb v_slen v_o_energies X Xt hl  _    v_n v_pulses v_front v_least v_window v_lengths v_fractions v_pulseTimes v_pulseEnergies v_line v_brought v_left v_dropped v_away v_mergings v_drops v_fromNear v_fromFar v_echoes w2_hash w3_hz (-1) h
/-! LineEchoes$Reader.carryOutOn(LLineEchoes$Bench;)I -/
abbrev rm_X9_carryOutOnS : Room := { frames := 5, cells := 2, slots := 202, locals := 133 }
def F_X9_carryOutOnS (v_n : Int32) (v_pulses : Int32) (v_front : Int32) (v_least : Int32) (v_window : Int32) (v_lengths : Nat → Int32) (v_fractions : Nat → Int32) (v_pulseTimes : Nat → Int32) (v_pulseEnergies : Nat → Int32) (v_fromNear : Nat → Int64) (v_fromFar : Nat → Int64) (v_echoes : Nat → Int64) (v_hash : Int32) (v_hz : Int32) (v_sb : Nat → Int32) (v_slen : Nat) : Option ((Int32 × Int64 × Int64 × Int64 × Int64 × Int32 × Int32 × (Nat → Int64) × (Nat → Int64) × (Nat → Int64) × Int32 × Int32 × (Nat → Int64)) ⊕ Nat) :=
  gin 0 3 <|
  gin 1 3 <|
  gin 2 3 <|
  bc13 (F_X1_carryOutS v_n v_pulses v_front v_least v_window v_lengths v_fractions v_pulseTimes v_pulseEnergies v_fromNear v_fromFar v_echoes v_hash v_hz v_sb v_slen) (fun r1 w2_brought w3_left w4_dropped w5_away w6_mergings w7_drops w8_fromNear w9_fromFar w10_echoes w11_hash w12_hz w13_o1 =>
  some (.inl (r1, w2_brought, w3_left, w4_dropped, w5_away, w6_mergings, w7_drops, w8_fromNear, w9_fromFar, w10_echoes, w11_hash, w12_hz, w13_o1))) gthr
theorem met_X9_carryOutOnS (l : Launch) (hl : l.stackTraces = false) (Z : gZt) (ab : Nat) (a2 : Nat) (a2_1 : Nat) (a2_2 : Nat) (a2_3 : Nat) (a2_4 : Nat) (a4 : Nat) (a4_1 : Nat) (a4_2 : Nat) (a4_3 : Nat) (a6 : Nat) (a0 : Nat) (a0_1 : Nat) (a1 : Nat) (a6_1 : Nat) (a5 : Nat) (a5_1 : Nat) (a3 : Nat) (a9 : Nat) (a7 : Nat) (a8 : Nat) (v_n : Int32) (v_pulses : Int32) (v_front : Int32) (v_least : Int32) (v_window : Int32) (v_lengths : Nat → Int32) (v_fractions : Nat → Int32) (v_pulseTimes : Nat → Int32) (v_pulseEnergies : Nat → Int32) (v_line : Option Nat) (v_brought : Int64) (v_left : Int64) (v_dropped : Int64) (v_away : Int64) (v_mergings : Int32) (v_drops : Int32) (v_fromNear : Nat → Int64) (v_fromFar : Nat → Int64) (v_echoes : Nat → Int64) (v_hash : Int32) (v_hz : Int32) (v_at : Int32) (v_fault : Int32) (v_numbers : Nat → Int32) (v_depth : Int32) (v_scriptLength : Int32) (v_sb : Nat → Int32) (v_slen : Nat) (v_o_energies : Nat → Int64) (o : (Int32 × Int64 × Int64 × Int64 × Int64 × Int32 × Int32 × (Nat → Int64) × (Nat → Int64) × (Nat → Int64) × Int32 × Int32 × (Nat → Int64)) ⊕ Nat) (h : F_X9_carryOutOnS v_n v_pulses v_front v_least v_window v_lengths v_fractions v_pulseTimes v_pulseEnergies v_fromNear v_fromFar v_echoes v_hash v_hz v_sb v_slen = some o) : Cx l yX9_carryOutOn (ws_ yX9_carryOutOn cX9_carryOutOn 2 (some .int)) rm_X9_carryOutOnS Z [.ref a0, .ref ab] [(ab, .inr (1, [.ref a2, .ref a3, .ref a5])), (a2, .inr (2, [.ref a2_1, .ref a2_2, .int v_n, .ref a2_3, .ref a2_4, .int v_pulses, .int v_front, .int v_least, .int v_window])), (a2_1, .inl (Z.2 0, 8, .inl v_lengths)), (a2_2, .inl (Z.2 0, 8, .inl v_fractions)), (a2_3, .inl (Z.2 0, 4, .inl v_pulseTimes)), (a2_4, .inl (Z.2 0, 4, .inl v_pulseEnergies)), (a4, .inr (4, [.ref a4_1, .ref a4_2, .ref a4_3, (va_rf v_line), .long v_brought, .long v_left, .long v_dropped, .long v_away, .int v_mergings, .int v_drops])), (a4_1, .inl (Z.2 1, 1809, .inr (.inl v_fromNear))), (a4_2, .inl (Z.2 1, 1809, .inr (.inl v_fromFar))), (a4_3, .inl (Z.2 1, 201, .inr (.inl v_echoes))), (a6, .inr (8, [.ref a6_1, .int 0, .int v_hash, .int v_hz]))] [(a0, .inr (7, [.int v_at, .int v_fault, .ref a6, .ref a0_1, .ref a1])), (a0_1, .inl (Z.2 0, 3, .inl v_numbers)), (a1, .inr (0, [.ref a9, .ref a7, .int v_depth, .ref a8, .int v_scriptLength, .ref a4])), (a6_1, .inl (Z.2 2, v_slen, .inl v_sb)), (a5, .inr (3, [.ref a5_1])), (a5_1, .inl (Z.2 1, 201, .inr (.inl v_o_energies)))] [(ab, .inr (1, [.ref a2, .ref a3, .ref a5])), (a2, .inr (2, [.ref a2_1, .ref a2_2, .int v_n, .ref a2_3, .ref a2_4, .int v_pulses, .int v_front, .int v_least, .int v_window])), (a2_1, .inl (Z.2 0, 8, .inl v_lengths)), (a2_2, .inl (Z.2 0, 8, .inl v_fractions)), (a2_3, .inl (Z.2 0, 4, .inl v_pulseTimes)), (a2_4, .inl (Z.2 0, 4, .inl v_pulseEnergies)), (a4, .inr (4, [.ref a4_1, .ref a4_2, .ref a4_3, (va_rf v_line), .long v_brought, .long v_left, .long v_dropped, .long v_away, .int v_mergings, .int v_drops])), (a4_1, .inl (Z.2 1, 1809, .inr (.inl v_fromNear))), (a4_2, .inl (Z.2 1, 1809, .inr (.inl v_fromFar))), (a4_3, .inl (Z.2 1, 201, .inr (.inl v_echoes)))] (fun x : Int32 × Int64 × Int64 × Int64 × Int64 × Int32 × Int32 × (Nat → Int64) × (Nat → Int64) × (Nat → Int64) × Int32 × Int32 × (Nat → Int64) => (fun u : Nat × Nat × Option Nat => (some (.int x.1) : Option Value))) (fun x : Int32 × Int64 × Int64 × Int64 × Int64 × Int32 × Int32 × (Nat → Int64) × (Nat → Int64) × (Nat → Int64) × Int32 × Int32 × (Nat → Int64) => (fun u : Nat × Nat × Option Nat => ([(ab, .inr (1, [.ref a2, .ref u.1, .ref a5])), (a2, .inr (2, [.ref a2_1, .ref a2_2, .int v_n, .ref a2_3, .ref a2_4, .int v_pulses, .int v_front, .int v_least, .int v_window])), (a2_1, .inl (Z.2 0, 8, .inl v_lengths)), (a2_2, .inl (Z.2 0, 8, .inl v_fractions)), (a2_3, .inl (Z.2 0, 4, .inl v_pulseTimes)), (a2_4, .inl (Z.2 0, 4, .inl v_pulseEnergies)), (a4, .inr (4, [.ref a4_1, .ref a4_2, .ref a4_3, (va_rf u.2.2), .long x.2.1, .long x.2.2.1, .long x.2.2.2.1, .long x.2.2.2.2.1, .int x.2.2.2.2.2.1, .int x.2.2.2.2.2.2.1])), (a4_1, .inl (Z.2 1, 1809, .inr (.inl x.2.2.2.2.2.2.2.1))), (a4_2, .inl (Z.2 1, 1809, .inr (.inl x.2.2.2.2.2.2.2.2.1))), (a4_3, .inl (Z.2 1, 201, .inr (.inl x.2.2.2.2.2.2.2.2.2.1))), (a6, .inr (8, [.ref a6_1, .int 0, .int x.2.2.2.2.2.2.2.2.2.2.1, .int x.2.2.2.2.2.2.2.2.2.2.2.1])), (u.1, .inr (3, [.ref u.2.1])), (u.2.1, .inl (Z.2 1, 201, .inr (.inl x.2.2.2.2.2.2.2.2.2.2.2.2)))] : va_W))) o := by
  refine Cx.of cX9_carryOutOn 2 (some .int) "LineEchoes$Reader" [some (.ref a0), some (.ref ab)] 0 (by decide) rfl (Nat.le_of_ble_eq_true rfl) rfl (fun p e s m args below meth c A X Xt => ?_)
  unfold F_X9_carryOutOnS at h
  refine g_aload_n X rfl dX9_carryOutOn_0 1 rfl ?_
  refine g_getR X gC7 0 rfl 4 (by decide) q463 (fun _ h9 => h9) rfl dX9_carryOutOn_1 4 rfl ?_
  refine g_aload_n X rfl dX9_carryOutOn_4 5 rfl ?_
  refine g_aload_n X rfl dX9_carryOutOn_5 6 rfl ?_
  refine g_getR X gC7 0 rfl 2 (by decide) q461 (fun _ h9 => h9) rfl dX9_carryOutOn_6 9 rfl ?_
  refine g_aload_n X rfl dX9_carryOutOn_9 10 rfl ?_
  refine g_getR X gC7 0 rfl 3 (by decide) q462 (fun _ h9 => h9) rfl dX9_carryOutOn_10 13 rfl ?_
  refine g_iconst X 0 dX9_carryOutOn_13 14 rfl kI_0 ?_
  obtain ⟨hi, h⟩ := gin_e h
  refine g_ialdR X 1 rfl hi dX9_carryOutOn_14 15 rfl ?_
  refine g_aload_n X rfl dX9_carryOutOn_15 16 rfl ?_
  refine g_getR X gC7 0 rfl 3 (by decide) q462 (fun _ h9 => h9) rfl dX9_carryOutOn_16 19 rfl ?_
  refine g_iconst X 1 dX9_carryOutOn_19 20 rfl kI_1 ?_
  obtain ⟨hi, h⟩ := gin_e h
  refine g_ialdR X 1 rfl hi dX9_carryOutOn_20 21 rfl ?_
  refine g_aload_n X rfl dX9_carryOutOn_21 22 rfl ?_
  refine g_getR X gC7 0 rfl 3 (by decide) q462 (fun _ h9 => h9) rfl dX9_carryOutOn_22 25 rfl ?_
  refine g_iconst X 2 dX9_carryOutOn_25 26 rfl kI_2 ?_
  obtain ⟨hi, h⟩ := gin_e h
  refine g_ialdR X 1 rfl hi dX9_carryOutOn_26 27 rfl ?_
  rcases bc13_e h with ⟨k9, hcl, hg⟩ | ⟨r1, w2_brought, w3_left, w4_dropped, w5_away, w6_mergings, w7_drops, w8_fromNear, w9_fromFar, w10_echoes, w11_hash, w12_hz, w13_o1, hcl, h⟩
  · obtain rfl := Option.some.inj (show some (Sum.inr k9) = some _ from hg)
    exact g_xoVN X (met_X1_carryOutS l hl Z ab a2 a2_1 a2_2 a2_3 a2_4 a4 a4_1 a4_2 a4_3 a6 a1 a6_1 a5 a5_1 a3 a9 a7 a8 v_n v_pulses v_front v_least v_window v_lengths v_fractions v_pulseTimes v_pulseEnergies v_line v_brought v_left v_dropped v_away v_mergings v_drops v_fromNear v_fromFar v_echoes v_hash v_hz v_depth v_scriptLength v_sb v_slen v_o_energies (v_numbers (Int32.toNatClampNeg 0)) (v_numbers (Int32.toNatClampNeg 1)) (v_numbers (Int32.toNatClampNeg 2)) _ hcl).thr [0, 1, 2, 3, 4, 5, 6, 7, 8, 9, 10] [] [13, 14, 15, 16] (wr := []) ⟨rfl, rfl, rfl, rfl, rfl, by decide, by decide⟩ 13 gC0 rfl q939 q69 q936 q938 qs13 md_X1_carryOut ⟨(Nat.le_of_ble_eq_true rfl), (Nat.le_of_ble_eq_true rfl)⟩ rfl dX9_carryOutOn_27 Xt [0, 1, 2, 3, 4, 5, 6, 7, 8, 9] (Nat.le_of_ble_eq_true rfl) (Nat.le_of_ble_eq_true rfl) (st := []) rfl (Nat.le_of_ble_eq_true rfl) rfl rfl (Nat.le_of_ble_eq_true rfl) (Nat.le_of_ble_eq_true rfl)
  refine g_callVN1 X (met_X1_carryOutS l hl Z ab a2 a2_1 a2_2 a2_3 a2_4 a4 a4_1 a4_2 a4_3 a6 a1 a6_1 a5 a5_1 a3 a9 a7 a8 v_n v_pulses v_front v_least v_window v_lengths v_fractions v_pulseTimes v_pulseEnergies v_line v_brought v_left v_dropped v_away v_mergings v_drops v_fromNear v_fromFar v_echoes v_hash v_hz v_depth v_scriptLength v_sb v_slen v_o_energies (v_numbers (Int32.toNatClampNeg 0)) (v_numbers (Int32.toNatClampNeg 1)) (v_numbers (Int32.toNatClampNeg 2)) _ hcl).ret [0, 1, 2, 3, 4, 5, 6, 7, 8, 9, 10] [] [13, 14, 15, 16] (wr := []) ⟨rfl, rfl, rfl, rfl, rfl, by decide, by decide⟩ 13 gC0 rfl q939 q69 q936 q938 qs13 md_X1_carryOut ⟨(Nat.le_of_ble_eq_true rfl), (Nat.le_of_ble_eq_true rfl)⟩ rfl dX9_carryOutOn_27 30 rfl 2 202 rfl rfl (Nat.le_of_ble_eq_true rfl) (Nat.le_of_ble_eq_true rfl) (st := []) rfl (Nat.le_of_ble_eq_true rfl) (fun _ => rfl) (fun u => ?_)
  obtain ⟨b14, b15, z16⟩ := u
  obtain rfl := Option.some.inj h
  exact g_retI (g_iret X dX9_carryOutOn_30 (b14, b15, z16) rfl rfl (Nat.le_of_ble_eq_true rfl) (Nat.le_of_ble_eq_true rfl))
/-! LineEchoes.carryOut(LLineEchoes$Bench;Ljava/lang/String;III)I -/
abbrev rm_X1_carryOutL : Room := { frames := 4, cells := 2, slots := 202, locals := 106 }
def F_X1_carryOutL_186 (v_n : Int32) (v_pulses : Int32) (v_front : Int32) (v_least : Int32) (v_window : Int32) (v_lengths : Nat → Int32) (v_fractions : Nat → Int32) (v_pulseTimes : Nat → Int32) (v_pulseEnergies : Nat → Int32) (v_fromNear : Nat → Int64) (v_fromFar : Nat → Int64) (v_echoes : Nat → Int64) (v_hash : Int32) (v_hz : Int32) (x7 : Int32) : Option ((Int32 × Int64 × Int64 × Int64 × Int64 × Int32 × Int32 × (Nat → Int64) × (Nat → Int64) × (Nat → Int64) × Int32 × Int32 × (Nat → Int64)) ⊕ Nat) :=
  if x7 = 0 then
    (none)
  else
    (if x7 = 1 then
      (none)
    else
      (if x7 = 2 then
        (none)
      else
        (if x7 = 3 then
          (none)
        else
          (if x7 = 4 then
            (none)
          else
            (if x7 = 5 then
              (none)
            else
              (if x7 = 6 then
                (bd11 (F_X2_observe v_fromNear v_fromFar v_echoes v_n v_pulses v_front v_least v_window v_lengths v_fractions v_pulseTimes v_pulseEnergies) fun r1 w2_brought w3_left w4_dropped w5_away w6_mergings w7_drops w8_fromNear w9_fromFar w10_echoes w11_o1 =>
                some (.inl (r1, w2_brought, w3_left, w4_dropped, w5_away, w6_mergings, w7_drops, w8_fromNear, w9_fromFar, w10_echoes, v_hash, v_hz, w11_o1)))
              else
                (none)))))))
def F_X1_carryOutL (v_n : Int32) (v_pulses : Int32) (v_front : Int32) (v_least : Int32) (v_window : Int32) (v_lengths : Nat → Int32) (v_fractions : Nat → Int32) (v_pulseTimes : Nat → Int32) (v_pulseEnergies : Nat → Int32) (v_fromNear : Nat → Int64) (v_fromFar : Nat → Int64) (v_echoes : Nat → Int64) (v_hash : Int32) (v_hz : Int32) (v_sb : Nat → Int32) (v_slen : Nat) : Option ((Int32 × Int64 × Int64 × Int64 × Int64 × Int32 × Int32 × (Nat → Int64) × (Nat → Int64) × (Nat → Int64) × Int32 × Int32 × (Nat → Int64)) ⊕ Nat) :=
  bd3 (F_J7_hashCode v_hash v_hz v_sb v_slen) fun r1 w2_hash w3_hz =>
  if r1 = 98882 then
    (bd1 (F_J7_equals v_sb v_slen ([99, 117, 116])) fun r4 =>
    if r4 = 0 then
      (F_X1_carryOutL_186 v_n v_pulses v_front v_least v_window v_lengths v_fractions v_pulseTimes v_pulseEnergies v_fromNear v_fromFar v_echoes w2_hash w3_hz (-1))
    else
      (F_X1_carryOutL_186 v_n v_pulses v_front v_least v_window v_lengths v_fractions v_pulseTimes v_pulseEnergies v_fromNear v_fromFar v_echoes w2_hash w3_hz 2))
  else
    (if r1 = 113762 then
      (bd1 (F_J7_equals v_sb v_slen ([115, 101, 116])) fun r5 =>
      if r5 = 0 then
        (F_X1_carryOutL_186 v_n v_pulses v_front v_least v_window v_lengths v_fractions v_pulseTimes v_pulseEnergies v_fromNear v_fromFar v_echoes w2_hash w3_hz (-1))
      else
        (F_X1_carryOutL_186 v_n v_pulses v_front v_least v_window v_lengths v_fractions v_pulseTimes v_pulseEnergies v_fromNear v_fromFar v_echoes w2_hash w3_hz 1))
    else
      (if r1 = 3327647 then
        (bd1 (F_J7_equals v_sb v_slen ([108, 111, 111, 107])) fun r6 =>
        if r6 = 0 then
          (F_X1_carryOutL_186 v_n v_pulses v_front v_least v_window v_lengths v_fractions v_pulseTimes v_pulseEnergies v_fromNear v_fromFar v_echoes w2_hash w3_hz (-1))
        else
          (F_X1_carryOutL_186 v_n v_pulses v_front v_least v_window v_lengths v_fractions v_pulseTimes v_pulseEnergies v_fromNear v_fromFar v_echoes w2_hash w3_hz 6))
      else
        (if r1 = 3433459 then
          (bd1 (F_J7_equals v_sb v_slen ([112, 97, 114, 116])) fun r7 =>
          if r7 = 0 then
            (F_X1_carryOutL_186 v_n v_pulses v_front v_least v_window v_lengths v_fractions v_pulseTimes v_pulseEnergies v_fromNear v_fromFar v_echoes w2_hash w3_hz (-1))
          else
            (F_X1_carryOutL_186 v_n v_pulses v_front v_least v_window v_lengths v_fractions v_pulseTimes v_pulseEnergies v_fromNear v_fromFar v_echoes w2_hash w3_hz 0))
        else
          (if r1 = 107027353 then
            (bd1 (F_J7_equals v_sb v_slen ([112, 117, 108, 115, 101])) fun r8 =>
            if r8 = 0 then
              (F_X1_carryOutL_186 v_n v_pulses v_front v_least v_window v_lengths v_fractions v_pulseTimes v_pulseEnergies v_fromNear v_fromFar v_echoes w2_hash w3_hz (-1))
            else
              (F_X1_carryOutL_186 v_n v_pulses v_front v_least v_window v_lengths v_fractions v_pulseTimes v_pulseEnergies v_fromNear v_fromFar v_echoes w2_hash w3_hz 4))
          else
            (if r1 = 109627663 then
              (bd1 (F_J7_equals v_sb v_slen ([115, 111, 117, 110, 100])) fun r9 =>
              if r9 = 0 then
                (F_X1_carryOutL_186 v_n v_pulses v_front v_least v_window v_lengths v_fractions v_pulseTimes v_pulseEnergies v_fromNear v_fromFar v_echoes w2_hash w3_hz (-1))
              else
                (F_X1_carryOutL_186 v_n v_pulses v_front v_least v_window v_lengths v_fractions v_pulseTimes v_pulseEnergies v_fromNear v_fromFar v_echoes w2_hash w3_hz 5))
            else
              (if r1 = 109648666 then
                (bd1 (F_J7_equals v_sb v_slen ([115, 112, 108, 105, 116])) fun r10 =>
                if r10 = 0 then
                  (F_X1_carryOutL_186 v_n v_pulses v_front v_least v_window v_lengths v_fractions v_pulseTimes v_pulseEnergies v_fromNear v_fromFar v_echoes w2_hash w3_hz (-1))
                else
                  (F_X1_carryOutL_186 v_n v_pulses v_front v_least v_window v_lengths v_fractions v_pulseTimes v_pulseEnergies v_fromNear v_fromFar v_echoes w2_hash w3_hz 3))
              else
                (F_X1_carryOutL_186 v_n v_pulses v_front v_least v_window v_lengths v_fractions v_pulseTimes v_pulseEnergies v_fromNear v_fromFar v_echoes w2_hash w3_hz (-1))))))))
theorem w_X1_carryOutL_186 {p : Program} {l : Launch} {e : Env} {s : State} {m : MethodId} {args : Array Value} {below : List Frame} {meth : Method} {c : Code} {Z : gZt} {A : Nat → Prop} (a1 : Nat) (a2 : Nat) (a2_1 : Nat) (a2_2 : Nat) (a2_3 : Nat) (a2_4 : Nat) (a4 : Nat) (a4_1 : Nat) (a4_2 : Nat) (a4_3 : Nat) (a6 : Nat) (a0 : Nat) (a6_1 : Nat) (a5 : Nat) (a5_1 : Nat) (a3 : Nat) (a9 : Nat) (a7 : Nat) (a8 : Nat) (v_depth : Int32) (v_scriptLength : Int32) (v_sb : Nat → Int32) (v_slen : Nat) (v_o_energies : Nat → Int64) (X : gX p s m args meth c Z A cX1_carryOut "LineEchoes" 8 (some .int) [(a0, .inr (0, [.ref a9, .ref a7, .int v_depth, .ref a8, .int v_scriptLength, .ref a4])), (a6_1, .inl (Z.2 2, v_slen, .inl v_sb)), (a5, .inr (3, [.ref a5_1])), (a5_1, .inl (Z.2 1, 201, .inr (.inl v_o_energies)))]) (Xt : gXt c) (hl : l.stackTraces = false) (o : (Int32 × Int64 × Int64 × Int64 × Int64 × Int32 × Int32 × (Nat → Int64) × (Nat → Int64) × (Nat → Int64) × Int32 × Int32 × (Nat → Int64)) ⊕ Nat)  (v_n : Int32) (v_pulses : Int32) (v_front : Int32) (v_least : Int32) (v_window : Int32) (v_lengths : Nat → Int32) (v_fractions : Nat → Int32) (v_pulseTimes : Nat → Int32) (v_pulseEnergies : Nat → Int32) (v_line : Option Nat) (v_brought : Int64) (v_left : Int64) (v_dropped : Int64) (v_away : Int64) (v_mergings : Int32) (v_drops : Int32) (v_fromNear : Nat → Int64) (v_fromFar : Nat → Int64) (v_echoes : Nat → Int64) (v_hash : Int32) (v_hz : Int32) (x7 : Int32) (h : F_X1_carryOutL_186 v_n v_pulses v_front v_least v_window v_lengths v_fractions v_pulseTimes v_pulseEnergies v_fromNear v_fromFar v_echoes v_hash v_hz x7 = some o) : G p l e rm_X1_carryOutL s m args below meth c Z A 8 (vx_MQ below (gQc Z A (fun x : Int32 × Int64 × Int64 × Int64 × Int64 × Int32 × Int32 × (Nat → Int64) × (Nat → Int64) × (Nat → Int64) × Int32 × Int32 × (Nat → Int64) => (fun u : Nat × Nat × Option Nat => (some (.int x.1) : Option Value))) (fun x : Int32 × Int64 × Int64 × Int64 × Int64 × Int32 × Int32 × (Nat → Int64) × (Nat → Int64) × (Nat → Int64) × Int32 × Int32 × (Nat → Int64) => (fun u : Nat × Nat × Option Nat => ([(a1, .inr (1, [.ref a2, .ref a3, .ref u.1])), (a2, .inr (2, [.ref a2_1, .ref a2_2, .int v_n, .ref a2_3, .ref a2_4, .int v_pulses, .int v_front, .int v_least, .int v_window])), (a2_1, .inl (Z.2 0, 8, .inl v_lengths)), (a2_2, .inl (Z.2 0, 8, .inl v_fractions)), (a2_3, .inl (Z.2 0, 4, .inl v_pulseTimes)), (a2_4, .inl (Z.2 0, 4, .inl v_pulseEnergies)), (a4, .inr (4, [.ref a4_1, .ref a4_2, .ref a4_3, (va_rf u.2.2), .long x.2.1, .long x.2.2.1, .long x.2.2.2.1, .long x.2.2.2.2.1, .int x.2.2.2.2.2.1, .int x.2.2.2.2.2.2.1])), (a4_1, .inl (Z.2 1, 1809, .inr (.inl x.2.2.2.2.2.2.2.1))), (a4_2, .inl (Z.2 1, 1809, .inr (.inl x.2.2.2.2.2.2.2.2.1))), (a4_3, .inl (Z.2 1, 201, .inr (.inl x.2.2.2.2.2.2.2.2.2.1))), (a6, .inr (8, [.ref a6_1, .int 0, .int x.2.2.2.2.2.2.2.2.2.2.1, .int x.2.2.2.2.2.2.2.2.2.2.2.1])), (u.1, .inr (3, [.ref u.2.1])), (u.2.1, .inl (Z.2 1, 201, .inr (.inl x.2.2.2.2.2.2.2.2.2.2.2.2)))] : va_W))) o) (gXc Z A [(a1, .inr (1, [.ref a2, .ref a3, .ref a5])), (a2, .inr (2, [.ref a2_1, .ref a2_2, .int v_n, .ref a2_3, .ref a2_4, .int v_pulses, .int v_front, .int v_least, .int v_window])), (a2_1, .inl (Z.2 0, 8, .inl v_lengths)), (a2_2, .inl (Z.2 0, 8, .inl v_fractions)), (a2_3, .inl (Z.2 0, 4, .inl v_pulseTimes)), (a2_4, .inl (Z.2 0, 4, .inl v_pulseEnergies)), (a4, .inr (4, [.ref a4_1, .ref a4_2, .ref a4_3, (va_rf v_line), .long v_brought, .long v_left, .long v_dropped, .long v_away, .int v_mergings, .int v_drops])), (a4_1, .inl (Z.2 1, 1809, .inr (.inl v_fromNear))), (a4_2, .inl (Z.2 1, 1809, .inr (.inl v_fromFar))), (a4_3, .inl (Z.2 1, 201, .inr (.inl v_echoes)))] o) args s 2 202 A) [(a1, .inr (1, [.ref a2, .ref a3, .ref a5])), (a2, .inr (2, [.ref a2_1, .ref a2_2, .int v_n, .ref a2_3, .ref a2_4, .int v_pulses, .int v_front, .int v_least, .int v_window])), (a2_1, .inl (Z.2 0, 8, .inl v_lengths)), (a2_2, .inl (Z.2 0, 8, .inl v_fractions)), (a2_3, .inl (Z.2 0, 4, .inl v_pulseTimes)), (a2_4, .inl (Z.2 0, 4, .inl v_pulseEnergies)), (a4, .inr (4, [.ref a4_1, .ref a4_2, .ref a4_3, (va_rf v_line), .long v_brought, .long v_left, .long v_dropped, .long v_away, .int v_mergings, .int v_drops])), (a4_1, .inl (Z.2 1, 1809, .inr (.inl v_fromNear))), (a4_2, .inl (Z.2 1, 1809, .inr (.inl v_fromFar))), (a4_3, .inl (Z.2 1, 201, .inr (.inl v_echoes))), (a6, .inr (8, [.ref a6_1, .int 0, .int v_hash, .int v_hz]))] 0 0 186 [some (.ref a0), some (.ref a1), none, none, none, none, none, some (.int x7)] [] := by
  unfold F_X1_carryOutL_186 at h
  refine g_iload X rfl dX1_carryOut_186 188 rfl ?_
  by_cases hc0 : x7 = 0
  · replace h := if_t hc0 h
    refine g_tabIn X dX1_carryOut_188 232 0 hc0 (by decide) (by decide) rfl (by decide) ?_
    cases h
  replace h := if_f hc0 h
  by_cases hc1 : x7 = 1
  · replace h := if_t hc1 h
    refine g_tabIn X dX1_carryOut_188 240 1 hc1 (by decide) (by decide) rfl (by decide) ?_
    cases h
  replace h := if_f hc1 h
  by_cases hc2 : x7 = 2
  · replace h := if_t hc2 h
    refine g_tabIn X dX1_carryOut_188 250 2 hc2 (by decide) (by decide) rfl (by decide) ?_
    cases h
  replace h := if_f hc2 h
  by_cases hc3 : x7 = 3
  · replace h := if_t hc3 h
    refine g_tabIn X dX1_carryOut_188 256 3 hc3 (by decide) (by decide) rfl (by decide) ?_
    cases h
  replace h := if_f hc3 h
  by_cases hc4 : x7 = 4
  · replace h := if_t hc4 h
    refine g_tabIn X dX1_carryOut_188 266 4 hc4 (by decide) (by decide) rfl (by decide) ?_
    cases h
  replace h := if_f hc4 h
  by_cases hc5 : x7 = 5
  · replace h := if_t hc5 h
    refine g_tabIn X dX1_carryOut_188 274 5 hc5 (by decide) (by decide) rfl (by decide) ?_
    cases h
  replace h := if_f hc5 h
  by_cases hc6 : x7 = 6
  · replace h := if_t hc6 h
    refine g_tabIn X dX1_carryOut_188 283 6 hc6 (by decide) (by decide) rfl (by decide) ?_
    refine g_aload_n X rfl dX1_carryOut_283 284 rfl ?_
    refine g_aload_n X rfl dX1_carryOut_284 285 rfl ?_
    refine g_getR X gC0 0 rfl 5 (by decide) q248 (fun _ h9 => h9) rfl dX1_carryOut_285 288 rfl ?_
    obtain ⟨r1, w2_brought, w3_left, w4_dropped, w5_away, w6_mergings, w7_drops, w8_fromNear, w9_fromFar, w10_echoes, w11_o1, hcl, h⟩ := bd11_e h
    refine g_callV1 X (met_X2_observe l Z a1 a4 a4_1 a4_2 a4_3 a2 a2_1 a2_2 a2_3 a2_4 a3 a5 v_line v_brought v_left v_dropped v_away v_mergings v_drops v_fromNear v_fromFar v_echoes v_n v_pulses v_front v_least v_window v_lengths v_fractions v_pulseTimes v_pulseEnergies  r1 w2_brought w3_left w4_dropped w5_away w6_mergings w7_drops w8_fromNear w9_fromFar w10_echoes w11_o1 hcl) [0, 6, 7, 8, 9] [1, 2, 3, 4, 5, 10] [1, 2, 3, 4, 5] (wr := [(a2, .inr (2, [.ref a2_1, .ref a2_2, .int v_n, .ref a2_3, .ref a2_4, .int v_pulses, .int v_front, .int v_least, .int v_window])), (a2_1, .inl (Z.2 0, 8, .inl v_lengths)), (a2_2, .inl (Z.2 0, 8, .inl v_fractions)), (a2_3, .inl (Z.2 0, 4, .inl v_pulseTimes)), (a2_4, .inl (Z.2 0, 4, .inl v_pulseEnergies)), (a6, .inr (8, [.ref a6_1, .int 0, .int v_hash, .int v_hz]))]) ⟨rfl, rfl, rfl, rfl, rfl, by decide, by decide⟩ 0 gC1 rfl rfl (lw_V q372 q373 q374 q70 q375) md_X2_observe ⟨(Nat.le_of_ble_eq_true rfl), (Nat.le_of_ble_eq_true rfl)⟩ rfl dX1_carryOut_288 291 rfl 2 202 rfl rfl (Nat.le_of_ble_eq_true rfl) (Nat.le_of_ble_eq_true rfl) (st := []) rfl (Nat.le_of_ble_eq_true rfl) (fun _ => rfl) (fun u => ?_)
    obtain ⟨b12, b13⟩ := u
    refine g_wd [(a2, .inr (2, [.ref a2_1, .ref a2_2, .int v_n, .ref a2_3, .ref a2_4, .int v_pulses, .int v_front, .int v_least, .int v_window])), (a2_1, .inl (Z.2 0, 8, .inl v_lengths)), (a2_2, .inl (Z.2 0, 8, .inl v_fractions)), (a2_3, .inl (Z.2 0, 4, .inl v_pulseTimes)), (a2_4, .inl (Z.2 0, 4, .inl v_pulseEnergies)), (a6, .inr (8, [.ref a6_1, .int 0, .int v_hash, .int v_hz])), (a1, .inr (1, [.ref a2, .ref a3, .ref b12])), (a4, .inr (4, [.ref a4_1, .ref a4_2, .ref a4_3, .ref a2, .long w2_brought, .long w3_left, .long w4_dropped, .long w5_away, .int w6_mergings, .int w7_drops])), (a4_1, .inl (Z.2 1, 1809, .inr (.inl w8_fromNear))), (a4_2, .inl (Z.2 1, 1809, .inr (.inl w9_fromFar))), (a4_3, .inl (Z.2 1, 201, .inr (.inl w10_echoes))), (b12, .inr (3, [.ref b13])), (b13, .inl (Z.2 1, 201, .inr (.inl w11_o1)))] rfl ?_
    refine g_keep [6, 0, 1, 2, 3, 4, 7, 8, 9, 10, 5, 11, 12] [(a1, .inr (1, [.ref a2, .ref a3, .ref b12])), (a2, .inr (2, [.ref a2_1, .ref a2_2, .int v_n, .ref a2_3, .ref a2_4, .int v_pulses, .int v_front, .int v_least, .int v_window])), (a2_1, .inl (Z.2 0, 8, .inl v_lengths)), (a2_2, .inl (Z.2 0, 8, .inl v_fractions)), (a2_3, .inl (Z.2 0, 4, .inl v_pulseTimes)), (a2_4, .inl (Z.2 0, 4, .inl v_pulseEnergies)), (a4, .inr (4, [.ref a4_1, .ref a4_2, .ref a4_3, .ref a2, .long w2_brought, .long w3_left, .long w4_dropped, .long w5_away, .int w6_mergings, .int w7_drops])), (a4_1, .inl (Z.2 1, 1809, .inr (.inl w8_fromNear))), (a4_2, .inl (Z.2 1, 1809, .inr (.inl w9_fromFar))), (a4_3, .inl (Z.2 1, 201, .inr (.inl w10_echoes))), (a6, .inr (8, [.ref a6_1, .int 0, .int v_hash, .int v_hz])), (b12, .inr (3, [.ref b13])), (b13, .inl (Z.2 1, 201, .inr (.inl w11_o1)))] rfl rfl ?_
    obtain rfl := Option.some.inj h
    exact g_retI (g_iret X dX1_carryOut_291 (b12, b13, (some a2)) rfl rfl (Nat.le_of_ble_eq_true rfl) (Nat.le_of_ble_eq_true rfl))
  replace h := if_f hc6 h
  refine g_tabOut X dX1_carryOut_188 292 (g_rng (lo := 0) (n := 7) (fun i hi => match i, hi with | 0, _ => lv_neT hc0 (by decide) | 1, _ => lv_neT hc1 (by decide) | 2, _ => lv_neT hc2 (by decide) | 3, _ => lv_neT hc3 (by decide) | 4, _ => lv_neT hc4 (by decide) | 5, _ => lv_neT hc5 (by decide) | 6, _ => lv_neT hc6 (by decide) | n + 7, hi => absurd hi (by omega)) (by decide)) (by decide) ?_
  cases h
theorem met_X1_carryOutL (l : Launch) (hl : l.stackTraces = false) (Z : gZt) (a1 : Nat) (a2 : Nat) (a2_1 : Nat) (a2_2 : Nat) (a2_3 : Nat) (a2_4 : Nat) (a4 : Nat) (a4_1 : Nat) (a4_2 : Nat) (a4_3 : Nat) (a6 : Nat) (a0 : Nat) (a6_1 : Nat) (a5 : Nat) (a5_1 : Nat) (a3 : Nat) (a9 : Nat) (a7 : Nat) (a8 : Nat) (v_n : Int32) (v_pulses : Int32) (v_front : Int32) (v_least : Int32) (v_window : Int32) (v_lengths : Nat → Int32) (v_fractions : Nat → Int32) (v_pulseTimes : Nat → Int32) (v_pulseEnergies : Nat → Int32) (v_line : Option Nat) (v_brought : Int64) (v_left : Int64) (v_dropped : Int64) (v_away : Int64) (v_mergings : Int32) (v_drops : Int32) (v_fromNear : Nat → Int64) (v_fromFar : Nat → Int64) (v_echoes : Nat → Int64) (v_hash : Int32) (v_hz : Int32) (v_depth : Int32) (v_scriptLength : Int32) (v_sb : Nat → Int32) (v_slen : Nat) (v_o_energies : Nat → Int64) (x3 : Int32) (x4 : Int32) (x5 : Int32) (o : (Int32 × Int64 × Int64 × Int64 × Int64 × Int32 × Int32 × (Nat → Int64) × (Nat → Int64) × (Nat → Int64) × Int32 × Int32 × (Nat → Int64)) ⊕ Nat) (h : F_X1_carryOutL v_n v_pulses v_front v_least v_window v_lengths v_fractions v_pulseTimes v_pulseEnergies v_fromNear v_fromFar v_echoes v_hash v_hz v_sb v_slen = some o) : Cx l yX1_carryOut (ws_ yX1_carryOut cX1_carryOut 8 (some .int)) rm_X1_carryOutL Z [.ref a0, .ref a1, .ref a6, .int x3, .int x4, .int x5] [(a1, .inr (1, [.ref a2, .ref a3, .ref a5])), (a2, .inr (2, [.ref a2_1, .ref a2_2, .int v_n, .ref a2_3, .ref a2_4, .int v_pulses, .int v_front, .int v_least, .int v_window])), (a2_1, .inl (Z.2 0, 8, .inl v_lengths)), (a2_2, .inl (Z.2 0, 8, .inl v_fractions)), (a2_3, .inl (Z.2 0, 4, .inl v_pulseTimes)), (a2_4, .inl (Z.2 0, 4, .inl v_pulseEnergies)), (a4, .inr (4, [.ref a4_1, .ref a4_2, .ref a4_3, (va_rf v_line), .long v_brought, .long v_left, .long v_dropped, .long v_away, .int v_mergings, .int v_drops])), (a4_1, .inl (Z.2 1, 1809, .inr (.inl v_fromNear))), (a4_2, .inl (Z.2 1, 1809, .inr (.inl v_fromFar))), (a4_3, .inl (Z.2 1, 201, .inr (.inl v_echoes))), (a6, .inr (8, [.ref a6_1, .int 0, .int v_hash, .int v_hz]))] [(a0, .inr (0, [.ref a9, .ref a7, .int v_depth, .ref a8, .int v_scriptLength, .ref a4])), (a6_1, .inl (Z.2 2, v_slen, .inl v_sb)), (a5, .inr (3, [.ref a5_1])), (a5_1, .inl (Z.2 1, 201, .inr (.inl v_o_energies)))] [(a1, .inr (1, [.ref a2, .ref a3, .ref a5])), (a2, .inr (2, [.ref a2_1, .ref a2_2, .int v_n, .ref a2_3, .ref a2_4, .int v_pulses, .int v_front, .int v_least, .int v_window])), (a2_1, .inl (Z.2 0, 8, .inl v_lengths)), (a2_2, .inl (Z.2 0, 8, .inl v_fractions)), (a2_3, .inl (Z.2 0, 4, .inl v_pulseTimes)), (a2_4, .inl (Z.2 0, 4, .inl v_pulseEnergies)), (a4, .inr (4, [.ref a4_1, .ref a4_2, .ref a4_3, (va_rf v_line), .long v_brought, .long v_left, .long v_dropped, .long v_away, .int v_mergings, .int v_drops])), (a4_1, .inl (Z.2 1, 1809, .inr (.inl v_fromNear))), (a4_2, .inl (Z.2 1, 1809, .inr (.inl v_fromFar))), (a4_3, .inl (Z.2 1, 201, .inr (.inl v_echoes)))] (fun x : Int32 × Int64 × Int64 × Int64 × Int64 × Int32 × Int32 × (Nat → Int64) × (Nat → Int64) × (Nat → Int64) × Int32 × Int32 × (Nat → Int64) => (fun u : Nat × Nat × Option Nat => (some (.int x.1) : Option Value))) (fun x : Int32 × Int64 × Int64 × Int64 × Int64 × Int32 × Int32 × (Nat → Int64) × (Nat → Int64) × (Nat → Int64) × Int32 × Int32 × (Nat → Int64) => (fun u : Nat × Nat × Option Nat => ([(a1, .inr (1, [.ref a2, .ref a3, .ref u.1])), (a2, .inr (2, [.ref a2_1, .ref a2_2, .int v_n, .ref a2_3, .ref a2_4, .int v_pulses, .int v_front, .int v_least, .int v_window])), (a2_1, .inl (Z.2 0, 8, .inl v_lengths)), (a2_2, .inl (Z.2 0, 8, .inl v_fractions)), (a2_3, .inl (Z.2 0, 4, .inl v_pulseTimes)), (a2_4, .inl (Z.2 0, 4, .inl v_pulseEnergies)), (a4, .inr (4, [.ref a4_1, .ref a4_2, .ref a4_3, (va_rf u.2.2), .long x.2.1, .long x.2.2.1, .long x.2.2.2.1, .long x.2.2.2.2.1, .int x.2.2.2.2.2.1, .int x.2.2.2.2.2.2.1])), (a4_1, .inl (Z.2 1, 1809, .inr (.inl x.2.2.2.2.2.2.2.1))), (a4_2, .inl (Z.2 1, 1809, .inr (.inl x.2.2.2.2.2.2.2.2.1))), (a4_3, .inl (Z.2 1, 201, .inr (.inl x.2.2.2.2.2.2.2.2.2.1))), (a6, .inr (8, [.ref a6_1, .int 0, .int x.2.2.2.2.2.2.2.2.2.2.1, .int x.2.2.2.2.2.2.2.2.2.2.2.1])), (u.1, .inr (3, [.ref u.2.1])), (u.2.1, .inl (Z.2 1, 201, .inr (.inl x.2.2.2.2.2.2.2.2.2.2.2.2)))] : va_W))) o := by
  refine Cx.of cX1_carryOut 8 (some .int) "LineEchoes" [some (.ref a0), some (.ref a1), some (.ref a6), some (.int x3), some (.int x4), some (.int x5), none, none] 2 (by decide) rfl (Nat.le_of_ble_eq_true rfl) rfl (fun p e s m args below meth c A X Xt => ?_)
  unfold F_X1_carryOutL at h
  refine g_aload_n X rfl dX1_carryOut_0 1 rfl ?_
  refine g_astore X dX1_carryOut_1 3 rfl (Nat.le_of_ble_eq_true rfl) rfl [some (.ref a0), some (.ref a1), some (.ref a6), some (.int x3), some (.int x4), some (.int x5), some (.ref a6), none] rfl ?_
  refine g_iconst X (-1) dX1_carryOut_3 4 rfl kI_m1 ?_
  refine g_istore X dX1_carryOut_4 6 rfl (Nat.le_of_ble_eq_true rfl) rfl [some (.ref a0), some (.ref a1), some (.ref a6), some (.int x3), some (.int x4), some (.int x5), some (.ref a6), some (.int (-1))] rfl ?_
  refine g_aload X rfl dX1_carryOut_6 8 rfl ?_
  obtain ⟨r1, w2_hash, w3_hz, hcl, h⟩ := bd3_e h
  refine g_callV1 X (met_J7_hashCode l Z a6 a6_1 v_hash v_hz v_sb v_slen  r1 w2_hash w3_hz hcl) [10] [0, 1, 2, 3, 4, 5, 6, 7, 8, 9] [12] (wr := [(a1, .inr (1, [.ref a2, .ref a3, .ref a5])), (a2, .inr (2, [.ref a2_1, .ref a2_2, .int v_n, .ref a2_3, .ref a2_4, .int v_pulses, .int v_front, .int v_least, .int v_window])), (a2_1, .inl (Z.2 0, 8, .inl v_lengths)), (a2_2, .inl (Z.2 0, 8, .inl v_fractions)), (a2_3, .inl (Z.2 0, 4, .inl v_pulseTimes)), (a2_4, .inl (Z.2 0, 4, .inl v_pulseEnergies)), (a4, .inr (4, [.ref a4_1, .ref a4_2, .ref a4_3, (va_rf v_line), .long v_brought, .long v_left, .long v_dropped, .long v_away, .int v_mergings, .int v_drops])), (a4_1, .inl (Z.2 1, 1809, .inr (.inl v_fromNear))), (a4_2, .inl (Z.2 1, 1809, .inr (.inl v_fromFar))), (a4_3, .inl (Z.2 1, 201, .inr (.inl v_echoes)))]) ⟨rfl, rfl, rfl, rfl, rfl, by decide, by decide⟩ 10 gC8 rfl rfl (lw_V q826 q827 q828 q83 q829) md_J7_hashCode ⟨(Nat.le_of_ble_eq_true rfl), (Nat.le_of_ble_eq_true rfl)⟩ rfl dX1_carryOut_8 11 rfl 0 0 rfl rfl (Nat.le_of_ble_eq_true rfl) (Nat.le_of_ble_eq_true rfl) (st := []) rfl (Nat.le_of_ble_eq_true rfl) (fun _ => rfl) (fun _ => ?_)
  by_cases hc0 : r1 = 98882
  · replace h := if_t hc0 h
    refine g_look (off := 97) X dX1_carryOut_11 108 (by decide) (by rw [hc0] <;> rfl) (by decide) ?_
    refine g_aload X rfl dX1_carryOut_108 110 rfl ?_
    refine g_ldcS X 4 rfl dX1_carryOut_110 112 rfl ?_
    refine g_neK X 10 4 rfl rfl (fun hne => ?_)
    obtain ⟨r4, hcl, h⟩ := bd1_e h
    refine g_callV1 X (met_J7_equals l Z a6 a6_1 w2_hash w3_hz v_sb v_slen  [99, 117, 116] 4 rfl hne r4 hcl) [] [0, 1, 2, 3, 4, 5, 6, 7, 8, 9, 10] [10, 12] (wr := [(a1, .inr (1, [.ref a2, .ref a3, .ref a5])), (a2, .inr (2, [.ref a2_1, .ref a2_2, .int v_n, .ref a2_3, .ref a2_4, .int v_pulses, .int v_front, .int v_least, .int v_window])), (a2_1, .inl (Z.2 0, 8, .inl v_lengths)), (a2_2, .inl (Z.2 0, 8, .inl v_fractions)), (a2_3, .inl (Z.2 0, 4, .inl v_pulseTimes)), (a2_4, .inl (Z.2 0, 4, .inl v_pulseEnergies)), (a4, .inr (4, [.ref a4_1, .ref a4_2, .ref a4_3, (va_rf v_line), .long v_brought, .long v_left, .long v_dropped, .long v_away, .int v_mergings, .int v_drops])), (a4_1, .inl (Z.2 1, 1809, .inr (.inl v_fromNear))), (a4_2, .inl (Z.2 1, 1809, .inr (.inl v_fromFar))), (a4_3, .inl (Z.2 1, 201, .inr (.inl v_echoes))), (a6, .inr (8, [.ref a6_1, .int 0, .int w2_hash, .int w3_hz]))]) ⟨rfl, rfl, rfl, rfl, rfl, by decide, by decide⟩ 10 gC8 rfl rfl (lw_V q888 q889 q890 q83 q891) md_J7_equals ⟨(Nat.le_of_ble_eq_true rfl), (Nat.le_of_ble_eq_true rfl)⟩ rfl dX1_carryOut_112 115 rfl 0 0 rfl rfl (Nat.le_of_ble_eq_true rfl) (Nat.le_of_ble_eq_true rfl) (st := []) rfl (Nat.le_of_ble_eq_true rfl) (fun _ => rfl) (fun _ => ?_)
    refine g_if_eq X dX1_carryOut_115 186 (by decide) 118 rfl (fun hc => ?_) (fun hc => ?_)
    · replace h := if_t hc h
      refine g_kill (j := 2) [some (.ref a0), some (.ref a1), none, some (.int x3), some (.int x4), some (.int x5), some (.ref a6), some (.int (-1))] rfl ?_
      refine g_kill (j := 3) [some (.ref a0), some (.ref a1), none, none, some (.int x4), some (.int x5), some (.ref a6), some (.int (-1))] rfl ?_
      refine g_kill (j := 4) [some (.ref a0), some (.ref a1), none, none, none, some (.int x5), some (.ref a6), some (.int (-1))] rfl ?_
      refine g_kill (j := 5) [some (.ref a0), some (.ref a1), none, none, none, none, some (.ref a6), some (.int (-1))] rfl ?_
      refine g_kill (j := 6) [some (.ref a0), some (.ref a1), none, none, none, none, none, some (.int (-1))] rfl ?_
      exact w_X1_carryOutL_186 a1 a2 a2_1 a2_2 a2_3 a2_4 a4 a4_1 a4_2 a4_3 a6 a0 a6_1 a5 a5_1 a3 a9 a7 a8 v_depth v_scriptLength v_sb v_slen v_o_energies X Xt hl  _    v_n v_pulses v_front v_least v_window v_lengths v_fractions v_pulseTimes v_pulseEnergies v_line v_brought v_left v_dropped v_away v_mergings v_drops v_fromNear v_fromFar v_echoes w2_hash w3_hz (-1) h
    · replace h := if_f hc h
      refine g_iconst X 2 dX1_carryOut_118 119 rfl kI_2 ?_
      refine g_istore X dX1_carryOut_119 121 rfl (Nat.le_of_ble_eq_true rfl) rfl [some (.ref a0), some (.ref a1), some (.ref a6), some (.int x3), some (.int x4), some (.int x5), some (.ref a6), some (.int 2)] rfl ?_
      refine g_goto X dX1_carryOut_121 186 (by decide) ?_
      refine g_kill (j := 2) [some (.ref a0), some (.ref a1), none, some (.int x3), some (.int x4), some (.int x5), some (.ref a6), some (.int 2)] rfl ?_
      refine g_kill (j := 3) [some (.ref a0), some (.ref a1), none, none, some (.int x4), some (.int x5), some (.ref a6), some (.int 2)] rfl ?_
      refine g_kill (j := 4) [some (.ref a0), some (.ref a1), none, none, none, some (.int x5), some (.ref a6), some (.int 2)] rfl ?_
      refine g_kill (j := 5) [some (.ref a0), some (.ref a1), none, none, none, none, some (.ref a6), some (.int 2)] rfl ?_
      refine g_kill (j := 6) [some (.ref a0), some (.ref a1), none, none, none, none, none, some (.int 2)] rfl ?_
      exact w_X1_carryOutL_186 a1 a2 a2_1 a2_2 a2_3 a2_4 a4 a4_1 a4_2 a4_3 a6 a0 a6_1 a5 a5_1 a3 a9 a7 a8 v_depth v_scriptLength v_sb v_slen v_o_energies X Xt hl  _    v_n v_pulses v_front v_least v_window v_lengths v_fractions v_pulseTimes v_pulseEnergies v_line v_brought v_left v_dropped v_away v_mergings v_drops v_fromNear v_fromFar v_echoes w2_hash w3_hz 2 h
  replace h := if_f hc0 h
  by_cases hc1 : r1 = 113762
  · replace h := if_t hc1 h
    refine g_look (off := 81) X dX1_carryOut_11 92 (by decide) (by rw [hc1] <;> rfl) (by decide) ?_
    refine g_aload X rfl dX1_carryOut_92 94 rfl ?_
    refine g_ldcS X 0 rfl dX1_carryOut_94 96 rfl ?_
    refine g_neK X 10 0 rfl rfl (fun hne => ?_)
    obtain ⟨r5, hcl, h⟩ := bd1_e h
    refine g_callV1 X (met_J7_equals l Z a6 a6_1 w2_hash w3_hz v_sb v_slen  [115, 101, 116] 0 rfl hne r5 hcl) [] [0, 1, 2, 3, 4, 5, 6, 7, 8, 9, 10] [10, 12] (wr := [(a1, .inr (1, [.ref a2, .ref a3, .ref a5])), (a2, .inr (2, [.ref a2_1, .ref a2_2, .int v_n, .ref a2_3, .ref a2_4, .int v_pulses, .int v_front, .int v_least, .int v_window])), (a2_1, .inl (Z.2 0, 8, .inl v_lengths)), (a2_2, .inl (Z.2 0, 8, .inl v_fractions)), (a2_3, .inl (Z.2 0, 4, .inl v_pulseTimes)), (a2_4, .inl (Z.2 0, 4, .inl v_pulseEnergies)), (a4, .inr (4, [.ref a4_1, .ref a4_2, .ref a4_3, (va_rf v_line), .long v_brought, .long v_left, .long v_dropped, .long v_away, .int v_mergings, .int v_drops])), (a4_1, .inl (Z.2 1, 1809, .inr (.inl v_fromNear))), (a4_2, .inl (Z.2 1, 1809, .inr (.inl v_fromFar))), (a4_3, .inl (Z.2 1, 201, .inr (.inl v_echoes))), (a6, .inr (8, [.ref a6_1, .int 0, .int w2_hash, .int w3_hz]))]) ⟨rfl, rfl, rfl, rfl, rfl, by decide, by decide⟩ 10 gC8 rfl rfl (lw_V q888 q889 q890 q83 q891) md_J7_equals ⟨(Nat.le_of_ble_eq_true rfl), (Nat.le_of_ble_eq_true rfl)⟩ rfl dX1_carryOut_96 99 rfl 0 0 rfl rfl (Nat.le_of_ble_eq_true rfl) (Nat.le_of_ble_eq_true rfl) (st := []) rfl (Nat.le_of_ble_eq_true rfl) (fun _ => rfl) (fun _ => ?_)
    refine g_if_eq X dX1_carryOut_99 186 (by decide) 102 rfl (fun hc => ?_) (fun hc => ?_)
    · replace h := if_t hc h
      refine g_kill (j := 2) [some (.ref a0), some (.ref a1), none, some (.int x3), some (.int x4), some (.int x5), some (.ref a6), some (.int (-1))] rfl ?_
      refine g_kill (j := 3) [some (.ref a0), some (.ref a1), none, none, some (.int x4), some (.int x5), some (.ref a6), some (.int (-1))] rfl ?_
      refine g_kill (j := 4) [some (.ref a0), some (.ref a1), none, none, none, some (.int x5), some (.ref a6), some (.int (-1))] rfl ?_
      refine g_kill (j := 5) [some (.ref a0), some (.ref a1), none, none, none, none, some (.ref a6), some (.int (-1))] rfl ?_
      refine g_kill (j := 6) [some (.ref a0), some (.ref a1), none, none, none, none, none, some (.int (-1))] rfl ?_
      exact w_X1_carryOutL_186 a1 a2 a2_1 a2_2 a2_3 a2_4 a4 a4_1 a4_2 a4_3 a6 a0 a6_1 a5 a5_1 a3 a9 a7 a8 v_depth v_scriptLength v_sb v_slen v_o_energies X Xt hl  _    v_n v_pulses v_front v_least v_window v_lengths v_fractions v_pulseTimes v_pulseEnergies v_line v_brought v_left v_dropped v_away v_mergings v_drops v_fromNear v_fromFar v_echoes w2_hash w3_hz (-1) h
    · replace h := if_f hc h
      refine g_iconst X 1 dX1_carryOut_102 103 rfl kI_1 ?_
      refine g_istore X dX1_carryOut_103 105 rfl (Nat.le_of_ble_eq_true rfl) rfl [some (.ref a0), some (.ref a1), some (.ref a6), some (.int x3), some (.int x4), some (.int x5), some (.ref a6), some (.int 1)] rfl ?_
      refine g_goto X dX1_carryOut_105 186 (by decide) ?_
      refine g_kill (j := 2) [some (.ref a0), some (.ref a1), none, some (.int x3), some (.int x4), some (.int x5), some (.ref a6), some (.int 1)] rfl ?_
      refine g_kill (j := 3) [some (.ref a0), some (.ref a1), none, none, some (.int x4), some (.int x5), some (.ref a6), some (.int 1)] rfl ?_
      refine g_kill (j := 4) [some (.ref a0), some (.ref a1), none, none, none, some (.int x5), some (.ref a6), some (.int 1)] rfl ?_
      refine g_kill (j := 5) [some (.ref a0), some (.ref a1), none, none, none, none, some (.ref a6), some (.int 1)] rfl ?_
      refine g_kill (j := 6) [some (.ref a0), some (.ref a1), none, none, none, none, none, some (.int 1)] rfl ?_
      exact w_X1_carryOutL_186 a1 a2 a2_1 a2_2 a2_3 a2_4 a4 a4_1 a4_2 a4_3 a6 a0 a6_1 a5 a5_1 a3 a9 a7 a8 v_depth v_scriptLength v_sb v_slen v_o_energies X Xt hl  _    v_n v_pulses v_front v_least v_window v_lengths v_fractions v_pulseTimes v_pulseEnergies v_line v_brought v_left v_dropped v_away v_mergings v_drops v_fromNear v_fromFar v_echoes w2_hash w3_hz 1 h
  replace h := if_f hc1 h
  by_cases hc2 : r1 = 3327647
  · replace h := if_t hc2 h
    refine g_look (off := 161) X dX1_carryOut_11 172 (by decide) (by rw [hc2] <;> rfl) (by decide) ?_
    refine g_aload X rfl dX1_carryOut_172 174 rfl ?_
    refine g_ldcS X 6 rfl dX1_carryOut_174 176 rfl ?_
    refine g_neK X 10 6 rfl rfl (fun hne => ?_)
    obtain ⟨r6, hcl, h⟩ := bd1_e h
    refine g_callV1 X (met_J7_equals l Z a6 a6_1 w2_hash w3_hz v_sb v_slen  [108, 111, 111, 107] 6 rfl hne r6 hcl) [] [0, 1, 2, 3, 4, 5, 6, 7, 8, 9, 10] [10, 12] (wr := [(a1, .inr (1, [.ref a2, .ref a3, .ref a5])), (a2, .inr (2, [.ref a2_1, .ref a2_2, .int v_n, .ref a2_3, .ref a2_4, .int v_pulses, .int v_front, .int v_least, .int v_window])), (a2_1, .inl (Z.2 0, 8, .inl v_lengths)), (a2_2, .inl (Z.2 0, 8, .inl v_fractions)), (a2_3, .inl (Z.2 0, 4, .inl v_pulseTimes)), (a2_4, .inl (Z.2 0, 4, .inl v_pulseEnergies)), (a4, .inr (4, [.ref a4_1, .ref a4_2, .ref a4_3, (va_rf v_line), .long v_brought, .long v_left, .long v_dropped, .long v_away, .int v_mergings, .int v_drops])), (a4_1, .inl (Z.2 1, 1809, .inr (.inl v_fromNear))), (a4_2, .inl (Z.2 1, 1809, .inr (.inl v_fromFar))), (a4_3, .inl (Z.2 1, 201, .inr (.inl v_echoes))), (a6, .inr (8, [.ref a6_1, .int 0, .int w2_hash, .int w3_hz]))]) ⟨rfl, rfl, rfl, rfl, rfl, by decide, by decide⟩ 10 gC8 rfl rfl (lw_V q888 q889 q890 q83 q891) md_J7_equals ⟨(Nat.le_of_ble_eq_true rfl), (Nat.le_of_ble_eq_true rfl)⟩ rfl dX1_carryOut_176 179 rfl 0 0 rfl rfl (Nat.le_of_ble_eq_true rfl) (Nat.le_of_ble_eq_true rfl) (st := []) rfl (Nat.le_of_ble_eq_true rfl) (fun _ => rfl) (fun _ => ?_)
    refine g_if_eq X dX1_carryOut_179 186 (by decide) 182 rfl (fun hc => ?_) (fun hc => ?_)
    · replace h := if_t hc h
      refine g_kill (j := 2) [some (.ref a0), some (.ref a1), none, some (.int x3), some (.int x4), some (.int x5), some (.ref a6), some (.int (-1))] rfl ?_
      refine g_kill (j := 3) [some (.ref a0), some (.ref a1), none, none, some (.int x4), some (.int x5), some (.ref a6), some (.int (-1))] rfl ?_
      refine g_kill (j := 4) [some (.ref a0), some (.ref a1), none, none, none, some (.int x5), some (.ref a6), some (.int (-1))] rfl ?_
      refine g_kill (j := 5) [some (.ref a0), some (.ref a1), none, none, none, none, some (.ref a6), some (.int (-1))] rfl ?_
      refine g_kill (j := 6) [some (.ref a0), some (.ref a1), none, none, none, none, none, some (.int (-1))] rfl ?_
      exact w_X1_carryOutL_186 a1 a2 a2_1 a2_2 a2_3 a2_4 a4 a4_1 a4_2 a4_3 a6 a0 a6_1 a5 a5_1 a3 a9 a7 a8 v_depth v_scriptLength v_sb v_slen v_o_energies X Xt hl  _    v_n v_pulses v_front v_least v_window v_lengths v_fractions v_pulseTimes v_pulseEnergies v_line v_brought v_left v_dropped v_away v_mergings v_drops v_fromNear v_fromFar v_echoes w2_hash w3_hz (-1) h
    · replace h := if_f hc h
      refine g_bipush X 6 dX1_carryOut_182 184 rfl kB_6 ?_
      refine g_istore X dX1_carryOut_184 186 rfl (Nat.le_of_ble_eq_true rfl) rfl [some (.ref a0), some (.ref a1), some (.ref a6), some (.int x3), some (.int x4), some (.int x5), some (.ref a6), some (.int 6)] rfl ?_
      refine g_kill (j := 2) [some (.ref a0), some (.ref a1), none, some (.int x3), some (.int x4), some (.int x5), some (.ref a6), some (.int 6)] rfl ?_
      refine g_kill (j := 3) [some (.ref a0), some (.ref a1), none, none, some (.int x4), some (.int x5), some (.ref a6), some (.int 6)] rfl ?_
      refine g_kill (j := 4) [some (.ref a0), some (.ref a1), none, none, none, some (.int x5), some (.ref a6), some (.int 6)] rfl ?_
      refine g_kill (j := 5) [some (.ref a0), some (.ref a1), none, none, none, none, some (.ref a6), some (.int 6)] rfl ?_
      refine g_kill (j := 6) [some (.ref a0), some (.ref a1), none, none, none, none, none, some (.int 6)] rfl ?_
      exact w_X1_carryOutL_186 a1 a2 a2_1 a2_2 a2_3 a2_4 a4 a4_1 a4_2 a4_3 a6 a0 a6_1 a5 a5_1 a3 a9 a7 a8 v_depth v_scriptLength v_sb v_slen v_o_energies X Xt hl  _    v_n v_pulses v_front v_least v_window v_lengths v_fractions v_pulseTimes v_pulseEnergies v_line v_brought v_left v_dropped v_away v_mergings v_drops v_fromNear v_fromFar v_echoes w2_hash w3_hz 6 h
  replace h := if_f hc2 h
  by_cases hc3 : r1 = 3433459
  · replace h := if_t hc3 h
    refine g_look (off := 65) X dX1_carryOut_11 76 (by decide) (by rw [hc3] <;> rfl) (by decide) ?_
    refine g_aload X rfl dX1_carryOut_76 78 rfl ?_
    refine g_ldcS X 2 rfl dX1_carryOut_78 80 rfl ?_
    refine g_neK X 10 2 rfl rfl (fun hne => ?_)
    obtain ⟨r7, hcl, h⟩ := bd1_e h
    refine g_callV1 X (met_J7_equals l Z a6 a6_1 w2_hash w3_hz v_sb v_slen  [112, 97, 114, 116] 2 rfl hne r7 hcl) [] [0, 1, 2, 3, 4, 5, 6, 7, 8, 9, 10] [10, 12] (wr := [(a1, .inr (1, [.ref a2, .ref a3, .ref a5])), (a2, .inr (2, [.ref a2_1, .ref a2_2, .int v_n, .ref a2_3, .ref a2_4, .int v_pulses, .int v_front, .int v_least, .int v_window])), (a2_1, .inl (Z.2 0, 8, .inl v_lengths)), (a2_2, .inl (Z.2 0, 8, .inl v_fractions)), (a2_3, .inl (Z.2 0, 4, .inl v_pulseTimes)), (a2_4, .inl (Z.2 0, 4, .inl v_pulseEnergies)), (a4, .inr (4, [.ref a4_1, .ref a4_2, .ref a4_3, (va_rf v_line), .long v_brought, .long v_left, .long v_dropped, .long v_away, .int v_mergings, .int v_drops])), (a4_1, .inl (Z.2 1, 1809, .inr (.inl v_fromNear))), (a4_2, .inl (Z.2 1, 1809, .inr (.inl v_fromFar))), (a4_3, .inl (Z.2 1, 201, .inr (.inl v_echoes))), (a6, .inr (8, [.ref a6_1, .int 0, .int w2_hash, .int w3_hz]))]) ⟨rfl, rfl, rfl, rfl, rfl, by decide, by decide⟩ 10 gC8 rfl rfl (lw_V q888 q889 q890 q83 q891) md_J7_equals ⟨(Nat.le_of_ble_eq_true rfl), (Nat.le_of_ble_eq_true rfl)⟩ rfl dX1_carryOut_80 83 rfl 0 0 rfl rfl (Nat.le_of_ble_eq_true rfl) (Nat.le_of_ble_eq_true rfl) (st := []) rfl (Nat.le_of_ble_eq_true rfl) (fun _ => rfl) (fun _ => ?_)
    refine g_if_eq X dX1_carryOut_83 186 (by decide) 86 rfl (fun hc => ?_) (fun hc => ?_)
    · replace h := if_t hc h
      refine g_kill (j := 2) [some (.ref a0), some (.ref a1), none, some (.int x3), some (.int x4), some (.int x5), some (.ref a6), some (.int (-1))] rfl ?_
      refine g_kill (j := 3) [some (.ref a0), some (.ref a1), none, none, some (.int x4), some (.int x5), some (.ref a6), some (.int (-1))] rfl ?_
      refine g_kill (j := 4) [some (.ref a0), some (.ref a1), none, none, none, some (.int x5), some (.ref a6), some (.int (-1))] rfl ?_
      refine g_kill (j := 5) [some (.ref a0), some (.ref a1), none, none, none, none, some (.ref a6), some (.int (-1))] rfl ?_
      refine g_kill (j := 6) [some (.ref a0), some (.ref a1), none, none, none, none, none, some (.int (-1))] rfl ?_
      exact w_X1_carryOutL_186 a1 a2 a2_1 a2_2 a2_3 a2_4 a4 a4_1 a4_2 a4_3 a6 a0 a6_1 a5 a5_1 a3 a9 a7 a8 v_depth v_scriptLength v_sb v_slen v_o_energies X Xt hl  _    v_n v_pulses v_front v_least v_window v_lengths v_fractions v_pulseTimes v_pulseEnergies v_line v_brought v_left v_dropped v_away v_mergings v_drops v_fromNear v_fromFar v_echoes w2_hash w3_hz (-1) h
    · replace h := if_f hc h
      refine g_iconst X 0 dX1_carryOut_86 87 rfl kI_0 ?_
      refine g_istore X dX1_carryOut_87 89 rfl (Nat.le_of_ble_eq_true rfl) rfl [some (.ref a0), some (.ref a1), some (.ref a6), some (.int x3), some (.int x4), some (.int x5), some (.ref a6), some (.int 0)] rfl ?_
      refine g_goto X dX1_carryOut_89 186 (by decide) ?_
      refine g_kill (j := 2) [some (.ref a0), some (.ref a1), none, some (.int x3), some (.int x4), some (.int x5), some (.ref a6), some (.int 0)] rfl ?_
      refine g_kill (j := 3) [some (.ref a0), some (.ref a1), none, none, some (.int x4), some (.int x5), some (.ref a6), some (.int 0)] rfl ?_
      refine g_kill (j := 4) [some (.ref a0), some (.ref a1), none, none, none, some (.int x5), some (.ref a6), some (.int 0)] rfl ?_
      refine g_kill (j := 5) [some (.ref a0), some (.ref a1), none, none, none, none, some (.ref a6), some (.int 0)] rfl ?_
      refine g_kill (j := 6) [some (.ref a0), some (.ref a1), none, none, none, none, none, some (.int 0)] rfl ?_
      exact w_X1_carryOutL_186 a1 a2 a2_1 a2_2 a2_3 a2_4 a4 a4_1 a4_2 a4_3 a6 a0 a6_1 a5 a5_1 a3 a9 a7 a8 v_depth v_scriptLength v_sb v_slen v_o_energies X Xt hl  _    v_n v_pulses v_front v_least v_window v_lengths v_fractions v_pulseTimes v_pulseEnergies v_line v_brought v_left v_dropped v_away v_mergings v_drops v_fromNear v_fromFar v_echoes w2_hash w3_hz 0 h
  replace h := if_f hc3 h
  by_cases hc4 : r1 = 107027353
  · replace h := if_t hc4 h
    refine g_look (off := 129) X dX1_carryOut_11 140 (by decide) (by rw [hc4] <;> rfl) (by decide) ?_
    refine g_aload X rfl dX1_carryOut_140 142 rfl ?_
    refine g_ldcS X 3 rfl dX1_carryOut_142 144 rfl ?_
    refine g_neK X 10 3 rfl rfl (fun hne => ?_)
    obtain ⟨r8, hcl, h⟩ := bd1_e h
    refine g_callV1 X (met_J7_equals l Z a6 a6_1 w2_hash w3_hz v_sb v_slen  [112, 117, 108, 115, 101] 3 rfl hne r8 hcl) [] [0, 1, 2, 3, 4, 5, 6, 7, 8, 9, 10] [10, 12] (wr := [(a1, .inr (1, [.ref a2, .ref a3, .ref a5])), (a2, .inr (2, [.ref a2_1, .ref a2_2, .int v_n, .ref a2_3, .ref a2_4, .int v_pulses, .int v_front, .int v_least, .int v_window])), (a2_1, .inl (Z.2 0, 8, .inl v_lengths)), (a2_2, .inl (Z.2 0, 8, .inl v_fractions)), (a2_3, .inl (Z.2 0, 4, .inl v_pulseTimes)), (a2_4, .inl (Z.2 0, 4, .inl v_pulseEnergies)), (a4, .inr (4, [.ref a4_1, .ref a4_2, .ref a4_3, (va_rf v_line), .long v_brought, .long v_left, .long v_dropped, .long v_away, .int v_mergings, .int v_drops])), (a4_1, .inl (Z.2 1, 1809, .inr (.inl v_fromNear))), (a4_2, .inl (Z.2 1, 1809, .inr (.inl v_fromFar))), (a4_3, .inl (Z.2 1, 201, .inr (.inl v_echoes))), (a6, .inr (8, [.ref a6_1, .int 0, .int w2_hash, .int w3_hz]))]) ⟨rfl, rfl, rfl, rfl, rfl, by decide, by decide⟩ 10 gC8 rfl rfl (lw_V q888 q889 q890 q83 q891) md_J7_equals ⟨(Nat.le_of_ble_eq_true rfl), (Nat.le_of_ble_eq_true rfl)⟩ rfl dX1_carryOut_144 147 rfl 0 0 rfl rfl (Nat.le_of_ble_eq_true rfl) (Nat.le_of_ble_eq_true rfl) (st := []) rfl (Nat.le_of_ble_eq_true rfl) (fun _ => rfl) (fun _ => ?_)
    refine g_if_eq X dX1_carryOut_147 186 (by decide) 150 rfl (fun hc => ?_) (fun hc => ?_)
    · replace h := if_t hc h
      refine g_kill (j := 2) [some (.ref a0), some (.ref a1), none, some (.int x3), some (.int x4), some (.int x5), some (.ref a6), some (.int (-1))] rfl ?_
      refine g_kill (j := 3) [some (.ref a0), some (.ref a1), none, none, some (.int x4), some (.int x5), some (.ref a6), some (.int (-1))] rfl ?_
      refine g_kill (j := 4) [some (.ref a0), some (.ref a1), none, none, none, some (.int x5), some (.ref a6), some (.int (-1))] rfl ?_
      refine g_kill (j := 5) [some (.ref a0), some (.ref a1), none, none, none, none, some (.ref a6), some (.int (-1))] rfl ?_
      refine g_kill (j := 6) [some (.ref a0), some (.ref a1), none, none, none, none, none, some (.int (-1))] rfl ?_
      exact w_X1_carryOutL_186 a1 a2 a2_1 a2_2 a2_3 a2_4 a4 a4_1 a4_2 a4_3 a6 a0 a6_1 a5 a5_1 a3 a9 a7 a8 v_depth v_scriptLength v_sb v_slen v_o_energies X Xt hl  _    v_n v_pulses v_front v_least v_window v_lengths v_fractions v_pulseTimes v_pulseEnergies v_line v_brought v_left v_dropped v_away v_mergings v_drops v_fromNear v_fromFar v_echoes w2_hash w3_hz (-1) h
    · replace h := if_f hc h
      refine g_iconst X 4 dX1_carryOut_150 151 rfl kI_4 ?_
      refine g_istore X dX1_carryOut_151 153 rfl (Nat.le_of_ble_eq_true rfl) rfl [some (.ref a0), some (.ref a1), some (.ref a6), some (.int x3), some (.int x4), some (.int x5), some (.ref a6), some (.int 4)] rfl ?_
      refine g_goto X dX1_carryOut_153 186 (by decide) ?_
      refine g_kill (j := 2) [some (.ref a0), some (.ref a1), none, some (.int x3), some (.int x4), some (.int x5), some (.ref a6), some (.int 4)] rfl ?_
      refine g_kill (j := 3) [some (.ref a0), some (.ref a1), none, none, some (.int x4), some (.int x5), some (.ref a6), some (.int 4)] rfl ?_
      refine g_kill (j := 4) [some (.ref a0), some (.ref a1), none, none, none, some (.int x5), some (.ref a6), some (.int 4)] rfl ?_
      refine g_kill (j := 5) [some (.ref a0), some (.ref a1), none, none, none, none, some (.ref a6), some (.int 4)] rfl ?_
      refine g_kill (j := 6) [some (.ref a0), some (.ref a1), none, none, none, none, none, some (.int 4)] rfl ?_
      exact w_X1_carryOutL_186 a1 a2 a2_1 a2_2 a2_3 a2_4 a4 a4_1 a4_2 a4_3 a6 a0 a6_1 a5 a5_1 a3 a9 a7 a8 v_depth v_scriptLength v_sb v_slen v_o_energies X Xt hl  _    v_n v_pulses v_front v_least v_window v_lengths v_fractions v_pulseTimes v_pulseEnergies v_line v_brought v_left v_dropped v_away v_mergings v_drops v_fromNear v_fromFar v_echoes w2_hash w3_hz 4 h
  replace h := if_f hc4 h
  by_cases hc5 : r1 = 109627663
  · replace h := if_t hc5 h
    refine g_look (off := 145) X dX1_carryOut_11 156 (by decide) (by rw [hc5] <;> rfl) (by decide) ?_
    refine g_aload X rfl dX1_carryOut_156 158 rfl ?_
    refine g_ldcS X 5 rfl dX1_carryOut_158 160 rfl ?_
    refine g_neK X 10 5 rfl rfl (fun hne => ?_)
    obtain ⟨r9, hcl, h⟩ := bd1_e h
    refine g_callV1 X (met_J7_equals l Z a6 a6_1 w2_hash w3_hz v_sb v_slen  [115, 111, 117, 110, 100] 5 rfl hne r9 hcl) [] [0, 1, 2, 3, 4, 5, 6, 7, 8, 9, 10] [10, 12] (wr := [(a1, .inr (1, [.ref a2, .ref a3, .ref a5])), (a2, .inr (2, [.ref a2_1, .ref a2_2, .int v_n, .ref a2_3, .ref a2_4, .int v_pulses, .int v_front, .int v_least, .int v_window])), (a2_1, .inl (Z.2 0, 8, .inl v_lengths)), (a2_2, .inl (Z.2 0, 8, .inl v_fractions)), (a2_3, .inl (Z.2 0, 4, .inl v_pulseTimes)), (a2_4, .inl (Z.2 0, 4, .inl v_pulseEnergies)), (a4, .inr (4, [.ref a4_1, .ref a4_2, .ref a4_3, (va_rf v_line), .long v_brought, .long v_left, .long v_dropped, .long v_away, .int v_mergings, .int v_drops])), (a4_1, .inl (Z.2 1, 1809, .inr (.inl v_fromNear))), (a4_2, .inl (Z.2 1, 1809, .inr (.inl v_fromFar))), (a4_3, .inl (Z.2 1, 201, .inr (.inl v_echoes))), (a6, .inr (8, [.ref a6_1, .int 0, .int w2_hash, .int w3_hz]))]) ⟨rfl, rfl, rfl, rfl, rfl, by decide, by decide⟩ 10 gC8 rfl rfl (lw_V q888 q889 q890 q83 q891) md_J7_equals ⟨(Nat.le_of_ble_eq_true rfl), (Nat.le_of_ble_eq_true rfl)⟩ rfl dX1_carryOut_160 163 rfl 0 0 rfl rfl (Nat.le_of_ble_eq_true rfl) (Nat.le_of_ble_eq_true rfl) (st := []) rfl (Nat.le_of_ble_eq_true rfl) (fun _ => rfl) (fun _ => ?_)
    refine g_if_eq X dX1_carryOut_163 186 (by decide) 166 rfl (fun hc => ?_) (fun hc => ?_)
    · replace h := if_t hc h
      refine g_kill (j := 2) [some (.ref a0), some (.ref a1), none, some (.int x3), some (.int x4), some (.int x5), some (.ref a6), some (.int (-1))] rfl ?_
      refine g_kill (j := 3) [some (.ref a0), some (.ref a1), none, none, some (.int x4), some (.int x5), some (.ref a6), some (.int (-1))] rfl ?_
      refine g_kill (j := 4) [some (.ref a0), some (.ref a1), none, none, none, some (.int x5), some (.ref a6), some (.int (-1))] rfl ?_
      refine g_kill (j := 5) [some (.ref a0), some (.ref a1), none, none, none, none, some (.ref a6), some (.int (-1))] rfl ?_
      refine g_kill (j := 6) [some (.ref a0), some (.ref a1), none, none, none, none, none, some (.int (-1))] rfl ?_
      exact w_X1_carryOutL_186 a1 a2 a2_1 a2_2 a2_3 a2_4 a4 a4_1 a4_2 a4_3 a6 a0 a6_1 a5 a5_1 a3 a9 a7 a8 v_depth v_scriptLength v_sb v_slen v_o_energies X Xt hl  _    v_n v_pulses v_front v_least v_window v_lengths v_fractions v_pulseTimes v_pulseEnergies v_line v_brought v_left v_dropped v_away v_mergings v_drops v_fromNear v_fromFar v_echoes w2_hash w3_hz (-1) h
    · replace h := if_f hc h
      refine g_iconst X 5 dX1_carryOut_166 167 rfl kI_5 ?_
      refine g_istore X dX1_carryOut_167 169 rfl (Nat.le_of_ble_eq_true rfl) rfl [some (.ref a0), some (.ref a1), some (.ref a6), some (.int x3), some (.int x4), some (.int x5), some (.ref a6), some (.int 5)] rfl ?_
      refine g_goto X dX1_carryOut_169 186 (by decide) ?_
      refine g_kill (j := 2) [some (.ref a0), some (.ref a1), none, some (.int x3), some (.int x4), some (.int x5), some (.ref a6), some (.int 5)] rfl ?_
      refine g_kill (j := 3) [some (.ref a0), some (.ref a1), none, none, some (.int x4), some (.int x5), some (.ref a6), some (.int 5)] rfl ?_
      refine g_kill (j := 4) [some (.ref a0), some (.ref a1), none, none, none, some (.int x5), some (.ref a6), some (.int 5)] rfl ?_
      refine g_kill (j := 5) [some (.ref a0), some (.ref a1), none, none, none, none, some (.ref a6), some (.int 5)] rfl ?_
      refine g_kill (j := 6) [some (.ref a0), some (.ref a1), none, none, none, none, none, some (.int 5)] rfl ?_
      exact w_X1_carryOutL_186 a1 a2 a2_1 a2_2 a2_3 a2_4 a4 a4_1 a4_2 a4_3 a6 a0 a6_1 a5 a5_1 a3 a9 a7 a8 v_depth v_scriptLength v_sb v_slen v_o_energies X Xt hl  _    v_n v_pulses v_front v_least v_window v_lengths v_fractions v_pulseTimes v_pulseEnergies v_line v_brought v_left v_dropped v_away v_mergings v_drops v_fromNear v_fromFar v_echoes w2_hash w3_hz 5 h
  replace h := if_f hc5 h
  by_cases hc6 : r1 = 109648666
  · replace h := if_t hc6 h
    refine g_look (off := 113) X dX1_carryOut_11 124 (by decide) (by rw [hc6] <;> rfl) (by decide) ?_
    refine g_aload X rfl dX1_carryOut_124 126 rfl ?_
    refine g_ldcS X 1 rfl dX1_carryOut_126 128 rfl ?_
    refine g_neK X 10 1 rfl rfl (fun hne => ?_)
    obtain ⟨r10, hcl, h⟩ := bd1_e h
    refine g_callV1 X (met_J7_equals l Z a6 a6_1 w2_hash w3_hz v_sb v_slen  [115, 112, 108, 105, 116] 1 rfl hne r10 hcl) [] [0, 1, 2, 3, 4, 5, 6, 7, 8, 9, 10] [10, 12] (wr := [(a1, .inr (1, [.ref a2, .ref a3, .ref a5])), (a2, .inr (2, [.ref a2_1, .ref a2_2, .int v_n, .ref a2_3, .ref a2_4, .int v_pulses, .int v_front, .int v_least, .int v_window])), (a2_1, .inl (Z.2 0, 8, .inl v_lengths)), (a2_2, .inl (Z.2 0, 8, .inl v_fractions)), (a2_3, .inl (Z.2 0, 4, .inl v_pulseTimes)), (a2_4, .inl (Z.2 0, 4, .inl v_pulseEnergies)), (a4, .inr (4, [.ref a4_1, .ref a4_2, .ref a4_3, (va_rf v_line), .long v_brought, .long v_left, .long v_dropped, .long v_away, .int v_mergings, .int v_drops])), (a4_1, .inl (Z.2 1, 1809, .inr (.inl v_fromNear))), (a4_2, .inl (Z.2 1, 1809, .inr (.inl v_fromFar))), (a4_3, .inl (Z.2 1, 201, .inr (.inl v_echoes))), (a6, .inr (8, [.ref a6_1, .int 0, .int w2_hash, .int w3_hz]))]) ⟨rfl, rfl, rfl, rfl, rfl, by decide, by decide⟩ 10 gC8 rfl rfl (lw_V q888 q889 q890 q83 q891) md_J7_equals ⟨(Nat.le_of_ble_eq_true rfl), (Nat.le_of_ble_eq_true rfl)⟩ rfl dX1_carryOut_128 131 rfl 0 0 rfl rfl (Nat.le_of_ble_eq_true rfl) (Nat.le_of_ble_eq_true rfl) (st := []) rfl (Nat.le_of_ble_eq_true rfl) (fun _ => rfl) (fun _ => ?_)
    refine g_if_eq X dX1_carryOut_131 186 (by decide) 134 rfl (fun hc => ?_) (fun hc => ?_)
    · replace h := if_t hc h
      refine g_kill (j := 2) [some (.ref a0), some (.ref a1), none, some (.int x3), some (.int x4), some (.int x5), some (.ref a6), some (.int (-1))] rfl ?_
      refine g_kill (j := 3) [some (.ref a0), some (.ref a1), none, none, some (.int x4), some (.int x5), some (.ref a6), some (.int (-1))] rfl ?_
      refine g_kill (j := 4) [some (.ref a0), some (.ref a1), none, none, none, some (.int x5), some (.ref a6), some (.int (-1))] rfl ?_
      refine g_kill (j := 5) [some (.ref a0), some (.ref a1), none, none, none, none, some (.ref a6), some (.int (-1))] rfl ?_
      refine g_kill (j := 6) [some (.ref a0), some (.ref a1), none, none, none, none, none, some (.int (-1))] rfl ?_
      exact w_X1_carryOutL_186 a1 a2 a2_1 a2_2 a2_3 a2_4 a4 a4_1 a4_2 a4_3 a6 a0 a6_1 a5 a5_1 a3 a9 a7 a8 v_depth v_scriptLength v_sb v_slen v_o_energies X Xt hl  _    v_n v_pulses v_front v_least v_window v_lengths v_fractions v_pulseTimes v_pulseEnergies v_line v_brought v_left v_dropped v_away v_mergings v_drops v_fromNear v_fromFar v_echoes w2_hash w3_hz (-1) h
    · replace h := if_f hc h
      refine g_iconst X 3 dX1_carryOut_134 135 rfl kI_3 ?_
      refine g_istore X dX1_carryOut_135 137 rfl (Nat.le_of_ble_eq_true rfl) rfl [some (.ref a0), some (.ref a1), some (.ref a6), some (.int x3), some (.int x4), some (.int x5), some (.ref a6), some (.int 3)] rfl ?_
      refine g_goto X dX1_carryOut_137 186 (by decide) ?_
      refine g_kill (j := 2) [some (.ref a0), some (.ref a1), none, some (.int x3), some (.int x4), some (.int x5), some (.ref a6), some (.int 3)] rfl ?_
      refine g_kill (j := 3) [some (.ref a0), some (.ref a1), none, none, some (.int x4), some (.int x5), some (.ref a6), some (.int 3)] rfl ?_
      refine g_kill (j := 4) [some (.ref a0), some (.ref a1), none, none, none, some (.int x5), some (.ref a6), some (.int 3)] rfl ?_
      refine g_kill (j := 5) [some (.ref a0), some (.ref a1), none, none, none, none, some (.ref a6), some (.int 3)] rfl ?_
      refine g_kill (j := 6) [some (.ref a0), some (.ref a1), none, none, none, none, none, some (.int 3)] rfl ?_
      exact w_X1_carryOutL_186 a1 a2 a2_1 a2_2 a2_3 a2_4 a4 a4_1 a4_2 a4_3 a6 a0 a6_1 a5 a5_1 a3 a9 a7 a8 v_depth v_scriptLength v_sb v_slen v_o_energies X Xt hl  _    v_n v_pulses v_front v_least v_window v_lengths v_fractions v_pulseTimes v_pulseEnergies v_line v_brought v_left v_dropped v_away v_mergings v_drops v_fromNear v_fromFar v_echoes w2_hash w3_hz 3 h
  replace h := if_f hc6 h
  refine g_look (off := 175) X dX1_carryOut_11 186 (by decide) ((lv_osw hc0 (by decide)).trans ((lv_osw hc1 (by decide)).trans ((lv_osw hc2 (by decide)).trans ((lv_osw hc3 (by decide)).trans ((lv_osw hc4 (by decide)).trans ((lv_osw hc5 (by decide)).trans ((lv_osw hc6 (by decide)).trans rfl))))))) (by decide) ?_
  refine g_kill (j := 2) [some (.ref a0), some (.ref a1), none, some (.int x3), some (.int x4), some (.int x5), some (.ref a6), some (.int (-1))] rfl ?_
  refine g_kill (j := 3) [some (.ref a0), some (.ref a1), none, none, some (.int x4), some (.int x5), some (.ref a6), some (.int (-1))] rfl ?_
  refine g_kill (j := 4) [some (.ref a0), some (.ref a1), none, none, none, some (.int x5), some (.ref a6), some (.int (-1))] rfl ?_
  refine g_kill (j := 5) [some (.ref a0), some (.ref a1), none, none, none, none, some (.ref a6), some (.int (-1))] rfl ?_
  refine g_kill (j := 6) [some (.ref a0), some (.ref a1), none, none, none, none, none, some (.int (-1))] rfl ?_
  exact w_X1_carryOutL_186 a1 a2 a2_1 a2_2 a2_3 a2_4 a4 a4_1 a4_2 a4_3 a6 a0 a6_1 a5 a5_1 a3 a9 a7 a8 v_depth v_scriptLength v_sb v_slen v_o_energies X Xt hl  _    v_n v_pulses v_front v_least v_window v_lengths v_fractions v_pulseTimes v_pulseEnergies v_line v_brought v_left v_dropped v_away v_mergings v_drops v_fromNear v_fromFar v_echoes w2_hash w3_hz (-1) h
/-! LineEchoes$Reader.carryOutOn(LLineEchoes$Bench;)I -/
abbrev rm_X9_carryOutOnL : Room := { frames := 5, cells := 2, slots := 202, locals := 133 }
def F_X9_carryOutOnL (v_n : Int32) (v_pulses : Int32) (v_front : Int32) (v_least : Int32) (v_window : Int32) (v_lengths : Nat → Int32) (v_fractions : Nat → Int32) (v_pulseTimes : Nat → Int32) (v_pulseEnergies : Nat → Int32) (v_fromNear : Nat → Int64) (v_fromFar : Nat → Int64) (v_echoes : Nat → Int64) (v_hash : Int32) (v_hz : Int32) (v_sb : Nat → Int32) (v_slen : Nat) : Option ((Int32 × Int64 × Int64 × Int64 × Int64 × Int32 × Int32 × (Nat → Int64) × (Nat → Int64) × (Nat → Int64) × Int32 × Int32 × (Nat → Int64)) ⊕ Nat) :=
  gin 0 3 <|
  gin 1 3 <|
  gin 2 3 <|
  bc13 (F_X1_carryOutL v_n v_pulses v_front v_least v_window v_lengths v_fractions v_pulseTimes v_pulseEnergies v_fromNear v_fromFar v_echoes v_hash v_hz v_sb v_slen) (fun r1 w2_brought w3_left w4_dropped w5_away w6_mergings w7_drops w8_fromNear w9_fromFar w10_echoes w11_hash w12_hz w13_o1 =>
  some (.inl (r1, w2_brought, w3_left, w4_dropped, w5_away, w6_mergings, w7_drops, w8_fromNear, w9_fromFar, w10_echoes, w11_hash, w12_hz, w13_o1))) gthr
theorem met_X9_carryOutOnL (l : Launch) (hl : l.stackTraces = false) (Z : gZt) (ab : Nat) (a2 : Nat) (a2_1 : Nat) (a2_2 : Nat) (a2_3 : Nat) (a2_4 : Nat) (a4 : Nat) (a4_1 : Nat) (a4_2 : Nat) (a4_3 : Nat) (a6 : Nat) (a0 : Nat) (a0_1 : Nat) (a1 : Nat) (a6_1 : Nat) (a5 : Nat) (a5_1 : Nat) (a3 : Nat) (a9 : Nat) (a7 : Nat) (a8 : Nat) (v_n : Int32) (v_pulses : Int32) (v_front : Int32) (v_least : Int32) (v_window : Int32) (v_lengths : Nat → Int32) (v_fractions : Nat → Int32) (v_pulseTimes : Nat → Int32) (v_pulseEnergies : Nat → Int32) (v_line : Option Nat) (v_brought : Int64) (v_left : Int64) (v_dropped : Int64) (v_away : Int64) (v_mergings : Int32) (v_drops : Int32) (v_fromNear : Nat → Int64) (v_fromFar : Nat → Int64) (v_echoes : Nat → Int64) (v_hash : Int32) (v_hz : Int32) (v_at : Int32) (v_fault : Int32) (v_numbers : Nat → Int32) (v_depth : Int32) (v_scriptLength : Int32) (v_sb : Nat → Int32) (v_slen : Nat) (v_o_energies : Nat → Int64) (o : (Int32 × Int64 × Int64 × Int64 × Int64 × Int32 × Int32 × (Nat → Int64) × (Nat → Int64) × (Nat → Int64) × Int32 × Int32 × (Nat → Int64)) ⊕ Nat) (h : F_X9_carryOutOnL v_n v_pulses v_front v_least v_window v_lengths v_fractions v_pulseTimes v_pulseEnergies v_fromNear v_fromFar v_echoes v_hash v_hz v_sb v_slen = some o) : Cx l yX9_carryOutOn (ws_ yX9_carryOutOn cX9_carryOutOn 2 (some .int)) rm_X9_carryOutOnL Z [.ref a0, .ref ab] [(ab, .inr (1, [.ref a2, .ref a3, .ref a5])), (a2, .inr (2, [.ref a2_1, .ref a2_2, .int v_n, .ref a2_3, .ref a2_4, .int v_pulses, .int v_front, .int v_least, .int v_window])), (a2_1, .inl (Z.2 0, 8, .inl v_lengths)), (a2_2, .inl (Z.2 0, 8, .inl v_fractions)), (a2_3, .inl (Z.2 0, 4, .inl v_pulseTimes)), (a2_4, .inl (Z.2 0, 4, .inl v_pulseEnergies)), (a4, .inr (4, [.ref a4_1, .ref a4_2, .ref a4_3, (va_rf v_line), .long v_brought, .long v_left, .long v_dropped, .long v_away, .int v_mergings, .int v_drops])), (a4_1, .inl (Z.2 1, 1809, .inr (.inl v_fromNear))), (a4_2, .inl (Z.2 1, 1809, .inr (.inl v_fromFar))), (a4_3, .inl (Z.2 1, 201, .inr (.inl v_echoes))), (a6, .inr (8, [.ref a6_1, .int 0, .int v_hash, .int v_hz]))] [(a0, .inr (7, [.int v_at, .int v_fault, .ref a6, .ref a0_1, .ref a1])), (a0_1, .inl (Z.2 0, 3, .inl v_numbers)), (a1, .inr (0, [.ref a9, .ref a7, .int v_depth, .ref a8, .int v_scriptLength, .ref a4])), (a6_1, .inl (Z.2 2, v_slen, .inl v_sb)), (a5, .inr (3, [.ref a5_1])), (a5_1, .inl (Z.2 1, 201, .inr (.inl v_o_energies)))] [(ab, .inr (1, [.ref a2, .ref a3, .ref a5])), (a2, .inr (2, [.ref a2_1, .ref a2_2, .int v_n, .ref a2_3, .ref a2_4, .int v_pulses, .int v_front, .int v_least, .int v_window])), (a2_1, .inl (Z.2 0, 8, .inl v_lengths)), (a2_2, .inl (Z.2 0, 8, .inl v_fractions)), (a2_3, .inl (Z.2 0, 4, .inl v_pulseTimes)), (a2_4, .inl (Z.2 0, 4, .inl v_pulseEnergies)), (a4, .inr (4, [.ref a4_1, .ref a4_2, .ref a4_3, (va_rf v_line), .long v_brought, .long v_left, .long v_dropped, .long v_away, .int v_mergings, .int v_drops])), (a4_1, .inl (Z.2 1, 1809, .inr (.inl v_fromNear))), (a4_2, .inl (Z.2 1, 1809, .inr (.inl v_fromFar))), (a4_3, .inl (Z.2 1, 201, .inr (.inl v_echoes)))] (fun x : Int32 × Int64 × Int64 × Int64 × Int64 × Int32 × Int32 × (Nat → Int64) × (Nat → Int64) × (Nat → Int64) × Int32 × Int32 × (Nat → Int64) => (fun u : Nat × Nat × Option Nat => (some (.int x.1) : Option Value))) (fun x : Int32 × Int64 × Int64 × Int64 × Int64 × Int32 × Int32 × (Nat → Int64) × (Nat → Int64) × (Nat → Int64) × Int32 × Int32 × (Nat → Int64) => (fun u : Nat × Nat × Option Nat => ([(ab, .inr (1, [.ref a2, .ref a3, .ref u.1])), (a2, .inr (2, [.ref a2_1, .ref a2_2, .int v_n, .ref a2_3, .ref a2_4, .int v_pulses, .int v_front, .int v_least, .int v_window])), (a2_1, .inl (Z.2 0, 8, .inl v_lengths)), (a2_2, .inl (Z.2 0, 8, .inl v_fractions)), (a2_3, .inl (Z.2 0, 4, .inl v_pulseTimes)), (a2_4, .inl (Z.2 0, 4, .inl v_pulseEnergies)), (a4, .inr (4, [.ref a4_1, .ref a4_2, .ref a4_3, (va_rf u.2.2), .long x.2.1, .long x.2.2.1, .long x.2.2.2.1, .long x.2.2.2.2.1, .int x.2.2.2.2.2.1, .int x.2.2.2.2.2.2.1])), (a4_1, .inl (Z.2 1, 1809, .inr (.inl x.2.2.2.2.2.2.2.1))), (a4_2, .inl (Z.2 1, 1809, .inr (.inl x.2.2.2.2.2.2.2.2.1))), (a4_3, .inl (Z.2 1, 201, .inr (.inl x.2.2.2.2.2.2.2.2.2.1))), (a6, .inr (8, [.ref a6_1, .int 0, .int x.2.2.2.2.2.2.2.2.2.2.1, .int x.2.2.2.2.2.2.2.2.2.2.2.1])), (u.1, .inr (3, [.ref u.2.1])), (u.2.1, .inl (Z.2 1, 201, .inr (.inl x.2.2.2.2.2.2.2.2.2.2.2.2)))] : va_W))) o := by
  refine Cx.of cX9_carryOutOn 2 (some .int) "LineEchoes$Reader" [some (.ref a0), some (.ref ab)] 0 (by decide) rfl (Nat.le_of_ble_eq_true rfl) rfl (fun p e s m args below meth c A X Xt => ?_)
  unfold F_X9_carryOutOnL at h
  refine g_aload_n X rfl dX9_carryOutOn_0 1 rfl ?_
  refine g_getR X gC7 0 rfl 4 (by decide) q463 (fun _ h9 => h9) rfl dX9_carryOutOn_1 4 rfl ?_
  refine g_aload_n X rfl dX9_carryOutOn_4 5 rfl ?_
  refine g_aload_n X rfl dX9_carryOutOn_5 6 rfl ?_
  refine g_getR X gC7 0 rfl 2 (by decide) q461 (fun _ h9 => h9) rfl dX9_carryOutOn_6 9 rfl ?_
  refine g_aload_n X rfl dX9_carryOutOn_9 10 rfl ?_
  refine g_getR X gC7 0 rfl 3 (by decide) q462 (fun _ h9 => h9) rfl dX9_carryOutOn_10 13 rfl ?_
  refine g_iconst X 0 dX9_carryOutOn_13 14 rfl kI_0 ?_
  obtain ⟨hi, h⟩ := gin_e h
  refine g_ialdR X 1 rfl hi dX9_carryOutOn_14 15 rfl ?_
  refine g_aload_n X rfl dX9_carryOutOn_15 16 rfl ?_
  refine g_getR X gC7 0 rfl 3 (by decide) q462 (fun _ h9 => h9) rfl dX9_carryOutOn_16 19 rfl ?_
  refine g_iconst X 1 dX9_carryOutOn_19 20 rfl kI_1 ?_
  obtain ⟨hi, h⟩ := gin_e h
  refine g_ialdR X 1 rfl hi dX9_carryOutOn_20 21 rfl ?_
  refine g_aload_n X rfl dX9_carryOutOn_21 22 rfl ?_
  refine g_getR X gC7 0 rfl 3 (by decide) q462 (fun _ h9 => h9) rfl dX9_carryOutOn_22 25 rfl ?_
  refine g_iconst X 2 dX9_carryOutOn_25 26 rfl kI_2 ?_
  obtain ⟨hi, h⟩ := gin_e h
  refine g_ialdR X 1 rfl hi dX9_carryOutOn_26 27 rfl ?_
  rcases bc13_e h with ⟨k9, hcl, hg⟩ | ⟨r1, w2_brought, w3_left, w4_dropped, w5_away, w6_mergings, w7_drops, w8_fromNear, w9_fromFar, w10_echoes, w11_hash, w12_hz, w13_o1, hcl, h⟩
  · obtain rfl := Option.some.inj (show some (Sum.inr k9) = some _ from hg)
    exact g_xoVN X (met_X1_carryOutL l hl Z ab a2 a2_1 a2_2 a2_3 a2_4 a4 a4_1 a4_2 a4_3 a6 a1 a6_1 a5 a5_1 a3 a9 a7 a8 v_n v_pulses v_front v_least v_window v_lengths v_fractions v_pulseTimes v_pulseEnergies v_line v_brought v_left v_dropped v_away v_mergings v_drops v_fromNear v_fromFar v_echoes v_hash v_hz v_depth v_scriptLength v_sb v_slen v_o_energies (v_numbers (Int32.toNatClampNeg 0)) (v_numbers (Int32.toNatClampNeg 1)) (v_numbers (Int32.toNatClampNeg 2)) _ hcl).thr [0, 1, 2, 3, 4, 5, 6, 7, 8, 9, 10] [] [13, 14, 15, 16] (wr := []) ⟨rfl, rfl, rfl, rfl, rfl, by decide, by decide⟩ 13 gC0 rfl q939 q69 q936 q938 qs13 md_X1_carryOut ⟨(Nat.le_of_ble_eq_true rfl), (Nat.le_of_ble_eq_true rfl)⟩ rfl dX9_carryOutOn_27 Xt [0, 1, 2, 3, 4, 5, 6, 7, 8, 9] (Nat.le_of_ble_eq_true rfl) (Nat.le_of_ble_eq_true rfl) (st := []) rfl (Nat.le_of_ble_eq_true rfl) rfl rfl (Nat.le_of_ble_eq_true rfl) (Nat.le_of_ble_eq_true rfl)
  refine g_callVN1 X (met_X1_carryOutL l hl Z ab a2 a2_1 a2_2 a2_3 a2_4 a4 a4_1 a4_2 a4_3 a6 a1 a6_1 a5 a5_1 a3 a9 a7 a8 v_n v_pulses v_front v_least v_window v_lengths v_fractions v_pulseTimes v_pulseEnergies v_line v_brought v_left v_dropped v_away v_mergings v_drops v_fromNear v_fromFar v_echoes v_hash v_hz v_depth v_scriptLength v_sb v_slen v_o_energies (v_numbers (Int32.toNatClampNeg 0)) (v_numbers (Int32.toNatClampNeg 1)) (v_numbers (Int32.toNatClampNeg 2)) _ hcl).ret [0, 1, 2, 3, 4, 5, 6, 7, 8, 9, 10] [] [13, 14, 15, 16] (wr := []) ⟨rfl, rfl, rfl, rfl, rfl, by decide, by decide⟩ 13 gC0 rfl q939 q69 q936 q938 qs13 md_X1_carryOut ⟨(Nat.le_of_ble_eq_true rfl), (Nat.le_of_ble_eq_true rfl)⟩ rfl dX9_carryOutOn_27 30 rfl 2 202 rfl rfl (Nat.le_of_ble_eq_true rfl) (Nat.le_of_ble_eq_true rfl) (st := []) rfl (Nat.le_of_ble_eq_true rfl) (fun _ => rfl) (fun u => ?_)
  obtain ⟨b14, b15, z16⟩ := u
  obtain rfl := Option.some.inj h
  exact g_retI (g_iret X dX9_carryOutOn_30 (b14, b15, z16) rfl rfl (Nat.le_of_ble_eq_true rfl) (Nat.le_of_ble_eq_true rfl))
