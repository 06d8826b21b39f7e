/-! THE REFERENCE, walked (printed by gen/model.py) -/
set_option maxRecDepth 100000
/-! LineEchoesModel.echo(I)J -/
abbrev rm_X6_echo : Room := { frames := 5, cells := 0, slots := 0, locals := 117 }
def F_X6_echo (v_lineParts : Int32) (v_pulseMany : Int32) (v_left : Int64) (v_dropped : Int64) (v_merged : Int32) (v_drops : Int32) (v_contributions : Int32) (v_packet : Int64) (v_m : Nat → Int64) (v_lengths : Nat → Int32) (v_fractions : Nat → Int32) (v_times : Nat → Int32) (v_energies : Nat → Int64) (v_far : Nat → Int64) (v_near : Nat → Int64) (v_echoes : Nat → Int64) (x1 : Int32) : Option (Int64 × Int32 × Int32 × Int32 × Int64 × Int64 × Int32 × Int32 × Int32 × Int64 × (Nat → Int32) × (Nat → Int32) × (Nat → Int32) × (Nat → Int64) × (Nat → Int64) × (Nat → Int64) × (Nat → Int64)) :=
  bd1 (F_X6_window v_m) fun r1 =>
  bd1 (F_X6_in x1.toInt64 0 r1.toInt64) fun r2 =>
  if (if r2 = 0 then (1 : Int32) else 0) = 0 then
    (bd15 (F_X6_runPresent v_m v_lengths v_fractions v_times v_energies v_far v_near v_echoes) fun w3_lineParts w4_pulseMany w5_left w6_dropped w7_merged w8_drops w9_contributions w10_packet w11_lengths w12_fractions w13_times w14_energies w15_far w16_near w17_echoes =>
    gin x1 201 <|
    some (w17_echoes x1.toNatClampNeg, (if r2 = 0 then (1 : Int32) else 0), w3_lineParts, w4_pulseMany, w5_left, w6_dropped, w7_merged, w8_drops, w9_contributions, w10_packet, w11_lengths, w12_fractions, w13_times, w14_energies, w15_far, w16_near, w17_echoes))
  else
    (some (0, (if r2 = 0 then (1 : Int32) else 0), v_lineParts, v_pulseMany, v_left, v_dropped, v_merged, v_drops, v_contributions, v_packet, v_lengths, v_fractions, v_times, v_energies, v_far, v_near, v_echoes))
theorem met_X6_echo (l : Launch) (Z : gZt) (a0 : Nat) (a1 : Nat) (a2 : Nat) (a3 : Nat) (a4 : Nat) (a5 : Nat) (a6 : Nat) (a7 : Nat) (a8 : Nat) (a9 : Nat) (a10 : Nat) (a11 : Nat) (v_savedCount : Int32) (v_scriptLength : Int32) (v_code : Int32) (v_lineParts : Int32) (v_pulseMany : Int32) (v_left : Int64) (v_dropped : Int64) (v_merged : Int32) (v_drops : Int32) (v_contributions : Int32) (v_packet : Int64) (v_peelResult : Int32) (v_peelTime : Int32) (v_peelSum : Int32) (v_at : Int32) (v_commands : Int32) (v_hash : Int64) (v_m : Nat → Int64) (v_saved : Nat → Int64) (v_script : Nat → Int32) (v_lengths : Nat → Int32) (v_fractions : Nat → Int32) (v_times : Nat → Int32) (v_energies : Nat → Int64) (v_far : Nat → Int64) (v_near : Nat → Int64) (v_echoes : Nat → Int64) (v_draft : Nat → Int32) (x1 : Int32) (r : Int64) (r_code : Int32) (r_lineParts : Int32) (r_pulseMany : Int32) (r_left : Int64) (r_dropped : Int64) (r_merged : Int32) (r_drops : Int32) (r_contributions : Int32) (r_packet : Int64) (r_lengths : Nat → Int32) (r_fractions : Nat → Int32) (r_times : Nat → Int32) (r_energies : Nat → Int64) (r_far : Nat → Int64) (r_near : Nat → Int64) (r_echoes : Nat → Int64) (h : F_X6_echo v_lineParts v_pulseMany v_left v_dropped v_merged v_drops v_contributions v_packet v_m v_lengths v_fractions v_times v_energies v_far v_near v_echoes x1 = some (r, r_code, r_lineParts, r_pulseMany, r_left, r_dropped, r_merged, r_drops, r_contributions, r_packet, r_lengths, r_fractions, r_times, r_energies, r_far, r_near, r_echoes)) : Ct l yX6_echo (ws_ yX6_echo cX6_echo 2 (some .long)) rm_X6_echo Z [.ref a0, .int x1] [(a0, .inr (5, [.ref a1, .ref a2, .int v_savedCount, .ref a3, .int v_scriptLength, .int v_code, .int v_lineParts, .ref a4, .ref a5, .int v_pulseMany, .ref a6, .ref a7, .ref a8, .ref a9, .ref a10, .long v_left, .long v_dropped, .int v_merged, .int v_drops, .int v_contributions, .long v_packet, .int v_peelResult, .int v_peelTime, .int v_peelSum, .int v_at, .int v_commands, .ref a11, .long v_hash])), (a1, .inl (Z.2 1, 431, .inr (.inl v_m))), (a2, .inl (Z.2 1, 1293, .inr (.inl v_saved))), (a3, .inl (Z.2 0, 120, .inl v_script)), (a4, .inl (Z.2 0, 8, .inl v_lengths)), (a5, .inl (Z.2 0, 9, .inl v_fractions)), (a6, .inl (Z.2 0, 4, .inl v_times)), (a7, .inl (Z.2 1, 4, .inr (.inl v_energies))), (a8, .inl (Z.2 1, 1809, .inr (.inl v_far))), (a9, .inl (Z.2 1, 1809, .inr (.inl v_near))), (a10, .inl (Z.2 1, 201, .inr (.inl v_echoes))), (a11, .inl (Z.2 0, 120, .inl v_draft))] [] (fun _ : Unit => (some (.long r) : Option Value)) (fun _ : Unit => ([(a0, .inr (5, [.ref a1, .ref a2, .int v_savedCount, .ref a3, .int v_scriptLength, .int r_code, .int r_lineParts, .ref a4, .ref a5, .int r_pulseMany, .ref a6, .ref a7, .ref a8, .ref a9, .ref a10, .long r_left, .long r_dropped, .int r_merged, .int r_drops, .int r_contributions, .long r_packet, .int v_peelResult, .int v_peelTime, .int v_peelSum, .int v_at, .int v_commands, .ref a11, .long v_hash])), (a1, .inl (Z.2 1, 431, .inr (.inl v_m))), (a2, .inl (Z.2 1, 1293, .inr (.inl v_saved))), (a3, .inl (Z.2 0, 120, .inl v_script)), (a4, .inl (Z.2 0, 8, .inl r_lengths)), (a5, .inl (Z.2 0, 9, .inl r_fractions)), (a6, .inl (Z.2 0, 4, .inl r_times)), (a7, .inl (Z.2 1, 4, .inr (.inl r_energies))), (a8, .inl (Z.2 1, 1809, .inr (.inl r_far))), (a9, .inl (Z.2 1, 1809, .inr (.inl r_near))), (a10, .inl (Z.2 1, 201, .inr (.inl r_echoes))), (a11, .inl (Z.2 0, 120, .inl v_draft))] : va_W)) := by
  refine Ct.of cX6_echo 2 (some .long) "LineEchoesModel" [some (.ref a0), some (.int x1)] 0 (by decide) rfl (Nat.le_of_ble_eq_true rfl) rfl (fun p e s m args below meth c A X hin => ?_)
  unfold F_X6_echo at h
  refine g_aload_n X rfl dX6_echo_0 1 rfl ?_
  refine g_iload_n X rfl dX6_echo_1 2 rfl ?_
  refine g_i2l X dX6_echo_2 3 rfl ?_
  refine g_lconst X 0 dX6_echo_3 4 rfl rfl ?_
  refine g_aload_n X rfl dX6_echo_4 5 rfl ?_
  obtain ⟨r1, hcl, h⟩ := bd1_e h
  refine g_callV1W X (met_X6_window l Z a0 a1 a2 a3 a4 a5 a6 a7 a8 a9 a10 a11 v_savedCount v_scriptLength v_code v_lineParts v_pulseMany v_left v_dropped v_merged v_drops v_contributions v_packet v_peelResult v_peelTime v_peelSum v_at v_commands v_hash v_m v_saved v_script v_lengths v_fractions v_times v_energies v_far v_near v_echoes v_draft  r1 hcl) rfl 0 gC5 rfl rfl (lw_V q1517 q1519 qs34 q74 q1520) md_X6_window ⟨(Nat.le_of_ble_eq_true rfl), (Nat.le_of_ble_eq_true rfl)⟩ rfl dX6_echo_5 8 rfl 0 0 rfl rfl (Nat.le_of_ble_eq_true rfl) (Nat.le_of_ble_eq_true rfl) (st := [.long 0, .long x1.toInt64, .ref a0]) rfl (Nat.le_of_ble_eq_true rfl) (fun _ => rfl) (fun _ => ?_)
  refine g_i2l X dX6_echo_8 9 rfl ?_
  obtain ⟨r2, hcl, h⟩ := bd1_e h
  refine g_callS1Z X (met_X6_in l Z   x1.toInt64 0 r1.toInt64 r2 hcl) (lw_S q1443 q1444 q74 q1445) md_X6_in ⟨(Nat.le_of_ble_eq_true rfl), (Nat.le_of_ble_eq_true rfl)⟩ rfl dX6_echo_9 12 rfl 0 0 rfl rfl (Nat.le_of_ble_eq_true rfl) (Nat.le_of_ble_eq_true rfl) (st := [.ref a0]) rfl (Nat.le_of_ble_eq_true rfl) (fun _ => rfl) (fun _ => ?_)
  refine g_seli 20 [.ref a0] (b := r2 = 0) 1 0 ?_ (fun hc K => ?_) (fun hc K => ?_)
  · refine g_put X gC5 0 rfl 5 (by decide) q1347 (fun _ h9 => h9) rfl rfl rfl (Nat.le_of_ble_eq_true rfl) dX6_echo_20 23 rfl ?_
    refine g_aload_n X rfl dX6_echo_23 24 rfl ?_
    refine g_get X gC5 0 rfl 5 (by decide) q1347 (fun _ h9 => h9) rfl dX6_echo_24 27 rfl ?_
    refine g_if_eq X dX6_echo_27 32 (by decide) 30 rfl (fun hc => ?_) (fun hc => ?_)
    · replace h := if_t hc h
      refine g_aload_n X rfl dX6_echo_32 33 rfl ?_
      obtain ⟨w3_lineParts, w4_pulseMany, w5_left, w6_dropped, w7_merged, w8_drops, w9_contributions, w10_packet, w11_lengths, w12_fractions, w13_times, w14_energies, w15_far, w16_near, w17_echoes, hcl, h⟩ := bd15_e h
      refine g_callV0W X (met_X6_runPresent l Z a0 a1 a2 a3 a4 a5 a6 a7 a8 a9 a10 a11 v_savedCount v_scriptLength (if r2 = 0 then (1 : Int32) else 0) v_lineParts v_pulseMany v_left v_dropped v_merged v_drops v_contributions v_packet v_peelResult v_peelTime v_peelSum v_at v_commands v_hash v_m v_saved v_script v_lengths v_fractions v_times v_energies v_far v_near v_echoes v_draft  w3_lineParts w4_pulseMany w5_left w6_dropped w7_merged w8_drops w9_contributions w10_packet w11_lengths w12_fractions w13_times w14_energies w15_far w16_near w17_echoes hcl) rfl 0 gC5 rfl rfl (lw_V q1562 q1564 qs39 q74 q1565) md_X6_runPresent ⟨(Nat.le_of_ble_eq_true rfl), (Nat.le_of_ble_eq_true rfl)⟩ rfl dX6_echo_33 36 rfl 0 0 rfl rfl (Nat.le_of_ble_eq_true rfl) (Nat.le_of_ble_eq_true rfl) (st := []) rfl (Nat.le_of_ble_eq_true rfl) (fun _ => rfl) (fun _ => ?_)
      refine g_aload_n X rfl dX6_echo_36 37 rfl ?_
      refine g_get X gC5 0 rfl 14 (by decide) q1356 (fun _ h9 => h9) rfl dX6_echo_37 40 rfl ?_
      refine g_iload_n X rfl dX6_echo_40 41 rfl ?_
      obtain ⟨hi, h⟩ := gin_e h
      refine g_lald X 10 rfl hi dX6_echo_41 42 rfl ?_
      obtain ⟨rfl, rfl, rfl, rfl, rfl, rfl, rfl, rfl, rfl, rfl, rfl, rfl, rfl, rfl, rfl, rfl, rfl⟩ := rt17 h
      exact g_lret X dX6_echo_42 () rfl rfl (Nat.le_of_ble_eq_true rfl) (Nat.le_of_ble_eq_true rfl)
    · replace h := if_f hc h
      refine g_lconst X 0 dX6_echo_30 31 rfl rfl ?_
      obtain ⟨rfl, rfl, rfl, rfl, rfl, rfl, rfl, rfl, rfl, rfl, rfl, rfl, rfl, rfl, rfl, rfl, rfl⟩ := rt17 h
      exact g_lret X dX6_echo_31 () rfl rfl (Nat.le_of_ble_eq_true rfl) (Nat.le_of_ble_eq_true rfl)
  · refine g_if_eq X dX6_echo_12 19 (by decide) 15 rfl (fun _ => ?_) (fun hn => absurd hc hn)
    refine g_iconst X 1 dX6_echo_19 20 rfl kI_1 ?_
    exact K
  · refine g_if_eq X dX6_echo_12 19 (by decide) 15 rfl (fun hn => absurd hn hc) (fun _ => ?_)
    refine g_iconst X 0 dX6_echo_15 16 rfl kI_0 ?_
    refine g_goto X dX6_echo_16 20 (by decide) ?_
    exact K
/-! LineEchoesModel.echoTime(I)I -/
abbrev rm_X6_echoTime : Room := { frames := 5, cells := 0, slots := 0, locals := 117 }
def F_X6_echoTime_57 (K30 : (Int32) → (Int32) → (Int32) → (Int64) → (Int64) → (Int32) → (Int32) → (Int32) → (Int64) → (Nat → Int32) → (Nat → Int32) → (Nat → Int32) → (Nat → Int64) → (Nat → Int64) → (Nat → Int64) → (Nat → Int64) → (Int32) → (Int32) → Option (Int32 × Int32 × Int32 × Int32 × Int64 × Int64 × Int32 × Int32 × Int32 × Int64 × (Nat → Int32) × (Nat → Int32) × (Nat → Int32) × (Nat → Int64) × (Nat → Int64) × (Nat → Int64) × (Nat → Int64))) (v_code : Int32) (v_lineParts : Int32) (v_pulseMany : Int32) (v_left : Int64) (v_dropped : Int64) (v_merged : Int32) (v_drops : Int32) (v_contributions : Int32) (v_packet : Int64) (v_lengths : Nat → Int32) (v_fractions : Nat → Int32) (v_times : Nat → Int32) (v_energies : Nat → Int64) (v_far : Nat → Int64) (v_near : Nat → Int64) (v_echoes : Nat → Int64) (x2 : Int32) (x3 : Int32) : Option (Int32 × Int32 × Int32 × Int32 × Int64 × Int64 × Int32 × Int32 × Int32 × Int64 × (Nat → Int32) × (Nat → Int32) × (Nat → Int32) × (Nat → Int64) × (Nat → Int64) × (Nat → Int64) × (Nat → Int64)) :=
  K30 v_code v_lineParts v_pulseMany v_left v_dropped v_merged v_drops v_contributions v_packet v_lengths v_fractions v_times v_energies v_far v_near v_echoes x2 (x3 + 1)
def B_X6_echoTime_30 (K30 : (Int32) → (Int32) → (Int32) → (Int64) → (Int64) → (Int32) → (Int32) → (Int32) → (Int64) → (Nat → Int32) → (Nat → Int32) → (Nat → Int32) → (Nat → Int64) → (Nat → Int64) → (Nat → Int64) → (Nat → Int64) → (Int32) → (Int32) → Option (Int32 × Int32 × Int32 × Int32 × Int64 × Int64 × Int32 × Int32 × Int32 × Int64 × (Nat → Int32) × (Nat → Int32) × (Nat → Int32) × (Nat → Int64) × (Nat → Int64) × (Nat → Int64) × (Nat → Int64))) (v_code : Int32) (v_lineParts : Int32) (v_pulseMany : Int32) (v_left : Int64) (v_dropped : Int64) (v_merged : Int32) (v_drops : Int32) (v_contributions : Int32) (v_packet : Int64) (v_lengths : Nat → Int32) (v_fractions : Nat → Int32) (v_times : Nat → Int32) (v_energies : Nat → Int64) (v_far : Nat → Int64) (v_near : Nat → Int64) (v_echoes : Nat → Int64) (x2 : Int32) (x3 : Int32) : Option (Int32 × Int32 × Int32 × Int32 × Int64 × Int64 × Int32 × Int32 × Int32 × Int64 × (Nat → Int32) × (Nat → Int32) × (Nat → Int32) × (Nat → Int64) × (Nat → Int64) × (Nat → Int64) × (Nat → Int64)) :=
  if 201 ≤ x3 then
    (some ((-1), v_code, v_lineParts, v_pulseMany, v_left, v_dropped, v_merged, v_drops, v_contributions, v_packet, v_lengths, v_fractions, v_times, v_energies, v_far, v_near, v_echoes))
  else
    (gin x3 201 <|
    if (v_echoes x3.toNatClampNeg) ≤ 0 then
      (F_X6_echoTime_57 K30 v_code v_lineParts v_pulseMany v_left v_dropped v_merged v_drops v_contributions v_packet v_lengths v_fractions v_times v_energies v_far v_near v_echoes x2 x3)
    else
      (if x2 = 0 then
        (some (x3, v_code, v_lineParts, v_pulseMany, v_left, v_dropped, v_merged, v_drops, v_contributions, v_packet, v_lengths, v_fractions, v_times, v_energies, v_far, v_near, v_echoes))
      else
        (F_X6_echoTime_57 K30 v_code v_lineParts v_pulseMany v_left v_dropped v_merged v_drops v_contributions v_packet v_lengths v_fractions v_times v_energies v_far v_near v_echoes (x2 + (-1)) x3)))
def F_X6_echoTime_30 : Nat → (Int32) → (Int32) → (Int32) → (Int64) → (Int64) → (Int32) → (Int32) → (Int32) → (Int64) → (Nat → Int32) → (Nat → Int32) → (Nat → Int32) → (Nat → Int64) → (Nat → Int64) → (Nat → Int64) → (Nat → Int64) → (Int32) → (Int32) → Option (Int32 × Int32 × Int32 × Int32 × Int64 × Int64 × Int32 × Int32 × Int32 × Int64 × (Nat → Int32) × (Nat → Int32) × (Nat → Int32) × (Nat → Int64) × (Nat → Int64) × (Nat → Int64) × (Nat → Int64))
  | 0 => fun _ _ _ _ _ _ _ _ _ _ _ _ _ _ _ _ _ _ => none
  | n + 1 => B_X6_echoTime_30 (F_X6_echoTime_30 n)
def F_X6_echoTime (v_lineParts : Int32) (v_pulseMany : Int32) (v_left : Int64) (v_dropped : Int64) (v_merged : Int32) (v_drops : Int32) (v_contributions : Int32) (v_packet : Int64) (v_m : Nat → Int64) (v_lengths : Nat → Int32) (v_fractions : Nat → Int32) (v_times : Nat → Int32) (v_energies : Nat → Int64) (v_far : Nat → Int64) (v_near : Nat → Int64) (v_echoes : Nat → Int64) (x1 : Int32) : Option (Int32 × Int32 × Int32 × Int32 × Int64 × Int64 × Int32 × Int32 × Int32 × Int64 × (Nat → Int32) × (Nat → Int32) × (Nat → Int32) × (Nat → Int64) × (Nat → Int64) × (Nat → Int64) × (Nat → Int64)) :=
  if (if 0 ≤ x1 then (0 : Int32) else 1) = 0 then
    (bd15 (F_X6_runPresent v_m v_lengths v_fractions v_times v_energies v_far v_near v_echoes) fun w1_lineParts w2_pulseMany w3_left w4_dropped w5_merged w6_drops w7_contributions w8_packet w9_lengths w10_fractions w11_times w12_energies w13_far w14_near w15_echoes =>
    F_X6_echoTime_30 gFU (if 0 ≤ x1 then (0 : Int32) else 1) w1_lineParts w2_pulseMany w3_left w4_dropped w5_merged w6_drops w7_contributions w8_packet w9_lengths w10_fractions w11_times w12_energies w13_far w14_near w15_echoes x1 0)
  else
    (some (0, (if 0 ≤ x1 then (0 : Int32) else 1), v_lineParts, v_pulseMany, v_left, v_dropped, v_merged, v_drops, v_contributions, v_packet, v_lengths, v_fractions, v_times, v_energies, v_far, v_near, v_echoes))
theorem w_X6_echoTime_57 {p : Program} {l : Launch} {e : Env} {s : State} {m : MethodId} {args : Array Value} {below : List Frame} {meth : Method} {c : Code} {Z : gZt} {A : Nat → Prop} (a0 : Nat) (a1 : Nat) (a2 : Nat) (a3 : Nat) (a4 : Nat) (a5 : Nat) (a6 : Nat) (a7 : Nat) (a8 : Nat) (a9 : Nat) (a10 : Nat) (a11 : Nat) (X : gX p s m args meth c Z A cX6_echoTime "LineEchoesModel" 4 (some .int) []) (r : Int32) (r_code : Int32) (r_lineParts : Int32) (r_pulseMany : Int32) (r_left : Int64) (r_dropped : Int64) (r_merged : Int32) (r_drops : Int32) (r_contributions : Int32) (r_packet : Int64) (r_lengths : Nat → Int32) (r_fractions : Nat → Int32) (r_times : Nat → Int32) (r_energies : Nat → Int64) (r_far : Nat → Int64) (r_near : Nat → Int64) (r_echoes : Nat → Int64) (K30 : (Int32) → (Int32) → (Int32) → (Int64) → (Int64) → (Int32) → (Int32) → (Int32) → (Int64) → (Nat → Int32) → (Nat → Int32) → (Nat → Int32) → (Nat → Int64) → (Nat → Int64) → (Nat → Int64) → (Nat → Int64) → (Int32) → (Int32) → Option (Int32 × Int32 × Int32 × Int32 × Int64 × Int64 × Int32 × Int32 × Int32 × Int64 × (Nat → Int32) × (Nat → Int32) × (Nat → Int32) × (Nat → Int64) × (Nat → Int64) × (Nat → Int64) × (Nat → Int64))) (hK30 : ∀ (v_savedCount : Int32) (v_scriptLength : Int32) (v_code : Int32) (v_lineParts : Int32) (v_pulseMany : Int32) (v_left : Int64) (v_dropped : Int64) (v_merged : Int32) (v_drops : Int32) (v_contributions : Int32) (v_packet : Int64) (v_peelResult : Int32) (v_peelTime : Int32) (v_peelSum : Int32) (v_at : Int32) (v_commands : Int32) (v_hash : Int64) (v_m : Nat → Int64) (v_saved : Nat → Int64) (v_script : Nat → Int32) (v_lengths : Nat → Int32) (v_fractions : Nat → Int32) (v_times : Nat → Int32) (v_energies : Nat → Int64) (v_far : Nat → Int64) (v_near : Nat → Int64) (v_echoes : Nat → Int64) (v_draft : Nat → Int32) (x2 : Int32) (x3 : Int32), K30 v_code v_lineParts v_pulseMany v_left v_dropped v_merged v_drops v_contributions v_packet v_lengths v_fractions v_times v_energies v_far v_near v_echoes x2 x3 = some (r, r_code, r_lineParts, r_pulseMany, r_left, r_dropped, r_merged, r_drops, r_contributions, r_packet, r_lengths, r_fractions, r_times, r_energies, r_far, r_near, r_echoes) → G p l e rm_X6_echoTime s m args below meth c Z A 4 (MQ below (gPost Z A (fun _ : Unit => (some (.int r) : Option Value)) (fun _ : Unit => ([(a0, .inr (5, [.ref a1, .ref a2, .int v_savedCount, .ref a3, .int v_scriptLength, .int r_code, .int r_lineParts, .ref a4, .ref a5, .int r_pulseMany, .ref a6, .ref a7, .ref a8, .ref a9, .ref a10, .long r_left, .long r_dropped, .int r_merged, .int r_drops, .int r_contributions, .long r_packet, .int v_peelResult, .int v_peelTime, .int v_peelSum, .int v_at, .int v_commands, .ref a11, .long v_hash])), (a1, .inl (Z.2 1, 431, .inr (.inl v_m))), (a2, .inl (Z.2 1, 1293, .inr (.inl v_saved))), (a3, .inl (Z.2 0, 120, .inl v_script)), (a4, .inl (Z.2 0, 8, .inl r_lengths)), (a5, .inl (Z.2 0, 9, .inl r_fractions)), (a6, .inl (Z.2 0, 4, .inl r_times)), (a7, .inl (Z.2 1, 4, .inr (.inl r_energies))), (a8, .inl (Z.2 1, 1809, .inr (.inl r_far))), (a9, .inl (Z.2 1, 1809, .inr (.inl r_near))), (a10, .inl (Z.2 1, 201, .inr (.inl r_echoes))), (a11, .inl (Z.2 0, 120, .inl v_draft))] : va_W))) args s 0 0 A) [(a0, .inr (5, [.ref a1, .ref a2, .int v_savedCount, .ref a3, .int v_scriptLength, .int v_code, .int v_lineParts, .ref a4, .ref a5, .int v_pulseMany, .ref a6, .ref a7, .ref a8, .ref a9, .ref a10, .long v_left, .long v_dropped, .int v_merged, .int v_drops, .int v_contributions, .long v_packet, .int v_peelResult, .int v_peelTime, .int v_peelSum, .int v_at, .int v_commands, .ref a11, .long v_hash])), (a1, .inl (Z.2 1, 431, .inr (.inl v_m))), (a2, .inl (Z.2 1, 1293, .inr (.inl v_saved))), (a3, .inl (Z.2 0, 120, .inl v_script)), (a4, .inl (Z.2 0, 8, .inl v_lengths)), (a5, .inl (Z.2 0, 9, .inl v_fractions)), (a6, .inl (Z.2 0, 4, .inl v_times)), (a7, .inl (Z.2 1, 4, .inr (.inl v_energies))), (a8, .inl (Z.2 1, 1809, .inr (.inl v_far))), (a9, .inl (Z.2 1, 1809, .inr (.inl v_near))), (a10, .inl (Z.2 1, 201, .inr (.inl v_echoes))), (a11, .inl (Z.2 0, 120, .inl v_draft))] 0 0 30 [some (.ref a0), none, some (.int x2), some (.int x3)] []) (v_savedCount : Int32) (v_scriptLength : Int32) (v_code : Int32) (v_lineParts : Int32) (v_pulseMany : Int32) (v_left : Int64) (v_dropped : Int64) (v_merged : Int32) (v_drops : Int32) (v_contributions : Int32) (v_packet : Int64) (v_peelResult : Int32) (v_peelTime : Int32) (v_peelSum : Int32) (v_at : Int32) (v_commands : Int32) (v_hash : Int64) (v_m : Nat → Int64) (v_saved : Nat → Int64) (v_script : Nat → Int32) (v_lengths : Nat → Int32) (v_fractions : Nat → Int32) (v_times : Nat → Int32) (v_energies : Nat → Int64) (v_far : Nat → Int64) (v_near : Nat → Int64) (v_echoes : Nat → Int64) (v_draft : Nat → Int32) (x2 : Int32) (x3 : Int32) (h : F_X6_echoTime_57 K30 v_code v_lineParts v_pulseMany v_left v_dropped v_merged v_drops v_contributions v_packet v_lengths v_fractions v_times v_energies v_far v_near v_echoes x2 x3 = some (r, r_code, r_lineParts, r_pulseMany, r_left, r_dropped, r_merged, r_drops, r_contributions, r_packet, r_lengths, r_fractions, r_times, r_energies, r_far, r_near, r_echoes)) : G p l e rm_X6_echoTime s m args below meth c Z A 4 (MQ below (gPost Z A (fun _ : Unit => (some (.int r) : Option Value)) (fun _ : Unit => ([(a0, .inr (5, [.ref a1, .ref a2, .int v_savedCount, .ref a3, .int v_scriptLength, .int r_code, .int r_lineParts, .ref a4, .ref a5, .int r_pulseMany, .ref a6, .ref a7, .ref a8, .ref a9, .ref a10, .long r_left, .long r_dropped, .int r_merged, .int r_drops, .int r_contributions, .long r_packet, .int v_peelResult, .int v_peelTime, .int v_peelSum, .int v_at, .int v_commands, .ref a11, .long v_hash])), (a1, .inl (Z.2 1, 431, .inr (.inl v_m))), (a2, .inl (Z.2 1, 1293, .inr (.inl v_saved))), (a3, .inl (Z.2 0, 120, .inl v_script)), (a4, .inl (Z.2 0, 8, .inl r_lengths)), (a5, .inl (Z.2 0, 9, .inl r_fractions)), (a6, .inl (Z.2 0, 4, .inl r_times)), (a7, .inl (Z.2 1, 4, .inr (.inl r_energies))), (a8, .inl (Z.2 1, 1809, .inr (.inl r_far))), (a9, .inl (Z.2 1, 1809, .inr (.inl r_near))), (a10, .inl (Z.2 1, 201, .inr (.inl r_echoes))), (a11, .inl (Z.2 0, 120, .inl v_draft))] : va_W))) args s 0 0 A) [(a0, .inr (5, [.ref a1, .ref a2, .int v_savedCount, .ref a3, .int v_scriptLength, .int v_code, .int v_lineParts, .ref a4, .ref a5, .int v_pulseMany, .ref a6, .ref a7, .ref a8, .ref a9, .ref a10, .long v_left, .long v_dropped, .int v_merged, .int v_drops, .int v_contributions, .long v_packet, .int v_peelResult, .int v_peelTime, .int v_peelSum, .int v_at, .int v_commands, .ref a11, .long v_hash])), (a1, .inl (Z.2 1, 431, .inr (.inl v_m))), (a2, .inl (Z.2 1, 1293, .inr (.inl v_saved))), (a3, .inl (Z.2 0, 120, .inl v_script)), (a4, .inl (Z.2 0, 8, .inl v_lengths)), (a5, .inl (Z.2 0, 9, .inl v_fractions)), (a6, .inl (Z.2 0, 4, .inl v_times)), (a7, .inl (Z.2 1, 4, .inr (.inl v_energies))), (a8, .inl (Z.2 1, 1809, .inr (.inl v_far))), (a9, .inl (Z.2 1, 1809, .inr (.inl v_near))), (a10, .inl (Z.2 1, 201, .inr (.inl v_echoes))), (a11, .inl (Z.2 0, 120, .inl v_draft))] 0 0 57 [some (.ref a0), none, some (.int x2), some (.int x3)] [] := by
  unfold F_X6_echoTime_57 at h
  refine g_iinc X 1 rfl dX6_echoTime_57 60 rfl kI_1 (Nat.le_of_ble_eq_true rfl) rfl [some (.ref a0), none, some (.int x2), some (.int (x3 + 1))] rfl ?_
  refine g_goto X dX6_echoTime_60 30 (by decide) ?_
  exact hK30 v_savedCount v_scriptLength v_code v_lineParts v_pulseMany v_left v_dropped v_merged v_drops v_contributions v_packet v_peelResult v_peelTime v_peelSum v_at v_commands v_hash v_m v_saved v_script v_lengths v_fractions v_times v_energies v_far v_near v_echoes v_draft x2 (x3 + 1) h
theorem w_X6_echoTime_30 {p : Program} {l : Launch} {e : Env} {s : State} {m : MethodId} {args : Array Value} {below : List Frame} {meth : Method} {c : Code} {Z : gZt} {A : Nat → Prop} (a0 : Nat) (a1 : Nat) (a2 : Nat) (a3 : Nat) (a4 : Nat) (a5 : Nat) (a6 : Nat) (a7 : Nat) (a8 : Nat) (a9 : Nat) (a10 : Nat) (a11 : Nat) (X : gX p s m args meth c Z A cX6_echoTime "LineEchoesModel" 4 (some .int) []) (r : Int32) (r_code : Int32) (r_lineParts : Int32) (r_pulseMany : Int32) (r_left : Int64) (r_dropped : Int64) (r_merged : Int32) (r_drops : Int32) (r_contributions : Int32) (r_packet : Int64) (r_lengths : Nat → Int32) (r_fractions : Nat → Int32) (r_times : Nat → Int32) (r_energies : Nat → Int64) (r_far : Nat → Int64) (r_near : Nat → Int64) (r_echoes : Nat → Int64)  : ∀ (n : Nat) (v_savedCount : Int32) (v_scriptLength : Int32) (v_code : Int32) (v_lineParts : Int32) (v_pulseMany : Int32) (v_left : Int64) (v_dropped : Int64) (v_merged : Int32) (v_drops : Int32) (v_contributions : Int32) (v_packet : Int64) (v_peelResult : Int32) (v_peelTime : Int32) (v_peelSum : Int32) (v_at : Int32) (v_commands : Int32) (v_hash : Int64) (v_m : Nat → Int64) (v_saved : Nat → Int64) (v_script : Nat → Int32) (v_lengths : Nat → Int32) (v_fractions : Nat → Int32) (v_times : Nat → Int32) (v_energies : Nat → Int64) (v_far : Nat → Int64) (v_near : Nat → Int64) (v_echoes : Nat → Int64) (v_draft : Nat → Int32) (x2 : Int32) (x3 : Int32), F_X6_echoTime_30 n v_code v_lineParts v_pulseMany v_left v_dropped v_merged v_drops v_contributions v_packet v_lengths v_fractions v_times v_energies v_far v_near v_echoes x2 x3 = some (r, r_code, r_lineParts, r_pulseMany, r_left, r_dropped, r_merged, r_drops, r_contributions, r_packet, r_lengths, r_fractions, r_times, r_energies, r_far, r_near, r_echoes) → G p l e rm_X6_echoTime s m args below meth c Z A 4 (MQ below (gPost Z A (fun _ : Unit => (some (.int r) : Option Value)) (fun _ : Unit => ([(a0, .inr (5, [.ref a1, .ref a2, .int v_savedCount, .ref a3, .int v_scriptLength, .int r_code, .int r_lineParts, .ref a4, .ref a5, .int r_pulseMany, .ref a6, .ref a7, .ref a8, .ref a9, .ref a10, .long r_left, .long r_dropped, .int r_merged, .int r_drops, .int r_contributions, .long r_packet, .int v_peelResult, .int v_peelTime, .int v_peelSum, .int v_at, .int v_commands, .ref a11, .long v_hash])), (a1, .inl (Z.2 1, 431, .inr (.inl v_m))), (a2, .inl (Z.2 1, 1293, .inr (.inl v_saved))), (a3, .inl (Z.2 0, 120, .inl v_script)), (a4, .inl (Z.2 0, 8, .inl r_lengths)), (a5, .inl (Z.2 0, 9, .inl r_fractions)), (a6, .inl (Z.2 0, 4, .inl r_times)), (a7, .inl (Z.2 1, 4, .inr (.inl r_energies))), (a8, .inl (Z.2 1, 1809, .inr (.inl r_far))), (a9, .inl (Z.2 1, 1809, .inr (.inl r_near))), (a10, .inl (Z.2 1, 201, .inr (.inl r_echoes))), (a11, .inl (Z.2 0, 120, .inl v_draft))] : va_W))) args s 0 0 A) [(a0, .inr (5, [.ref a1, .ref a2, .int v_savedCount, .ref a3, .int v_scriptLength, .int v_code, .int v_lineParts, .ref a4, .ref a5, .int v_pulseMany, .ref a6, .ref a7, .ref a8, .ref a9, .ref a10, .long v_left, .long v_dropped, .int v_merged, .int v_drops, .int v_contributions, .long v_packet, .int v_peelResult, .int v_peelTime, .int v_peelSum, .int v_at, .int v_commands, .ref a11, .long v_hash])), (a1, .inl (Z.2 1, 431, .inr (.inl v_m))), (a2, .inl (Z.2 1, 1293, .inr (.inl v_saved))), (a3, .inl (Z.2 0, 120, .inl v_script)), (a4, .inl (Z.2 0, 8, .inl v_lengths)), (a5, .inl (Z.2 0, 9, .inl v_fractions)), (a6, .inl (Z.2 0, 4, .inl v_times)), (a7, .inl (Z.2 1, 4, .inr (.inl v_energies))), (a8, .inl (Z.2 1, 1809, .inr (.inl v_far))), (a9, .inl (Z.2 1, 1809, .inr (.inl v_near))), (a10, .inl (Z.2 1, 201, .inr (.inl v_echoes))), (a11, .inl (Z.2 0, 120, .inl v_draft))] 0 0 30 [some (.ref a0), none, some (.int x2), some (.int x3)] [] := by
  intro n
  induction n with
  | zero =>
    intro v_savedCount v_scriptLength v_code v_lineParts v_pulseMany v_left v_dropped v_merged v_drops v_contributions v_packet v_peelResult v_peelTime v_peelSum v_at v_commands v_hash v_m v_saved v_script v_lengths v_fractions v_times v_energies v_far v_near v_echoes v_draft x2 x3 h
    cases h
  | succ n hK30 =>
    intro v_savedCount v_scriptLength v_code v_lineParts v_pulseMany v_left v_dropped v_merged v_drops v_contributions v_packet v_peelResult v_peelTime v_peelSum v_at v_commands v_hash v_m v_saved v_script v_lengths v_fractions v_times v_energies v_far v_near v_echoes v_draft x2 x3 h
    replace h : B_X6_echoTime_30 (F_X6_echoTime_30 n) v_code v_lineParts v_pulseMany v_left v_dropped v_merged v_drops v_contributions v_packet v_lengths v_fractions v_times v_energies v_far v_near v_echoes x2 x3 = some (r, r_code, r_lineParts, r_pulseMany, r_left, r_dropped, r_merged, r_drops, r_contributions, r_packet, r_lengths, r_fractions, r_times, r_energies, r_far, r_near, r_echoes) := h
    unfold B_X6_echoTime_30 at h
    refine g_iload_n X rfl dX6_echoTime_30 31 rfl ?_
    refine g_sipush X 201 dX6_echoTime_31 34 rfl kS_201 ?_
    refine g_icmp_ge X dX6_echoTime_34 63 (by decide) 37 rfl (fun hc => ?_) (fun hc => ?_)
    · replace h := if_t hc h
      refine g_iconst X (-1) dX6_echoTime_63 64 rfl kI_m1 ?_
      obtain ⟨rfl, rfl, rfl, rfl, rfl, rfl, rfl, rfl, rfl, rfl, rfl, rfl, rfl, rfl, rfl, rfl, rfl⟩ := rt17 h
      exact g_iret X dX6_echoTime_64 () rfl rfl (Nat.le_of_ble_eq_true rfl) (Nat.le_of_ble_eq_true rfl)
    · replace h := if_f hc h
      refine g_aload_n X rfl dX6_echoTime_37 38 rfl ?_
      refine g_get X gC5 0 rfl 14 (by decide) q1356 (fun _ h9 => h9) rfl dX6_echoTime_38 41 rfl ?_
      refine g_iload_n X rfl dX6_echoTime_41 42 rfl ?_
      obtain ⟨hi, h⟩ := gin_e h
      refine g_lald X 10 rfl hi dX6_echoTime_42 43 rfl ?_
      refine g_lconst X 0 dX6_echoTime_43 44 rfl rfl ?_
      refine g_lcmp_le X dX6_echoTime_44 45 rfl dX6_echoTime_45 57 (by decide) 48 rfl (fun hc => ?_) (fun hc => ?_)
      · replace h := if_t hc h
        exact w_X6_echoTime_57 a0 a1 a2 a3 a4 a5 a6 a7 a8 a9 a10 a11  X  r r_code r_lineParts r_pulseMany r_left r_dropped r_merged r_drops r_contributions r_packet r_lengths r_fractions r_times r_energies r_far r_near r_echoes _ hK30  v_savedCount v_scriptLength v_code v_lineParts v_pulseMany v_left v_dropped v_merged v_drops v_contributions v_packet v_peelResult v_peelTime v_peelSum v_at v_commands v_hash v_m v_saved v_script v_lengths v_fractions v_times v_energies v_far v_near v_echoes v_draft x2 x3 h
      · replace h := if_f hc h
        refine g_iload_n X rfl dX6_echoTime_48 49 rfl ?_
        refine g_if_ne X dX6_echoTime_49 54 (by decide) 52 rfl (fun hc => ?_) (fun hc => ?_)
        · replace h := if_f hc h
          refine g_iinc X (-1) rfl dX6_echoTime_54 57 rfl kI_m1 (Nat.le_of_ble_eq_true rfl) rfl [some (.ref a0), none, some (.int (x2 + (-1))), some (.int x3)] rfl ?_
          exact w_X6_echoTime_57 a0 a1 a2 a3 a4 a5 a6 a7 a8 a9 a10 a11  X  r r_code r_lineParts r_pulseMany r_left r_dropped r_merged r_drops r_contributions r_packet r_lengths r_fractions r_times r_energies r_far r_near r_echoes _ hK30  v_savedCount v_scriptLength v_code v_lineParts v_pulseMany v_left v_dropped v_merged v_drops v_contributions v_packet v_peelResult v_peelTime v_peelSum v_at v_commands v_hash v_m v_saved v_script v_lengths v_fractions v_times v_energies v_far v_near v_echoes v_draft (x2 + (-1)) x3 h
        · replace h := if_t hc h
          refine g_iload_n X rfl dX6_echoTime_52 53 rfl ?_
          obtain ⟨rfl, rfl, rfl, rfl, rfl, rfl, rfl, rfl, rfl, rfl, rfl, rfl, rfl, rfl, rfl, rfl, rfl⟩ := rt17 h
          exact g_iret X dX6_echoTime_53 () rfl rfl (Nat.le_of_ble_eq_true rfl) (Nat.le_of_ble_eq_true rfl)
theorem met_X6_echoTime (l : Launch) (Z : gZt) (a0 : Nat) (a1 : Nat) (a2 : Nat) (a3 : Nat) (a4 : Nat) (a5 : Nat) (a6 : Nat) (a7 : Nat) (a8 : Nat) (a9 : Nat) (a10 : Nat) (a11 : Nat) (v_savedCount : Int32) (v_scriptLength : Int32) (v_code : Int32) (v_lineParts : Int32) (v_pulseMany : Int32) (v_left : Int64) (v_dropped : Int64) (v_merged : Int32) (v_drops : Int32) (v_contributions : Int32) (v_packet : Int64) (v_peelResult : Int32) (v_peelTime : Int32) (v_peelSum : Int32) (v_at : Int32) (v_commands : Int32) (v_hash : Int64) (v_m : Nat → Int64) (v_saved : Nat → Int64) (v_script : Nat → Int32) (v_lengths : Nat → Int32) (v_fractions : Nat → Int32) (v_times : Nat → Int32) (v_energies : Nat → Int64) (v_far : Nat → Int64) (v_near : Nat → Int64) (v_echoes : Nat → Int64) (v_draft : Nat → Int32) (x1 : Int32) (r : Int32) (r_code : Int32) (r_lineParts : Int32) (r_pulseMany : Int32) (r_left : Int64) (r_dropped : Int64) (r_merged : Int32) (r_drops : Int32) (r_contributions : Int32) (r_packet : Int64) (r_lengths : Nat → Int32) (r_fractions : Nat → Int32) (r_times : Nat → Int32) (r_energies : Nat → Int64) (r_far : Nat → Int64) (r_near : Nat → Int64) (r_echoes : Nat → Int64) (h : F_X6_echoTime v_lineParts v_pulseMany v_left v_dropped v_merged v_drops v_contributions v_packet v_m v_lengths v_fractions v_times v_energies v_far v_near v_echoes x1 = some (r, r_code, r_lineParts, r_pulseMany, r_left, r_dropped, r_merged, r_drops, r_contributions, r_packet, r_lengths, r_fractions, r_times, r_energies, r_far, r_near, r_echoes)) : Ct l yX6_echoTime (ws_ yX6_echoTime cX6_echoTime 4 (some .int)) rm_X6_echoTime Z [.ref a0, .int x1] [(a0, .inr (5, [.ref a1, .ref a2, .int v_savedCount, .ref a3, .int v_scriptLength, .int v_code, .int v_lineParts, .ref a4, .ref a5, .int v_pulseMany, .ref a6, .ref a7, .ref a8, .ref a9, .ref a10, .long v_left, .long v_dropped, .int v_merged, .int v_drops, .int v_contributions, .long v_packet, .int v_peelResult, .int v_peelTime, .int v_peelSum, .int v_at, .int v_commands, .ref a11, .long v_hash])), (a1, .inl (Z.2 1, 431, .inr (.inl v_m))), (a2, .inl (Z.2 1, 1293, .inr (.inl v_saved))), (a3, .inl (Z.2 0, 120, .inl v_script)), (a4, .inl (Z.2 0, 8, .inl v_lengths)), (a5, .inl (Z.2 0, 9, .inl v_fractions)), (a6, .inl (Z.2 0, 4, .inl v_times)), (a7, .inl (Z.2 1, 4, .inr (.inl v_energies))), (a8, .inl (Z.2 1, 1809, .inr (.inl v_far))), (a9, .inl (Z.2 1, 1809, .inr (.inl v_near))), (a10, .inl (Z.2 1, 201, .inr (.inl v_echoes))), (a11, .inl (Z.2 0, 120, .inl v_draft))] [] (fun _ : Unit => (some (.int r) : Option Value)) (fun _ : Unit => ([(a0, .inr (5, [.ref a1, .ref a2, .int v_savedCount, .ref a3, .int v_scriptLength, .int r_code, .int r_lineParts, .ref a4, .ref a5, .int r_pulseMany, .ref a6, .ref a7, .ref a8, .ref a9, .ref a10, .long r_left, .long r_dropped, .int r_merged, .int r_drops, .int r_contributions, .long r_packet, .int v_peelResult, .int v_peelTime, .int v_peelSum, .int v_at, .int v_commands, .ref a11, .long v_hash])), (a1, .inl (Z.2 1, 431, .inr (.inl v_m))), (a2, .inl (Z.2 1, 1293, .inr (.inl v_saved))), (a3, .inl (Z.2 0, 120, .inl v_script)), (a4, .inl (Z.2 0, 8, .inl r_lengths)), (a5, .inl (Z.2 0, 9, .inl r_fractions)), (a6, .inl (Z.2 0, 4, .inl r_times)), (a7, .inl (Z.2 1, 4, .inr (.inl r_energies))), (a8, .inl (Z.2 1, 1809, .inr (.inl r_far))), (a9, .inl (Z.2 1, 1809, .inr (.inl r_near))), (a10, .inl (Z.2 1, 201, .inr (.inl r_echoes))), (a11, .inl (Z.2 0, 120, .inl v_draft))] : va_W)) := by
  refine Ct.of cX6_echoTime 4 (some .int) "LineEchoesModel" [some (.ref a0), some (.int x1), none, none] 2 (by decide) rfl (Nat.le_of_ble_eq_true rfl) rfl (fun p e s m args below meth c A X hin => ?_)
  unfold F_X6_echoTime at h
  refine g_aload_n X rfl dX6_echoTime_0 1 rfl ?_
  refine g_iload_n X rfl dX6_echoTime_1 2 rfl ?_
  refine g_seli 10 [.ref a0] (b := 0 ≤ x1) 0 1 ?_ (fun hc K => ?_) (fun hc K => ?_)
  · refine g_put X gC5 0 rfl 5 (by decide) q1347 (fun _ h9 => h9) rfl rfl rfl (Nat.le_of_ble_eq_true rfl) dX6_echoTime_10 13 rfl ?_
    refine g_aload_n X rfl dX6_echoTime_13 14 rfl ?_
    refine g_get X gC5 0 rfl 5 (by decide) q1347 (fun _ h9 => h9) rfl dX6_echoTime_14 17 rfl ?_
    refine g_if_eq X dX6_echoTime_17 22 (by decide) 20 rfl (fun hc => ?_) (fun hc => ?_)
    · replace h := if_t hc h
      refine g_aload_n X rfl dX6_echoTime_22 23 rfl ?_
      obtain ⟨w1_lineParts, w2_pulseMany, w3_left, w4_dropped, w5_merged, w6_drops, w7_contributions, w8_packet, w9_lengths, w10_fractions, w11_times, w12_energies, w13_far, w14_near, w15_echoes, hcl, h⟩ := bd15_e h
      refine g_callV0W X (met_X6_runPresent l Z a0 a1 a2 a3 a4 a5 a6 a7 a8 a9 a10 a11 v_savedCount v_scriptLength (if 0 ≤ x1 then (0 : Int32) else 1) v_lineParts v_pulseMany v_left v_dropped v_merged v_drops v_contributions v_packet v_peelResult v_peelTime v_peelSum v_at v_commands v_hash v_m v_saved v_script v_lengths v_fractions v_times v_energies v_far v_near v_echoes v_draft  w1_lineParts w2_pulseMany w3_left w4_dropped w5_merged w6_drops w7_contributions w8_packet w9_lengths w10_fractions w11_times w12_energies w13_far w14_near w15_echoes hcl) rfl 0 gC5 rfl rfl (lw_V q1562 q1564 qs39 q74 q1565) md_X6_runPresent ⟨(Nat.le_of_ble_eq_true rfl), (Nat.le_of_ble_eq_true rfl)⟩ rfl dX6_echoTime_23 26 rfl 0 0 rfl rfl (Nat.le_of_ble_eq_true rfl) (Nat.le_of_ble_eq_true rfl) (st := []) rfl (Nat.le_of_ble_eq_true rfl) (fun _ => rfl) (fun _ => ?_)
      refine g_iload_n X rfl dX6_echoTime_26 27 rfl ?_
      refine g_istore_n X dX6_echoTime_27 28 rfl (Nat.le_of_ble_eq_true rfl) rfl [some (.ref a0), some (.int x1), some (.int x1), none] rfl ?_
      refine g_iconst X 0 dX6_echoTime_28 29 rfl kI_0 ?_
      refine g_istore_n X dX6_echoTime_29 30 rfl (Nat.le_of_ble_eq_true rfl) rfl [some (.ref a0), some (.int x1), some (.int x1), some (.int 0)] rfl ?_
      refine g_kill (j := 1) [some (.ref a0), none, some (.int x1), some (.int 0)] rfl ?_
      exact w_X6_echoTime_30 a0 a1 a2 a3 a4 a5 a6 a7 a8 a9 a10 a11  X  r r_code r_lineParts r_pulseMany r_left r_dropped r_merged r_drops r_contributions r_packet r_lengths r_fractions r_times r_energies r_far r_near r_echoes    gFU v_savedCount v_scriptLength (if 0 ≤ x1 then (0 : Int32) else 1) w1_lineParts w2_pulseMany w3_left w4_dropped w5_merged w6_drops w7_contributions w8_packet v_peelResult v_peelTime v_peelSum v_at v_commands v_hash v_m v_saved v_script w9_lengths w10_fractions w11_times w12_energies w13_far w14_near w15_echoes v_draft x1 0 h
    · replace h := if_f hc h
      refine g_iconst X 0 dX6_echoTime_20 21 rfl kI_0 ?_
      obtain ⟨rfl, rfl, rfl, rfl, rfl, rfl, rfl, rfl, rfl, rfl, rfl, rfl, rfl, rfl, rfl, rfl, rfl⟩ := rt17 h
      exact g_iret X dX6_echoTime_21 () rfl rfl (Nat.le_of_ble_eq_true rfl) (Nat.le_of_ble_eq_true rfl)
  · refine g_if_ge X dX6_echoTime_2 9 (by decide) 5 rfl (fun _ => ?_) (fun hn => absurd hc hn)
    refine g_iconst X 0 dX6_echoTime_9 10 rfl kI_0 ?_
    exact K
  · refine g_if_ge X dX6_echoTime_2 9 (by decide) 5 rfl (fun hn => absurd hn hc) (fun _ => ?_)
    refine g_iconst X 1 dX6_echoTime_5 6 rfl kI_1 ?_
    refine g_goto X dX6_echoTime_6 10 (by decide) ?_
    exact K
/-! LineEchoesModel.underWay()J -/
abbrev rm_X6_underWay : Room := { frames := 1, cells := 0, slots := 0, locals := 20 }
def F_X6_underWay_86 (K4 : (Int32) → (Nat → Int64) → (Nat → Int32) → (Nat → Int64) → (Nat → Int64) → (Int64) → (Int32) → Option (Int64)) (K15 : (Int32) → (Nat → Int64) → (Nat → Int32) → (Nat → Int64) → (Nat → Int64) → (Int64) → (Int32) → (Int32) → Option (Int64)) (v_lineParts : Int32) (v_m : Nat → Int64) (v_lengths : Nat → Int32) (v_far : Nat → Int64) (v_near : Nat → Int64) (x3 : Int32) (x4 : Int32) (s0 : Int64) (s1 : Int64) : Option (Int64) :=
  K15 v_lineParts v_m v_lengths v_far v_near (s0 + s1) x3 (x4 + 1)
def B_X6_underWay_15 (K4 : (Int32) → (Nat → Int64) → (Nat → Int32) → (Nat → Int64) → (Nat → Int64) → (Int64) → (Int32) → Option (Int64)) (K15 : (Int32) → (Nat → Int64) → (Nat → Int32) → (Nat → Int64) → (Nat → Int64) → (Int64) → (Int32) → (Int32) → Option (Int64)) (v_lineParts : Int32) (v_m : Nat → Int64) (v_lengths : Nat → Int32) (v_far : Nat → Int64) (v_near : Nat → Int64) (x1 : Int64) (x3 : Int32) (x4 : Int32) : Option (Int64) :=
  bd1 (F_X6_window v_m) fun r1 =>
  if r1 < x4 then
    (K4 v_lineParts v_m v_lengths v_far v_near x1 (x3 + 1))
  else
    (gin x3 8 <|
    bd1 (F_X6_window v_m) fun r2 =>
    if (if (x4 + (v_lengths x3.toNatClampNeg)) ≤ r2 then (0 : Int32) else 1) = 0 then
      (F_X6_underWay_86 K4 K15 v_lineParts v_m v_lengths v_far v_near x3 x4 x1 0)
    else
      (gin ((201 * x3) + x4) 1809 <|
      gin ((201 * (x3 + 1)) + x4) 1809 <|
      F_X6_underWay_86 K4 K15 v_lineParts v_m v_lengths v_far v_near x3 x4 x1 ((v_far ((201 * x3) + x4).toNatClampNeg) + (v_near ((201 * (x3 + 1)) + x4).toNatClampNeg))))
def F_X6_underWay_15 (K4 : (Int32) → (Nat → Int64) → (Nat → Int32) → (Nat → Int64) → (Nat → Int64) → (Int64) → (Int32) → Option (Int64)) : Nat → (Int32) → (Nat → Int64) → (Nat → Int32) → (Nat → Int64) → (Nat → Int64) → (Int64) → (Int32) → (Int32) → Option (Int64)
  | 0 => fun _ _ _ _ _ _ _ _ => none
  | n + 1 => B_X6_underWay_15 K4 (F_X6_underWay_15 K4 n)
def B_X6_underWay_4 (K4 : (Int32) → (Nat → Int64) → (Nat → Int32) → (Nat → Int64) → (Nat → Int64) → (Int64) → (Int32) → Option (Int64)) (v_lineParts : Int32) (v_m : Nat → Int64) (v_lengths : Nat → Int32) (v_far : Nat → Int64) (v_near : Nat → Int64) (x1 : Int64) (x3 : Int32) : Option (Int64) :=
  if v_lineParts ≤ x3 then
    (some x1)
  else
    (F_X6_underWay_15 K4 gFU v_lineParts v_m v_lengths v_far v_near x1 x3 0)
def F_X6_underWay_4 : Nat → (Int32) → (Nat → Int64) → (Nat → Int32) → (Nat → Int64) → (Nat → Int64) → (Int64) → (Int32) → Option (Int64)
  | 0 => fun _ _ _ _ _ _ _ => none
  | n + 1 => B_X6_underWay_4 (F_X6_underWay_4 n)
def F_X6_underWay (v_lineParts : Int32) (v_m : Nat → Int64) (v_lengths : Nat → Int32) (v_far : Nat → Int64) (v_near : Nat → Int64) : Option (Int64) :=
  F_X6_underWay_4 gFU v_lineParts v_m v_lengths v_far v_near 0 0
theorem w_X6_underWay_86 {p : Program} {l : Launch} {e : Env} {s : State} {m : MethodId} {args : Array Value} {below : List Frame} {meth : Method} {c : Code} {Z : gZt} {A : Nat → Prop} (a0 : Nat) (a1 : Nat) (a2 : Nat) (a3 : Nat) (a4 : Nat) (a5 : Nat) (a6 : Nat) (a7 : Nat) (a8 : Nat) (a9 : Nat) (a10 : Nat) (a11 : Nat) (X : gX p s m args meth c Z A cX6_underWay "LineEchoesModel" 6 (some .long) []) (r : Int64) (K4 : (Int32) → (Nat → Int64) → (Nat → Int32) → (Nat → Int64) → (Nat → Int64) → (Int64) → (Int32) → Option (Int64)) (K15 : (Int32) → (Nat → Int64) → (Nat → Int32) → (Nat → Int64) → (Nat → Int64) → (Int64) → (Int32) → (Int32) → Option (Int64)) (hK4 : ∀ (v_savedCount : Int32) (v_scriptLength : Int32) (v_code : Int32) (v_lineParts : Int32) (v_pulseMany : Int32) (v_left : Int64) (v_dropped : Int64) (v_merged : Int32) (v_drops : Int32) (v_contributions : Int32) (v_packet : Int64) (v_peelResult : Int32) (v_peelTime : Int32) (v_peelSum : Int32) (v_at : Int32) (v_commands : Int32) (v_hash : Int64) (v_m : Nat → Int64) (v_saved : Nat → Int64) (v_script : Nat → Int32) (v_lengths : Nat → Int32) (v_fractions : Nat → Int32) (v_times : Nat → Int32) (v_energies : Nat → Int64) (v_far : Nat → Int64) (v_near : Nat → Int64) (v_echoes : Nat → Int64) (v_draft : Nat → Int32) (x1 : Int64) (x3 : Int32), K4 v_lineParts v_m v_lengths v_far v_near x1 x3 = some r → G p l e rm_X6_underWay s m args below meth c Z A 6 (MQ below (gPost Z A (fun _ : Unit => (some (.long r) : Option Value)) (fun _ : Unit => ([(a0, .inr (5, [.ref a1, .ref a2, .int v_savedCount, .ref a3, .int v_scriptLength, .int v_code, .int v_lineParts, .ref a4, .ref a5, .int v_pulseMany, .ref a6, .ref a7, .ref a8, .ref a9, .ref a10, .long v_left, .long v_dropped, .int v_merged, .int v_drops, .int v_contributions, .long v_packet, .int v_peelResult, .int v_peelTime, .int v_peelSum, .int v_at, .int v_commands, .ref a11, .long v_hash])), (a1, .inl (Z.2 1, 431, .inr (.inl v_m))), (a2, .inl (Z.2 1, 1293, .inr (.inl v_saved))), (a3, .inl (Z.2 0, 120, .inl v_script)), (a4, .inl (Z.2 0, 8, .inl v_lengths)), (a5, .inl (Z.2 0, 9, .inl v_fractions)), (a6, .inl (Z.2 0, 4, .inl v_times)), (a7, .inl (Z.2 1, 4, .inr (.inl v_energies))), (a8, .inl (Z.2 1, 1809, .inr (.inl v_far))), (a9, .inl (Z.2 1, 1809, .inr (.inl v_near))), (a10, .inl (Z.2 1, 201, .inr (.inl v_echoes))), (a11, .inl (Z.2 0, 120, .inl v_draft))] : va_W))) args s 0 0 A) [(a0, .inr (5, [.ref a1, .ref a2, .int v_savedCount, .ref a3, .int v_scriptLength, .int v_code, .int v_lineParts, .ref a4, .ref a5, .int v_pulseMany, .ref a6, .ref a7, .ref a8, .ref a9, .ref a10, .long v_left, .long v_dropped, .int v_merged, .int v_drops, .int v_contributions, .long v_packet, .int v_peelResult, .int v_peelTime, .int v_peelSum, .int v_at, .int v_commands, .ref a11, .long v_hash])), (a1, .inl (Z.2 1, 431, .inr (.inl v_m))), (a2, .inl (Z.2 1, 1293, .inr (.inl v_saved))), (a3, .inl (Z.2 0, 120, .inl v_script)), (a4, .inl (Z.2 0, 8, .inl v_lengths)), (a5, .inl (Z.2 0, 9, .inl v_fractions)), (a6, .inl (Z.2 0, 4, .inl v_times)), (a7, .inl (Z.2 1, 4, .inr (.inl v_energies))), (a8, .inl (Z.2 1, 1809, .inr (.inl v_far))), (a9, .inl (Z.2 1, 1809, .inr (.inl v_near))), (a10, .inl (Z.2 1, 201, .inr (.inl v_echoes))), (a11, .inl (Z.2 0, 120, .inl v_draft))] 0 0 4 [some (.ref a0), some (.long x1), none, some (.int x3), none, none] []) (hK15 : ∀ (v_savedCount : Int32) (v_scriptLength : Int32) (v_code : Int32) (v_lineParts : Int32) (v_pulseMany : Int32) (v_left : Int64) (v_dropped : Int64) (v_merged : Int32) (v_drops : Int32) (v_contributions : Int32) (v_packet : Int64) (v_peelResult : Int32) (v_peelTime : Int32) (v_peelSum : Int32) (v_at : Int32) (v_commands : Int32) (v_hash : Int64) (v_m : Nat → Int64) (v_saved : Nat → Int64) (v_script : Nat → Int32) (v_lengths : Nat → Int32) (v_fractions : Nat → Int32) (v_times : Nat → Int32) (v_energies : Nat → Int64) (v_far : Nat → Int64) (v_near : Nat → Int64) (v_echoes : Nat → Int64) (v_draft : Nat → Int32) (x1 : Int64) (x3 : Int32) (x4 : Int32), K15 v_lineParts v_m v_lengths v_far v_near x1 x3 x4 = some r → G p l e rm_X6_underWay s m args below meth c Z A 6 (MQ below (gPost Z A (fun _ : Unit => (some (.long r) : Option Value)) (fun _ : Unit => ([(a0, .inr (5, [.ref a1, .ref a2, .int v_savedCount, .ref a3, .int v_scriptLength, .int v_code, .int v_lineParts, .ref a4, .ref a5, .int v_pulseMany, .ref a6, .ref a7, .ref a8, .ref a9, .ref a10, .long v_left, .long v_dropped, .int v_merged, .int v_drops, .int v_contributions, .long v_packet, .int v_peelResult, .int v_peelTime, .int v_peelSum, .int v_at, .int v_commands, .ref a11, .long v_hash])), (a1, .inl (Z.2 1, 431, .inr (.inl v_m))), (a2, .inl (Z.2 1, 1293, .inr (.inl v_saved))), (a3, .inl (Z.2 0, 120, .inl v_script)), (a4, .inl (Z.2 0, 8, .inl v_lengths)), (a5, .inl (Z.2 0, 9, .inl v_fractions)), (a6, .inl (Z.2 0, 4, .inl v_times)), (a7, .inl (Z.2 1, 4, .inr (.inl v_energies))), (a8, .inl (Z.2 1, 1809, .inr (.inl v_far))), (a9, .inl (Z.2 1, 1809, .inr (.inl v_near))), (a10, .inl (Z.2 1, 201, .inr (.inl v_echoes))), (a11, .inl (Z.2 0, 120, .inl v_draft))] : va_W))) args s 0 0 A) [(a0, .inr (5, [.ref a1, .ref a2, .int v_savedCount, .ref a3, .int v_scriptLength, .int v_code, .int v_lineParts, .ref a4, .ref a5, .int v_pulseMany, .ref a6, .ref a7, .ref a8, .ref a9, .ref a10, .long v_left, .long v_dropped, .int v_merged, .int v_drops, .int v_contributions, .long v_packet, .int v_peelResult, .int v_peelTime, .int v_peelSum, .int v_at, .int v_commands, .ref a11, .long v_hash])), (a1, .inl (Z.2 1, 431, .inr (.inl v_m))), (a2, .inl (Z.2 1, 1293, .inr (.inl v_saved))), (a3, .inl (Z.2 0, 120, .inl v_script)), (a4, .inl (Z.2 0, 8, .inl v_lengths)), (a5, .inl (Z.2 0, 9, .inl v_fractions)), (a6, .inl (Z.2 0, 4, .inl v_times)), (a7, .inl (Z.2 1, 4, .inr (.inl v_energies))), (a8, .inl (Z.2 1, 1809, .inr (.inl v_far))), (a9, .inl (Z.2 1, 1809, .inr (.inl v_near))), (a10, .inl (Z.2 1, 201, .inr (.inl v_echoes))), (a11, .inl (Z.2 0, 120, .inl v_draft))] 0 0 15 [some (.ref a0), some (.long x1), none, some (.int x3), some (.int x4), none] []) (v_savedCount : Int32) (v_scriptLength : Int32) (v_code : Int32) (v_lineParts : Int32) (v_pulseMany : Int32) (v_left : Int64) (v_dropped : Int64) (v_merged : Int32) (v_drops : Int32) (v_contributions : Int32) (v_packet : Int64) (v_peelResult : Int32) (v_peelTime : Int32) (v_peelSum : Int32) (v_at : Int32) (v_commands : Int32) (v_hash : Int64) (v_m : Nat → Int64) (v_saved : Nat → Int64) (v_script : Nat → Int32) (v_lengths : Nat → Int32) (v_fractions : Nat → Int32) (v_times : Nat → Int32) (v_energies : Nat → Int64) (v_far : Nat → Int64) (v_near : Nat → Int64) (v_echoes : Nat → Int64) (v_draft : Nat → Int32) (x3 : Int32) (x4 : Int32) (s0 : Int64) (s1 : Int64) (h : F_X6_underWay_86 K4 K15 v_lineParts v_m v_lengths v_far v_near x3 x4 s0 s1 = some r) : G p l e rm_X6_underWay s m args below meth c Z A 6 (MQ below (gPost Z A (fun _ : Unit => (some (.long r) : Option Value)) (fun _ : Unit => ([(a0, .inr (5, [.ref a1, .ref a2, .int v_savedCount, .ref a3, .int v_scriptLength, .int v_code, .int v_lineParts, .ref a4, .ref a5, .int v_pulseMany, .ref a6, .ref a7, .ref a8, .ref a9, .ref a10, .long v_left, .long v_dropped, .int v_merged, .int v_drops, .int v_contributions, .long v_packet, .int v_peelResult, .int v_peelTime, .int v_peelSum, .int v_at, .int v_commands, .ref a11, .long v_hash])), (a1, .inl (Z.2 1, 431, .inr (.inl v_m))), (a2, .inl (Z.2 1, 1293, .inr (.inl v_saved))), (a3, .inl (Z.2 0, 120, .inl v_script)), (a4, .inl (Z.2 0, 8, .inl v_lengths)), (a5, .inl (Z.2 0, 9, .inl v_fractions)), (a6, .inl (Z.2 0, 4, .inl v_times)), (a7, .inl (Z.2 1, 4, .inr (.inl v_energies))), (a8, .inl (Z.2 1, 1809, .inr (.inl v_far))), (a9, .inl (Z.2 1, 1809, .inr (.inl v_near))), (a10, .inl (Z.2 1, 201, .inr (.inl v_echoes))), (a11, .inl (Z.2 0, 120, .inl v_draft))] : va_W))) args s 0 0 A) [(a0, .inr (5, [.ref a1, .ref a2, .int v_savedCount, .ref a3, .int v_scriptLength, .int v_code, .int v_lineParts, .ref a4, .ref a5, .int v_pulseMany, .ref a6, .ref a7, .ref a8, .ref a9, .ref a10, .long v_left, .long v_dropped, .int v_merged, .int v_drops, .int v_contributions, .long v_packet, .int v_peelResult, .int v_peelTime, .int v_peelSum, .int v_at, .int v_commands, .ref a11, .long v_hash])), (a1, .inl (Z.2 1, 431, .inr (.inl v_m))), (a2, .inl (Z.2 1, 1293, .inr (.inl v_saved))), (a3, .inl (Z.2 0, 120, .inl v_script)), (a4, .inl (Z.2 0, 8, .inl v_lengths)), (a5, .inl (Z.2 0, 9, .inl v_fractions)), (a6, .inl (Z.2 0, 4, .inl v_times)), (a7, .inl (Z.2 1, 4, .inr (.inl v_energies))), (a8, .inl (Z.2 1, 1809, .inr (.inl v_far))), (a9, .inl (Z.2 1, 1809, .inr (.inl v_near))), (a10, .inl (Z.2 1, 201, .inr (.inl v_echoes))), (a11, .inl (Z.2 0, 120, .inl v_draft))] 0 0 86 [some (.ref a0), none, none, some (.int x3), some (.int x4), none] [.long s1, .long s0] := by
  unfold F_X6_underWay_86 at h
  refine g_ladd X dX6_underWay_86 87 rfl ?_
  refine g_lstore_n X dX6_underWay_87 88 rfl (Nat.le_of_ble_eq_true rfl) rfl [some (.ref a0), some (.long (s0 + s1)), none, some (.int x3), some (.int x4), none] rfl ?_
  refine g_iinc X 1 rfl dX6_underWay_88 91 rfl kI_1 (Nat.le_of_ble_eq_true rfl) rfl [some (.ref a0), some (.long (s0 + s1)), none, some (.int x3), some (.int (x4 + 1)), none] rfl ?_
  refine g_goto X dX6_underWay_91 15 (by decide) ?_
  exact hK15 v_savedCount v_scriptLength v_code v_lineParts v_pulseMany v_left v_dropped v_merged v_drops v_contributions v_packet v_peelResult v_peelTime v_peelSum v_at v_commands v_hash v_m v_saved v_script v_lengths v_fractions v_times v_energies v_far v_near v_echoes v_draft (s0 + s1) x3 (x4 + 1) h
theorem w_X6_underWay_15 {p : Program} {l : Launch} {e : Env} {s : State} {m : MethodId} {args : Array Value} {below : List Frame} {meth : Method} {c : Code} {Z : gZt} {A : Nat → Prop} (a0 : Nat) (a1 : Nat) (a2 : Nat) (a3 : Nat) (a4 : Nat) (a5 : Nat) (a6 : Nat) (a7 : Nat) (a8 : Nat) (a9 : Nat) (a10 : Nat) (a11 : Nat) (X : gX p s m args meth c Z A cX6_underWay "LineEchoesModel" 6 (some .long) []) (r : Int64) (K4 : (Int32) → (Nat → Int64) → (Nat → Int32) → (Nat → Int64) → (Nat → Int64) → (Int64) → (Int32) → Option (Int64)) (hK4 : ∀ (v_savedCount : Int32) (v_scriptLength : Int32) (v_code : Int32) (v_lineParts : Int32) (v_pulseMany : Int32) (v_left : Int64) (v_dropped : Int64) (v_merged : Int32) (v_drops : Int32) (v_contributions : Int32) (v_packet : Int64) (v_peelResult : Int32) (v_peelTime : Int32) (v_peelSum : Int32) (v_at : Int32) (v_commands : Int32) (v_hash : Int64) (v_m : Nat → Int64) (v_saved : Nat → Int64) (v_script : Nat → Int32) (v_lengths : Nat → Int32) (v_fractions : Nat → Int32) (v_times : Nat → Int32) (v_energies : Nat → Int64) (v_far : Nat → Int64) (v_near : Nat → Int64) (v_echoes : Nat → Int64) (v_draft : Nat → Int32) (x1 : Int64) (x3 : Int32), K4 v_lineParts v_m v_lengths v_far v_near x1 x3 = some r → G p l e rm_X6_underWay s m args below meth c Z A 6 (MQ below (gPost Z A (fun _ : Unit => (some (.long r) : Option Value)) (fun _ : Unit => ([(a0, .inr (5, [.ref a1, .ref a2, .int v_savedCount, .ref a3, .int v_scriptLength, .int v_code, .int v_lineParts, .ref a4, .ref a5, .int v_pulseMany, .ref a6, .ref a7, .ref a8, .ref a9, .ref a10, .long v_left, .long v_dropped, .int v_merged, .int v_drops, .int v_contributions, .long v_packet, .int v_peelResult, .int v_peelTime, .int v_peelSum, .int v_at, .int v_commands, .ref a11, .long v_hash])), (a1, .inl (Z.2 1, 431, .inr (.inl v_m))), (a2, .inl (Z.2 1, 1293, .inr (.inl v_saved))), (a3, .inl (Z.2 0, 120, .inl v_script)), (a4, .inl (Z.2 0, 8, .inl v_lengths)), (a5, .inl (Z.2 0, 9, .inl v_fractions)), (a6, .inl (Z.2 0, 4, .inl v_times)), (a7, .inl (Z.2 1, 4, .inr (.inl v_energies))), (a8, .inl (Z.2 1, 1809, .inr (.inl v_far))), (a9, .inl (Z.2 1, 1809, .inr (.inl v_near))), (a10, .inl (Z.2 1, 201, .inr (.inl v_echoes))), (a11, .inl (Z.2 0, 120, .inl v_draft))] : va_W))) args s 0 0 A) [(a0, .inr (5, [.ref a1, .ref a2, .int v_savedCount, .ref a3, .int v_scriptLength, .int v_code, .int v_lineParts, .ref a4, .ref a5, .int v_pulseMany, .ref a6, .ref a7, .ref a8, .ref a9, .ref a10, .long v_left, .long v_dropped, .int v_merged, .int v_drops, .int v_contributions, .long v_packet, .int v_peelResult, .int v_peelTime, .int v_peelSum, .int v_at, .int v_commands, .ref a11, .long v_hash])), (a1, .inl (Z.2 1, 431, .inr (.inl v_m))), (a2, .inl (Z.2 1, 1293, .inr (.inl v_saved))), (a3, .inl (Z.2 0, 120, .inl v_script)), (a4, .inl (Z.2 0, 8, .inl v_lengths)), (a5, .inl (Z.2 0, 9, .inl v_fractions)), (a6, .inl (Z.2 0, 4, .inl v_times)), (a7, .inl (Z.2 1, 4, .inr (.inl v_energies))), (a8, .inl (Z.2 1, 1809, .inr (.inl v_far))), (a9, .inl (Z.2 1, 1809, .inr (.inl v_near))), (a10, .inl (Z.2 1, 201, .inr (.inl v_echoes))), (a11, .inl (Z.2 0, 120, .inl v_draft))] 0 0 4 [some (.ref a0), some (.long x1), none, some (.int x3), none, none] []) : ∀ (n : Nat) (v_savedCount : Int32) (v_scriptLength : Int32) (v_code : Int32) (v_lineParts : Int32) (v_pulseMany : Int32) (v_left : Int64) (v_dropped : Int64) (v_merged : Int32) (v_drops : Int32) (v_contributions : Int32) (v_packet : Int64) (v_peelResult : Int32) (v_peelTime : Int32) (v_peelSum : Int32) (v_at : Int32) (v_commands : Int32) (v_hash : Int64) (v_m : Nat → Int64) (v_saved : Nat → Int64) (v_script : Nat → Int32) (v_lengths : Nat → Int32) (v_fractions : Nat → Int32) (v_times : Nat → Int32) (v_energies : Nat → Int64) (v_far : Nat → Int64) (v_near : Nat → Int64) (v_echoes : Nat → Int64) (v_draft : Nat → Int32) (x1 : Int64) (x3 : Int32) (x4 : Int32), F_X6_underWay_15 K4 n v_lineParts v_m v_lengths v_far v_near x1 x3 x4 = some r → G p l e rm_X6_underWay s m args below meth c Z A 6 (MQ below (gPost Z A (fun _ : Unit => (some (.long r) : Option Value)) (fun _ : Unit => ([(a0, .inr (5, [.ref a1, .ref a2, .int v_savedCount, .ref a3, .int v_scriptLength, .int v_code, .int v_lineParts, .ref a4, .ref a5, .int v_pulseMany, .ref a6, .ref a7, .ref a8, .ref a9, .ref a10, .long v_left, .long v_dropped, .int v_merged, .int v_drops, .int v_contributions, .long v_packet, .int v_peelResult, .int v_peelTime, .int v_peelSum, .int v_at, .int v_commands, .ref a11, .long v_hash])), (a1, .inl (Z.2 1, 431, .inr (.inl v_m))), (a2, .inl (Z.2 1, 1293, .inr (.inl v_saved))), (a3, .inl (Z.2 0, 120, .inl v_script)), (a4, .inl (Z.2 0, 8, .inl v_lengths)), (a5, .inl (Z.2 0, 9, .inl v_fractions)), (a6, .inl (Z.2 0, 4, .inl v_times)), (a7, .inl (Z.2 1, 4, .inr (.inl v_energies))), (a8, .inl (Z.2 1, 1809, .inr (.inl v_far))), (a9, .inl (Z.2 1, 1809, .inr (.inl v_near))), (a10, .inl (Z.2 1, 201, .inr (.inl v_echoes))), (a11, .inl (Z.2 0, 120, .inl v_draft))] : va_W))) args s 0 0 A) [(a0, .inr (5, [.ref a1, .ref a2, .int v_savedCount, .ref a3, .int v_scriptLength, .int v_code, .int v_lineParts, .ref a4, .ref a5, .int v_pulseMany, .ref a6, .ref a7, .ref a8, .ref a9, .ref a10, .long v_left, .long v_dropped, .int v_merged, .int v_drops, .int v_contributions, .long v_packet, .int v_peelResult, .int v_peelTime, .int v_peelSum, .int v_at, .int v_commands, .ref a11, .long v_hash])), (a1, .inl (Z.2 1, 431, .inr (.inl v_m))), (a2, .inl (Z.2 1, 1293, .inr (.inl v_saved))), (a3, .inl (Z.2 0, 120, .inl v_script)), (a4, .inl (Z.2 0, 8, .inl v_lengths)), (a5, .inl (Z.2 0, 9, .inl v_fractions)), (a6, .inl (Z.2 0, 4, .inl v_times)), (a7, .inl (Z.2 1, 4, .inr (.inl v_energies))), (a8, .inl (Z.2 1, 1809, .inr (.inl v_far))), (a9, .inl (Z.2 1, 1809, .inr (.inl v_near))), (a10, .inl (Z.2 1, 201, .inr (.inl v_echoes))), (a11, .inl (Z.2 0, 120, .inl v_draft))] 0 0 15 [some (.ref a0), some (.long x1), none, some (.int x3), some (.int x4), none] [] := by
  intro n
  induction n with
  | zero =>
    intro v_savedCount v_scriptLength v_code v_lineParts v_pulseMany v_left v_dropped v_merged v_drops v_contributions v_packet v_peelResult v_peelTime v_peelSum v_at v_commands v_hash v_m v_saved v_script v_lengths v_fractions v_times v_energies v_far v_near v_echoes v_draft x1 x3 x4 h
    cases h
  | succ n hK15 =>
    intro v_savedCount v_scriptLength v_code v_lineParts v_pulseMany v_left v_dropped v_merged v_drops v_contributions v_packet v_peelResult v_peelTime v_peelSum v_at v_commands v_hash v_m v_saved v_script v_lengths v_fractions v_times v_energies v_far v_near v_echoes v_draft x1 x3 x4 h
    replace h : B_X6_underWay_15 K4 (F_X6_underWay_15 K4 n) v_lineParts v_m v_lengths v_far v_near x1 x3 x4 = some r := h
    unfold B_X6_underWay_15 at h
    refine g_iload X rfl dX6_underWay_15 17 rfl ?_
    refine g_aload_n X rfl dX6_underWay_17 18 rfl ?_
    obtain ⟨r1, hcl, h⟩ := bd1_e h
    refine g_callV1W X (met_X6_window l Z a0 a1 a2 a3 a4 a5 a6 a7 a8 a9 a10 a11 v_savedCount v_scriptLength v_code v_lineParts v_pulseMany v_left v_dropped v_merged v_drops v_contributions v_packet v_peelResult v_peelTime v_peelSum v_at v_commands v_hash v_m v_saved v_script v_lengths v_fractions v_times v_energies v_far v_near v_echoes v_draft  r1 hcl) rfl 0 gC5 rfl rfl (lw_V q1517 q1519 qs34 q74 q1520) md_X6_window ⟨(Nat.le_of_ble_eq_true rfl), (Nat.le_of_ble_eq_true rfl)⟩ rfl dX6_underWay_18 21 rfl 0 0 rfl rfl (Nat.le_of_ble_eq_true rfl) (Nat.le_of_ble_eq_true rfl) (st := [.int x4]) rfl (Nat.le_of_ble_eq_true rfl) (fun _ => rfl) (fun _ => ?_)
    refine g_icmp_gt X dX6_underWay_21 94 (by decide) 24 rfl (fun hc => ?_) (fun hc => ?_)
    · replace h := if_t hc h
      refine g_iinc X 1 rfl dX6_underWay_94 97 rfl kI_1 (Nat.le_of_ble_eq_true rfl) rfl [some (.ref a0), some (.long x1), none, some (.int (x3 + 1)), some (.int x4), none] rfl ?_
      refine g_goto X dX6_underWay_97 4 (by decide) ?_
      refine g_kill (j := 4) [some (.ref a0), some (.long x1), none, some (.int (x3 + 1)), none, none] rfl ?_
      exact hK4 v_savedCount v_scriptLength v_code v_lineParts v_pulseMany v_left v_dropped v_merged v_drops v_contributions v_packet v_peelResult v_peelTime v_peelSum v_at v_commands v_hash v_m v_saved v_script v_lengths v_fractions v_times v_energies v_far v_near v_echoes v_draft x1 (x3 + 1) h
    · replace h := if_f hc h
      refine g_iload X rfl dX6_underWay_24 26 rfl ?_
      refine g_aload_n X rfl dX6_underWay_26 27 rfl ?_
      refine g_get X gC5 0 rfl 7 (by decide) q1349 (fun _ h9 => h9) rfl dX6_underWay_27 30 rfl ?_
      refine g_iload_n X rfl dX6_underWay_30 31 rfl ?_
      obtain ⟨hi, h⟩ := gin_e h
      refine g_iald X 4 rfl hi dX6_underWay_31 32 rfl ?_
      refine g_iadd X dX6_underWay_32 33 rfl ?_
      refine g_aload_n X rfl dX6_underWay_33 34 rfl ?_
      obtain ⟨r2, hcl, h⟩ := bd1_e h
      refine g_callV1W X (met_X6_window l Z a0 a1 a2 a3 a4 a5 a6 a7 a8 a9 a10 a11 v_savedCount v_scriptLength v_code v_lineParts v_pulseMany v_left v_dropped v_merged v_drops v_contributions v_packet v_peelResult v_peelTime v_peelSum v_at v_commands v_hash v_m v_saved v_script v_lengths v_fractions v_times v_energies v_far v_near v_echoes v_draft  r2 hcl) rfl 0 gC5 rfl rfl (lw_V q1517 q1519 qs34 q74 q1520) md_X6_window ⟨(Nat.le_of_ble_eq_true rfl), (Nat.le_of_ble_eq_true rfl)⟩ rfl dX6_underWay_34 37 rfl 0 0 rfl rfl (Nat.le_of_ble_eq_true rfl) (Nat.le_of_ble_eq_true rfl) (st := [.int (x4 + (v_lengths x3.toNatClampNeg))]) rfl (Nat.le_of_ble_eq_true rfl) (fun _ => rfl) (fun _ => ?_)
      refine g_seli 45 [] (b := (x4 + (v_lengths x3.toNatClampNeg)) ≤ r2) 0 1 ?_ (fun hc K => ?_) (fun hc K => ?_)
      · refine g_istore X dX6_underWay_45 47 rfl (Nat.le_of_ble_eq_true rfl) rfl [some (.ref a0), some (.long x1), none, some (.int x3), some (.int x4), some (.int (if (x4 + (v_lengths x3.toNatClampNeg)) ≤ r2 then (0 : Int32) else 1))] rfl ?_
        refine g_lload_n X rfl dX6_underWay_47 48 rfl ?_
        refine g_iload X rfl dX6_underWay_48 50 rfl ?_
        refine g_if_eq X dX6_underWay_50 85 (by decide) 53 rfl (fun hc => ?_) (fun hc => ?_)
        · replace h := if_t hc h
          refine g_lconst X 0 dX6_underWay_85 86 rfl rfl ?_
          refine g_kill (j := 1) [some (.ref a0), none, none, some (.int x3), some (.int x4), some (.int (if (x4 + (v_lengths x3.toNatClampNeg)) ≤ r2 then (0 : Int32) else 1))] rfl ?_
          refine g_kill (j := 5) [some (.ref a0), none, none, some (.int x3), some (.int x4), none] rfl ?_
          exact w_X6_underWay_86 a0 a1 a2 a3 a4 a5 a6 a7 a8 a9 a10 a11  X  r _ _ hK4 hK15  v_savedCount v_scriptLength v_code v_lineParts v_pulseMany v_left v_dropped v_merged v_drops v_contributions v_packet v_peelResult v_peelTime v_peelSum v_at v_commands v_hash v_m v_saved v_script v_lengths v_fractions v_times v_energies v_far v_near v_echoes v_draft x3 x4 x1 0 h
        · replace h := if_f hc h
          refine g_aload_n X rfl dX6_underWay_53 54 rfl ?_
          refine g_get X gC5 0 rfl 12 (by decide) q1354 (fun _ h9 => h9) rfl dX6_underWay_54 57 rfl ?_
          refine g_sipush X 201 dX6_underWay_57 60 rfl kS_201 ?_
          refine g_iload_n X rfl dX6_underWay_60 61 rfl ?_
          refine g_imul X dX6_underWay_61 62 rfl ?_
          refine g_iload X rfl dX6_underWay_62 64 rfl ?_
          refine g_iadd X dX6_underWay_64 65 rfl ?_
          obtain ⟨hi, h⟩ := gin_e h
          refine g_lald X 8 rfl hi dX6_underWay_65 66 rfl ?_
          refine g_aload_n X rfl dX6_underWay_66 67 rfl ?_
          refine g_get X gC5 0 rfl 13 (by decide) q1355 (fun _ h9 => h9) rfl dX6_underWay_67 70 rfl ?_
          refine g_sipush X 201 dX6_underWay_70 73 rfl kS_201 ?_
          refine g_iload_n X rfl dX6_underWay_73 74 rfl ?_
          refine g_iconst X 1 dX6_underWay_74 75 rfl kI_1 ?_
          refine g_iadd X dX6_underWay_75 76 rfl ?_
          refine g_imul X dX6_underWay_76 77 rfl ?_
          refine g_iload X rfl dX6_underWay_77 79 rfl ?_
          refine g_iadd X dX6_underWay_79 80 rfl ?_
          obtain ⟨hi, h⟩ := gin_e h
          refine g_lald X 9 rfl hi dX6_underWay_80 81 rfl ?_
          refine g_ladd X dX6_underWay_81 82 rfl ?_
          refine g_goto X dX6_underWay_82 86 (by decide) ?_
          refine g_kill (j := 1) [some (.ref a0), none, none, some (.int x3), some (.int x4), some (.int (if (x4 + (v_lengths x3.toNatClampNeg)) ≤ r2 then (0 : Int32) else 1))] rfl ?_
          refine g_kill (j := 5) [some (.ref a0), none, none, some (.int x3), some (.int x4), none] rfl ?_
          exact w_X6_underWay_86 a0 a1 a2 a3 a4 a5 a6 a7 a8 a9 a10 a11  X  r _ _ hK4 hK15  v_savedCount v_scriptLength v_code v_lineParts v_pulseMany v_left v_dropped v_merged v_drops v_contributions v_packet v_peelResult v_peelTime v_peelSum v_at v_commands v_hash v_m v_saved v_script v_lengths v_fractions v_times v_energies v_far v_near v_echoes v_draft x3 x4 x1 ((v_far ((201 * x3) + x4).toNatClampNeg) + (v_near ((201 * (x3 + 1)) + x4).toNatClampNeg)) h
      · refine g_icmp_le X dX6_underWay_37 44 (by decide) 40 rfl (fun _ => ?_) (fun hn => absurd hc hn)
        refine g_iconst X 0 dX6_underWay_44 45 rfl kI_0 ?_
        exact K
      · refine g_icmp_le X dX6_underWay_37 44 (by decide) 40 rfl (fun hn => absurd hn hc) (fun _ => ?_)
        refine g_iconst X 1 dX6_underWay_40 41 rfl kI_1 ?_
        refine g_goto X dX6_underWay_41 45 (by decide) ?_
        exact K
theorem w_X6_underWay_4 {p : Program} {l : Launch} {e : Env} {s : State} {m : MethodId} {args : Array Value} {below : List Frame} {meth : Method} {c : Code} {Z : gZt} {A : Nat → Prop} (a0 : Nat) (a1 : Nat) (a2 : Nat) (a3 : Nat) (a4 : Nat) (a5 : Nat) (a6 : Nat) (a7 : Nat) (a8 : Nat) (a9 : Nat) (a10 : Nat) (a11 : Nat) (X : gX p s m args meth c Z A cX6_underWay "LineEchoesModel" 6 (some .long) []) (r : Int64)  : ∀ (n : Nat) (v_savedCount : Int32) (v_scriptLength : Int32) (v_code : Int32) (v_lineParts : Int32) (v_pulseMany : Int32) (v_left : Int64) (v_dropped : Int64) (v_merged : Int32) (v_drops : Int32) (v_contributions : Int32) (v_packet : Int64) (v_peelResult : Int32) (v_peelTime : Int32) (v_peelSum : Int32) (v_at : Int32) (v_commands : Int32) (v_hash : Int64) (v_m : Nat → Int64) (v_saved : Nat → Int64) (v_script : Nat → Int32) (v_lengths : Nat → Int32) (v_fractions : Nat → Int32) (v_times : Nat → Int32) (v_energies : Nat → Int64) (v_far : Nat → Int64) (v_near : Nat → Int64) (v_echoes : Nat → Int64) (v_draft : Nat → Int32) (x1 : Int64) (x3 : Int32), F_X6_underWay_4 n v_lineParts v_m v_lengths v_far v_near x1 x3 = some r → G p l e rm_X6_underWay s m args below meth c Z A 6 (MQ below (gPost Z A (fun _ : Unit => (some (.long r) : Option Value)) (fun _ : Unit => ([(a0, .inr (5, [.ref a1, .ref a2, .int v_savedCount, .ref a3, .int v_scriptLength, .int v_code, .int v_lineParts, .ref a4, .ref a5, .int v_pulseMany, .ref a6, .ref a7, .ref a8, .ref a9, .ref a10, .long v_left, .long v_dropped, .int v_merged, .int v_drops, .int v_contributions, .long v_packet, .int v_peelResult, .int v_peelTime, .int v_peelSum, .int v_at, .int v_commands, .ref a11, .long v_hash])), (a1, .inl (Z.2 1, 431, .inr (.inl v_m))), (a2, .inl (Z.2 1, 1293, .inr (.inl v_saved))), (a3, .inl (Z.2 0, 120, .inl v_script)), (a4, .inl (Z.2 0, 8, .inl v_lengths)), (a5, .inl (Z.2 0, 9, .inl v_fractions)), (a6, .inl (Z.2 0, 4, .inl v_times)), (a7, .inl (Z.2 1, 4, .inr (.inl v_energies))), (a8, .inl (Z.2 1, 1809, .inr (.inl v_far))), (a9, .inl (Z.2 1, 1809, .inr (.inl v_near))), (a10, .inl (Z.2 1, 201, .inr (.inl v_echoes))), (a11, .inl (Z.2 0, 120, .inl v_draft))] : va_W))) args s 0 0 A) [(a0, .inr (5, [.ref a1, .ref a2, .int v_savedCount, .ref a3, .int v_scriptLength, .int v_code, .int v_lineParts, .ref a4, .ref a5, .int v_pulseMany, .ref a6, .ref a7, .ref a8, .ref a9, .ref a10, .long v_left, .long v_dropped, .int v_merged, .int v_drops, .int v_contributions, .long v_packet, .int v_peelResult, .int v_peelTime, .int v_peelSum, .int v_at, .int v_commands, .ref a11, .long v_hash])), (a1, .inl (Z.2 1, 431, .inr (.inl v_m))), (a2, .inl (Z.2 1, 1293, .inr (.inl v_saved))), (a3, .inl (Z.2 0, 120, .inl v_script)), (a4, .inl (Z.2 0, 8, .inl v_lengths)), (a5, .inl (Z.2 0, 9, .inl v_fractions)), (a6, .inl (Z.2 0, 4, .inl v_times)), (a7, .inl (Z.2 1, 4, .inr (.inl v_energies))), (a8, .inl (Z.2 1, 1809, .inr (.inl v_far))), (a9, .inl (Z.2 1, 1809, .inr (.inl v_near))), (a10, .inl (Z.2 1, 201, .inr (.inl v_echoes))), (a11, .inl (Z.2 0, 120, .inl v_draft))] 0 0 4 [some (.ref a0), some (.long x1), none, some (.int x3), none, none] [] := by
  intro n
  induction n with
  | zero =>
    intro v_savedCount v_scriptLength v_code v_lineParts v_pulseMany v_left v_dropped v_merged v_drops v_contributions v_packet v_peelResult v_peelTime v_peelSum v_at v_commands v_hash v_m v_saved v_script v_lengths v_fractions v_times v_energies v_far v_near v_echoes v_draft x1 x3 h
    cases h
  | succ n hK4 =>
    intro v_savedCount v_scriptLength v_code v_lineParts v_pulseMany v_left v_dropped v_merged v_drops v_contributions v_packet v_peelResult v_peelTime v_peelSum v_at v_commands v_hash v_m v_saved v_script v_lengths v_fractions v_times v_energies v_far v_near v_echoes v_draft x1 x3 h
    replace h : B_X6_underWay_4 (F_X6_underWay_4 n) v_lineParts v_m v_lengths v_far v_near x1 x3 = some r := h
    unfold B_X6_underWay_4 at h
    refine g_iload_n X rfl dX6_underWay_4 5 rfl ?_
    refine g_aload_n X rfl dX6_underWay_5 6 rfl ?_
    refine g_get X gC5 0 rfl 6 (by decide) q1348 (fun _ h9 => h9) rfl dX6_underWay_6 9 rfl ?_
    refine g_icmp_ge X dX6_underWay_9 100 (by decide) 12 rfl (fun hc => ?_) (fun hc => ?_)
    · replace h := if_t hc h
      refine g_lload_n X rfl dX6_underWay_100 101 rfl ?_
      cases h
      exact g_lret X dX6_underWay_101 () rfl rfl (Nat.le_of_ble_eq_true rfl) (Nat.le_of_ble_eq_true rfl)
    · replace h := if_f hc h
      refine g_iconst X 0 dX6_underWay_12 13 rfl kI_0 ?_
      refine g_istore X dX6_underWay_13 15 rfl (Nat.le_of_ble_eq_true rfl) rfl [some (.ref a0), some (.long x1), none, some (.int x3), some (.int 0), none] rfl ?_
      exact w_X6_underWay_15 a0 a1 a2 a3 a4 a5 a6 a7 a8 a9 a10 a11  X  r _ hK4  gFU v_savedCount v_scriptLength v_code v_lineParts v_pulseMany v_left v_dropped v_merged v_drops v_contributions v_packet v_peelResult v_peelTime v_peelSum v_at v_commands v_hash v_m v_saved v_script v_lengths v_fractions v_times v_energies v_far v_near v_echoes v_draft x1 x3 0 h
theorem met_X6_underWay (l : Launch) (Z : gZt) (a0 : Nat) (a1 : Nat) (a2 : Nat) (a3 : Nat) (a4 : Nat) (a5 : Nat) (a6 : Nat) (a7 : Nat) (a8 : Nat) (a9 : Nat) (a10 : Nat) (a11 : Nat) (v_savedCount : Int32) (v_scriptLength : Int32) (v_code : Int32) (v_lineParts : Int32) (v_pulseMany : Int32) (v_left : Int64) (v_dropped : Int64) (v_merged : Int32) (v_drops : Int32) (v_contributions : Int32) (v_packet : Int64) (v_peelResult : Int32) (v_peelTime : Int32) (v_peelSum : Int32) (v_at : Int32) (v_commands : Int32) (v_hash : Int64) (v_m : Nat → Int64) (v_saved : Nat → Int64) (v_script : Nat → Int32) (v_lengths : Nat → Int32) (v_fractions : Nat → Int32) (v_times : Nat → Int32) (v_energies : Nat → Int64) (v_far : Nat → Int64) (v_near : Nat → Int64) (v_echoes : Nat → Int64) (v_draft : Nat → Int32) (r : Int64) (h : F_X6_underWay v_lineParts v_m v_lengths v_far v_near = some r) : Ct l yX6_underWay (ws_ yX6_underWay cX6_underWay 6 (some .long)) rm_X6_underWay Z [.ref a0] [(a0, .inr (5, [.ref a1, .ref a2, .int v_savedCount, .ref a3, .int v_scriptLength, .int v_code, .int v_lineParts, .ref a4, .ref a5, .int v_pulseMany, .ref a6, .ref a7, .ref a8, .ref a9, .ref a10, .long v_left, .long v_dropped, .int v_merged, .int v_drops, .int v_contributions, .long v_packet, .int v_peelResult, .int v_peelTime, .int v_peelSum, .int v_at, .int v_commands, .ref a11, .long v_hash])), (a1, .inl (Z.2 1, 431, .inr (.inl v_m))), (a2, .inl (Z.2 1, 1293, .inr (.inl v_saved))), (a3, .inl (Z.2 0, 120, .inl v_script)), (a4, .inl (Z.2 0, 8, .inl v_lengths)), (a5, .inl (Z.2 0, 9, .inl v_fractions)), (a6, .inl (Z.2 0, 4, .inl v_times)), (a7, .inl (Z.2 1, 4, .inr (.inl v_energies))), (a8, .inl (Z.2 1, 1809, .inr (.inl v_far))), (a9, .inl (Z.2 1, 1809, .inr (.inl v_near))), (a10, .inl (Z.2 1, 201, .inr (.inl v_echoes))), (a11, .inl (Z.2 0, 120, .inl v_draft))] [] (fun _ : Unit => (some (.long r) : Option Value)) (fun _ : Unit => ([(a0, .inr (5, [.ref a1, .ref a2, .int v_savedCount, .ref a3, .int v_scriptLength, .int v_code, .int v_lineParts, .ref a4, .ref a5, .int v_pulseMany, .ref a6, .ref a7, .ref a8, .ref a9, .ref a10, .long v_left, .long v_dropped, .int v_merged, .int v_drops, .int v_contributions, .long v_packet, .int v_peelResult, .int v_peelTime, .int v_peelSum, .int v_at, .int v_commands, .ref a11, .long v_hash])), (a1, .inl (Z.2 1, 431, .inr (.inl v_m))), (a2, .inl (Z.2 1, 1293, .inr (.inl v_saved))), (a3, .inl (Z.2 0, 120, .inl v_script)), (a4, .inl (Z.2 0, 8, .inl v_lengths)), (a5, .inl (Z.2 0, 9, .inl v_fractions)), (a6, .inl (Z.2 0, 4, .inl v_times)), (a7, .inl (Z.2 1, 4, .inr (.inl v_energies))), (a8, .inl (Z.2 1, 1809, .inr (.inl v_far))), (a9, .inl (Z.2 1, 1809, .inr (.inl v_near))), (a10, .inl (Z.2 1, 201, .inr (.inl v_echoes))), (a11, .inl (Z.2 0, 120, .inl v_draft))] : va_W)) := by
  refine Ct.of cX6_underWay 6 (some .long) "LineEchoesModel" [some (.ref a0), none, none, none, none, none] 5 (by decide) rfl (Nat.le_of_ble_eq_true rfl) rfl (fun p e s m args below meth c A X hin => ?_)
  unfold F_X6_underWay at h
  refine g_lconst X 0 dX6_underWay_0 1 rfl rfl ?_
  refine g_lstore_n X dX6_underWay_1 2 rfl (Nat.le_of_ble_eq_true rfl) rfl [some (.ref a0), some (.long 0), none, none, none, none] rfl ?_
  refine g_iconst X 0 dX6_underWay_2 3 rfl kI_0 ?_
  refine g_istore_n X dX6_underWay_3 4 rfl (Nat.le_of_ble_eq_true rfl) rfl [some (.ref a0), some (.long 0), none, some (.int 0), none, none] rfl ?_
  exact w_X6_underWay_4 a0 a1 a2 a3 a4 a5 a6 a7 a8 a9 a10 a11  X  r    gFU v_savedCount v_scriptLength v_code v_lineParts v_pulseMany v_left v_dropped v_merged v_drops v_contributions v_packet v_peelResult v_peelTime v_peelSum v_at v_commands v_hash v_m v_saved v_script v_lengths v_fractions v_times v_energies v_far v_near v_echoes v_draft 0 0 h
/-! LineEchoesModel.totalOf(I)J -/
abbrev rm_X6_totalOf : Room := { frames := 2, cells := 0, slots := 0, locals := 45 }
def F_X6_totalOf_126 (K90 : (Int32) → (Int32) → (Int64) → (Int64) → (Int32) → (Int32) → (Nat → Int64) → (Nat → Int32) → (Nat → Int32) → (Nat → Int64) → (Nat → Int64) → (Nat → Int64) → (Int32) → (Int64) → (Int64) → (Int32) → (Int64) → (Int32) → Option (Int64)) (v_lineParts : Int32) (v_pulseMany : Int32) (v_left : Int64) (v_dropped : Int64) (v_merged : Int32) (v_drops : Int32) (v_m : Nat → Int64) (v_lengths : Nat → Int32) (v_times : Nat → Int32) (v_energies : Nat → Int64) (v_far : Nat → Int64) (v_near : Nat → Int64) (x1 : Int32) (x2 : Int64) (x4 : Int64) (x6 : Int32) (x9 : Int32) (s0 : Int64) (s1 : Int64) : Option (Int64) :=
  K90 v_lineParts v_pulseMany v_left v_dropped v_merged v_drops v_m v_lengths v_times v_energies v_far v_near x1 x2 x4 x6 (s0 + s1) (x9 + 1)
def B_X6_totalOf_90 (K90 : (Int32) → (Int32) → (Int64) → (Int64) → (Int32) → (Int32) → (Nat → Int64) → (Nat → Int32) → (Nat → Int32) → (Nat → Int64) → (Nat → Int64) → (Nat → Int64) → (Int32) → (Int64) → (Int64) → (Int32) → (Int64) → (Int32) → Option (Int64)) (v_lineParts : Int32) (v_pulseMany : Int32) (v_left : Int64) (v_dropped : Int64) (v_merged : Int32) (v_drops : Int32) (v_m : Nat → Int64) (v_lengths : Nat → Int32) (v_times : Nat → Int32) (v_energies : Nat → Int64) (v_far : Nat → Int64) (v_near : Nat → Int64) (x1 : Int32) (x2 : Int64) (x4 : Int64) (x6 : Int32) (x7 : Int64) (x9 : Int32) : Option (Int64) :=
  if v_pulseMany ≤ x9 then
    (if x1 = 0 then
      (some x7)
    else
      (if x1 = 1 then
        (some x2)
      else
        (if x1 = 2 then
          (some v_left)
        else
          (if x1 = 3 then
            (some v_dropped)
          else
            (if x1 = 4 then
              (bd1 (F_X6_underWay v_lineParts v_m v_lengths v_far v_near) fun r1 =>
              some r1)
            else
              (if x1 = 5 then
                (some v_merged.toInt64)
              else
                (if x1 = 6 then
                  (some v_drops.toInt64)
                else
                  (if x1 = 7 then
                    (some x6.toInt64)
                  else
                    (some x4)))))))))
  else
    (gin x9 4 <|
    bd1 (F_X6_window v_m) fun r2 =>
    if r2 < (v_times x9.toNatClampNeg) then
      (F_X6_totalOf_126 K90 v_lineParts v_pulseMany v_left v_dropped v_merged v_drops v_m v_lengths v_times v_energies v_far v_near x1 x2 x4 x6 x9 x7 0)
    else
      (gin x9 4 <|
      F_X6_totalOf_126 K90 v_lineParts v_pulseMany v_left v_dropped v_merged v_drops v_m v_lengths v_times v_energies v_far v_near x1 x2 x4 x6 x9 x7 (v_energies x9.toNatClampNeg)))
def F_X6_totalOf_90 : Nat → (Int32) → (Int32) → (Int64) → (Int64) → (Int32) → (Int32) → (Nat → Int64) → (Nat → Int32) → (Nat → Int32) → (Nat → Int64) → (Nat → Int64) → (Nat → Int64) → (Int32) → (Int64) → (Int64) → (Int32) → (Int64) → (Int32) → Option (Int64)
  | 0 => fun _ _ _ _ _ _ _ _ _ _ _ _ _ _ _ _ _ _ => none
  | n + 1 => B_X6_totalOf_90 (F_X6_totalOf_90 n)
def F_X6_totalOf_54 (K11 : (Int32) → (Int32) → (Int64) → (Int64) → (Int32) → (Int32) → (Nat → Int64) → (Nat → Int32) → (Nat → Int32) → (Nat → Int64) → (Nat → Int64) → (Nat → Int64) → (Nat → Int64) → (Int32) → (Int64) → (Int64) → (Int32) → (Int32) → Option (Int64)) (v_lineParts : Int32) (v_pulseMany : Int32) (v_left : Int64) (v_dropped : Int64) (v_merged : Int32) (v_drops : Int32) (v_m : Nat → Int64) (v_lengths : Nat → Int32) (v_times : Nat → Int32) (v_energies : Nat → Int64) (v_far : Nat → Int64) (v_near : Nat → Int64) (v_echoes : Nat → Int64) (x1 : Int32) (x2 : Int64) (x6 : Int32) (x7 : Int32) (s0 : Int64) : Option (Int64) :=
  gin x7 201 <|
  nm (x6 + (if (v_echoes x7.toNatClampNeg) ≤ 0 then (0 : Int32) else 1)) fun t1 =>
  K11 v_lineParts v_pulseMany v_left v_dropped v_merged v_drops v_m v_lengths v_times v_energies v_far v_near v_echoes x1 x2 s0 t1 (x7 + 1)
def B_X6_totalOf_11 (K11 : (Int32) → (Int32) → (Int64) → (Int64) → (Int32) → (Int32) → (Nat → Int64) → (Nat → Int32) → (Nat → Int32) → (Nat → Int64) → (Nat → Int64) → (Nat → Int64) → (Nat → Int64) → (Int32) → (Int64) → (Int64) → (Int32) → (Int32) → Option (Int64)) (v_lineParts : Int32) (v_pulseMany : Int32) (v_left : Int64) (v_dropped : Int64) (v_merged : Int32) (v_drops : Int32) (v_m : Nat → Int64) (v_lengths : Nat → Int32) (v_times : Nat → Int32) (v_energies : Nat → Int64) (v_far : Nat → Int64) (v_near : Nat → Int64) (v_echoes : Nat → Int64) (x1 : Int32) (x2 : Int64) (x4 : Int64) (x6 : Int32) (x7 : Int32) : Option (Int64) :=
  if 201 ≤ x7 then
    (F_X6_totalOf_90 gFU v_lineParts v_pulseMany v_left v_dropped v_merged v_drops v_m v_lengths v_times v_energies v_far v_near x1 x2 x4 x6 0 0)
  else
    (gin x7 201 <|
    nm (x2 + (v_echoes x7.toNatClampNeg)) fun t1 =>
    gin x7 201 <|
    if (v_echoes x7.toNatClampNeg) ≤ x4 then
      (F_X6_totalOf_54 K11 v_lineParts v_pulseMany v_left v_dropped v_merged v_drops v_m v_lengths v_times v_energies v_far v_near v_echoes x1 t1 x6 x7 x4)
    else
      (gin x7 201 <|
      F_X6_totalOf_54 K11 v_lineParts v_pulseMany v_left v_dropped v_merged v_drops v_m v_lengths v_times v_energies v_far v_near v_echoes x1 t1 x6 x7 (v_echoes x7.toNatClampNeg)))
def F_X6_totalOf_11 : Nat → (Int32) → (Int32) → (Int64) → (Int64) → (Int32) → (Int32) → (Nat → Int64) → (Nat → Int32) → (Nat → Int32) → (Nat → Int64) → (Nat → Int64) → (Nat → Int64) → (Nat → Int64) → (Int32) → (Int64) → (Int64) → (Int32) → (Int32) → Option (Int64)
  | 0 => fun _ _ _ _ _ _ _ _ _ _ _ _ _ _ _ _ _ _ => none
  | n + 1 => B_X6_totalOf_11 (F_X6_totalOf_11 n)
def F_X6_totalOf (v_lineParts : Int32) (v_pulseMany : Int32) (v_left : Int64) (v_dropped : Int64) (v_merged : Int32) (v_drops : Int32) (v_m : Nat → Int64) (v_lengths : Nat → Int32) (v_times : Nat → Int32) (v_energies : Nat → Int64) (v_far : Nat → Int64) (v_near : Nat → Int64) (v_echoes : Nat → Int64) (x1 : Int32) : Option (Int64) :=
  F_X6_totalOf_11 gFU v_lineParts v_pulseMany v_left v_dropped v_merged v_drops v_m v_lengths v_times v_energies v_far v_near v_echoes x1 0 0 0 0
theorem w_X6_totalOf_126 {p : Program} {l : Launch} {e : Env} {s : State} {m : MethodId} {args : Array Value} {below : List Frame} {meth : Method} {c : Code} {Z : gZt} {A : Nat → Prop} (a0 : Nat) (a1 : Nat) (a2 : Nat) (a3 : Nat) (a4 : Nat) (a5 : Nat) (a6 : Nat) (a7 : Nat) (a8 : Nat) (a9 : Nat) (a10 : Nat) (a11 : Nat) (X : gX p s m args meth c Z A cX6_totalOf "LineEchoesModel" 10 (some .long) []) (r : Int64) (K90 : (Int32) → (Int32) → (Int64) → (Int64) → (Int32) → (Int32) → (Nat → Int64) → (Nat → Int32) → (Nat → Int32) → (Nat → Int64) → (Nat → Int64) → (Nat → Int64) → (Int32) → (Int64) → (Int64) → (Int32) → (Int64) → (Int32) → Option (Int64)) (hK90 : ∀ (v_savedCount : Int32) (v_scriptLength : Int32) (v_code : Int32) (v_lineParts : Int32) (v_pulseMany : Int32) (v_left : Int64) (v_dropped : Int64) (v_merged : Int32) (v_drops : Int32) (v_contributions : Int32) (v_packet : Int64) (v_peelResult : Int32) (v_peelTime : Int32) (v_peelSum : Int32) (v_at : Int32) (v_commands : Int32) (v_hash : Int64) (v_m : Nat → Int64) (v_saved : Nat → Int64) (v_script : Nat → Int32) (v_lengths : Nat → Int32) (v_fractions : Nat → Int32) (v_times : Nat → Int32) (v_energies : Nat → Int64) (v_far : Nat → Int64) (v_near : Nat → Int64) (v_echoes : Nat → Int64) (v_draft : Nat → Int32) (x1 : Int32) (x2 : Int64) (x4 : Int64) (x6 : Int32) (x7 : Int64) (x9 : Int32), K90 v_lineParts v_pulseMany v_left v_dropped v_merged v_drops v_m v_lengths v_times v_energies v_far v_near x1 x2 x4 x6 x7 x9 = some r → G p l e rm_X6_totalOf s m args below meth c Z A 10 (MQ below (gPost Z A (fun _ : Unit => (some (.long r) : Option Value)) (fun _ : Unit => ([(a0, .inr (5, [.ref a1, .ref a2, .int v_savedCount, .ref a3, .int v_scriptLength, .int v_code, .int v_lineParts, .ref a4, .ref a5, .int v_pulseMany, .ref a6, .ref a7, .ref a8, .ref a9, .ref a10, .long v_left, .long v_dropped, .int v_merged, .int v_drops, .int v_contributions, .long v_packet, .int v_peelResult, .int v_peelTime, .int v_peelSum, .int v_at, .int v_commands, .ref a11, .long v_hash])), (a1, .inl (Z.2 1, 431, .inr (.inl v_m))), (a2, .inl (Z.2 1, 1293, .inr (.inl v_saved))), (a3, .inl (Z.2 0, 120, .inl v_script)), (a4, .inl (Z.2 0, 8, .inl v_lengths)), (a5, .inl (Z.2 0, 9, .inl v_fractions)), (a6, .inl (Z.2 0, 4, .inl v_times)), (a7, .inl (Z.2 1, 4, .inr (.inl v_energies))), (a8, .inl (Z.2 1, 1809, .inr (.inl v_far))), (a9, .inl (Z.2 1, 1809, .inr (.inl v_near))), (a10, .inl (Z.2 1, 201, .inr (.inl v_echoes))), (a11, .inl (Z.2 0, 120, .inl v_draft))] : va_W))) args s 0 0 A) [(a0, .inr (5, [.ref a1, .ref a2, .int v_savedCount, .ref a3, .int v_scriptLength, .int v_code, .int v_lineParts, .ref a4, .ref a5, .int v_pulseMany, .ref a6, .ref a7, .ref a8, .ref a9, .ref a10, .long v_left, .long v_dropped, .int v_merged, .int v_drops, .int v_contributions, .long v_packet, .int v_peelResult, .int v_peelTime, .int v_peelSum, .int v_at, .int v_commands, .ref a11, .long v_hash])), (a1, .inl (Z.2 1, 431, .inr (.inl v_m))), (a2, .inl (Z.2 1, 1293, .inr (.inl v_saved))), (a3, .inl (Z.2 0, 120, .inl v_script)), (a4, .inl (Z.2 0, 8, .inl v_lengths)), (a5, .inl (Z.2 0, 9, .inl v_fractions)), (a6, .inl (Z.2 0, 4, .inl v_times)), (a7, .inl (Z.2 1, 4, .inr (.inl v_energies))), (a8, .inl (Z.2 1, 1809, .inr (.inl v_far))), (a9, .inl (Z.2 1, 1809, .inr (.inl v_near))), (a10, .inl (Z.2 1, 201, .inr (.inl v_echoes))), (a11, .inl (Z.2 0, 120, .inl v_draft))] 0 0 90 [some (.ref a0), some (.int x1), some (.long x2), none, some (.long x4), none, some (.int x6), some (.long x7), none, some (.int x9)] []) (v_savedCount : Int32) (v_scriptLength : Int32) (v_code : Int32) (v_lineParts : Int32) (v_pulseMany : Int32) (v_left : Int64) (v_dropped : Int64) (v_merged : Int32) (v_drops : Int32) (v_contributions : Int32) (v_packet : Int64) (v_peelResult : Int32) (v_peelTime : Int32) (v_peelSum : Int32) (v_at : Int32) (v_commands : Int32) (v_hash : Int64) (v_m : Nat → Int64) (v_saved : Nat → Int64) (v_script : Nat → Int32) (v_lengths : Nat → Int32) (v_fractions : Nat → Int32) (v_times : Nat → Int32) (v_energies : Nat → Int64) (v_far : Nat → Int64) (v_near : Nat → Int64) (v_echoes : Nat → Int64) (v_draft : Nat → Int32) (x1 : Int32) (x2 : Int64) (x4 : Int64) (x6 : Int32) (x9 : Int32) (s0 : Int64) (s1 : Int64) (h : F_X6_totalOf_126 K90 v_lineParts v_pulseMany v_left v_dropped v_merged v_drops v_m v_lengths v_times v_energies v_far v_near x1 x2 x4 x6 x9 s0 s1 = some r) : G p l e rm_X6_totalOf s m args below meth c Z A 10 (MQ below (gPost Z A (fun _ : Unit => (some (.long r) : Option Value)) (fun _ : Unit => ([(a0, .inr (5, [.ref a1, .ref a2, .int v_savedCount, .ref a3, .int v_scriptLength, .int v_code, .int v_lineParts, .ref a4, .ref a5, .int v_pulseMany, .ref a6, .ref a7, .ref a8, .ref a9, .ref a10, .long v_left, .long v_dropped, .int v_merged, .int v_drops, .int v_contributions, .long v_packet, .int v_peelResult, .int v_peelTime, .int v_peelSum, .int v_at, .int v_commands, .ref a11, .long v_hash])), (a1, .inl (Z.2 1, 431, .inr (.inl v_m))), (a2, .inl (Z.2 1, 1293, .inr (.inl v_saved))), (a3, .inl (Z.2 0, 120, .inl v_script)), (a4, .inl (Z.2 0, 8, .inl v_lengths)), (a5, .inl (Z.2 0, 9, .inl v_fractions)), (a6, .inl (Z.2 0, 4, .inl v_times)), (a7, .inl (Z.2 1, 4, .inr (.inl v_energies))), (a8, .inl (Z.2 1, 1809, .inr (.inl v_far))), (a9, .inl (Z.2 1, 1809, .inr (.inl v_near))), (a10, .inl (Z.2 1, 201, .inr (.inl v_echoes))), (a11, .inl (Z.2 0, 120, .inl v_draft))] : va_W))) args s 0 0 A) [(a0, .inr (5, [.ref a1, .ref a2, .int v_savedCount, .ref a3, .int v_scriptLength, .int v_code, .int v_lineParts, .ref a4, .ref a5, .int v_pulseMany, .ref a6, .ref a7, .ref a8, .ref a9, .ref a10, .long v_left, .long v_dropped, .int v_merged, .int v_drops, .int v_contributions, .long v_packet, .int v_peelResult, .int v_peelTime, .int v_peelSum, .int v_at, .int v_commands, .ref a11, .long v_hash])), (a1, .inl (Z.2 1, 431, .inr (.inl v_m))), (a2, .inl (Z.2 1, 1293, .inr (.inl v_saved))), (a3, .inl (Z.2 0, 120, .inl v_script)), (a4, .inl (Z.2 0, 8, .inl v_lengths)), (a5, .inl (Z.2 0, 9, .inl v_fractions)), (a6, .inl (Z.2 0, 4, .inl v_times)), (a7, .inl (Z.2 1, 4, .inr (.inl v_energies))), (a8, .inl (Z.2 1, 1809, .inr (.inl v_far))), (a9, .inl (Z.2 1, 1809, .inr (.inl v_near))), (a10, .inl (Z.2 1, 201, .inr (.inl v_echoes))), (a11, .inl (Z.2 0, 120, .inl v_draft))] 0 0 126 [some (.ref a0), some (.int x1), some (.long x2), none, some (.long x4), none, some (.int x6), none, none, some (.int x9)] [.long s1, .long s0] := by
  unfold F_X6_totalOf_126 at h
  refine g_ladd X dX6_totalOf_126 127 rfl ?_
  refine g_lstore X dX6_totalOf_127 129 rfl (Nat.le_of_ble_eq_true rfl) rfl [some (.ref a0), some (.int x1), some (.long x2), none, some (.long x4), none, some (.int x6), some (.long (s0 + s1)), none, some (.int x9)] rfl ?_
  refine g_iinc X 1 rfl dX6_totalOf_129 132 rfl kI_1 (Nat.le_of_ble_eq_true rfl) rfl [some (.ref a0), some (.int x1), some (.long x2), none, some (.long x4), none, some (.int x6), some (.long (s0 + s1)), none, some (.int (x9 + 1))] rfl ?_
  refine g_goto X dX6_totalOf_132 90 (by decide) ?_
  exact hK90 v_savedCount v_scriptLength v_code v_lineParts v_pulseMany v_left v_dropped v_merged v_drops v_contributions v_packet v_peelResult v_peelTime v_peelSum v_at v_commands v_hash v_m v_saved v_script v_lengths v_fractions v_times v_energies v_far v_near v_echoes v_draft x1 x2 x4 x6 (s0 + s1) (x9 + 1) h
theorem w_X6_totalOf_90 {p : Program} {l : Launch} {e : Env} {s : State} {m : MethodId} {args : Array Value} {below : List Frame} {meth : Method} {c : Code} {Z : gZt} {A : Nat → Prop} (a0 : Nat) (a1 : Nat) (a2 : Nat) (a3 : Nat) (a4 : Nat) (a5 : Nat) (a6 : Nat) (a7 : Nat) (a8 : Nat) (a9 : Nat) (a10 : Nat) (a11 : Nat) (X : gX p s m args meth c Z A cX6_totalOf "LineEchoesModel" 10 (some .long) []) (r : Int64)  : ∀ (n : Nat) (v_savedCount : Int32) (v_scriptLength : Int32) (v_code : Int32) (v_lineParts : Int32) (v_pulseMany : Int32) (v_left : Int64) (v_dropped : Int64) (v_merged : Int32) (v_drops : Int32) (v_contributions : Int32) (v_packet : Int64) (v_peelResult : Int32) (v_peelTime : Int32) (v_peelSum : Int32) (v_at : Int32) (v_commands : Int32) (v_hash : Int64) (v_m : Nat → Int64) (v_saved : Nat → Int64) (v_script : Nat → Int32) (v_lengths : Nat → Int32) (v_fractions : Nat → Int32) (v_times : Nat → Int32) (v_energies : Nat → Int64) (v_far : Nat → Int64) (v_near : Nat → Int64) (v_echoes : Nat → Int64) (v_draft : Nat → Int32) (x1 : Int32) (x2 : Int64) (x4 : Int64) (x6 : Int32) (x7 : Int64) (x9 : Int32), F_X6_totalOf_90 n v_lineParts v_pulseMany v_left v_dropped v_merged v_drops v_m v_lengths v_times v_energies v_far v_near x1 x2 x4 x6 x7 x9 = some r → G p l e rm_X6_totalOf s m args below meth c Z A 10 (MQ below (gPost Z A (fun _ : Unit => (some (.long r) : Option Value)) (fun _ : Unit => ([(a0, .inr (5, [.ref a1, .ref a2, .int v_savedCount, .ref a3, .int v_scriptLength, .int v_code, .int v_lineParts, .ref a4, .ref a5, .int v_pulseMany, .ref a6, .ref a7, .ref a8, .ref a9, .ref a10, .long v_left, .long v_dropped, .int v_merged, .int v_drops, .int v_contributions, .long v_packet, .int v_peelResult, .int v_peelTime, .int v_peelSum, .int v_at, .int v_commands, .ref a11, .long v_hash])), (a1, .inl (Z.2 1, 431, .inr (.inl v_m))), (a2, .inl (Z.2 1, 1293, .inr (.inl v_saved))), (a3, .inl (Z.2 0, 120, .inl v_script)), (a4, .inl (Z.2 0, 8, .inl v_lengths)), (a5, .inl (Z.2 0, 9, .inl v_fractions)), (a6, .inl (Z.2 0, 4, .inl v_times)), (a7, .inl (Z.2 1, 4, .inr (.inl v_energies))), (a8, .inl (Z.2 1, 1809, .inr (.inl v_far))), (a9, .inl (Z.2 1, 1809, .inr (.inl v_near))), (a10, .inl (Z.2 1, 201, .inr (.inl v_echoes))), (a11, .inl (Z.2 0, 120, .inl v_draft))] : va_W))) args s 0 0 A) [(a0, .inr (5, [.ref a1, .ref a2, .int v_savedCount, .ref a3, .int v_scriptLength, .int v_code, .int v_lineParts, .ref a4, .ref a5, .int v_pulseMany, .ref a6, .ref a7, .ref a8, .ref a9, .ref a10, .long v_left, .long v_dropped, .int v_merged, .int v_drops, .int v_contributions, .long v_packet, .int v_peelResult, .int v_peelTime, .int v_peelSum, .int v_at, .int v_commands, .ref a11, .long v_hash])), (a1, .inl (Z.2 1, 431, .inr (.inl v_m))), (a2, .inl (Z.2 1, 1293, .inr (.inl v_saved))), (a3, .inl (Z.2 0, 120, .inl v_script)), (a4, .inl (Z.2 0, 8, .inl v_lengths)), (a5, .inl (Z.2 0, 9, .inl v_fractions)), (a6, .inl (Z.2 0, 4, .inl v_times)), (a7, .inl (Z.2 1, 4, .inr (.inl v_energies))), (a8, .inl (Z.2 1, 1809, .inr (.inl v_far))), (a9, .inl (Z.2 1, 1809, .inr (.inl v_near))), (a10, .inl (Z.2 1, 201, .inr (.inl v_echoes))), (a11, .inl (Z.2 0, 120, .inl v_draft))] 0 0 90 [some (.ref a0), some (.int x1), some (.long x2), none, some (.long x4), none, some (.int x6), some (.long x7), none, some (.int x9)] [] := by
  intro n
  induction n with
  | zero =>
    intro v_savedCount v_scriptLength v_code v_lineParts v_pulseMany v_left v_dropped v_merged v_drops v_contributions v_packet v_peelResult v_peelTime v_peelSum v_at v_commands v_hash v_m v_saved v_script v_lengths v_fractions v_times v_energies v_far v_near v_echoes v_draft x1 x2 x4 x6 x7 x9 h
    cases h
  | succ n hK90 =>
    intro v_savedCount v_scriptLength v_code v_lineParts v_pulseMany v_left v_dropped v_merged v_drops v_contributions v_packet v_peelResult v_peelTime v_peelSum v_at v_commands v_hash v_m v_saved v_script v_lengths v_fractions v_times v_energies v_far v_near v_echoes v_draft x1 x2 x4 x6 x7 x9 h
    replace h : B_X6_totalOf_90 (F_X6_totalOf_90 n) v_lineParts v_pulseMany v_left v_dropped v_merged v_drops v_m v_lengths v_times v_energies v_far v_near x1 x2 x4 x6 x7 x9 = some r := h
    unfold B_X6_totalOf_90 at h
    refine g_iload X rfl dX6_totalOf_90 92 rfl ?_
    refine g_aload_n X rfl dX6_totalOf_92 93 rfl ?_
    refine g_get X gC5 0 rfl 9 (by decide) q1351 (fun _ h9 => h9) rfl dX6_totalOf_93 96 rfl ?_
    refine g_icmp_ge X dX6_totalOf_96 135 (by decide) 99 rfl (fun hc => ?_) (fun hc => ?_)
    · replace h := if_t hc h
      refine g_iload_n X rfl dX6_totalOf_135 136 rfl ?_
      by_cases hc0 : x1 = 0
      · replace h := if_t hc0 h
        refine g_tabIn X dX6_totalOf_136 184 0 hc0 (by decide) (by decide) rfl (by decide) ?_
        refine g_lload X rfl dX6_totalOf_184 186 rfl ?_
        cases h
        exact g_lret X dX6_totalOf_186 () rfl rfl (Nat.le_of_ble_eq_true rfl) (Nat.le_of_ble_eq_true rfl)
      replace h := if_f hc0 h
      by_cases hc1 : x1 = 1
      · replace h := if_t hc1 h
        refine g_tabIn X dX6_totalOf_136 187 1 hc1 (by decide) (by decide) rfl (by decide) ?_
        refine g_lload_n X rfl dX6_totalOf_187 188 rfl ?_
        cases h
        exact g_lret X dX6_totalOf_188 () rfl rfl (Nat.le_of_ble_eq_true rfl) (Nat.le_of_ble_eq_true rfl)
      replace h := if_f hc1 h
      by_cases hc2 : x1 = 2
      · replace h := if_t hc2 h
        refine g_tabIn X dX6_totalOf_136 189 2 hc2 (by decide) (by decide) rfl (by decide) ?_
        refine g_aload_n X rfl dX6_totalOf_189 190 rfl ?_
        refine g_get X gC5 0 rfl 15 (by decide) q1357 (fun _ h9 => h9) rfl dX6_totalOf_190 193 rfl ?_
        cases h
        exact g_lret X dX6_totalOf_193 () rfl rfl (Nat.le_of_ble_eq_true rfl) (Nat.le_of_ble_eq_true rfl)
      replace h := if_f hc2 h
      by_cases hc3 : x1 = 3
      · replace h := if_t hc3 h
        refine g_tabIn X dX6_totalOf_136 194 3 hc3 (by decide) (by decide) rfl (by decide) ?_
        refine g_aload_n X rfl dX6_totalOf_194 195 rfl ?_
        refine g_get X gC5 0 rfl 16 (by decide) q1358 (fun _ h9 => h9) rfl dX6_totalOf_195 198 rfl ?_
        cases h
        exact g_lret X dX6_totalOf_198 () rfl rfl (Nat.le_of_ble_eq_true rfl) (Nat.le_of_ble_eq_true rfl)
      replace h := if_f hc3 h
      by_cases hc4 : x1 = 4
      · replace h := if_t hc4 h
        refine g_tabIn X dX6_totalOf_136 199 4 hc4 (by decide) (by decide) rfl (by decide) ?_
        refine g_aload_n X rfl dX6_totalOf_199 200 rfl ?_
        obtain ⟨r1, hcl, h⟩ := bd1_e h
        refine g_callV1W X (met_X6_underWay l Z a0 a1 a2 a3 a4 a5 a6 a7 a8 a9 a10 a11 v_savedCount v_scriptLength v_code v_lineParts v_pulseMany v_left v_dropped v_merged v_drops v_contributions v_packet v_peelResult v_peelTime v_peelSum v_at v_commands v_hash v_m v_saved v_script v_lengths v_fractions v_times v_energies v_far v_near v_echoes v_draft  r1 hcl) rfl 0 gC5 rfl rfl (lw_V q1607 q1609 qs48 q74 q1610) md_X6_underWay ⟨(Nat.le_of_ble_eq_true rfl), (Nat.le_of_ble_eq_true rfl)⟩ rfl dX6_totalOf_200 203 rfl 0 0 rfl rfl (Nat.le_of_ble_eq_true rfl) (Nat.le_of_ble_eq_true rfl) (st := []) rfl (Nat.le_of_ble_eq_true rfl) (fun _ => rfl) (fun _ => ?_)
        cases h
        exact g_lret X dX6_totalOf_203 () rfl rfl (Nat.le_of_ble_eq_true rfl) (Nat.le_of_ble_eq_true rfl)
      replace h := if_f hc4 h
      by_cases hc5 : x1 = 5
      · replace h := if_t hc5 h
        refine g_tabIn X dX6_totalOf_136 204 5 hc5 (by decide) (by decide) rfl (by decide) ?_
        refine g_aload_n X rfl dX6_totalOf_204 205 rfl ?_
        refine g_get X gC5 0 rfl 17 (by decide) q1359 (fun _ h9 => h9) rfl dX6_totalOf_205 208 rfl ?_
        refine g_i2l X dX6_totalOf_208 209 rfl ?_
        cases h
        exact g_lret X dX6_totalOf_209 () rfl rfl (Nat.le_of_ble_eq_true rfl) (Nat.le_of_ble_eq_true rfl)
      replace h := if_f hc5 h
      by_cases hc6 : x1 = 6
      · replace h := if_t hc6 h
        refine g_tabIn X dX6_totalOf_136 210 6 hc6 (by decide) (by decide) rfl (by decide) ?_
        refine g_aload_n X rfl dX6_totalOf_210 211 rfl ?_
        refine g_get X gC5 0 rfl 18 (by decide) q1360 (fun _ h9 => h9) rfl dX6_totalOf_211 214 rfl ?_
        refine g_i2l X dX6_totalOf_214 215 rfl ?_
        cases h
        exact g_lret X dX6_totalOf_215 () rfl rfl (Nat.le_of_ble_eq_true rfl) (Nat.le_of_ble_eq_true rfl)
      replace h := if_f hc6 h
      by_cases hc7 : x1 = 7
      · replace h := if_t hc7 h
        refine g_tabIn X dX6_totalOf_136 216 7 hc7 (by decide) (by decide) rfl (by decide) ?_
        refine g_iload X rfl dX6_totalOf_216 218 rfl ?_
        refine g_i2l X dX6_totalOf_218 219 rfl ?_
        cases h
        exact g_lret X dX6_totalOf_219 () rfl rfl (Nat.le_of_ble_eq_true rfl) (Nat.le_of_ble_eq_true rfl)
      replace h := if_f hc7 h
      refine g_tabOut X dX6_totalOf_136 220 (g_rng (lo := 0) (n := 8) (fun i hi => match i, hi with | 0, _ => lv_neT hc0 (by decide) | 1, _ => lv_neT hc1 (by decide) | 2, _ => lv_neT hc2 (by decide) | 3, _ => lv_neT hc3 (by decide) | 4, _ => lv_neT hc4 (by decide) | 5, _ => lv_neT hc5 (by decide) | 6, _ => lv_neT hc6 (by decide) | 7, _ => lv_neT hc7 (by decide) | n + 8, hi => absurd hi (by omega)) (by decide)) (by decide) ?_
      refine g_lload X rfl dX6_totalOf_220 222 rfl ?_
      cases h
      exact g_lret X dX6_totalOf_222 () rfl rfl (Nat.le_of_ble_eq_true rfl) (Nat.le_of_ble_eq_true rfl)
    · replace h := if_f hc h
      refine g_lload X rfl dX6_totalOf_99 101 rfl ?_
      refine g_aload_n X rfl dX6_totalOf_101 102 rfl ?_
      refine g_get X gC5 0 rfl 10 (by decide) q1352 (fun _ h9 => h9) rfl dX6_totalOf_102 105 rfl ?_
      refine g_iload X rfl dX6_totalOf_105 107 rfl ?_
      obtain ⟨hi, h⟩ := gin_e h
      refine g_iald X 6 rfl hi dX6_totalOf_107 108 rfl ?_
      refine g_aload_n X rfl dX6_totalOf_108 109 rfl ?_
      obtain ⟨r2, hcl, h⟩ := bd1_e h
      refine g_callV1W X (met_X6_window l Z a0 a1 a2 a3 a4 a5 a6 a7 a8 a9 a10 a11 v_savedCount v_scriptLength v_code v_lineParts v_pulseMany v_left v_dropped v_merged v_drops v_contributions v_packet v_peelResult v_peelTime v_peelSum v_at v_commands v_hash v_m v_saved v_script v_lengths v_fractions v_times v_energies v_far v_near v_echoes v_draft  r2 hcl) rfl 0 gC5 rfl rfl (lw_V q1517 q1519 qs34 q74 q1520) md_X6_window ⟨(Nat.le_of_ble_eq_true rfl), (Nat.le_of_ble_eq_true rfl)⟩ rfl dX6_totalOf_109 112 rfl 0 0 rfl rfl (Nat.le_of_ble_eq_true rfl) (Nat.le_of_ble_eq_true rfl) (st := [.int (v_times x9.toNatClampNeg), .long x7]) rfl (Nat.le_of_ble_eq_true rfl) (fun _ => rfl) (fun _ => ?_)
      refine g_icmp_gt X dX6_totalOf_112 125 (by decide) 115 rfl (fun hc => ?_) (fun hc => ?_)
      · replace h := if_t hc h
        refine g_lconst X 0 dX6_totalOf_125 126 rfl rfl ?_
        refine g_kill (j := 7) [some (.ref a0), some (.int x1), some (.long x2), none, some (.long x4), none, some (.int x6), none, none, some (.int x9)] rfl ?_
        exact w_X6_totalOf_126 a0 a1 a2 a3 a4 a5 a6 a7 a8 a9 a10 a11  X  r _ hK90  v_savedCount v_scriptLength v_code v_lineParts v_pulseMany v_left v_dropped v_merged v_drops v_contributions v_packet v_peelResult v_peelTime v_peelSum v_at v_commands v_hash v_m v_saved v_script v_lengths v_fractions v_times v_energies v_far v_near v_echoes v_draft x1 x2 x4 x6 x9 x7 0 h
      · replace h := if_f hc h
        refine g_aload_n X rfl dX6_totalOf_115 116 rfl ?_
        refine g_get X gC5 0 rfl 11 (by decide) q1353 (fun _ h9 => h9) rfl dX6_totalOf_116 119 rfl ?_
        refine g_iload X rfl dX6_totalOf_119 121 rfl ?_
        obtain ⟨hi, h⟩ := gin_e h
        refine g_lald X 7 rfl hi dX6_totalOf_121 122 rfl ?_
        refine g_goto X dX6_totalOf_122 126 (by decide) ?_
        refine g_kill (j := 7) [some (.ref a0), some (.int x1), some (.long x2), none, some (.long x4), none, some (.int x6), none, none, some (.int x9)] rfl ?_
        exact w_X6_totalOf_126 a0 a1 a2 a3 a4 a5 a6 a7 a8 a9 a10 a11  X  r _ hK90  v_savedCount v_scriptLength v_code v_lineParts v_pulseMany v_left v_dropped v_merged v_drops v_contributions v_packet v_peelResult v_peelTime v_peelSum v_at v_commands v_hash v_m v_saved v_script v_lengths v_fractions v_times v_energies v_far v_near v_echoes v_draft x1 x2 x4 x6 x9 x7 (v_energies x9.toNatClampNeg) h
theorem w_X6_totalOf_54 {p : Program} {l : Launch} {e : Env} {s : State} {m : MethodId} {args : Array Value} {below : List Frame} {meth : Method} {c : Code} {Z : gZt} {A : Nat → Prop} (a0 : Nat) (a1 : Nat) (a2 : Nat) (a3 : Nat) (a4 : Nat) (a5 : Nat) (a6 : Nat) (a7 : Nat) (a8 : Nat) (a9 : Nat) (a10 : Nat) (a11 : Nat) (X : gX p s m args meth c Z A cX6_totalOf "LineEchoesModel" 10 (some .long) []) (r : Int64) (K11 : (Int32) → (Int32) → (Int64) → (Int64) → (Int32) → (Int32) → (Nat → Int64) → (Nat → Int32) → (Nat → Int32) → (Nat → Int64) → (Nat → Int64) → (Nat → Int64) → (Nat → Int64) → (Int32) → (Int64) → (Int64) → (Int32) → (Int32) → Option (Int64)) (hK11 : ∀ (v_savedCount : Int32) (v_scriptLength : Int32) (v_code : Int32) (v_lineParts : Int32) (v_pulseMany : Int32) (v_left : Int64) (v_dropped : Int64) (v_merged : Int32) (v_drops : Int32) (v_contributions : Int32) (v_packet : Int64) (v_peelResult : Int32) (v_peelTime : Int32) (v_peelSum : Int32) (v_at : Int32) (v_commands : Int32) (v_hash : Int64) (v_m : Nat → Int64) (v_saved : Nat → Int64) (v_script : Nat → Int32) (v_lengths : Nat → Int32) (v_fractions : Nat → Int32) (v_times : Nat → Int32) (v_energies : Nat → Int64) (v_far : Nat → Int64) (v_near : Nat → Int64) (v_echoes : Nat → Int64) (v_draft : Nat → Int32) (x1 : Int32) (x2 : Int64) (x4 : Int64) (x6 : Int32) (x7 : Int32), K11 v_lineParts v_pulseMany v_left v_dropped v_merged v_drops v_m v_lengths v_times v_energies v_far v_near v_echoes x1 x2 x4 x6 x7 = some r → G p l e rm_X6_totalOf s m args below meth c Z A 10 (MQ below (gPost Z A (fun _ : Unit => (some (.long r) : Option Value)) (fun _ : Unit => ([(a0, .inr (5, [.ref a1, .ref a2, .int v_savedCount, .ref a3, .int v_scriptLength, .int v_code, .int v_lineParts, .ref a4, .ref a5, .int v_pulseMany, .ref a6, .ref a7, .ref a8, .ref a9, .ref a10, .long v_left, .long v_dropped, .int v_merged, .int v_drops, .int v_contributions, .long v_packet, .int v_peelResult, .int v_peelTime, .int v_peelSum, .int v_at, .int v_commands, .ref a11, .long v_hash])), (a1, .inl (Z.2 1, 431, .inr (.inl v_m))), (a2, .inl (Z.2 1, 1293, .inr (.inl v_saved))), (a3, .inl (Z.2 0, 120, .inl v_script)), (a4, .inl (Z.2 0, 8, .inl v_lengths)), (a5, .inl (Z.2 0, 9, .inl v_fractions)), (a6, .inl (Z.2 0, 4, .inl v_times)), (a7, .inl (Z.2 1, 4, .inr (.inl v_energies))), (a8, .inl (Z.2 1, 1809, .inr (.inl v_far))), (a9, .inl (Z.2 1, 1809, .inr (.inl v_near))), (a10, .inl (Z.2 1, 201, .inr (.inl v_echoes))), (a11, .inl (Z.2 0, 120, .inl v_draft))] : va_W))) args s 0 0 A) [(a0, .inr (5, [.ref a1, .ref a2, .int v_savedCount, .ref a3, .int v_scriptLength, .int v_code, .int v_lineParts, .ref a4, .ref a5, .int v_pulseMany, .ref a6, .ref a7, .ref a8, .ref a9, .ref a10, .long v_left, .long v_dropped, .int v_merged, .int v_drops, .int v_contributions, .long v_packet, .int v_peelResult, .int v_peelTime, .int v_peelSum, .int v_at, .int v_commands, .ref a11, .long v_hash])), (a1, .inl (Z.2 1, 431, .inr (.inl v_m))), (a2, .inl (Z.2 1, 1293, .inr (.inl v_saved))), (a3, .inl (Z.2 0, 120, .inl v_script)), (a4, .inl (Z.2 0, 8, .inl v_lengths)), (a5, .inl (Z.2 0, 9, .inl v_fractions)), (a6, .inl (Z.2 0, 4, .inl v_times)), (a7, .inl (Z.2 1, 4, .inr (.inl v_energies))), (a8, .inl (Z.2 1, 1809, .inr (.inl v_far))), (a9, .inl (Z.2 1, 1809, .inr (.inl v_near))), (a10, .inl (Z.2 1, 201, .inr (.inl v_echoes))), (a11, .inl (Z.2 0, 120, .inl v_draft))] 0 0 11 [some (.ref a0), some (.int x1), some (.long x2), none, some (.long x4), none, some (.int x6), some (.int x7), none, none] []) (v_savedCount : Int32) (v_scriptLength : Int32) (v_code : Int32) (v_lineParts : Int32) (v_pulseMany : Int32) (v_left : Int64) (v_dropped : Int64) (v_merged : Int32) (v_drops : Int32) (v_contributions : Int32) (v_packet : Int64) (v_peelResult : Int32) (v_peelTime : Int32) (v_peelSum : Int32) (v_at : Int32) (v_commands : Int32) (v_hash : Int64) (v_m : Nat → Int64) (v_saved : Nat → Int64) (v_script : Nat → Int32) (v_lengths : Nat → Int32) (v_fractions : Nat → Int32) (v_times : Nat → Int32) (v_energies : Nat → Int64) (v_far : Nat → Int64) (v_near : Nat → Int64) (v_echoes : Nat → Int64) (v_draft : Nat → Int32) (x1 : Int32) (x2 : Int64) (x6 : Int32) (x7 : Int32) (s0 : Int64) (h : F_X6_totalOf_54 K11 v_lineParts v_pulseMany v_left v_dropped v_merged v_drops v_m v_lengths v_times v_energies v_far v_near v_echoes x1 x2 x6 x7 s0 = some r) : G p l e rm_X6_totalOf s m args below meth c Z A 10 (MQ below (gPost Z A (fun _ : Unit => (some (.long r) : Option Value)) (fun _ : Unit => ([(a0, .inr (5, [.ref a1, .ref a2, .int v_savedCount, .ref a3, .int v_scriptLength, .int v_code, .int v_lineParts, .ref a4, .ref a5, .int v_pulseMany, .ref a6, .ref a7, .ref a8, .ref a9, .ref a10, .long v_left, .long v_dropped, .int v_merged, .int v_drops, .int v_contributions, .long v_packet, .int v_peelResult, .int v_peelTime, .int v_peelSum, .int v_at, .int v_commands, .ref a11, .long v_hash])), (a1, .inl (Z.2 1, 431, .inr (.inl v_m))), (a2, .inl (Z.2 1, 1293, .inr (.inl v_saved))), (a3, .inl (Z.2 0, 120, .inl v_script)), (a4, .inl (Z.2 0, 8, .inl v_lengths)), (a5, .inl (Z.2 0, 9, .inl v_fractions)), (a6, .inl (Z.2 0, 4, .inl v_times)), (a7, .inl (Z.2 1, 4, .inr (.inl v_energies))), (a8, .inl (Z.2 1, 1809, .inr (.inl v_far))), (a9, .inl (Z.2 1, 1809, .inr (.inl v_near))), (a10, .inl (Z.2 1, 201, .inr (.inl v_echoes))), (a11, .inl (Z.2 0, 120, .inl v_draft))] : va_W))) args s 0 0 A) [(a0, .inr (5, [.ref a1, .ref a2, .int v_savedCount, .ref a3, .int v_scriptLength, .int v_code, .int v_lineParts, .ref a4, .ref a5, .int v_pulseMany, .ref a6, .ref a7, .ref a8, .ref a9, .ref a10, .long v_left, .long v_dropped, .int v_merged, .int v_drops, .int v_contributions, .long v_packet, .int v_peelResult, .int v_peelTime, .int v_peelSum, .int v_at, .int v_commands, .ref a11, .long v_hash])), (a1, .inl (Z.2 1, 431, .inr (.inl v_m))), (a2, .inl (Z.2 1, 1293, .inr (.inl v_saved))), (a3, .inl (Z.2 0, 120, .inl v_script)), (a4, .inl (Z.2 0, 8, .inl v_lengths)), (a5, .inl (Z.2 0, 9, .inl v_fractions)), (a6, .inl (Z.2 0, 4, .inl v_times)), (a7, .inl (Z.2 1, 4, .inr (.inl v_energies))), (a8, .inl (Z.2 1, 1809, .inr (.inl v_far))), (a9, .inl (Z.2 1, 1809, .inr (.inl v_near))), (a10, .inl (Z.2 1, 201, .inr (.inl v_echoes))), (a11, .inl (Z.2 0, 120, .inl v_draft))] 0 0 54 [some (.ref a0), some (.int x1), some (.long x2), none, none, none, some (.int x6), some (.int x7), none, none] [.long s0] := by
  unfold F_X6_totalOf_54 at h
  refine g_lstore X dX6_totalOf_54 56 rfl (Nat.le_of_ble_eq_true rfl) rfl [some (.ref a0), some (.int x1), some (.long x2), none, some (.long s0), none, some (.int x6), some (.int x7), none, none] rfl ?_
  refine g_iload X rfl dX6_totalOf_56 58 rfl ?_
  refine g_aload_n X rfl dX6_totalOf_58 59 rfl ?_
  refine g_get X gC5 0 rfl 14 (by decide) q1356 (fun _ h9 => h9) rfl dX6_totalOf_59 62 rfl ?_
  refine g_iload X rfl dX6_totalOf_62 64 rfl ?_
  obtain ⟨hi, h⟩ := gin_e h
  refine g_lald X 10 rfl hi dX6_totalOf_64 65 rfl ?_
  refine g_lconst X 0 dX6_totalOf_65 66 rfl rfl ?_
  refine g_seli 75 [.int x6] (b := (v_echoes x7.toNatClampNeg) ≤ 0) 0 1 ?_ (fun hc K => ?_) (fun hc K => ?_)
  · refine g_iadd X dX6_totalOf_75 76 rfl ?_
    refine g_topi (fun t1 et1 => ?_)
    replace h := nm_at et1 h
    refine g_istore X dX6_totalOf_76 78 rfl (Nat.le_of_ble_eq_true rfl) rfl [some (.ref a0), some (.int x1), some (.long x2), none, some (.long s0), none, some (.int t1), some (.int x7), none, none] rfl ?_
    refine g_iinc X 1 rfl dX6_totalOf_78 81 rfl kI_1 (Nat.le_of_ble_eq_true rfl) rfl [some (.ref a0), some (.int x1), some (.long x2), none, some (.long s0), none, some (.int t1), some (.int (x7 + 1)), none, none] rfl ?_
    refine g_goto X dX6_totalOf_81 11 (by decide) ?_
    exact hK11 v_savedCount v_scriptLength v_code v_lineParts v_pulseMany v_left v_dropped v_merged v_drops v_contributions v_packet v_peelResult v_peelTime v_peelSum v_at v_commands v_hash v_m v_saved v_script v_lengths v_fractions v_times v_energies v_far v_near v_echoes v_draft x1 x2 s0 t1 (x7 + 1) h
  · refine g_lcmp_le X dX6_totalOf_66 67 rfl dX6_totalOf_67 74 (by decide) 70 rfl (fun _ => ?_) (fun hn => absurd hc hn)
    refine g_iconst X 0 dX6_totalOf_74 75 rfl kI_0 ?_
    exact K
  · refine g_lcmp_le X dX6_totalOf_66 67 rfl dX6_totalOf_67 74 (by decide) 70 rfl (fun hn => absurd hn hc) (fun _ => ?_)
    refine g_iconst X 1 dX6_totalOf_70 71 rfl kI_1 ?_
    refine g_goto X dX6_totalOf_71 75 (by decide) ?_
    exact K
theorem w_X6_totalOf_11 {p : Program} {l : Launch} {e : Env} {s : State} {m : MethodId} {args : Array Value} {below : List Frame} {meth : Method} {c : Code} {Z : gZt} {A : Nat → Prop} (a0 : Nat) (a1 : Nat) (a2 : Nat) (a3 : Nat) (a4 : Nat) (a5 : Nat) (a6 : Nat) (a7 : Nat) (a8 : Nat) (a9 : Nat) (a10 : Nat) (a11 : Nat) (X : gX p s m args meth c Z A cX6_totalOf "LineEchoesModel" 10 (some .long) []) (r : Int64)  : ∀ (n : Nat) (v_savedCount : Int32) (v_scriptLength : Int32) (v_code : Int32) (v_lineParts : Int32) (v_pulseMany : Int32) (v_left : Int64) (v_dropped : Int64) (v_merged : Int32) (v_drops : Int32) (v_contributions : Int32) (v_packet : Int64) (v_peelResult : Int32) (v_peelTime : Int32) (v_peelSum : Int32) (v_at : Int32) (v_commands : Int32) (v_hash : Int64) (v_m : Nat → Int64) (v_saved : Nat → Int64) (v_script : Nat → Int32) (v_lengths : Nat → Int32) (v_fractions : Nat → Int32) (v_times : Nat → Int32) (v_energies : Nat → Int64) (v_far : Nat → Int64) (v_near : Nat → Int64) (v_echoes : Nat → Int64) (v_draft : Nat → Int32) (x1 : Int32) (x2 : Int64) (x4 : Int64) (x6 : Int32) (x7 : Int32), F_X6_totalOf_11 n v_lineParts v_pulseMany v_left v_dropped v_merged v_drops v_m v_lengths v_times v_energies v_far v_near v_echoes x1 x2 x4 x6 x7 = some r → G p l e rm_X6_totalOf s m args below meth c Z A 10 (MQ below (gPost Z A (fun _ : Unit => (some (.long r) : Option Value)) (fun _ : Unit => ([(a0, .inr (5, [.ref a1, .ref a2, .int v_savedCount, .ref a3, .int v_scriptLength, .int v_code, .int v_lineParts, .ref a4, .ref a5, .int v_pulseMany, .ref a6, .ref a7, .ref a8, .ref a9, .ref a10, .long v_left, .long v_dropped, .int v_merged, .int v_drops, .int v_contributions, .long v_packet, .int v_peelResult, .int v_peelTime, .int v_peelSum, .int v_at, .int v_commands, .ref a11, .long v_hash])), (a1, .inl (Z.2 1, 431, .inr (.inl v_m))), (a2, .inl (Z.2 1, 1293, .inr (.inl v_saved))), (a3, .inl (Z.2 0, 120, .inl v_script)), (a4, .inl (Z.2 0, 8, .inl v_lengths)), (a5, .inl (Z.2 0, 9, .inl v_fractions)), (a6, .inl (Z.2 0, 4, .inl v_times)), (a7, .inl (Z.2 1, 4, .inr (.inl v_energies))), (a8, .inl (Z.2 1, 1809, .inr (.inl v_far))), (a9, .inl (Z.2 1, 1809, .inr (.inl v_near))), (a10, .inl (Z.2 1, 201, .inr (.inl v_echoes))), (a11, .inl (Z.2 0, 120, .inl v_draft))] : va_W))) args s 0 0 A) [(a0, .inr (5, [.ref a1, .ref a2, .int v_savedCount, .ref a3, .int v_scriptLength, .int v_code, .int v_lineParts, .ref a4, .ref a5, .int v_pulseMany, .ref a6, .ref a7, .ref a8, .ref a9, .ref a10, .long v_left, .long v_dropped, .int v_merged, .int v_drops, .int v_contributions, .long v_packet, .int v_peelResult, .int v_peelTime, .int v_peelSum, .int v_at, .int v_commands, .ref a11, .long v_hash])), (a1, .inl (Z.2 1, 431, .inr (.inl v_m))), (a2, .inl (Z.2 1, 1293, .inr (.inl v_saved))), (a3, .inl (Z.2 0, 120, .inl v_script)), (a4, .inl (Z.2 0, 8, .inl v_lengths)), (a5, .inl (Z.2 0, 9, .inl v_fractions)), (a6, .inl (Z.2 0, 4, .inl v_times)), (a7, .inl (Z.2 1, 4, .inr (.inl v_energies))), (a8, .inl (Z.2 1, 1809, .inr (.inl v_far))), (a9, .inl (Z.2 1, 1809, .inr (.inl v_near))), (a10, .inl (Z.2 1, 201, .inr (.inl v_echoes))), (a11, .inl (Z.2 0, 120, .inl v_draft))] 0 0 11 [some (.ref a0), some (.int x1), some (.long x2), none, some (.long x4), none, some (.int x6), some (.int x7), none, none] [] := by
  intro n
  induction n with
  | zero =>
    intro v_savedCount v_scriptLength v_code v_lineParts v_pulseMany v_left v_dropped v_merged v_drops v_contributions v_packet v_peelResult v_peelTime v_peelSum v_at v_commands v_hash v_m v_saved v_script v_lengths v_fractions v_times v_energies v_far v_near v_echoes v_draft x1 x2 x4 x6 x7 h
    cases h
  | succ n hK11 =>
    intro v_savedCount v_scriptLength v_code v_lineParts v_pulseMany v_left v_dropped v_merged v_drops v_contributions v_packet v_peelResult v_peelTime v_peelSum v_at v_commands v_hash v_m v_saved v_script v_lengths v_fractions v_times v_energies v_far v_near v_echoes v_draft x1 x2 x4 x6 x7 h
    replace h : B_X6_totalOf_11 (F_X6_totalOf_11 n) v_lineParts v_pulseMany v_left v_dropped v_merged v_drops v_m v_lengths v_times v_energies v_far v_near v_echoes x1 x2 x4 x6 x7 = some r := h
    unfold B_X6_totalOf_11 at h
    refine g_iload X rfl dX6_totalOf_11 13 rfl ?_
    refine g_sipush X 201 dX6_totalOf_13 16 rfl kS_201 ?_
    refine g_icmp_ge X dX6_totalOf_16 84 (by decide) 19 rfl (fun hc => ?_) (fun hc => ?_)
    · replace h := if_t hc h
      refine g_lconst X 0 dX6_totalOf_84 85 rfl rfl ?_
      refine g_lstore X dX6_totalOf_85 87 rfl (Nat.le_of_ble_eq_true rfl) rfl [some (.ref a0), some (.int x1), some (.long x2), none, some (.long x4), none, some (.int x6), some (.long 0), none, none] rfl ?_
      refine g_iconst X 0 dX6_totalOf_87 88 rfl kI_0 ?_
      refine g_istore X dX6_totalOf_88 90 rfl (Nat.le_of_ble_eq_true rfl) rfl [some (.ref a0), some (.int x1), some (.long x2), none, some (.long x4), none, some (.int x6), some (.long 0), none, some (.int 0)] rfl ?_
      exact w_X6_totalOf_90 a0 a1 a2 a3 a4 a5 a6 a7 a8 a9 a10 a11  X  r    gFU v_savedCount v_scriptLength v_code v_lineParts v_pulseMany v_left v_dropped v_merged v_drops v_contributions v_packet v_peelResult v_peelTime v_peelSum v_at v_commands v_hash v_m v_saved v_script v_lengths v_fractions v_times v_energies v_far v_near v_echoes v_draft x1 x2 x4 x6 0 0 h
    · replace h := if_f hc h
      refine g_lload_n X rfl dX6_totalOf_19 20 rfl ?_
      refine g_aload_n X rfl dX6_totalOf_20 21 rfl ?_
      refine g_get X gC5 0 rfl 14 (by decide) q1356 (fun _ h9 => h9) rfl dX6_totalOf_21 24 rfl ?_
      refine g_iload X rfl dX6_totalOf_24 26 rfl ?_
      obtain ⟨hi, h⟩ := gin_e h
      refine g_lald X 10 rfl hi dX6_totalOf_26 27 rfl ?_
      refine g_ladd X dX6_totalOf_27 28 rfl ?_
      refine g_topl (fun t1 et1 => ?_)
      replace h := nm_at et1 h
      refine g_lstore_n X dX6_totalOf_28 29 rfl (Nat.le_of_ble_eq_true rfl) rfl [some (.ref a0), some (.int x1), some (.long t1), none, some (.long x4), none, some (.int x6), some (.int x7), none, none] rfl ?_
      refine g_aload_n X rfl dX6_totalOf_29 30 rfl ?_
      refine g_get X gC5 0 rfl 14 (by decide) q1356 (fun _ h9 => h9) rfl dX6_totalOf_30 33 rfl ?_
      refine g_iload X rfl dX6_totalOf_33 35 rfl ?_
      obtain ⟨hi, h⟩ := gin_e h
      refine g_lald X 10 rfl hi dX6_totalOf_35 36 rfl ?_
      refine g_lload X rfl dX6_totalOf_36 38 rfl ?_
      refine g_lcmp_le X dX6_totalOf_38 39 rfl dX6_totalOf_39 52 (by decide) 42 rfl (fun hc => ?_) (fun hc => ?_)
      · replace h := if_t hc h
        refine g_lload X rfl dX6_totalOf_52 54 rfl ?_
        refine g_kill (j := 4) [some (.ref a0), some (.int x1), some (.long t1), none, none, none, some (.int x6), some (.int x7), none, none] rfl ?_
        exact w_X6_totalOf_54 a0 a1 a2 a3 a4 a5 a6 a7 a8 a9 a10 a11  X  r _ hK11  v_savedCount v_scriptLength v_code v_lineParts v_pulseMany v_left v_dropped v_merged v_drops v_contributions v_packet v_peelResult v_peelTime v_peelSum v_at v_commands v_hash v_m v_saved v_script v_lengths v_fractions v_times v_energies v_far v_near v_echoes v_draft x1 t1 x6 x7 x4 h
      · replace h := if_f hc h
        refine g_aload_n X rfl dX6_totalOf_42 43 rfl ?_
        refine g_get X gC5 0 rfl 14 (by decide) q1356 (fun _ h9 => h9) rfl dX6_totalOf_43 46 rfl ?_
        refine g_iload X rfl dX6_totalOf_46 48 rfl ?_
        obtain ⟨hi, h⟩ := gin_e h
        refine g_lald X 10 rfl hi dX6_totalOf_48 49 rfl ?_
        refine g_goto X dX6_totalOf_49 54 (by decide) ?_
        refine g_kill (j := 4) [some (.ref a0), some (.int x1), some (.long t1), none, none, none, some (.int x6), some (.int x7), none, none] rfl ?_
        exact w_X6_totalOf_54 a0 a1 a2 a3 a4 a5 a6 a7 a8 a9 a10 a11  X  r _ hK11  v_savedCount v_scriptLength v_code v_lineParts v_pulseMany v_left v_dropped v_merged v_drops v_contributions v_packet v_peelResult v_peelTime v_peelSum v_at v_commands v_hash v_m v_saved v_script v_lengths v_fractions v_times v_energies v_far v_near v_echoes v_draft x1 t1 x6 x7 (v_echoes x7.toNatClampNeg) h
theorem met_X6_totalOf (l : Launch) (Z : gZt) (a0 : Nat) (a1 : Nat) (a2 : Nat) (a3 : Nat) (a4 : Nat) (a5 : Nat) (a6 : Nat) (a7 : Nat) (a8 : Nat) (a9 : Nat) (a10 : Nat) (a11 : Nat) (v_savedCount : Int32) (v_scriptLength : Int32) (v_code : Int32) (v_lineParts : Int32) (v_pulseMany : Int32) (v_left : Int64) (v_dropped : Int64) (v_merged : Int32) (v_drops : Int32) (v_contributions : Int32) (v_packet : Int64) (v_peelResult : Int32) (v_peelTime : Int32) (v_peelSum : Int32) (v_at : Int32) (v_commands : Int32) (v_hash : Int64) (v_m : Nat → Int64) (v_saved : Nat → Int64) (v_script : Nat → Int32) (v_lengths : Nat → Int32) (v_fractions : Nat → Int32) (v_times : Nat → Int32) (v_energies : Nat → Int64) (v_far : Nat → Int64) (v_near : Nat → Int64) (v_echoes : Nat → Int64) (v_draft : Nat → Int32) (x1 : Int32) (r : Int64) (h : F_X6_totalOf v_lineParts v_pulseMany v_left v_dropped v_merged v_drops v_m v_lengths v_times v_energies v_far v_near v_echoes x1 = some r) : Ct l yX6_totalOf (ws_ yX6_totalOf cX6_totalOf 10 (some .long)) rm_X6_totalOf Z [.ref a0, .int x1] [(a0, .inr (5, [.ref a1, .ref a2, .int v_savedCount, .ref a3, .int v_scriptLength, .int v_code, .int v_lineParts, .ref a4, .ref a5, .int v_pulseMany, .ref a6, .ref a7, .ref a8, .ref a9, .ref a10, .long v_left, .long v_dropped, .int v_merged, .int v_drops, .int v_contributions, .long v_packet, .int v_peelResult, .int v_peelTime, .int v_peelSum, .int v_at, .int v_commands, .ref a11, .long v_hash])), (a1, .inl (Z.2 1, 431, .inr (.inl v_m))), (a2, .inl (Z.2 1, 1293, .inr (.inl v_saved))), (a3, .inl (Z.2 0, 120, .inl v_script)), (a4, .inl (Z.2 0, 8, .inl v_lengths)), (a5, .inl (Z.2 0, 9, .inl v_fractions)), (a6, .inl (Z.2 0, 4, .inl v_times)), (a7, .inl (Z.2 1, 4, .inr (.inl v_energies))), (a8, .inl (Z.2 1, 1809, .inr (.inl v_far))), (a9, .inl (Z.2 1, 1809, .inr (.inl v_near))), (a10, .inl (Z.2 1, 201, .inr (.inl v_echoes))), (a11, .inl (Z.2 0, 120, .inl v_draft))] [] (fun _ : Unit => (some (.long r) : Option Value)) (fun _ : Unit => ([(a0, .inr (5, [.ref a1, .ref a2, .int v_savedCount, .ref a3, .int v_scriptLength, .int v_code, .int v_lineParts, .ref a4, .ref a5, .int v_pulseMany, .ref a6, .ref a7, .ref a8, .ref a9, .ref a10, .long v_left, .long v_dropped, .int v_merged, .int v_drops, .int v_contributions, .long v_packet, .int v_peelResult, .int v_peelTime, .int v_peelSum, .int v_at, .int v_commands, .ref a11, .long v_hash])), (a1, .inl (Z.2 1, 431, .inr (.inl v_m))), (a2, .inl (Z.2 1, 1293, .inr (.inl v_saved))), (a3, .inl (Z.2 0, 120, .inl v_script)), (a4, .inl (Z.2 0, 8, .inl v_lengths)), (a5, .inl (Z.2 0, 9, .inl v_fractions)), (a6, .inl (Z.2 0, 4, .inl v_times)), (a7, .inl (Z.2 1, 4, .inr (.inl v_energies))), (a8, .inl (Z.2 1, 1809, .inr (.inl v_far))), (a9, .inl (Z.2 1, 1809, .inr (.inl v_near))), (a10, .inl (Z.2 1, 201, .inr (.inl v_echoes))), (a11, .inl (Z.2 0, 120, .inl v_draft))] : va_W)) := by
  refine Ct.of cX6_totalOf 10 (some .long) "LineEchoesModel" [some (.ref a0), some (.int x1), none, none, none, none, none, none, none, none] 8 (by decide) rfl (Nat.le_of_ble_eq_true rfl) rfl (fun p e s m args below meth c A X hin => ?_)
  unfold F_X6_totalOf at h
  refine g_lconst X 0 dX6_totalOf_0 1 rfl rfl ?_
  refine g_lstore_n X dX6_totalOf_1 2 rfl (Nat.le_of_ble_eq_true rfl) rfl [some (.ref a0), some (.int x1), some (.long 0), none, none, none, none, none, none, none] rfl ?_
  refine g_lconst X 0 dX6_totalOf_2 3 rfl rfl ?_
  refine g_lstore X dX6_totalOf_3 5 rfl (Nat.le_of_ble_eq_true rfl) rfl [some (.ref a0), some (.int x1), some (.long 0), none, some (.long 0), none, none, none, none, none] rfl ?_
  refine g_iconst X 0 dX6_totalOf_5 6 rfl kI_0 ?_
  refine g_istore X dX6_totalOf_6 8 rfl (Nat.le_of_ble_eq_true rfl) rfl [some (.ref a0), some (.int x1), some (.long 0), none, some (.long 0), none, some (.int 0), none, none, none] rfl ?_
  refine g_iconst X 0 dX6_totalOf_8 9 rfl kI_0 ?_
  refine g_istore X dX6_totalOf_9 11 rfl (Nat.le_of_ble_eq_true rfl) rfl [some (.ref a0), some (.int x1), some (.long 0), none, some (.long 0), none, some (.int 0), some (.int 0), none, none] rfl ?_
  exact w_X6_totalOf_11 a0 a1 a2 a3 a4 a5 a6 a7 a8 a9 a10 a11  X  r    gFU v_savedCount v_scriptLength v_code v_lineParts v_pulseMany v_left v_dropped v_merged v_drops v_contributions v_packet v_peelResult v_peelTime v_peelSum v_at v_commands v_hash v_m v_saved v_script v_lengths v_fractions v_times v_energies v_far v_near v_echoes v_draft x1 0 0 0 0 h
/-! LineEchoesModel.total(I)J -/
abbrev rm_X6_total : Room := { frames := 5, cells := 0, slots := 0, locals := 117 }
def F_X6_total (v_lineParts : Int32) (v_pulseMany : Int32) (v_left : Int64) (v_dropped : Int64) (v_merged : Int32) (v_drops : Int32) (v_contributions : Int32) (v_packet : Int64) (v_m : Nat → Int64) (v_lengths : Nat → Int32) (v_fractions : Nat → Int32) (v_times : Nat → Int32) (v_energies : Nat → Int64) (v_far : Nat → Int64) (v_near : Nat → Int64) (v_echoes : Nat → Int64) (x1 : Int32) : Option (Int64 × Int32 × Int32 × Int32 × Int64 × Int64 × Int32 × Int32 × Int32 × Int64 × (Nat → Int32) × (Nat → Int32) × (Nat → Int32) × (Nat → Int64) × (Nat → Int64) × (Nat → Int64) × (Nat → Int64)) :=
  bd1 (F_X6_in x1.toInt64 0 8) fun r1 =>
  if (if r1 = 0 then (1 : Int32) else 0) = 0 then
    (bd15 (F_X6_runPresent v_m v_lengths v_fractions v_times v_energies v_far v_near v_echoes) fun w2_lineParts w3_pulseMany w4_left w5_dropped w6_merged w7_drops w8_contributions w9_packet w10_lengths w11_fractions w12_times w13_energies w14_far w15_near w16_echoes =>
    bd1 (F_X6_totalOf w2_lineParts w3_pulseMany w4_left w5_dropped w6_merged w7_drops v_m w10_lengths w12_times w13_energies w14_far w15_near w16_echoes x1) fun r17 =>
    some (r17, (if r1 = 0 then (1 : Int32) else 0), w2_lineParts, w3_pulseMany, w4_left, w5_dropped, w6_merged, w7_drops, w8_contributions, w9_packet, w10_lengths, w11_fractions, w12_times, w13_energies, w14_far, w15_near, w16_echoes))
  else
    (some (0, (if r1 = 0 then (1 : Int32) else 0), v_lineParts, v_pulseMany, v_left, v_dropped, v_merged, v_drops, v_contributions, v_packet, v_lengths, v_fractions, v_times, v_energies, v_far, v_near, v_echoes))
theorem met_X6_total (l : Launch) (Z : gZt) (a0 : Nat) (a1 : Nat) (a2 : Nat) (a3 : Nat) (a4 : Nat) (a5 : Nat) (a6 : Nat) (a7 : Nat) (a8 : Nat) (a9 : Nat) (a10 : Nat) (a11 : Nat) (v_savedCount : Int32) (v_scriptLength : Int32) (v_code : Int32) (v_lineParts : Int32) (v_pulseMany : Int32) (v_left : Int64) (v_dropped : Int64) (v_merged : Int32) (v_drops : Int32) (v_contributions : Int32) (v_packet : Int64) (v_peelResult : Int32) (v_peelTime : Int32) (v_peelSum : Int32) (v_at : Int32) (v_commands : Int32) (v_hash : Int64) (v_m : Nat → Int64) (v_saved : Nat → Int64) (v_script : Nat → Int32) (v_lengths : Nat → Int32) (v_fractions : Nat → Int32) (v_times : Nat → Int32) (v_energies : Nat → Int64) (v_far : Nat → Int64) (v_near : Nat → Int64) (v_echoes : Nat → Int64) (v_draft : Nat → Int32) (x1 : Int32) (r : Int64) (r_code : Int32) (r_lineParts : Int32) (r_pulseMany : Int32) (r_left : Int64) (r_dropped : Int64) (r_merged : Int32) (r_drops : Int32) (r_contributions : Int32) (r_packet : Int64) (r_lengths : Nat → Int32) (r_fractions : Nat → Int32) (r_times : Nat → Int32) (r_energies : Nat → Int64) (r_far : Nat → Int64) (r_near : Nat → Int64) (r_echoes : Nat → Int64) (h : F_X6_total v_lineParts v_pulseMany v_left v_dropped v_merged v_drops v_contributions v_packet v_m v_lengths v_fractions v_times v_energies v_far v_near v_echoes x1 = some (r, r_code, r_lineParts, r_pulseMany, r_left, r_dropped, r_merged, r_drops, r_contributions, r_packet, r_lengths, r_fractions, r_times, r_energies, r_far, r_near, r_echoes)) : Ct l yX6_total (ws_ yX6_total cX6_total 2 (some .long)) rm_X6_total Z [.ref a0, .int x1] [(a0, .inr (5, [.ref a1, .ref a2, .int v_savedCount, .ref a3, .int v_scriptLength, .int v_code, .int v_lineParts, .ref a4, .ref a5, .int v_pulseMany, .ref a6, .ref a7, .ref a8, .ref a9, .ref a10, .long v_left, .long v_dropped, .int v_merged, .int v_drops, .int v_contributions, .long v_packet, .int v_peelResult, .int v_peelTime, .int v_peelSum, .int v_at, .int v_commands, .ref a11, .long v_hash])), (a1, .inl (Z.2 1, 431, .inr (.inl v_m))), (a2, .inl (Z.2 1, 1293, .inr (.inl v_saved))), (a3, .inl (Z.2 0, 120, .inl v_script)), (a4, .inl (Z.2 0, 8, .inl v_lengths)), (a5, .inl (Z.2 0, 9, .inl v_fractions)), (a6, .inl (Z.2 0, 4, .inl v_times)), (a7, .inl (Z.2 1, 4, .inr (.inl v_energies))), (a8, .inl (Z.2 1, 1809, .inr (.inl v_far))), (a9, .inl (Z.2 1, 1809, .inr (.inl v_near))), (a10, .inl (Z.2 1, 201, .inr (.inl v_echoes))), (a11, .inl (Z.2 0, 120, .inl v_draft))] [] (fun _ : Unit => (some (.long r) : Option Value)) (fun _ : Unit => ([(a0, .inr (5, [.ref a1, .ref a2, .int v_savedCount, .ref a3, .int v_scriptLength, .int r_code, .int r_lineParts, .ref a4, .ref a5, .int r_pulseMany, .ref a6, .ref a7, .ref a8, .ref a9, .ref a10, .long r_left, .long r_dropped, .int r_merged, .int r_drops, .int r_contributions, .long r_packet, .int v_peelResult, .int v_peelTime, .int v_peelSum, .int v_at, .int v_commands, .ref a11, .long v_hash])), (a1, .inl (Z.2 1, 431, .inr (.inl v_m))), (a2, .inl (Z.2 1, 1293, .inr (.inl v_saved))), (a3, .inl (Z.2 0, 120, .inl v_script)), (a4, .inl (Z.2 0, 8, .inl r_lengths)), (a5, .inl (Z.2 0, 9, .inl r_fractions)), (a6, .inl (Z.2 0, 4, .inl r_times)), (a7, .inl (Z.2 1, 4, .inr (.inl r_energies))), (a8, .inl (Z.2 1, 1809, .inr (.inl r_far))), (a9, .inl (Z.2 1, 1809, .inr (.inl r_near))), (a10, .inl (Z.2 1, 201, .inr (.inl r_echoes))), (a11, .inl (Z.2 0, 120, .inl v_draft))] : va_W)) := by
  refine Ct.of cX6_total 2 (some .long) "LineEchoesModel" [some (.ref a0), some (.int x1)] 0 (by decide) rfl (Nat.le_of_ble_eq_true rfl) rfl (fun p e s m args below meth c A X hin => ?_)
  unfold F_X6_total at h
  refine g_aload_n X rfl dX6_total_0 1 rfl ?_
  refine g_iload_n X rfl dX6_total_1 2 rfl ?_
  refine g_i2l X dX6_total_2 3 rfl ?_
  refine g_lconst X 0 dX6_total_3 4 rfl rfl ?_
  refine g_ldc2 X q1602 dX6_total_4 7 rfl ?_
  obtain ⟨r1, hcl, h⟩ := bd1_e h
  refine g_callS1Z X (met_X6_in l Z   x1.toInt64 0 8 r1 hcl) (lw_S q1443 q1444 q74 q1445) md_X6_in ⟨(Nat.le_of_ble_eq_true rfl), (Nat.le_of_ble_eq_true rfl)⟩ rfl dX6_total_7 10 rfl 0 0 rfl rfl (Nat.le_of_ble_eq_true rfl) (Nat.le_of_ble_eq_true rfl) (st := [.ref a0]) rfl (Nat.le_of_ble_eq_true rfl) (fun _ => rfl) (fun _ => ?_)
  refine g_seli 18 [.ref a0] (b := r1 = 0) 1 0 ?_ (fun hc K => ?_) (fun hc K => ?_)
  · refine g_put X gC5 0 rfl 5 (by decide) q1347 (fun _ h9 => h9) rfl rfl rfl (Nat.le_of_ble_eq_true rfl) dX6_total_18 21 rfl ?_
    refine g_aload_n X rfl dX6_total_21 22 rfl ?_
    refine g_get X gC5 0 rfl 5 (by decide) q1347 (fun _ h9 => h9) rfl dX6_total_22 25 rfl ?_
    refine g_if_eq X dX6_total_25 30 (by decide) 28 rfl (fun hc => ?_) (fun hc => ?_)
    · replace h := if_t hc h
      refine g_aload_n X rfl dX6_total_30 31 rfl ?_
      obtain ⟨w2_lineParts, w3_pulseMany, w4_left, w5_dropped, w6_merged, w7_drops, w8_contributions, w9_packet, w10_lengths, w11_fractions, w12_times, w13_energies, w14_far, w15_near, w16_echoes, hcl, h⟩ := bd15_e h
      refine g_callV0W X (met_X6_runPresent l Z a0 a1 a2 a3 a4 a5 a6 a7 a8 a9 a10 a11 v_savedCount v_scriptLength (if r1 = 0 then (1 : Int32) else 0) v_lineParts v_pulseMany v_left v_dropped v_merged v_drops v_contributions v_packet v_peelResult v_peelTime v_peelSum v_at v_commands v_hash v_m v_saved v_script v_lengths v_fractions v_times v_energies v_far v_near v_echoes v_draft  w2_lineParts w3_pulseMany w4_left w5_dropped w6_merged w7_drops w8_contributions w9_packet w10_lengths w11_fractions w12_times w13_energies w14_far w15_near w16_echoes hcl) rfl 0 gC5 rfl rfl (lw_V q1562 q1564 qs39 q74 q1565) md_X6_runPresent ⟨(Nat.le_of_ble_eq_true rfl), (Nat.le_of_ble_eq_true rfl)⟩ rfl dX6_total_31 34 rfl 0 0 rfl rfl (Nat.le_of_ble_eq_true rfl) (Nat.le_of_ble_eq_true rfl) (st := []) rfl (Nat.le_of_ble_eq_true rfl) (fun _ => rfl) (fun _ => ?_)
      refine g_aload_n X rfl dX6_total_34 35 rfl ?_
      refine g_iload_n X rfl dX6_total_35 36 rfl ?_
      obtain ⟨r17, hcl, h⟩ := bd1_e h
      refine g_callV1W X (met_X6_totalOf l Z a0 a1 a2 a3 a4 a5 a6 a7 a8 a9 a10 a11 v_savedCount v_scriptLength (if r1 = 0 then (1 : Int32) else 0) w2_lineParts w3_pulseMany w4_left w5_dropped w6_merged w7_drops w8_contributions w9_packet v_peelResult v_peelTime v_peelSum v_at v_commands v_hash v_m v_saved v_script w10_lengths w11_fractions w12_times w13_energies w14_far w15_near w16_echoes v_draft x1 r17 hcl) rfl 0 gC5 rfl rfl (lw_V q1603 q1605 qs47 q74 q1606) md_X6_totalOf ⟨(Nat.le_of_ble_eq_true rfl), (Nat.le_of_ble_eq_true rfl)⟩ rfl dX6_total_36 39 rfl 0 0 rfl rfl (Nat.le_of_ble_eq_true rfl) (Nat.le_of_ble_eq_true rfl) (st := []) rfl (Nat.le_of_ble_eq_true rfl) (fun _ => rfl) (fun _ => ?_)
      obtain ⟨rfl, rfl, rfl, rfl, rfl, rfl, rfl, rfl, rfl, rfl, rfl, rfl, rfl, rfl, rfl, rfl, rfl⟩ := rt17 h
      exact g_lret X dX6_total_39 () rfl rfl (Nat.le_of_ble_eq_true rfl) (Nat.le_of_ble_eq_true rfl)
    · replace h := if_f hc h
      refine g_lconst X 0 dX6_total_28 29 rfl rfl ?_
      obtain ⟨rfl, rfl, rfl, rfl, rfl, rfl, rfl, rfl, rfl, rfl, rfl, rfl, rfl, rfl, rfl, rfl, rfl⟩ := rt17 h
      exact g_lret X dX6_total_29 () rfl rfl (Nat.le_of_ble_eq_true rfl) (Nat.le_of_ble_eq_true rfl)
  · refine g_if_eq X dX6_total_10 17 (by decide) 13 rfl (fun _ => ?_) (fun hn => absurd hc hn)
    refine g_iconst X 1 dX6_total_17 18 rfl kI_1 ?_
    exact K
  · refine g_if_eq X dX6_total_10 17 (by decide) 13 rfl (fun hn => absurd hn hc) (fun _ => ?_)
    refine g_iconst X 0 dX6_total_13 14 rfl kI_0 ?_
    refine g_goto X dX6_total_14 18 (by decide) ?_
    exact K
/-! LineEchoesModel.arrival(IIZ)J -/
abbrev rm_X6_arrival : Room := { frames := 5, cells := 0, slots := 0, locals := 117 }
def F_X6_arrival_38 (v_lineParts : Int32) (v_pulseMany : Int32) (v_left : Int64) (v_dropped : Int64) (v_merged : Int32) (v_drops : Int32) (v_contributions : Int32) (v_packet : Int64) (v_m : Nat → Int64) (v_lengths : Nat → Int32) (v_fractions : Nat → Int32) (v_times : Nat → Int32) (v_energies : Nat → Int64) (v_far : Nat → Int64) (v_near : Nat → Int64) (v_echoes : Nat → Int64) (x1 : Int32) (x2 : Int32) (x3 : Int32) (s1 : Int32) : Option (Int64 × Int32 × Int32 × Int32 × Int64 × Int64 × Int32 × Int32 × Int32 × Int64 × (Nat → Int32) × (Nat → Int32) × (Nat → Int32) × (Nat → Int64) × (Nat → Int64) × (Nat → Int64) × (Nat → Int64)) :=
  if s1 = 0 then
    (bd15 (F_X6_runPresent v_m v_lengths v_fractions v_times v_energies v_far v_near v_echoes) fun w1_lineParts w2_pulseMany w3_left w4_dropped w5_merged w6_drops w7_contributions w8_packet w9_lengths w10_fractions w11_times w12_energies w13_far w14_near w15_echoes =>
    bd1 (F_X6_arrives w1_lineParts w9_lengths w13_far w14_near x1 x2 x3) fun r16 =>
    some (r16, s1, w1_lineParts, w2_pulseMany, w3_left, w4_dropped, w5_merged, w6_drops, w7_contributions, w8_packet, w9_lengths, w10_fractions, w11_times, w12_energies, w13_far, w14_near, w15_echoes))
  else
    (some (0, s1, v_lineParts, v_pulseMany, v_left, v_dropped, v_merged, v_drops, v_contributions, v_packet, v_lengths, v_fractions, v_times, v_energies, v_far, v_near, v_echoes))
def F_X6_arrival (v_lineParts : Int32) (v_pulseMany : Int32) (v_left : Int64) (v_dropped : Int64) (v_merged : Int32) (v_drops : Int32) (v_contributions : Int32) (v_packet : Int64) (v_m : Nat → Int64) (v_lengths : Nat → Int32) (v_fractions : Nat → Int32) (v_times : Nat → Int32) (v_energies : Nat → Int64) (v_far : Nat → Int64) (v_near : Nat → Int64) (v_echoes : Nat → Int64) (x1 : Int32) (x2 : Int32) (x3 : Int32) : Option (Int64 × Int32 × Int32 × Int32 × Int64 × Int64 × Int32 × Int32 × Int32 × Int64 × (Nat → Int32) × (Nat → Int32) × (Nat → Int32) × (Nat → Int64) × (Nat → Int64) × (Nat → Int64) × (Nat → Int64)) :=
  bd1 (F_X6_parts v_m) fun r1 =>
  bd1 (F_X6_in x1.toInt64 0 r1.toInt64) fun r2 =>
  if r2 = 0 then
    (F_X6_arrival_38 v_lineParts v_pulseMany v_left v_dropped v_merged v_drops v_contributions v_packet v_m v_lengths v_fractions v_times v_energies v_far v_near v_echoes x1 x2 x3 1)
  else
    (bd1 (F_X6_window v_m) fun r3 =>
    bd1 (F_X6_in x2.toInt64 0 r3.toInt64) fun r4 =>
    F_X6_arrival_38 v_lineParts v_pulseMany v_left v_dropped v_merged v_drops v_contributions v_packet v_m v_lengths v_fractions v_times v_energies v_far v_near v_echoes x1 x2 x3 (if r4 = 0 then (2 : Int32) else 0))
theorem w_X6_arrival_38 {p : Program} {l : Launch} {e : Env} {s : State} {m : MethodId} {args : Array Value} {below : List Frame} {meth : Method} {c : Code} {Z : gZt} {A : Nat → Prop} (a0 : Nat) (a1 : Nat) (a2 : Nat) (a3 : Nat) (a4 : Nat) (a5 : Nat) (a6 : Nat) (a7 : Nat) (a8 : Nat) (a9 : Nat) (a10 : Nat) (a11 : Nat) (X : gX p s m args meth c Z A cX6_arrival "LineEchoesModel" 4 (some .long) []) (r : Int64) (r_code : Int32) (r_lineParts : Int32) (r_pulseMany : Int32) (r_left : Int64) (r_dropped : Int64) (r_merged : Int32) (r_drops : Int32) (r_contributions : Int32) (r_packet : Int64) (r_lengths : Nat → Int32) (r_fractions : Nat → Int32) (r_times : Nat → Int32) (r_energies : Nat → Int64) (r_far : Nat → Int64) (r_near : Nat → Int64) (r_echoes : Nat → Int64)  (v_savedCount : Int32) (v_scriptLength : Int32) (v_code : Int32) (v_lineParts : Int32) (v_pulseMany : Int32) (v_left : Int64) (v_dropped : Int64) (v_merged : Int32) (v_drops : Int32) (v_contributions : Int32) (v_packet : Int64) (v_peelResult : Int32) (v_peelTime : Int32) (v_peelSum : Int32) (v_at : Int32) (v_commands : Int32) (v_hash : Int64) (v_m : Nat → Int64) (v_saved : Nat → Int64) (v_script : Nat → Int32) (v_lengths : Nat → Int32) (v_fractions : Nat → Int32) (v_times : Nat → Int32) (v_energies : Nat → Int64) (v_far : Nat → Int64) (v_near : Nat → Int64) (v_echoes : Nat → Int64) (v_draft : Nat → Int32) (x1 : Int32) (x2 : Int32) (x3 : Int32) (s1 : Int32) (h : F_X6_arrival_38 v_lineParts v_pulseMany v_left v_dropped v_merged v_drops v_contributions v_packet v_m v_lengths v_fractions v_times v_energies v_far v_near v_echoes x1 x2 x3 s1 = some (r, r_code, r_lineParts, r_pulseMany, r_left, r_dropped, r_merged, r_drops, r_contributions, r_packet, r_lengths, r_fractions, r_times, r_energies, r_far, r_near, r_echoes)) : G p l e rm_X6_arrival s m args below meth c Z A 4 (MQ below (gPost Z A (fun _ : Unit => (some (.long r) : Option Value)) (fun _ : Unit => ([(a0, .inr (5, [.ref a1, .ref a2, .int v_savedCount, .ref a3, .int v_scriptLength, .int r_code, .int r_lineParts, .ref a4, .ref a5, .int r_pulseMany, .ref a6, .ref a7, .ref a8, .ref a9, .ref a10, .long r_left, .long r_dropped, .int r_merged, .int r_drops, .int r_contributions, .long r_packet, .int v_peelResult, .int v_peelTime, .int v_peelSum, .int v_at, .int v_commands, .ref a11, .long v_hash])), (a1, .inl (Z.2 1, 431, .inr (.inl v_m))), (a2, .inl (Z.2 1, 1293, .inr (.inl v_saved))), (a3, .inl (Z.2 0, 120, .inl v_script)), (a4, .inl (Z.2 0, 8, .inl r_lengths)), (a5, .inl (Z.2 0, 9, .inl r_fractions)), (a6, .inl (Z.2 0, 4, .inl r_times)), (a7, .inl (Z.2 1, 4, .inr (.inl r_energies))), (a8, .inl (Z.2 1, 1809, .inr (.inl r_far))), (a9, .inl (Z.2 1, 1809, .inr (.inl r_near))), (a10, .inl (Z.2 1, 201, .inr (.inl r_echoes))), (a11, .inl (Z.2 0, 120, .inl v_draft))] : va_W))) args s 0 0 A) [(a0, .inr (5, [.ref a1, .ref a2, .int v_savedCount, .ref a3, .int v_scriptLength, .int v_code, .int v_lineParts, .ref a4, .ref a5, .int v_pulseMany, .ref a6, .ref a7, .ref a8, .ref a9, .ref a10, .long v_left, .long v_dropped, .int v_merged, .int v_drops, .int v_contributions, .long v_packet, .int v_peelResult, .int v_peelTime, .int v_peelSum, .int v_at, .int v_commands, .ref a11, .long v_hash])), (a1, .inl (Z.2 1, 431, .inr (.inl v_m))), (a2, .inl (Z.2 1, 1293, .inr (.inl v_saved))), (a3, .inl (Z.2 0, 120, .inl v_script)), (a4, .inl (Z.2 0, 8, .inl v_lengths)), (a5, .inl (Z.2 0, 9, .inl v_fractions)), (a6, .inl (Z.2 0, 4, .inl v_times)), (a7, .inl (Z.2 1, 4, .inr (.inl v_energies))), (a8, .inl (Z.2 1, 1809, .inr (.inl v_far))), (a9, .inl (Z.2 1, 1809, .inr (.inl v_near))), (a10, .inl (Z.2 1, 201, .inr (.inl v_echoes))), (a11, .inl (Z.2 0, 120, .inl v_draft))] 0 0 38 [some (.ref a0), some (.int x1), some (.int x2), some (.int x3)] [.int s1, .ref a0] := by
  unfold F_X6_arrival_38 at h
  refine g_put X gC5 0 rfl 5 (by decide) q1347 (fun _ h9 => h9) rfl rfl rfl (Nat.le_of_ble_eq_true rfl) dX6_arrival_38 41 rfl ?_
  refine g_aload_n X rfl dX6_arrival_41 42 rfl ?_
  refine g_get X gC5 0 rfl 5 (by decide) q1347 (fun _ h9 => h9) rfl dX6_arrival_42 45 rfl ?_
  refine g_if_eq X dX6_arrival_45 50 (by decide) 48 rfl (fun hc => ?_) (fun hc => ?_)
  · replace h := if_t hc h
    refine g_aload_n X rfl dX6_arrival_50 51 rfl ?_
    obtain ⟨w1_lineParts, w2_pulseMany, w3_left, w4_dropped, w5_merged, w6_drops, w7_contributions, w8_packet, w9_lengths, w10_fractions, w11_times, w12_energies, w13_far, w14_near, w15_echoes, hcl, h⟩ := bd15_e h
    refine g_callV0W X (met_X6_runPresent l Z a0 a1 a2 a3 a4 a5 a6 a7 a8 a9 a10 a11 v_savedCount v_scriptLength s1 v_lineParts v_pulseMany v_left v_dropped v_merged v_drops v_contributions v_packet v_peelResult v_peelTime v_peelSum v_at v_commands v_hash v_m v_saved v_script v_lengths v_fractions v_times v_energies v_far v_near v_echoes v_draft  w1_lineParts w2_pulseMany w3_left w4_dropped w5_merged w6_drops w7_contributions w8_packet w9_lengths w10_fractions w11_times w12_energies w13_far w14_near w15_echoes hcl) rfl 0 gC5 rfl rfl (lw_V q1562 q1564 qs39 q74 q1565) md_X6_runPresent ⟨(Nat.le_of_ble_eq_true rfl), (Nat.le_of_ble_eq_true rfl)⟩ rfl dX6_arrival_51 54 rfl 0 0 rfl rfl (Nat.le_of_ble_eq_true rfl) (Nat.le_of_ble_eq_true rfl) (st := []) rfl (Nat.le_of_ble_eq_true rfl) (fun _ => rfl) (fun _ => ?_)
    refine g_aload_n X rfl dX6_arrival_54 55 rfl ?_
    refine g_iload_n X rfl dX6_arrival_55 56 rfl ?_
    refine g_iload_n X rfl dX6_arrival_56 57 rfl ?_
    refine g_iload_n X rfl dX6_arrival_57 58 rfl ?_
    obtain ⟨r16, hcl, h⟩ := bd1_e h
    refine g_callV1W X (met_X6_arrives l Z a0 a1 a2 a3 a4 a5 a6 a7 a8 a9 a10 a11 v_savedCount v_scriptLength s1 w1_lineParts w2_pulseMany w3_left w4_dropped w5_merged w6_drops w7_contributions w8_packet v_peelResult v_peelTime v_peelSum v_at v_commands v_hash v_m v_saved v_script w9_lengths w10_fractions w11_times w12_energies w13_far w14_near w15_echoes v_draft x1 x2 x3 r16 hcl) rfl 0 gC5 rfl rfl (lw_V q1582 q1584 qs44 q74 q1585) md_X6_arrives ⟨(Nat.le_of_ble_eq_true rfl), (Nat.le_of_ble_eq_true rfl)⟩ rfl dX6_arrival_58 61 rfl 0 0 rfl rfl (Nat.le_of_ble_eq_true rfl) (Nat.le_of_ble_eq_true rfl) (st := []) rfl (Nat.le_of_ble_eq_true rfl) (fun _ => rfl) (fun _ => ?_)
    obtain ⟨rfl, rfl, rfl, rfl, rfl, rfl, rfl, rfl, rfl, rfl, rfl, rfl, rfl, rfl, rfl, rfl, rfl⟩ := rt17 h
    exact g_lret X dX6_arrival_61 () rfl rfl (Nat.le_of_ble_eq_true rfl) (Nat.le_of_ble_eq_true rfl)
  · replace h := if_f hc h
    refine g_lconst X 0 dX6_arrival_48 49 rfl rfl ?_
    obtain ⟨rfl, rfl, rfl, rfl, rfl, rfl, rfl, rfl, rfl, rfl, rfl, rfl, rfl, rfl, rfl, rfl, rfl⟩ := rt17 h
    exact g_lret X dX6_arrival_49 () rfl rfl (Nat.le_of_ble_eq_true rfl) (Nat.le_of_ble_eq_true rfl)
theorem met_X6_arrival (l : Launch) (Z : gZt) (a0 : Nat) (a1 : Nat) (a2 : Nat) (a3 : Nat) (a4 : Nat) (a5 : Nat) (a6 : Nat) (a7 : Nat) (a8 : Nat) (a9 : Nat) (a10 : Nat) (a11 : Nat) (v_savedCount : Int32) (v_scriptLength : Int32) (v_code : Int32) (v_lineParts : Int32) (v_pulseMany : Int32) (v_left : Int64) (v_dropped : Int64) (v_merged : Int32) (v_drops : Int32) (v_contributions : Int32) (v_packet : Int64) (v_peelResult : Int32) (v_peelTime : Int32) (v_peelSum : Int32) (v_at : Int32) (v_commands : Int32) (v_hash : Int64) (v_m : Nat → Int64) (v_saved : Nat → Int64) (v_script : Nat → Int32) (v_lengths : Nat → Int32) (v_fractions : Nat → Int32) (v_times : Nat → Int32) (v_energies : Nat → Int64) (v_far : Nat → Int64) (v_near : Nat → Int64) (v_echoes : Nat → Int64) (v_draft : Nat → Int32) (x1 : Int32) (x2 : Int32) (x3 : Int32) (r : Int64) (r_code : Int32) (r_lineParts : Int32) (r_pulseMany : Int32) (r_left : Int64) (r_dropped : Int64) (r_merged : Int32) (r_drops : Int32) (r_contributions : Int32) (r_packet : Int64) (r_lengths : Nat → Int32) (r_fractions : Nat → Int32) (r_times : Nat → Int32) (r_energies : Nat → Int64) (r_far : Nat → Int64) (r_near : Nat → Int64) (r_echoes : Nat → Int64) (h : F_X6_arrival v_lineParts v_pulseMany v_left v_dropped v_merged v_drops v_contributions v_packet v_m v_lengths v_fractions v_times v_energies v_far v_near v_echoes x1 x2 x3 = some (r, r_code, r_lineParts, r_pulseMany, r_left, r_dropped, r_merged, r_drops, r_contributions, r_packet, r_lengths, r_fractions, r_times, r_energies, r_far, r_near, r_echoes)) : Ct l yX6_arrival (ws_ yX6_arrival cX6_arrival 4 (some .long)) rm_X6_arrival Z [.ref a0, .int x1, .int x2, .int x3] [(a0, .inr (5, [.ref a1, .ref a2, .int v_savedCount, .ref a3, .int v_scriptLength, .int v_code, .int v_lineParts, .ref a4, .ref a5, .int v_pulseMany, .ref a6, .ref a7, .ref a8, .ref a9, .ref a10, .long v_left, .long v_dropped, .int v_merged, .int v_drops, .int v_contributions, .long v_packet, .int v_peelResult, .int v_peelTime, .int v_peelSum, .int v_at, .int v_commands, .ref a11, .long v_hash])), (a1, .inl (Z.2 1, 431, .inr (.inl v_m))), (a2, .inl (Z.2 1, 1293, .inr (.inl v_saved))), (a3, .inl (Z.2 0, 120, .inl v_script)), (a4, .inl (Z.2 0, 8, .inl v_lengths)), (a5, .inl (Z.2 0, 9, .inl v_fractions)), (a6, .inl (Z.2 0, 4, .inl v_times)), (a7, .inl (Z.2 1, 4, .inr (.inl v_energies))), (a8, .inl (Z.2 1, 1809, .inr (.inl v_far))), (a9, .inl (Z.2 1, 1809, .inr (.inl v_near))), (a10, .inl (Z.2 1, 201, .inr (.inl v_echoes))), (a11, .inl (Z.2 0, 120, .inl v_draft))] [] (fun _ : Unit => (some (.long r) : Option Value)) (fun _ : Unit => ([(a0, .inr (5, [.ref a1, .ref a2, .int v_savedCount, .ref a3, .int v_scriptLength, .int r_code, .int r_lineParts, .ref a4, .ref a5, .int r_pulseMany, .ref a6, .ref a7, .ref a8, .ref a9, .ref a10, .long r_left, .long r_dropped, .int r_merged, .int r_drops, .int r_contributions, .long r_packet, .int v_peelResult, .int v_peelTime, .int v_peelSum, .int v_at, .int v_commands, .ref a11, .long v_hash])), (a1, .inl (Z.2 1, 431, .inr (.inl v_m))), (a2, .inl (Z.2 1, 1293, .inr (.inl v_saved))), (a3, .inl (Z.2 0, 120, .inl v_script)), (a4, .inl (Z.2 0, 8, .inl r_lengths)), (a5, .inl (Z.2 0, 9, .inl r_fractions)), (a6, .inl (Z.2 0, 4, .inl r_times)), (a7, .inl (Z.2 1, 4, .inr (.inl r_energies))), (a8, .inl (Z.2 1, 1809, .inr (.inl r_far))), (a9, .inl (Z.2 1, 1809, .inr (.inl r_near))), (a10, .inl (Z.2 1, 201, .inr (.inl r_echoes))), (a11, .inl (Z.2 0, 120, .inl v_draft))] : va_W)) := by
  refine Ct.of cX6_arrival 4 (some .long) "LineEchoesModel" [some (.ref a0), some (.int x1), some (.int x2), some (.int x3)] 0 (by decide) rfl (Nat.le_of_ble_eq_true rfl) rfl (fun p e s m args below meth c A X hin => ?_)
  unfold F_X6_arrival at h
  refine g_aload_n X rfl dX6_arrival_0 1 rfl ?_
  refine g_iload_n X rfl dX6_arrival_1 2 rfl ?_
  refine g_i2l X dX6_arrival_2 3 rfl ?_
  refine g_lconst X 0 dX6_arrival_3 4 rfl rfl ?_
  refine g_aload_n X rfl dX6_arrival_4 5 rfl ?_
  obtain ⟨r1, hcl, h⟩ := bd1_e h
  refine g_callV1W X (met_X6_parts l Z a0 a1 a2 a3 a4 a5 a6 a7 a8 a9 a10 a11 v_savedCount v_scriptLength v_code v_lineParts v_pulseMany v_left v_dropped v_merged v_drops v_contributions v_packet v_peelResult v_peelTime v_peelSum v_at v_commands v_hash v_m v_saved v_script v_lengths v_fractions v_times v_energies v_far v_near v_echoes v_draft  r1 hcl) rfl 0 gC5 rfl rfl (lw_V q1447 q1449 qs22 q74 q1450) md_X6_parts ⟨(Nat.le_of_ble_eq_true rfl), (Nat.le_of_ble_eq_true rfl)⟩ rfl dX6_arrival_5 8 rfl 0 0 rfl rfl (Nat.le_of_ble_eq_true rfl) (Nat.le_of_ble_eq_true rfl) (st := [.long 0, .long x1.toInt64, .ref a0]) rfl (Nat.le_of_ble_eq_true rfl) (fun _ => rfl) (fun _ => ?_)
  refine g_i2l X dX6_arrival_8 9 rfl ?_
  obtain ⟨r2, hcl, h⟩ := bd1_e h
  refine g_callS1Z X (met_X6_in l Z   x1.toInt64 0 r1.toInt64 r2 hcl) (lw_S q1443 q1444 q74 q1445) md_X6_in ⟨(Nat.le_of_ble_eq_true rfl), (Nat.le_of_ble_eq_true rfl)⟩ rfl dX6_arrival_9 12 rfl 0 0 rfl rfl (Nat.le_of_ble_eq_true rfl) (Nat.le_of_ble_eq_true rfl) (st := [.ref a0]) rfl (Nat.le_of_ble_eq_true rfl) (fun _ => rfl) (fun _ => ?_)
  refine g_if_ne X dX6_arrival_12 19 (by decide) 15 rfl (fun hc => ?_) (fun hc => ?_)
  · replace h := if_f hc h
    refine g_iload_n X rfl dX6_arrival_19 20 rfl ?_
    refine g_i2l X dX6_arrival_20 21 rfl ?_
    refine g_lconst X 0 dX6_arrival_21 22 rfl rfl ?_
    refine g_aload_n X rfl dX6_arrival_22 23 rfl ?_
    obtain ⟨r3, hcl, h⟩ := bd1_e h
    refine g_callV1W X (met_X6_window l Z a0 a1 a2 a3 a4 a5 a6 a7 a8 a9 a10 a11 v_savedCount v_scriptLength v_code v_lineParts v_pulseMany v_left v_dropped v_merged v_drops v_contributions v_packet v_peelResult v_peelTime v_peelSum v_at v_commands v_hash v_m v_saved v_script v_lengths v_fractions v_times v_energies v_far v_near v_echoes v_draft  r3 hcl) rfl 0 gC5 rfl rfl (lw_V q1517 q1519 qs34 q74 q1520) md_X6_window ⟨(Nat.le_of_ble_eq_true rfl), (Nat.le_of_ble_eq_true rfl)⟩ rfl dX6_arrival_23 26 rfl 0 0 rfl rfl (Nat.le_of_ble_eq_true rfl) (Nat.le_of_ble_eq_true rfl) (st := [.long 0, .long x2.toInt64, .ref a0]) rfl (Nat.le_of_ble_eq_true rfl) (fun _ => rfl) (fun _ => ?_)
    refine g_i2l X dX6_arrival_26 27 rfl ?_
    obtain ⟨r4, hcl, h⟩ := bd1_e h
    refine g_callS1Z X (met_X6_in l Z   x2.toInt64 0 r3.toInt64 r4 hcl) (lw_S q1443 q1444 q74 q1445) md_X6_in ⟨(Nat.le_of_ble_eq_true rfl), (Nat.le_of_ble_eq_true rfl)⟩ rfl dX6_arrival_27 30 rfl 0 0 rfl rfl (Nat.le_of_ble_eq_true rfl) (Nat.le_of_ble_eq_true rfl) (st := [.ref a0]) rfl (Nat.le_of_ble_eq_true rfl) (fun _ => rfl) (fun _ => ?_)
    refine g_seli 38 [.ref a0] (b := r4 = 0) 2 0 ?_ (fun hc K => ?_) (fun hc K => ?_)
    · exact w_X6_arrival_38 a0 a1 a2 a3 a4 a5 a6 a7 a8 a9 a10 a11  X  r r_code r_lineParts r_pulseMany r_left r_dropped r_merged r_drops r_contributions r_packet r_lengths r_fractions r_times r_energies r_far r_near r_echoes    v_savedCount v_scriptLength v_code v_lineParts v_pulseMany v_left v_dropped v_merged v_drops v_contributions v_packet v_peelResult v_peelTime v_peelSum v_at v_commands v_hash v_m v_saved v_script v_lengths v_fractions v_times v_energies v_far v_near v_echoes v_draft x1 x2 x3 (if r4 = 0 then (2 : Int32) else 0) h
    · refine g_if_eq X dX6_arrival_30 37 (by decide) 33 rfl (fun _ => ?_) (fun hn => absurd hc hn)
      refine g_iconst X 2 dX6_arrival_37 38 rfl kI_2 ?_
      exact K
    · refine g_if_eq X dX6_arrival_30 37 (by decide) 33 rfl (fun hn => absurd hn hc) (fun _ => ?_)
      refine g_iconst X 0 dX6_arrival_33 34 rfl kI_0 ?_
      refine g_goto X dX6_arrival_34 38 (by decide) ?_
      exact K
  · replace h := if_t hc h
    refine g_iconst X 1 dX6_arrival_15 16 rfl kI_1 ?_
    refine g_goto X dX6_arrival_16 38 (by decide) ?_
    exact w_X6_arrival_38 a0 a1 a2 a3 a4 a5 a6 a7 a8 a9 a10 a11  X  r r_code r_lineParts r_pulseMany r_left r_dropped r_merged r_drops r_contributions r_packet r_lengths r_fractions r_times r_energies r_far r_near r_echoes    v_savedCount v_scriptLength v_code v_lineParts v_pulseMany v_left v_dropped v_merged v_drops v_contributions v_packet v_peelResult v_peelTime v_peelSum v_at v_commands v_hash v_m v_saved v_script v_lengths v_fractions v_times v_energies v_far v_near v_echoes v_draft x1 x2 x3 1 h
/-! LineEchoesModel.digits(J)I -/
abbrev rm_X6_digits : Room := { frames := 0, cells := 0, slots := 0, locals := 0 }
def B_X6_digits_8 (K8 : (Int32) → (Int64) → Option (Int32)) (x2 : Int32) (x3 : Int64) : Option (Int32) :=
  if x3 ≤ 0 then
    (some x2)
  else
    (K8 (x2 + 1) (x3 / 10))
def F_X6_digits_8 : Nat → (Int32) → (Int64) → Option (Int32)
  | 0 => fun _ _ => none
  | n + 1 => B_X6_digits_8 (F_X6_digits_8 n)
def F_X6_digits (x0 : Int64) : Option (Int32) :=
  F_X6_digits_8 gFU 1 (x0 / 10)
theorem w_X6_digits_8 {p : Program} {l : Launch} {e : Env} {s : State} {m : MethodId} {args : Array Value} {below : List Frame} {meth : Method} {c : Code} {Z : gZt} {A : Nat → Prop} (X : gX p s m args meth c Z A cX6_digits "LineEchoesModel" 5 (some .int) []) (r : Int32)  : ∀ (n : Nat) (x2 : Int32) (x3 : Int64), F_X6_digits_8 n x2 x3 = some r → G p l e rm_X6_digits s m args below meth c Z A 5 (MQ below (gPost Z A (fun _ : Unit => (some (.int r) : Option Value)) (fun _ : Unit => ([] : va_W))) args s 0 0 A) [] 0 0 8 [none, none, some (.int x2), some (.long x3), none] [] := by
  intro n
  induction n with
  | zero =>
    intro x2 x3 h
    cases h
  | succ n hK8 =>
    intro x2 x3 h
    replace h : B_X6_digits_8 (F_X6_digits_8 n) x2 x3 = some r := h
    unfold B_X6_digits_8 at h
    refine g_lload_n X rfl dX6_digits_8 9 rfl ?_
    refine g_lconst X 0 dX6_digits_9 10 rfl rfl ?_
    refine g_lcmp_le X dX6_digits_10 11 rfl dX6_digits_11 26 (by decide) 14 rfl (fun hc => ?_) (fun hc => ?_)
    · replace h := if_t hc h
      refine g_iload_n X rfl dX6_digits_26 27 rfl ?_
      cases h
      exact g_iret X dX6_digits_27 () rfl rfl (Nat.le_of_ble_eq_true rfl) (Nat.le_of_ble_eq_true rfl)
    · replace h := if_f hc h
      refine g_iinc X 1 rfl dX6_digits_14 17 rfl kI_1 (Nat.le_of_ble_eq_true rfl) rfl [none, none, some (.int (x2 + 1)), some (.long x3), none] rfl ?_
      refine g_lload_n X rfl dX6_digits_17 18 rfl ?_
      refine g_ldc2 X q1622 dX6_digits_18 21 rfl ?_
      refine g_ldiv X (by decide) dX6_digits_21 22 rfl ?_
      refine g_lstore_n X dX6_digits_22 23 rfl (Nat.le_of_ble_eq_true rfl) rfl [none, none, some (.int (x2 + 1)), some (.long (x3 / 10)), none] rfl ?_
      refine g_goto X dX6_digits_23 8 (by decide) ?_
      exact hK8 (x2 + 1) (x3 / 10) h
theorem met_X6_digits (l : Launch) (Z : gZt) (x0 : Int64) (r : Int32) (h : F_X6_digits x0 = some r) : Ct l yX6_digits (ws_ yX6_digits cX6_digits 5 (some .int)) rm_X6_digits Z [.long x0] [] [] (fun _ : Unit => (some (.int r) : Option Value)) (fun _ : Unit => ([] : va_W)) := by
  refine Ct.of cX6_digits 5 (some .int) "LineEchoesModel" [some (.long x0), none, none, none, none] 3 (by decide) rfl (Nat.le_of_ble_eq_true rfl) rfl (fun p e s m args below meth c A X hin => ?_)
  unfold F_X6_digits at h
  refine g_iconst X 1 dX6_digits_0 1 rfl kI_1 ?_
  refine g_istore_n X dX6_digits_1 2 rfl (Nat.le_of_ble_eq_true rfl) rfl [some (.long x0), none, some (.int 1), none, none] rfl ?_
  refine g_lload_n X rfl dX6_digits_2 3 rfl ?_
  refine g_ldc2 X q1622 dX6_digits_3 6 rfl ?_
  refine g_ldiv X (by decide) dX6_digits_6 7 rfl ?_
  refine g_lstore_n X dX6_digits_7 8 rfl (Nat.le_of_ble_eq_true rfl) rfl [some (.long x0), none, some (.int 1), some (.long (x0 / 10)), none] rfl ?_
  refine g_kill (j := 0) [none, none, some (.int 1), some (.long (x0 / 10)), none] rfl ?_
  exact w_X6_digits_8   X  r    gFU 1 (x0 / 10) h
/-! LineEchoesModel.digitOf(JI)I -/
abbrev rm_X6_digitOf : Room := { frames := 1, cells := 0, slots := 0, locals := 24 }
def B_X6_digitOf_10 (K10 : (Int32) → (Int64) → (Int32) → Option (Int32)) (x2 : Int32) (x3 : Int64) (x5 : Int32) : Option (Int32) :=
  if x5 ≤ x2 then
    (some (((x3 - x3 / 10 * 10).toInt32) + 48))
  else
    (K10 x2 (x3 / 10) (x5 + (-1)))
def F_X6_digitOf_10 : Nat → (Int32) → (Int64) → (Int32) → Option (Int32)
  | 0 => fun _ _ _ => none
  | n + 1 => B_X6_digitOf_10 (F_X6_digitOf_10 n)
def F_X6_digitOf (x0 : Int64) (x2 : Int32) : Option (Int32) :=
  bd1 (F_X6_digits x0) fun r1 =>
  F_X6_digitOf_10 gFU x2 x0 (r1 - 1)
theorem w_X6_digitOf_10 {p : Program} {l : Launch} {e : Env} {s : State} {m : MethodId} {args : Array Value} {below : List Frame} {meth : Method} {c : Code} {Z : gZt} {A : Nat → Prop} (X : gX p s m args meth c Z A cX6_digitOf "LineEchoesModel" 6 (some .int) []) (r : Int32)  : ∀ (n : Nat) (x2 : Int32) (x3 : Int64) (x5 : Int32), F_X6_digitOf_10 n x2 x3 x5 = some r → G p l e rm_X6_digitOf s m args below meth c Z A 6 (MQ below (gPost Z A (fun _ : Unit => (some (.int r) : Option Value)) (fun _ : Unit => ([] : va_W))) args s 0 0 A) [] 0 0 10 [none, none, some (.int x2), some (.long x3), none, some (.int x5)] [] := by
  intro n
  induction n with
  | zero =>
    intro x2 x3 x5 h
    cases h
  | succ n hK10 =>
    intro x2 x3 x5 h
    replace h : B_X6_digitOf_10 (F_X6_digitOf_10 n) x2 x3 x5 = some r := h
    unfold B_X6_digitOf_10 at h
    refine g_iload X rfl dX6_digitOf_10 12 rfl ?_
    refine g_iload_n X rfl dX6_digitOf_12 13 rfl ?_
    refine g_icmp_le X dX6_digitOf_13 28 (by decide) 16 rfl (fun hc => ?_) (fun hc => ?_)
    · replace h := if_t hc h
      refine g_lload_n X rfl dX6_digitOf_28 29 rfl ?_
      refine g_ldc2 X q1622 dX6_digitOf_29 32 rfl ?_
      refine g_lrem X (by decide) dX6_digitOf_32 33 rfl ?_
      refine g_l2i X dX6_digitOf_33 34 rfl ?_
      refine g_bipush X 48 dX6_digitOf_34 36 rfl kB_48 ?_
      refine g_iadd X dX6_digitOf_36 37 rfl ?_
      cases h
      exact g_iret X dX6_digitOf_37 () rfl rfl (Nat.le_of_ble_eq_true rfl) (Nat.le_of_ble_eq_true rfl)
    · replace h := if_f hc h
      refine g_lload_n X rfl dX6_digitOf_16 17 rfl ?_
      refine g_ldc2 X q1622 dX6_digitOf_17 20 rfl ?_
      refine g_ldiv X (by decide) dX6_digitOf_20 21 rfl ?_
      refine g_lstore_n X dX6_digitOf_21 22 rfl (Nat.le_of_ble_eq_true rfl) rfl [none, none, some (.int x2), some (.long (x3 / 10)), none, some (.int x5)] rfl ?_
      refine g_iinc X (-1) rfl dX6_digitOf_22 25 rfl kI_m1 (Nat.le_of_ble_eq_true rfl) rfl [none, none, some (.int x2), some (.long (x3 / 10)), none, some (.int (x5 + (-1)))] rfl ?_
      refine g_goto X dX6_digitOf_25 10 (by decide) ?_
      exact hK10 x2 (x3 / 10) (x5 + (-1)) h
theorem met_X6_digitOf (l : Launch) (Z : gZt) (x0 : Int64) (x2 : Int32) (r : Int32) (h : F_X6_digitOf x0 x2 = some r) : Ct l yX6_digitOf (ws_ yX6_digitOf cX6_digitOf 6 (some .int)) rm_X6_digitOf Z [.long x0, .int x2] [] [] (fun _ : Unit => (some (.int r) : Option Value)) (fun _ : Unit => ([] : va_W)) := by
  refine Ct.of cX6_digitOf 6 (some .int) "LineEchoesModel" [some (.long x0), none, some (.int x2), none, none, none] 3 (by decide) rfl (Nat.le_of_ble_eq_true rfl) rfl (fun p e s m args below meth c A X hin => ?_)
  unfold F_X6_digitOf at h
  refine g_lload_n X rfl dX6_digitOf_0 1 rfl ?_
  refine g_lstore_n X dX6_digitOf_1 2 rfl (Nat.le_of_ble_eq_true rfl) rfl [some (.long x0), none, some (.int x2), some (.long x0), none, none] rfl ?_
  refine g_lload_n X rfl dX6_digitOf_2 3 rfl ?_
  obtain ⟨r1, hcl, h⟩ := bd1_e h
  refine g_callS1Z X (met_X6_digits l Z   x0 r1 hcl) (lw_S q1619 q1620 q74 q1621) md_X6_digits ⟨(Nat.le_of_ble_eq_true rfl), (Nat.le_of_ble_eq_true rfl)⟩ rfl dX6_digitOf_3 6 rfl 0 0 rfl rfl (Nat.le_of_ble_eq_true rfl) (Nat.le_of_ble_eq_true rfl) (st := []) rfl (Nat.le_of_ble_eq_true rfl) (fun _ => rfl) (fun _ => ?_)
  refine g_iconst X 1 dX6_digitOf_6 7 rfl kI_1 ?_
  refine g_isub X dX6_digitOf_7 8 rfl ?_
  refine g_istore X dX6_digitOf_8 10 rfl (Nat.le_of_ble_eq_true rfl) rfl [some (.long x0), none, some (.int x2), some (.long x0), none, some (.int (r1 - 1))] rfl ?_
  refine g_kill (j := 0) [none, none, some (.int x2), some (.long x0), none, some (.int (r1 - 1))] rfl ?_
  exact w_X6_digitOf_10   X  r    gFU x2 x0 (r1 - 1) h
/-! LineEchoesModel.echoByte(I)I -/
abbrev rm_X6_echoByte : Room := { frames := 5, cells := 0, slots := 0, locals := 117 }
def F_X6_echoByte_139 (K30 : (Int32) → (Int32) → (Int32) → (Int64) → (Int64) → (Int32) → (Int32) → (Int32) → (Int64) → (Nat → Int32) → (Nat → Int32) → (Nat → Int32) → (Nat → Int64) → (Nat → Int64) → (Nat → Int64) → (Nat → Int64) → (Int32) → (Int32) → Option (Int32 × Int32 × Int32 × Int32 × Int64 × Int64 × Int32 × Int32 × Int32 × Int64 × (Nat → Int32) × (Nat → Int32) × (Nat → Int32) × (Nat → Int64) × (Nat → Int64) × (Nat → Int64) × (Nat → Int64))) (v_code : Int32) (v_lineParts : Int32) (v_pulseMany : Int32) (v_left : Int64) (v_dropped : Int64) (v_merged : Int32) (v_drops : Int32) (v_contributions : Int32) (v_packet : Int64) (v_lengths : Nat → Int32) (v_fractions : Nat → Int32) (v_times : Nat → Int32) (v_energies : Nat → Int64) (v_far : Nat → Int64) (v_near : Nat → Int64) (v_echoes : Nat → Int64) (x2 : Int32) (x3 : Int32) : Option (Int32 × Int32 × Int32 × Int32 × Int64 × Int64 × Int32 × Int32 × Int32 × Int64 × (Nat → Int32) × (Nat → Int32) × (Nat → Int32) × (Nat → Int64) × (Nat → Int64) × (Nat → Int64) × (Nat → Int64)) :=
  K30 v_code v_lineParts v_pulseMany v_left v_dropped v_merged v_drops v_contributions v_packet v_lengths v_fractions v_times v_energies v_far v_near v_echoes x2 (x3 + 1)
def B_X6_echoByte_30 (K30 : (Int32) → (Int32) → (Int32) → (Int64) → (Int64) → (Int32) → (Int32) → (Int32) → (Int64) → (Nat → Int32) → (Nat → Int32) → (Nat → Int32) → (Nat → Int64) → (Nat → Int64) → (Nat → Int64) → (Nat → Int64) → (Int32) → (Int32) → Option (Int32 × Int32 × Int32 × Int32 × Int64 × Int64 × Int32 × Int32 × Int32 × Int64 × (Nat → Int32) × (Nat → Int32) × (Nat → Int32) × (Nat → Int64) × (Nat → Int64) × (Nat → Int64) × (Nat → Int64))) (v_code : Int32) (v_lineParts : Int32) (v_pulseMany : Int32) (v_left : Int64) (v_dropped : Int64) (v_merged : Int32) (v_drops : Int32) (v_contributions : Int32) (v_packet : Int64) (v_lengths : Nat → Int32) (v_fractions : Nat → Int32) (v_times : Nat → Int32) (v_energies : Nat → Int64) (v_far : Nat → Int64) (v_near : Nat → Int64) (v_echoes : Nat → Int64) (x2 : Int32) (x3 : Int32) : Option (Int32 × Int32 × Int32 × Int32 × Int64 × Int64 × Int32 × Int32 × Int32 × Int64 × (Nat → Int32) × (Nat → Int32) × (Nat → Int32) × (Nat → Int64) × (Nat → Int64) × (Nat → Int64) × (Nat → Int64)) :=
  if 201 ≤ x3 then
    (some ((-1), v_code, v_lineParts, v_pulseMany, v_left, v_dropped, v_merged, v_drops, v_contributions, v_packet, v_lengths, v_fractions, v_times, v_energies, v_far, v_near, v_echoes))
  else
    (gin x3 201 <|
    if (v_echoes x3.toNatClampNeg) ≤ 0 then
      (F_X6_echoByte_139 K30 v_code v_lineParts v_pulseMany v_left v_dropped v_merged v_drops v_contributions v_packet v_lengths v_fractions v_times v_energies v_far v_near v_echoes x2 x3)
    else
      (bd1 (F_X6_digits x3.toInt64) fun r1 =>
      gin x3 201 <|
      bd1 (F_X6_digits (v_echoes x3.toNatClampNeg)) fun r2 =>
      if r1 ≤ x2 then
        (if x2 = r1 then
          (some (58, v_code, v_lineParts, v_pulseMany, v_left, v_dropped, v_merged, v_drops, v_contributions, v_packet, v_lengths, v_fractions, v_times, v_energies, v_far, v_near, v_echoes))
        else
          (if ((r1 + 1) + r2) ≤ x2 then
            (if x2 = ((r1 + 1) + r2) then
              (some (59, v_code, v_lineParts, v_pulseMany, v_left, v_dropped, v_merged, v_drops, v_contributions, v_packet, v_lengths, v_fractions, v_times, v_energies, v_far, v_near, v_echoes))
            else
              (F_X6_echoByte_139 K30 v_code v_lineParts v_pulseMany v_left v_dropped v_merged v_drops v_contributions v_packet v_lengths v_fractions v_times v_energies v_far v_near v_echoes (x2 - ((r1 + r2) + 2)) x3))
          else
            (gin x3 201 <|
            bd1 (F_X6_digitOf (v_echoes x3.toNatClampNeg) ((x2 - r1) - 1)) fun r3 =>
            some (r3, v_code, v_lineParts, v_pulseMany, v_left, v_dropped, v_merged, v_drops, v_contributions, v_packet, v_lengths, v_fractions, v_times, v_energies, v_far, v_near, v_echoes))))
      else
        (bd1 (F_X6_digitOf x3.toInt64 x2) fun r4 =>
        some (r4, v_code, v_lineParts, v_pulseMany, v_left, v_dropped, v_merged, v_drops, v_contributions, v_packet, v_lengths, v_fractions, v_times, v_energies, v_far, v_near, v_echoes))))
def F_X6_echoByte_30 : Nat → (Int32) → (Int32) → (Int32) → (Int64) → (Int64) → (Int32) → (Int32) → (Int32) → (Int64) → (Nat → Int32) → (Nat → Int32) → (Nat → Int32) → (Nat → Int64) → (Nat → Int64) → (Nat → Int64) → (Nat → Int64) → (Int32) → (Int32) → Option (Int32 × Int32 × Int32 × Int32 × Int64 × Int64 × Int32 × Int32 × Int32 × Int64 × (Nat → Int32) × (Nat → Int32) × (Nat → Int32) × (Nat → Int64) × (Nat → Int64) × (Nat → Int64) × (Nat → Int64))
  | 0 => fun _ _ _ _ _ _ _ _ _ _ _ _ _ _ _ _ _ _ => none
  | n + 1 => B_X6_echoByte_30 (F_X6_echoByte_30 n)
def F_X6_echoByte (v_lineParts : Int32) (v_pulseMany : Int32) (v_left : Int64) (v_dropped : Int64) (v_merged : Int32) (v_drops : Int32) (v_contributions : Int32) (v_packet : Int64) (v_m : Nat → Int64) (v_lengths : Nat → Int32) (v_fractions : Nat → Int32) (v_times : Nat → Int32) (v_energies : Nat → Int64) (v_far : Nat → Int64) (v_near : Nat → Int64) (v_echoes : Nat → Int64) (x1 : Int32) : Option (Int32 × Int32 × Int32 × Int32 × Int64 × Int64 × Int32 × Int32 × Int32 × Int64 × (Nat → Int32) × (Nat → Int32) × (Nat → Int32) × (Nat → Int64) × (Nat → Int64) × (Nat → Int64) × (Nat → Int64)) :=
  if (if 0 ≤ x1 then (0 : Int32) else 1) = 0 then
    (bd15 (F_X6_runPresent v_m v_lengths v_fractions v_times v_energies v_far v_near v_echoes) fun w1_lineParts w2_pulseMany w3_left w4_dropped w5_merged w6_drops w7_contributions w8_packet w9_lengths w10_fractions w11_times w12_energies w13_far w14_near w15_echoes =>
    F_X6_echoByte_30 gFU (if 0 ≤ x1 then (0 : Int32) else 1) w1_lineParts w2_pulseMany w3_left w4_dropped w5_merged w6_drops w7_contributions w8_packet w9_lengths w10_fractions w11_times w12_energies w13_far w14_near w15_echoes x1 0)
  else
    (some (0, (if 0 ≤ x1 then (0 : Int32) else 1), v_lineParts, v_pulseMany, v_left, v_dropped, v_merged, v_drops, v_contributions, v_packet, v_lengths, v_fractions, v_times, v_energies, v_far, v_near, v_echoes))
theorem w_X6_echoByte_139 {p : Program} {l : Launch} {e : Env} {s : State} {m : MethodId} {args : Array Value} {below : List Frame} {meth : Method} {c : Code} {Z : gZt} {A : Nat → Prop} (a0 : Nat) (a1 : Nat) (a2 : Nat) (a3 : Nat) (a4 : Nat) (a5 : Nat) (a6 : Nat) (a7 : Nat) (a8 : Nat) (a9 : Nat) (a10 : Nat) (a11 : Nat) (X : gX p s m args meth c Z A cX6_echoByte "LineEchoesModel" 6 (some .int) []) (r : Int32) (r_code : Int32) (r_lineParts : Int32) (r_pulseMany : Int32) (r_left : Int64) (r_dropped : Int64) (r_merged : Int32) (r_drops : Int32) (r_contributions : Int32) (r_packet : Int64) (r_lengths : Nat → Int32) (r_fractions : Nat → Int32) (r_times : Nat → Int32) (r_energies : Nat → Int64) (r_far : Nat → Int64) (r_near : Nat → Int64) (r_echoes : Nat → Int64) (K30 : (Int32) → (Int32) → (Int32) → (Int64) → (Int64) → (Int32) → (Int32) → (Int32) → (Int64) → (Nat → Int32) → (Nat → Int32) → (Nat → Int32) → (Nat → Int64) → (Nat → Int64) → (Nat → Int64) → (Nat → Int64) → (Int32) → (Int32) → Option (Int32 × Int32 × Int32 × Int32 × Int64 × Int64 × Int32 × Int32 × Int32 × Int64 × (Nat → Int32) × (Nat → Int32) × (Nat → Int32) × (Nat → Int64) × (Nat → Int64) × (Nat → Int64) × (Nat → Int64))) (hK30 : ∀ (v_savedCount : Int32) (v_scriptLength : Int32) (v_code : Int32) (v_lineParts : Int32) (v_pulseMany : Int32) (v_left : Int64) (v_dropped : Int64) (v_merged : Int32) (v_drops : Int32) (v_contributions : Int32) (v_packet : Int64) (v_peelResult : Int32) (v_peelTime : Int32) (v_peelSum : Int32) (v_at : Int32) (v_commands : Int32) (v_hash : Int64) (v_m : Nat → Int64) (v_saved : Nat → Int64) (v_script : Nat → Int32) (v_lengths : Nat → Int32) (v_fractions : Nat → Int32) (v_times : Nat → Int32) (v_energies : Nat → Int64) (v_far : Nat → Int64) (v_near : Nat → Int64) (v_echoes : Nat → Int64) (v_draft : Nat → Int32) (x2 : Int32) (x3 : Int32), K30 v_code v_lineParts v_pulseMany v_left v_dropped v_merged v_drops v_contributions v_packet v_lengths v_fractions v_times v_energies v_far v_near v_echoes x2 x3 = some (r, r_code, r_lineParts, r_pulseMany, r_left, r_dropped, r_merged, r_drops, r_contributions, r_packet, r_lengths, r_fractions, r_times, r_energies, r_far, r_near, r_echoes) → G p l e rm_X6_echoByte s m args below meth c Z A 6 (MQ below (gPost Z A (fun _ : Unit => (some (.int r) : Option Value)) (fun _ : Unit => ([(a0, .inr (5, [.ref a1, .ref a2, .int v_savedCount, .ref a3, .int v_scriptLength, .int r_code, .int r_lineParts, .ref a4, .ref a5, .int r_pulseMany, .ref a6, .ref a7, .ref a8, .ref a9, .ref a10, .long r_left, .long r_dropped, .int r_merged, .int r_drops, .int r_contributions, .long r_packet, .int v_peelResult, .int v_peelTime, .int v_peelSum, .int v_at, .int v_commands, .ref a11, .long v_hash])), (a1, .inl (Z.2 1, 431, .inr (.inl v_m))), (a2, .inl (Z.2 1, 1293, .inr (.inl v_saved))), (a3, .inl (Z.2 0, 120, .inl v_script)), (a4, .inl (Z.2 0, 8, .inl r_lengths)), (a5, .inl (Z.2 0, 9, .inl r_fractions)), (a6, .inl (Z.2 0, 4, .inl r_times)), (a7, .inl (Z.2 1, 4, .inr (.inl r_energies))), (a8, .inl (Z.2 1, 1809, .inr (.inl r_far))), (a9, .inl (Z.2 1, 1809, .inr (.inl r_near))), (a10, .inl (Z.2 1, 201, .inr (.inl r_echoes))), (a11, .inl (Z.2 0, 120, .inl v_draft))] : va_W))) args s 0 0 A) [(a0, .inr (5, [.ref a1, .ref a2, .int v_savedCount, .ref a3, .int v_scriptLength, .int v_code, .int v_lineParts, .ref a4, .ref a5, .int v_pulseMany, .ref a6, .ref a7, .ref a8, .ref a9, .ref a10, .long v_left, .long v_dropped, .int v_merged, .int v_drops, .int v_contributions, .long v_packet, .int v_peelResult, .int v_peelTime, .int v_peelSum, .int v_at, .int v_commands, .ref a11, .long v_hash])), (a1, .inl (Z.2 1, 431, .inr (.inl v_m))), (a2, .inl (Z.2 1, 1293, .inr (.inl v_saved))), (a3, .inl (Z.2 0, 120, .inl v_script)), (a4, .inl (Z.2 0, 8, .inl v_lengths)), (a5, .inl (Z.2 0, 9, .inl v_fractions)), (a6, .inl (Z.2 0, 4, .inl v_times)), (a7, .inl (Z.2 1, 4, .inr (.inl v_energies))), (a8, .inl (Z.2 1, 1809, .inr (.inl v_far))), (a9, .inl (Z.2 1, 1809, .inr (.inl v_near))), (a10, .inl (Z.2 1, 201, .inr (.inl v_echoes))), (a11, .inl (Z.2 0, 120, .inl v_draft))] 0 0 30 [some (.ref a0), none, some (.int x2), some (.int x3), none, none] []) (v_savedCount : Int32) (v_scriptLength : Int32) (v_code : Int32) (v_lineParts : Int32) (v_pulseMany : Int32) (v_left : Int64) (v_dropped : Int64) (v_merged : Int32) (v_drops : Int32) (v_contributions : Int32) (v_packet : Int64) (v_peelResult : Int32) (v_peelTime : Int32) (v_peelSum : Int32) (v_at : Int32) (v_commands : Int32) (v_hash : Int64) (v_m : Nat → Int64) (v_saved : Nat → Int64) (v_script : Nat → Int32) (v_lengths : Nat → Int32) (v_fractions : Nat → Int32) (v_times : Nat → Int32) (v_energies : Nat → Int64) (v_far : Nat → Int64) (v_near : Nat → Int64) (v_echoes : Nat → Int64) (v_draft : Nat → Int32) (x2 : Int32) (x3 : Int32) (h : F_X6_echoByte_139 K30 v_code v_lineParts v_pulseMany v_left v_dropped v_merged v_drops v_contributions v_packet v_lengths v_fractions v_times v_energies v_far v_near v_echoes x2 x3 = some (r, r_code, r_lineParts, r_pulseMany, r_left, r_dropped, r_merged, r_drops, r_contributions, r_packet, r_lengths, r_fractions, r_times, r_energies, r_far, r_near, r_echoes)) : G p l e rm_X6_echoByte s m args below meth c Z A 6 (MQ below (gPost Z A (fun _ : Unit => (some (.int r) : Option Value)) (fun _ : Unit => ([(a0, .inr (5, [.ref a1, .ref a2, .int v_savedCount, .ref a3, .int v_scriptLength, .int r_code, .int r_lineParts, .ref a4, .ref a5, .int r_pulseMany, .ref a6, .ref a7, .ref a8, .ref a9, .ref a10, .long r_left, .long r_dropped, .int r_merged, .int r_drops, .int r_contributions, .long r_packet, .int v_peelResult, .int v_peelTime, .int v_peelSum, .int v_at, .int v_commands, .ref a11, .long v_hash])), (a1, .inl (Z.2 1, 431, .inr (.inl v_m))), (a2, .inl (Z.2 1, 1293, .inr (.inl v_saved))), (a3, .inl (Z.2 0, 120, .inl v_script)), (a4, .inl (Z.2 0, 8, .inl r_lengths)), (a5, .inl (Z.2 0, 9, .inl r_fractions)), (a6, .inl (Z.2 0, 4, .inl r_times)), (a7, .inl (Z.2 1, 4, .inr (.inl r_energies))), (a8, .inl (Z.2 1, 1809, .inr (.inl r_far))), (a9, .inl (Z.2 1, 1809, .inr (.inl r_near))), (a10, .inl (Z.2 1, 201, .inr (.inl r_echoes))), (a11, .inl (Z.2 0, 120, .inl v_draft))] : va_W))) args s 0 0 A) [(a0, .inr (5, [.ref a1, .ref a2, .int v_savedCount, .ref a3, .int v_scriptLength, .int v_code, .int v_lineParts, .ref a4, .ref a5, .int v_pulseMany, .ref a6, .ref a7, .ref a8, .ref a9, .ref a10, .long v_left, .long v_dropped, .int v_merged, .int v_drops, .int v_contributions, .long v_packet, .int v_peelResult, .int v_peelTime, .int v_peelSum, .int v_at, .int v_commands, .ref a11, .long v_hash])), (a1, .inl (Z.2 1, 431, .inr (.inl v_m))), (a2, .inl (Z.2 1, 1293, .inr (.inl v_saved))), (a3, .inl (Z.2 0, 120, .inl v_script)), (a4, .inl (Z.2 0, 8, .inl v_lengths)), (a5, .inl (Z.2 0, 9, .inl v_fractions)), (a6, .inl (Z.2 0, 4, .inl v_times)), (a7, .inl (Z.2 1, 4, .inr (.inl v_energies))), (a8, .inl (Z.2 1, 1809, .inr (.inl v_far))), (a9, .inl (Z.2 1, 1809, .inr (.inl v_near))), (a10, .inl (Z.2 1, 201, .inr (.inl v_echoes))), (a11, .inl (Z.2 0, 120, .inl v_draft))] 0 0 139 [some (.ref a0), none, some (.int x2), some (.int x3), none, none] [] := by
  unfold F_X6_echoByte_139 at h
  refine g_iinc X 1 rfl dX6_echoByte_139 142 rfl kI_1 (Nat.le_of_ble_eq_true rfl) rfl [some (.ref a0), none, some (.int x2), some (.int (x3 + 1)), none, none] rfl ?_
  refine g_goto X dX6_echoByte_142 30 (by decide) ?_
  exact hK30 v_savedCount v_scriptLength v_code v_lineParts v_pulseMany v_left v_dropped v_merged v_drops v_contributions v_packet v_peelResult v_peelTime v_peelSum v_at v_commands v_hash v_m v_saved v_script v_lengths v_fractions v_times v_energies v_far v_near v_echoes v_draft x2 (x3 + 1) h
theorem w_X6_echoByte_30 {p : Program} {l : Launch} {e : Env} {s : State} {m : MethodId} {args : Array Value} {below : List Frame} {meth : Method} {c : Code} {Z : gZt} {A : Nat → Prop} (a0 : Nat) (a1 : Nat) (a2 : Nat) (a3 : Nat) (a4 : Nat) (a5 : Nat) (a6 : Nat) (a7 : Nat) (a8 : Nat) (a9 : Nat) (a10 : Nat) (a11 : Nat) (X : gX p s m args meth c Z A cX6_echoByte "LineEchoesModel" 6 (some .int) []) (r : Int32) (r_code : Int32) (r_lineParts : Int32) (r_pulseMany : Int32) (r_left : Int64) (r_dropped : Int64) (r_merged : Int32) (r_drops : Int32) (r_contributions : Int32) (r_packet : Int64) (r_lengths : Nat → Int32) (r_fractions : Nat → Int32) (r_times : Nat → Int32) (r_energies : Nat → Int64) (r_far : Nat → Int64) (r_near : Nat → Int64) (r_echoes : Nat → Int64)  : ∀ (n : Nat) (v_savedCount : Int32) (v_scriptLength : Int32) (v_code : Int32) (v_lineParts : Int32) (v_pulseMany : Int32) (v_left : Int64) (v_dropped : Int64) (v_merged : Int32) (v_drops : Int32) (v_contributions : Int32) (v_packet : Int64) (v_peelResult : Int32) (v_peelTime : Int32) (v_peelSum : Int32) (v_at : Int32) (v_commands : Int32) (v_hash : Int64) (v_m : Nat → Int64) (v_saved : Nat → Int64) (v_script : Nat → Int32) (v_lengths : Nat → Int32) (v_fractions : Nat → Int32) (v_times : Nat → Int32) (v_energies : Nat → Int64) (v_far : Nat → Int64) (v_near : Nat → Int64) (v_echoes : Nat → Int64) (v_draft : Nat → Int32) (x2 : Int32) (x3 : Int32), F_X6_echoByte_30 n v_code v_lineParts v_pulseMany v_left v_dropped v_merged v_drops v_contributions v_packet v_lengths v_fractions v_times v_energies v_far v_near v_echoes x2 x3 = some (r, r_code, r_lineParts, r_pulseMany, r_left, r_dropped, r_merged, r_drops, r_contributions, r_packet, r_lengths, r_fractions, r_times, r_energies, r_far, r_near, r_echoes) → G p l e rm_X6_echoByte s m args below meth c Z A 6 (MQ below (gPost Z A (fun _ : Unit => (some (.int r) : Option Value)) (fun _ : Unit => ([(a0, .inr (5, [.ref a1, .ref a2, .int v_savedCount, .ref a3, .int v_scriptLength, .int r_code, .int r_lineParts, .ref a4, .ref a5, .int r_pulseMany, .ref a6, .ref a7, .ref a8, .ref a9, .ref a10, .long r_left, .long r_dropped, .int r_merged, .int r_drops, .int r_contributions, .long r_packet, .int v_peelResult, .int v_peelTime, .int v_peelSum, .int v_at, .int v_commands, .ref a11, .long v_hash])), (a1, .inl (Z.2 1, 431, .inr (.inl v_m))), (a2, .inl (Z.2 1, 1293, .inr (.inl v_saved))), (a3, .inl (Z.2 0, 120, .inl v_script)), (a4, .inl (Z.2 0, 8, .inl r_lengths)), (a5, .inl (Z.2 0, 9, .inl r_fractions)), (a6, .inl (Z.2 0, 4, .inl r_times)), (a7, .inl (Z.2 1, 4, .inr (.inl r_energies))), (a8, .inl (Z.2 1, 1809, .inr (.inl r_far))), (a9, .inl (Z.2 1, 1809, .inr (.inl r_near))), (a10, .inl (Z.2 1, 201, .inr (.inl r_echoes))), (a11, .inl (Z.2 0, 120, .inl v_draft))] : va_W))) args s 0 0 A) [(a0, .inr (5, [.ref a1, .ref a2, .int v_savedCount, .ref a3, .int v_scriptLength, .int v_code, .int v_lineParts, .ref a4, .ref a5, .int v_pulseMany, .ref a6, .ref a7, .ref a8, .ref a9, .ref a10, .long v_left, .long v_dropped, .int v_merged, .int v_drops, .int v_contributions, .long v_packet, .int v_peelResult, .int v_peelTime, .int v_peelSum, .int v_at, .int v_commands, .ref a11, .long v_hash])), (a1, .inl (Z.2 1, 431, .inr (.inl v_m))), (a2, .inl (Z.2 1, 1293, .inr (.inl v_saved))), (a3, .inl (Z.2 0, 120, .inl v_script)), (a4, .inl (Z.2 0, 8, .inl v_lengths)), (a5, .inl (Z.2 0, 9, .inl v_fractions)), (a6, .inl (Z.2 0, 4, .inl v_times)), (a7, .inl (Z.2 1, 4, .inr (.inl v_energies))), (a8, .inl (Z.2 1, 1809, .inr (.inl v_far))), (a9, .inl (Z.2 1, 1809, .inr (.inl v_near))), (a10, .inl (Z.2 1, 201, .inr (.inl v_echoes))), (a11, .inl (Z.2 0, 120, .inl v_draft))] 0 0 30 [some (.ref a0), none, some (.int x2), some (.int x3), none, none] [] := by
  intro n
  induction n with
  | zero =>
    intro v_savedCount v_scriptLength v_code v_lineParts v_pulseMany v_left v_dropped v_merged v_drops v_contributions v_packet v_peelResult v_peelTime v_peelSum v_at v_commands v_hash v_m v_saved v_script v_lengths v_fractions v_times v_energies v_far v_near v_echoes v_draft x2 x3 h
    cases h
  | succ n hK30 =>
    intro v_savedCount v_scriptLength v_code v_lineParts v_pulseMany v_left v_dropped v_merged v_drops v_contributions v_packet v_peelResult v_peelTime v_peelSum v_at v_commands v_hash v_m v_saved v_script v_lengths v_fractions v_times v_energies v_far v_near v_echoes v_draft x2 x3 h
    replace h : B_X6_echoByte_30 (F_X6_echoByte_30 n) v_code v_lineParts v_pulseMany v_left v_dropped v_merged v_drops v_contributions v_packet v_lengths v_fractions v_times v_energies v_far v_near v_echoes x2 x3 = some (r, r_code, r_lineParts, r_pulseMany, r_left, r_dropped, r_merged, r_drops, r_contributions, r_packet, r_lengths, r_fractions, r_times, r_energies, r_far, r_near, r_echoes) := h
    unfold B_X6_echoByte_30 at h
    refine g_iload_n X rfl dX6_echoByte_30 31 rfl ?_
    refine g_sipush X 201 dX6_echoByte_31 34 rfl kS_201 ?_
    refine g_icmp_ge X dX6_echoByte_34 145 (by decide) 37 rfl (fun hc => ?_) (fun hc => ?_)
    · replace h := if_t hc h
      refine g_iconst X (-1) dX6_echoByte_145 146 rfl kI_m1 ?_
      obtain ⟨rfl, rfl, rfl, rfl, rfl, rfl, rfl, rfl, rfl, rfl, rfl, rfl, rfl, rfl, rfl, rfl, rfl⟩ := rt17 h
      exact g_iret X dX6_echoByte_146 () rfl rfl (Nat.le_of_ble_eq_true rfl) (Nat.le_of_ble_eq_true rfl)
    · replace h := if_f hc h
      refine g_aload_n X rfl dX6_echoByte_37 38 rfl ?_
      refine g_get X gC5 0 rfl 14 (by decide) q1356 (fun _ h9 => h9) rfl dX6_echoByte_38 41 rfl ?_
      refine g_iload_n X rfl dX6_echoByte_41 42 rfl ?_
      obtain ⟨hi, h⟩ := gin_e h
      refine g_lald X 10 rfl hi dX6_echoByte_42 43 rfl ?_
      refine g_lconst X 0 dX6_echoByte_43 44 rfl rfl ?_
      refine g_lcmp_le X dX6_echoByte_44 45 rfl dX6_echoByte_45 139 (by decide) 48 rfl (fun hc => ?_) (fun hc => ?_)
      · replace h := if_t hc h
        exact w_X6_echoByte_139 a0 a1 a2 a3 a4 a5 a6 a7 a8 a9 a10 a11  X  r r_code r_lineParts r_pulseMany r_left r_dropped r_merged r_drops r_contributions r_packet r_lengths r_fractions r_times r_energies r_far r_near r_echoes _ hK30  v_savedCount v_scriptLength v_code v_lineParts v_pulseMany v_left v_dropped v_merged v_drops v_contributions v_packet v_peelResult v_peelTime v_peelSum v_at v_commands v_hash v_m v_saved v_script v_lengths v_fractions v_times v_energies v_far v_near v_echoes v_draft x2 x3 h
      · replace h := if_f hc h
        refine g_iload_n X rfl dX6_echoByte_48 49 rfl ?_
        refine g_i2l X dX6_echoByte_49 50 rfl ?_
        obtain ⟨r1, hcl, h⟩ := bd1_e h
        refine g_callS1Z X (met_X6_digits l Z   x3.toInt64 r1 hcl) (lw_S q1619 q1620 q74 q1621) md_X6_digits ⟨(Nat.le_of_ble_eq_true rfl), (Nat.le_of_ble_eq_true rfl)⟩ rfl dX6_echoByte_50 53 rfl 0 0 rfl rfl (Nat.le_of_ble_eq_true rfl) (Nat.le_of_ble_eq_true rfl) (st := []) rfl (Nat.le_of_ble_eq_true rfl) (fun _ => rfl) (fun _ => ?_)
        refine g_istore X dX6_echoByte_53 55 rfl (Nat.le_of_ble_eq_true rfl) rfl [some (.ref a0), none, some (.int x2), some (.int x3), some (.int r1), none] rfl ?_
        refine g_aload_n X rfl dX6_echoByte_55 56 rfl ?_
        refine g_get X gC5 0 rfl 14 (by decide) q1356 (fun _ h9 => h9) rfl dX6_echoByte_56 59 rfl ?_
        refine g_iload_n X rfl dX6_echoByte_59 60 rfl ?_
        obtain ⟨hi, h⟩ := gin_e h
        refine g_lald X 10 rfl hi dX6_echoByte_60 61 rfl ?_
        obtain ⟨r2, hcl, h⟩ := bd1_e h
        refine g_callS1Z X (met_X6_digits l Z   (v_echoes x3.toNatClampNeg) r2 hcl) (lw_S q1619 q1620 q74 q1621) md_X6_digits ⟨(Nat.le_of_ble_eq_true rfl), (Nat.le_of_ble_eq_true rfl)⟩ rfl dX6_echoByte_61 64 rfl 0 0 rfl rfl (Nat.le_of_ble_eq_true rfl) (Nat.le_of_ble_eq_true rfl) (st := []) rfl (Nat.le_of_ble_eq_true rfl) (fun _ => rfl) (fun _ => ?_)
        refine g_istore X dX6_echoByte_64 66 rfl (Nat.le_of_ble_eq_true rfl) rfl [some (.ref a0), none, some (.int x2), some (.int x3), some (.int r1), some (.int r2)] rfl ?_
        refine g_iload_n X rfl dX6_echoByte_66 67 rfl ?_
        refine g_iload X rfl dX6_echoByte_67 69 rfl ?_
        refine g_icmp_ge X dX6_echoByte_69 79 (by decide) 72 rfl (fun hc => ?_) (fun hc => ?_)
        · replace h := if_t hc h
          refine g_iload_n X rfl dX6_echoByte_79 80 rfl ?_
          refine g_iload X rfl dX6_echoByte_80 82 rfl ?_
          refine g_icmp_ne X dX6_echoByte_82 88 (by decide) 85 rfl (fun hc => ?_) (fun hc => ?_)
          · replace h := if_f hc h
            refine g_iload_n X rfl dX6_echoByte_88 89 rfl ?_
            refine g_iload X rfl dX6_echoByte_89 91 rfl ?_
            refine g_iconst X 1 dX6_echoByte_91 92 rfl kI_1 ?_
            refine g_iadd X dX6_echoByte_92 93 rfl ?_
            refine g_iload X rfl dX6_echoByte_93 95 rfl ?_
            refine g_iadd X dX6_echoByte_95 96 rfl ?_
            refine g_icmp_ge X dX6_echoByte_96 115 (by decide) 99 rfl (fun hc => ?_) (fun hc => ?_)
            · replace h := if_t hc h
              refine g_iload_n X rfl dX6_echoByte_115 116 rfl ?_
              refine g_iload X rfl dX6_echoByte_116 118 rfl ?_
              refine g_iconst X 1 dX6_echoByte_118 119 rfl kI_1 ?_
              refine g_iadd X dX6_echoByte_119 120 rfl ?_
              refine g_iload X rfl dX6_echoByte_120 122 rfl ?_
              refine g_iadd X dX6_echoByte_122 123 rfl ?_
              refine g_icmp_ne X dX6_echoByte_123 129 (by decide) 126 rfl (fun hc => ?_) (fun hc => ?_)
              · replace h := if_f hc h
                refine g_iload_n X rfl dX6_echoByte_129 130 rfl ?_
                refine g_iload X rfl dX6_echoByte_130 132 rfl ?_
                refine g_iload X rfl dX6_echoByte_132 134 rfl ?_
                refine g_iadd X dX6_echoByte_134 135 rfl ?_
                refine g_iconst X 2 dX6_echoByte_135 136 rfl kI_2 ?_
                refine g_iadd X dX6_echoByte_136 137 rfl ?_
                refine g_isub X dX6_echoByte_137 138 rfl ?_
                refine g_istore_n X dX6_echoByte_138 139 rfl (Nat.le_of_ble_eq_true rfl) rfl [some (.ref a0), none, some (.int (x2 - ((r1 + r2) + 2))), some (.int x3), some (.int r1), some (.int r2)] rfl ?_
                refine g_kill (j := 4) [some (.ref a0), none, some (.int (x2 - ((r1 + r2) + 2))), some (.int x3), none, some (.int r2)] rfl ?_
                refine g_kill (j := 5) [some (.ref a0), none, some (.int (x2 - ((r1 + r2) + 2))), some (.int x3), none, none] rfl ?_
                exact w_X6_echoByte_139 a0 a1 a2 a3 a4 a5 a6 a7 a8 a9 a10 a11  X  r r_code r_lineParts r_pulseMany r_left r_dropped r_merged r_drops r_contributions r_packet r_lengths r_fractions r_times r_energies r_far r_near r_echoes _ hK30  v_savedCount v_scriptLength v_code v_lineParts v_pulseMany v_left v_dropped v_merged v_drops v_contributions v_packet v_peelResult v_peelTime v_peelSum v_at v_commands v_hash v_m v_saved v_script v_lengths v_fractions v_times v_energies v_far v_near v_echoes v_draft (x2 - ((r1 + r2) + 2)) x3 h
              · replace h := if_t hc h
                refine g_bipush X 59 dX6_echoByte_126 128 rfl kB_59 ?_
                obtain ⟨rfl, rfl, rfl, rfl, rfl, rfl, rfl, rfl, rfl, rfl, rfl, rfl, rfl, rfl, rfl, rfl, rfl⟩ := rt17 h
                exact g_iret X dX6_echoByte_128 () rfl rfl (Nat.le_of_ble_eq_true rfl) (Nat.le_of_ble_eq_true rfl)
            · replace h := if_f hc h
              refine g_aload_n X rfl dX6_echoByte_99 100 rfl ?_
              refine g_get X gC5 0 rfl 14 (by decide) q1356 (fun _ h9 => h9) rfl dX6_echoByte_100 103 rfl ?_
              refine g_iload_n X rfl dX6_echoByte_103 104 rfl ?_
              obtain ⟨hi, h⟩ := gin_e h
              refine g_lald X 10 rfl hi dX6_echoByte_104 105 rfl ?_
              refine g_iload_n X rfl dX6_echoByte_105 106 rfl ?_
              refine g_iload X rfl dX6_echoByte_106 108 rfl ?_
              refine g_isub X dX6_echoByte_108 109 rfl ?_
              refine g_iconst X 1 dX6_echoByte_109 110 rfl kI_1 ?_
              refine g_isub X dX6_echoByte_110 111 rfl ?_
              obtain ⟨r3, hcl, h⟩ := bd1_e h
              refine g_callS1Z X (met_X6_digitOf l Z   (v_echoes x3.toNatClampNeg) ((x2 - r1) - 1) r3 hcl) (lw_S q1623 q1624 q74 q1625) md_X6_digitOf ⟨(Nat.le_of_ble_eq_true rfl), (Nat.le_of_ble_eq_true rfl)⟩ rfl dX6_echoByte_111 114 rfl 0 0 rfl rfl (Nat.le_of_ble_eq_true rfl) (Nat.le_of_ble_eq_true rfl) (st := []) rfl (Nat.le_of_ble_eq_true rfl) (fun _ => rfl) (fun _ => ?_)
              obtain ⟨rfl, rfl, rfl, rfl, rfl, rfl, rfl, rfl, rfl, rfl, rfl, rfl, rfl, rfl, rfl, rfl, rfl⟩ := rt17 h
              exact g_iret X dX6_echoByte_114 () rfl rfl (Nat.le_of_ble_eq_true rfl) (Nat.le_of_ble_eq_true rfl)
          · replace h := if_t hc h
            refine g_bipush X 58 dX6_echoByte_85 87 rfl kB_58 ?_
            obtain ⟨rfl, rfl, rfl, rfl, rfl, rfl, rfl, rfl, rfl, rfl, rfl, rfl, rfl, rfl, rfl, rfl, rfl⟩ := rt17 h
            exact g_iret X dX6_echoByte_87 () rfl rfl (Nat.le_of_ble_eq_true rfl) (Nat.le_of_ble_eq_true rfl)
        · replace h := if_f hc h
          refine g_iload_n X rfl dX6_echoByte_72 73 rfl ?_
          refine g_i2l X dX6_echoByte_73 74 rfl ?_
          refine g_iload_n X rfl dX6_echoByte_74 75 rfl ?_
          obtain ⟨r4, hcl, h⟩ := bd1_e h
          refine g_callS1Z X (met_X6_digitOf l Z   x3.toInt64 x2 r4 hcl) (lw_S q1623 q1624 q74 q1625) md_X6_digitOf ⟨(Nat.le_of_ble_eq_true rfl), (Nat.le_of_ble_eq_true rfl)⟩ rfl dX6_echoByte_75 78 rfl 0 0 rfl rfl (Nat.le_of_ble_eq_true rfl) (Nat.le_of_ble_eq_true rfl) (st := []) rfl (Nat.le_of_ble_eq_true rfl) (fun _ => rfl) (fun _ => ?_)
          obtain ⟨rfl, rfl, rfl, rfl, rfl, rfl, rfl, rfl, rfl, rfl, rfl, rfl, rfl, rfl, rfl, rfl, rfl⟩ := rt17 h
          exact g_iret X dX6_echoByte_78 () rfl rfl (Nat.le_of_ble_eq_true rfl) (Nat.le_of_ble_eq_true rfl)
theorem met_X6_echoByte (l : Launch) (Z : gZt) (a0 : Nat) (a1 : Nat) (a2 : Nat) (a3 : Nat) (a4 : Nat) (a5 : Nat) (a6 : Nat) (a7 : Nat) (a8 : Nat) (a9 : Nat) (a10 : Nat) (a11 : Nat) (v_savedCount : Int32) (v_scriptLength : Int32) (v_code : Int32) (v_lineParts : Int32) (v_pulseMany : Int32) (v_left : Int64) (v_dropped : Int64) (v_merged : Int32) (v_drops : Int32) (v_contributions : Int32) (v_packet : Int64) (v_peelResult : Int32) (v_peelTime : Int32) (v_peelSum : Int32) (v_at : Int32) (v_commands : Int32) (v_hash : Int64) (v_m : Nat → Int64) (v_saved : Nat → Int64) (v_script : Nat → Int32) (v_lengths : Nat → Int32) (v_fractions : Nat → Int32) (v_times : Nat → Int32) (v_energies : Nat → Int64) (v_far : Nat → Int64) (v_near : Nat → Int64) (v_echoes : Nat → Int64) (v_draft : Nat → Int32) (x1 : Int32) (r : Int32) (r_code : Int32) (r_lineParts : Int32) (r_pulseMany : Int32) (r_left : Int64) (r_dropped : Int64) (r_merged : Int32) (r_drops : Int32) (r_contributions : Int32) (r_packet : Int64) (r_lengths : Nat → Int32) (r_fractions : Nat → Int32) (r_times : Nat → Int32) (r_energies : Nat → Int64) (r_far : Nat → Int64) (r_near : Nat → Int64) (r_echoes : Nat → Int64) (h : F_X6_echoByte v_lineParts v_pulseMany v_left v_dropped v_merged v_drops v_contributions v_packet v_m v_lengths v_fractions v_times v_energies v_far v_near v_echoes x1 = some (r, r_code, r_lineParts, r_pulseMany, r_left, r_dropped, r_merged, r_drops, r_contributions, r_packet, r_lengths, r_fractions, r_times, r_energies, r_far, r_near, r_echoes)) : Ct l yX6_echoByte (ws_ yX6_echoByte cX6_echoByte 6 (some .int)) rm_X6_echoByte Z [.ref a0, .int x1] [(a0, .inr (5, [.ref a1, .ref a2, .int v_savedCount, .ref a3, .int v_scriptLength, .int v_code, .int v_lineParts, .ref a4, .ref a5, .int v_pulseMany, .ref a6, .ref a7, .ref a8, .ref a9, .ref a10, .long v_left, .long v_dropped, .int v_merged, .int v_drops, .int v_contributions, .long v_packet, .int v_peelResult, .int v_peelTime, .int v_peelSum, .int v_at, .int v_commands, .ref a11, .long v_hash])), (a1, .inl (Z.2 1, 431, .inr (.inl v_m))), (a2, .inl (Z.2 1, 1293, .inr (.inl v_saved))), (a3, .inl (Z.2 0, 120, .inl v_script)), (a4, .inl (Z.2 0, 8, .inl v_lengths)), (a5, .inl (Z.2 0, 9, .inl v_fractions)), (a6, .inl (Z.2 0, 4, .inl v_times)), (a7, .inl (Z.2 1, 4, .inr (.inl v_energies))), (a8, .inl (Z.2 1, 1809, .inr (.inl v_far))), (a9, .inl (Z.2 1, 1809, .inr (.inl v_near))), (a10, .inl (Z.2 1, 201, .inr (.inl v_echoes))), (a11, .inl (Z.2 0, 120, .inl v_draft))] [] (fun _ : Unit => (some (.int r) : Option Value)) (fun _ : Unit => ([(a0, .inr (5, [.ref a1, .ref a2, .int v_savedCount, .ref a3, .int v_scriptLength, .int r_code, .int r_lineParts, .ref a4, .ref a5, .int r_pulseMany, .ref a6, .ref a7, .ref a8, .ref a9, .ref a10, .long r_left, .long r_dropped, .int r_merged, .int r_drops, .int r_contributions, .long r_packet, .int v_peelResult, .int v_peelTime, .int v_peelSum, .int v_at, .int v_commands, .ref a11, .long v_hash])), (a1, .inl (Z.2 1, 431, .inr (.inl v_m))), (a2, .inl (Z.2 1, 1293, .inr (.inl v_saved))), (a3, .inl (Z.2 0, 120, .inl v_script)), (a4, .inl (Z.2 0, 8, .inl r_lengths)), (a5, .inl (Z.2 0, 9, .inl r_fractions)), (a6, .inl (Z.2 0, 4, .inl r_times)), (a7, .inl (Z.2 1, 4, .inr (.inl r_energies))), (a8, .inl (Z.2 1, 1809, .inr (.inl r_far))), (a9, .inl (Z.2 1, 1809, .inr (.inl r_near))), (a10, .inl (Z.2 1, 201, .inr (.inl r_echoes))), (a11, .inl (Z.2 0, 120, .inl v_draft))] : va_W)) := by
  refine Ct.of cX6_echoByte 6 (some .int) "LineEchoesModel" [some (.ref a0), some (.int x1), none, none, none, none] 4 (by decide) rfl (Nat.le_of_ble_eq_true rfl) rfl (fun p e s m args below meth c A X hin => ?_)
  unfold F_X6_echoByte at h
  refine g_aload_n X rfl dX6_echoByte_0 1 rfl ?_
  refine g_iload_n X rfl dX6_echoByte_1 2 rfl ?_
  refine g_seli 10 [.ref a0] (b := 0 ≤ x1) 0 1 ?_ (fun hc K => ?_) (fun hc K => ?_)
  · refine g_put X gC5 0 rfl 5 (by decide) q1347 (fun _ h9 => h9) rfl rfl rfl (Nat.le_of_ble_eq_true rfl) dX6_echoByte_10 13 rfl ?_
    refine g_aload_n X rfl dX6_echoByte_13 14 rfl ?_
    refine g_get X gC5 0 rfl 5 (by decide) q1347 (fun _ h9 => h9) rfl dX6_echoByte_14 17 rfl ?_
    refine g_if_eq X dX6_echoByte_17 22 (by decide) 20 rfl (fun hc => ?_) (fun hc => ?_)
    · replace h := if_t hc h
      refine g_aload_n X rfl dX6_echoByte_22 23 rfl ?_
      obtain ⟨w1_lineParts, w2_pulseMany, w3_left, w4_dropped, w5_merged, w6_drops, w7_contributions, w8_packet, w9_lengths, w10_fractions, w11_times, w12_energies, w13_far, w14_near, w15_echoes, hcl, h⟩ := bd15_e h
      refine g_callV0W X (met_X6_runPresent l Z a0 a1 a2 a3 a4 a5 a6 a7 a8 a9 a10 a11 v_savedCount v_scriptLength (if 0 ≤ x1 then (0 : Int32) else 1) v_lineParts v_pulseMany v_left v_dropped v_merged v_drops v_contributions v_packet v_peelResult v_peelTime v_peelSum v_at v_commands v_hash v_m v_saved v_script v_lengths v_fractions v_times v_energies v_far v_near v_echoes v_draft  w1_lineParts w2_pulseMany w3_left w4_dropped w5_merged w6_drops w7_contributions w8_packet w9_lengths w10_fractions w11_times w12_energies w13_far w14_near w15_echoes hcl) rfl 0 gC5 rfl rfl (lw_V q1562 q1564 qs39 q74 q1565) md_X6_runPresent ⟨(Nat.le_of_ble_eq_true rfl), (Nat.le_of_ble_eq_true rfl)⟩ rfl dX6_echoByte_23 26 rfl 0 0 rfl rfl (Nat.le_of_ble_eq_true rfl) (Nat.le_of_ble_eq_true rfl) (st := []) rfl (Nat.le_of_ble_eq_true rfl) (fun _ => rfl) (fun _ => ?_)
      refine g_iload_n X rfl dX6_echoByte_26 27 rfl ?_
      refine g_istore_n X dX6_echoByte_27 28 rfl (Nat.le_of_ble_eq_true rfl) rfl [some (.ref a0), some (.int x1), some (.int x1), none, none, none] rfl ?_
      refine g_iconst X 0 dX6_echoByte_28 29 rfl kI_0 ?_
      refine g_istore_n X dX6_echoByte_29 30 rfl (Nat.le_of_ble_eq_true rfl) rfl [some (.ref a0), some (.int x1), some (.int x1), some (.int 0), none, none] rfl ?_
      refine g_kill (j := 1) [some (.ref a0), none, some (.int x1), some (.int 0), none, none] rfl ?_
      exact w_X6_echoByte_30 a0 a1 a2 a3 a4 a5 a6 a7 a8 a9 a10 a11  X  r r_code r_lineParts r_pulseMany r_left r_dropped r_merged r_drops r_contributions r_packet r_lengths r_fractions r_times r_energies r_far r_near r_echoes    gFU v_savedCount v_scriptLength (if 0 ≤ x1 then (0 : Int32) else 1) w1_lineParts w2_pulseMany w3_left w4_dropped w5_merged w6_drops w7_contributions w8_packet v_peelResult v_peelTime v_peelSum v_at v_commands v_hash v_m v_saved v_script w9_lengths w10_fractions w11_times w12_energies w13_far w14_near w15_echoes v_draft x1 0 h
    · replace h := if_f hc h
      refine g_iconst X 0 dX6_echoByte_20 21 rfl kI_0 ?_
      obtain ⟨rfl, rfl, rfl, rfl, rfl, rfl, rfl, rfl, rfl, rfl, rfl, rfl, rfl, rfl, rfl, rfl, rfl⟩ := rt17 h
      exact g_iret X dX6_echoByte_21 () rfl rfl (Nat.le_of_ble_eq_true rfl) (Nat.le_of_ble_eq_true rfl)
  · refine g_if_ge X dX6_echoByte_2 9 (by decide) 5 rfl (fun _ => ?_) (fun hn => absurd hc hn)
    refine g_iconst X 0 dX6_echoByte_9 10 rfl kI_0 ?_
    exact K
  · refine g_if_ge X dX6_echoByte_2 9 (by decide) 5 rfl (fun hn => absurd hn hc) (fun _ => ?_)
    refine g_iconst X 1 dX6_echoByte_5 6 rfl kI_1 ?_
    refine g_goto X dX6_echoByte_6 10 (by decide) ?_
    exact K
/-! LineEchoesModel.copies(I)I -/
abbrev rm_X6_copies : Room := { frames := 5, cells := 0, slots := 0, locals := 117 }
def B_X6_copies_8 (K8 : (Int32) → (Int32) → (Int64) → (Int64) → (Int32) → (Int32) → (Int32) → (Int64) → (Nat → Int64) → (Nat → Int32) → (Nat → Int32) → (Nat → Int32) → (Nat → Int64) → (Nat → Int64) → (Nat → Int64) → (Nat → Int64) → (Int32) → (Int32) → (Int32) → Option (Int32 × Int32 × Int32 × Int64 × Int64 × Int32 × Int32 × Int32 × Int64 × (Nat → Int64) × (Nat → Int32) × (Nat → Int32) × (Nat → Int32) × (Nat → Int64) × (Nat → Int64) × (Nat → Int64) × (Nat → Int64))) (v_lineParts : Int32) (v_pulseMany : Int32) (v_left : Int64) (v_dropped : Int64) (v_merged : Int32) (v_drops : Int32) (v_contributions : Int32) (v_packet : Int64) (v_m : Nat → Int64) (v_lengths : Nat → Int32) (v_fractions : Nat → Int32) (v_times : Nat → Int32) (v_energies : Nat → Int64) (v_far : Nat → Int64) (v_near : Nat → Int64) (v_echoes : Nat → Int64) (x1 : Int32) (x2 : Int32) (x3 : Int32) : Option (Int32 × Int32 × Int32 × Int64 × Int64 × Int32 × Int32 × Int32 × Int64 × (Nat → Int64) × (Nat → Int32) × (Nat → Int32) × (Nat → Int32) × (Nat → Int64) × (Nat → Int64) × (Nat → Int64) × (Nat → Int64)) :=
  if 201 ≤ x3 then
    (some (x2, v_lineParts, v_pulseMany, v_left, v_dropped, v_merged, v_drops, v_contributions, v_packet, v_m, v_lengths, v_fractions, v_times, v_energies, v_far, v_near, v_echoes))
  else
    (gin x3 201 <|
    gin (x1 + x3) 431 <|
    gin x3 201 <|
    nm (x2 + (if (v_echoes x3.toNatClampNeg) ≤ 0 then (0 : Int32) else 1)) fun t1 =>
    K8 v_lineParts v_pulseMany v_left v_dropped v_merged v_drops v_contributions v_packet (vp_updL v_m (x1 + x3).toNatClampNeg (v_echoes x3.toNatClampNeg)) v_lengths v_fractions v_times v_energies v_far v_near v_echoes x1 t1 (x3 + 1))
def F_X6_copies_8 : Nat → (Int32) → (Int32) → (Int64) → (Int64) → (Int32) → (Int32) → (Int32) → (Int64) → (Nat → Int64) → (Nat → Int32) → (Nat → Int32) → (Nat → Int32) → (Nat → Int64) → (Nat → Int64) → (Nat → Int64) → (Nat → Int64) → (Int32) → (Int32) → (Int32) → Option (Int32 × Int32 × Int32 × Int64 × Int64 × Int32 × Int32 × Int32 × Int64 × (Nat → Int64) × (Nat → Int32) × (Nat → Int32) × (Nat → Int32) × (Nat → Int64) × (Nat → Int64) × (Nat → Int64) × (Nat → Int64))
  | 0 => fun _ _ _ _ _ _ _ _ _ _ _ _ _ _ _ _ _ _ _ => none
  | n + 1 => B_X6_copies_8 (F_X6_copies_8 n)
def F_X6_copies (v_m : Nat → Int64) (v_lengths : Nat → Int32) (v_fractions : Nat → Int32) (v_times : Nat → Int32) (v_energies : Nat → Int64) (v_far : Nat → Int64) (v_near : Nat → Int64) (v_echoes : Nat → Int64) (x1 : Int32) : Option (Int32 × Int32 × Int32 × Int64 × Int64 × Int32 × Int32 × Int32 × Int64 × (Nat → Int64) × (Nat → Int32) × (Nat → Int32) × (Nat → Int32) × (Nat → Int64) × (Nat → Int64) × (Nat → Int64) × (Nat → Int64)) :=
  bd15 (F_X6_runPresent v_m v_lengths v_fractions v_times v_energies v_far v_near v_echoes) fun w1_lineParts w2_pulseMany w3_left w4_dropped w5_merged w6_drops w7_contributions w8_packet w9_lengths w10_fractions w11_times w12_energies w13_far w14_near w15_echoes =>
  F_X6_copies_8 gFU w1_lineParts w2_pulseMany w3_left w4_dropped w5_merged w6_drops w7_contributions w8_packet v_m w9_lengths w10_fractions w11_times w12_energies w13_far w14_near w15_echoes x1 0 0
theorem w_X6_copies_8 {p : Program} {l : Launch} {e : Env} {s : State} {m : MethodId} {args : Array Value} {below : List Frame} {meth : Method} {c : Code} {Z : gZt} {A : Nat → Prop} (a0 : Nat) (a1 : Nat) (a2 : Nat) (a3 : Nat) (a4 : Nat) (a5 : Nat) (a6 : Nat) (a7 : Nat) (a8 : Nat) (a9 : Nat) (a10 : Nat) (a11 : Nat) (X : gX p s m args meth c Z A cX6_copies "LineEchoesModel" 4 (some .int) []) (r : Int32) (r_lineParts : Int32) (r_pulseMany : Int32) (r_left : Int64) (r_dropped : Int64) (r_merged : Int32) (r_drops : Int32) (r_contributions : Int32) (r_packet : Int64) (r_m : Nat → Int64) (r_lengths : Nat → Int32) (r_fractions : Nat → Int32) (r_times : Nat → Int32) (r_energies : Nat → Int64) (r_far : Nat → Int64) (r_near : Nat → Int64) (r_echoes : Nat → Int64)  : ∀ (n : Nat) (v_savedCount : Int32) (v_scriptLength : Int32) (v_code : Int32) (v_lineParts : Int32) (v_pulseMany : Int32) (v_left : Int64) (v_dropped : Int64) (v_merged : Int32) (v_drops : Int32) (v_contributions : Int32) (v_packet : Int64) (v_peelResult : Int32) (v_peelTime : Int32) (v_peelSum : Int32) (v_at : Int32) (v_commands : Int32) (v_hash : Int64) (v_m : Nat → Int64) (v_saved : Nat → Int64) (v_script : Nat → Int32) (v_lengths : Nat → Int32) (v_fractions : Nat → Int32) (v_times : Nat → Int32) (v_energies : Nat → Int64) (v_far : Nat → Int64) (v_near : Nat → Int64) (v_echoes : Nat → Int64) (v_draft : Nat → Int32) (x1 : Int32) (x2 : Int32) (x3 : Int32), F_X6_copies_8 n v_lineParts v_pulseMany v_left v_dropped v_merged v_drops v_contributions v_packet v_m v_lengths v_fractions v_times v_energies v_far v_near v_echoes x1 x2 x3 = some (r, r_lineParts, r_pulseMany, r_left, r_dropped, r_merged, r_drops, r_contributions, r_packet, r_m, r_lengths, r_fractions, r_times, r_energies, r_far, r_near, r_echoes) → G p l e rm_X6_copies s m args below meth c Z A 4 (MQ below (gPost Z A (fun _ : Unit => (some (.int r) : Option Value)) (fun _ : Unit => ([(a0, .inr (5, [.ref a1, .ref a2, .int v_savedCount, .ref a3, .int v_scriptLength, .int v_code, .int r_lineParts, .ref a4, .ref a5, .int r_pulseMany, .ref a6, .ref a7, .ref a8, .ref a9, .ref a10, .long r_left, .long r_dropped, .int r_merged, .int r_drops, .int r_contributions, .long r_packet, .int v_peelResult, .int v_peelTime, .int v_peelSum, .int v_at, .int v_commands, .ref a11, .long v_hash])), (a1, .inl (Z.2 1, 431, .inr (.inl r_m))), (a2, .inl (Z.2 1, 1293, .inr (.inl v_saved))), (a3, .inl (Z.2 0, 120, .inl v_script)), (a4, .inl (Z.2 0, 8, .inl r_lengths)), (a5, .inl (Z.2 0, 9, .inl r_fractions)), (a6, .inl (Z.2 0, 4, .inl r_times)), (a7, .inl (Z.2 1, 4, .inr (.inl r_energies))), (a8, .inl (Z.2 1, 1809, .inr (.inl r_far))), (a9, .inl (Z.2 1, 1809, .inr (.inl r_near))), (a10, .inl (Z.2 1, 201, .inr (.inl r_echoes))), (a11, .inl (Z.2 0, 120, .inl v_draft))] : va_W))) args s 0 0 A) [(a0, .inr (5, [.ref a1, .ref a2, .int v_savedCount, .ref a3, .int v_scriptLength, .int v_code, .int v_lineParts, .ref a4, .ref a5, .int v_pulseMany, .ref a6, .ref a7, .ref a8, .ref a9, .ref a10, .long v_left, .long v_dropped, .int v_merged, .int v_drops, .int v_contributions, .long v_packet, .int v_peelResult, .int v_peelTime, .int v_peelSum, .int v_at, .int v_commands, .ref a11, .long v_hash])), (a1, .inl (Z.2 1, 431, .inr (.inl v_m))), (a2, .inl (Z.2 1, 1293, .inr (.inl v_saved))), (a3, .inl (Z.2 0, 120, .inl v_script)), (a4, .inl (Z.2 0, 8, .inl v_lengths)), (a5, .inl (Z.2 0, 9, .inl v_fractions)), (a6, .inl (Z.2 0, 4, .inl v_times)), (a7, .inl (Z.2 1, 4, .inr (.inl v_energies))), (a8, .inl (Z.2 1, 1809, .inr (.inl v_far))), (a9, .inl (Z.2 1, 1809, .inr (.inl v_near))), (a10, .inl (Z.2 1, 201, .inr (.inl v_echoes))), (a11, .inl (Z.2 0, 120, .inl v_draft))] 0 0 8 [some (.ref a0), some (.int x1), some (.int x2), some (.int x3)] [] := by
  intro n
  induction n with
  | zero =>
    intro v_savedCount v_scriptLength v_code v_lineParts v_pulseMany v_left v_dropped v_merged v_drops v_contributions v_packet v_peelResult v_peelTime v_peelSum v_at v_commands v_hash v_m v_saved v_script v_lengths v_fractions v_times v_energies v_far v_near v_echoes v_draft x1 x2 x3 h
    cases h
  | succ n hK8 =>
    intro v_savedCount v_scriptLength v_code v_lineParts v_pulseMany v_left v_dropped v_merged v_drops v_contributions v_packet v_peelResult v_peelTime v_peelSum v_at v_commands v_hash v_m v_saved v_script v_lengths v_fractions v_times v_energies v_far v_near v_echoes v_draft x1 x2 x3 h
    replace h : B_X6_copies_8 (F_X6_copies_8 n) v_lineParts v_pulseMany v_left v_dropped v_merged v_drops v_contributions v_packet v_m v_lengths v_fractions v_times v_energies v_far v_near v_echoes x1 x2 x3 = some (r, r_lineParts, r_pulseMany, r_left, r_dropped, r_merged, r_drops, r_contributions, r_packet, r_m, r_lengths, r_fractions, r_times, r_energies, r_far, r_near, r_echoes) := h
    unfold B_X6_copies_8 at h
    refine g_iload_n X rfl dX6_copies_8 9 rfl ?_
    refine g_sipush X 201 dX6_copies_9 12 rfl kS_201 ?_
    refine g_icmp_ge X dX6_copies_12 54 (by decide) 15 rfl (fun hc => ?_) (fun hc => ?_)
    · replace h := if_t hc h
      refine g_iload_n X rfl dX6_copies_54 55 rfl ?_
      obtain ⟨rfl, rfl, rfl, rfl, rfl, rfl, rfl, rfl, rfl, rfl, rfl, rfl, rfl, rfl, rfl, rfl, rfl⟩ := rt17 h
      exact g_iret X dX6_copies_55 () rfl rfl (Nat.le_of_ble_eq_true rfl) (Nat.le_of_ble_eq_true rfl)
    · replace h := if_f hc h
      refine g_aload_n X rfl dX6_copies_15 16 rfl ?_
      refine g_get X gC5 0 rfl 0 (by decide) q1342 (fun _ h9 => h9) rfl dX6_copies_16 19 rfl ?_
      refine g_iload_n X rfl dX6_copies_19 20 rfl ?_
      refine g_iload_n X rfl dX6_copies_20 21 rfl ?_
      refine g_iadd X dX6_copies_21 22 rfl ?_
      refine g_aload_n X rfl dX6_copies_22 23 rfl ?_
      refine g_get X gC5 0 rfl 14 (by decide) q1356 (fun _ h9 => h9) rfl dX6_copies_23 26 rfl ?_
      refine g_iload_n X rfl dX6_copies_26 27 rfl ?_
      obtain ⟨hi, h⟩ := gin_e h
      refine g_lald X 10 rfl hi dX6_copies_27 28 rfl ?_
      obtain ⟨hi, h⟩ := gin_e h
      refine g_last X 1 rfl hi dX6_copies_28 29 rfl ?_
      refine g_iload_n X rfl dX6_copies_29 30 rfl ?_
      refine g_aload_n X rfl dX6_copies_30 31 rfl ?_
      refine g_get X gC5 0 rfl 14 (by decide) q1356 (fun _ h9 => h9) rfl dX6_copies_31 34 rfl ?_
      refine g_iload_n X rfl dX6_copies_34 35 rfl ?_
      obtain ⟨hi, h⟩ := gin_e h
      refine g_lald X 10 rfl hi dX6_copies_35 36 rfl ?_
      refine g_lconst X 0 dX6_copies_36 37 rfl rfl ?_
      refine g_seli 46 [.int x2] (b := (v_echoes x3.toNatClampNeg) ≤ 0) 0 1 ?_ (fun hc K => ?_) (fun hc K => ?_)
      · refine g_iadd X dX6_copies_46 47 rfl ?_
        refine g_topi (fun t1 et1 => ?_)
        replace h := nm_at et1 h
        refine g_istore_n X dX6_copies_47 48 rfl (Nat.le_of_ble_eq_true rfl) rfl [some (.ref a0), some (.int x1), some (.int t1), some (.int x3)] rfl ?_
        refine g_iinc X 1 rfl dX6_copies_48 51 rfl kI_1 (Nat.le_of_ble_eq_true rfl) rfl [some (.ref a0), some (.int x1), some (.int t1), some (.int (x3 + 1))] rfl ?_
        refine g_goto X dX6_copies_51 8 (by decide) ?_
        exact hK8 v_savedCount v_scriptLength v_code v_lineParts v_pulseMany v_left v_dropped v_merged v_drops v_contributions v_packet v_peelResult v_peelTime v_peelSum v_at v_commands v_hash (vp_updL v_m (x1 + x3).toNatClampNeg (v_echoes x3.toNatClampNeg)) v_saved v_script v_lengths v_fractions v_times v_energies v_far v_near v_echoes v_draft x1 t1 (x3 + 1) h
      · refine g_lcmp_le X dX6_copies_37 38 rfl dX6_copies_38 45 (by decide) 41 rfl (fun _ => ?_) (fun hn => absurd hc hn)
        refine g_iconst X 0 dX6_copies_45 46 rfl kI_0 ?_
        exact K
      · refine g_lcmp_le X dX6_copies_37 38 rfl dX6_copies_38 45 (by decide) 41 rfl (fun hn => absurd hn hc) (fun _ => ?_)
        refine g_iconst X 1 dX6_copies_41 42 rfl kI_1 ?_
        refine g_goto X dX6_copies_42 46 (by decide) ?_
        exact K
theorem met_X6_copies (l : Launch) (Z : gZt) (a0 : Nat) (a1 : Nat) (a2 : Nat) (a3 : Nat) (a4 : Nat) (a5 : Nat) (a6 : Nat) (a7 : Nat) (a8 : Nat) (a9 : Nat) (a10 : Nat) (a11 : Nat) (v_savedCount : Int32) (v_scriptLength : Int32) (v_code : Int32) (v_lineParts : Int32) (v_pulseMany : Int32) (v_left : Int64) (v_dropped : Int64) (v_merged : Int32) (v_drops : Int32) (v_contributions : Int32) (v_packet : Int64) (v_peelResult : Int32) (v_peelTime : Int32) (v_peelSum : Int32) (v_at : Int32) (v_commands : Int32) (v_hash : Int64) (v_m : Nat → Int64) (v_saved : Nat → Int64) (v_script : Nat → Int32) (v_lengths : Nat → Int32) (v_fractions : Nat → Int32) (v_times : Nat → Int32) (v_energies : Nat → Int64) (v_far : Nat → Int64) (v_near : Nat → Int64) (v_echoes : Nat → Int64) (v_draft : Nat → Int32) (x1 : Int32) (r : Int32) (r_lineParts : Int32) (r_pulseMany : Int32) (r_left : Int64) (r_dropped : Int64) (r_merged : Int32) (r_drops : Int32) (r_contributions : Int32) (r_packet : Int64) (r_m : Nat → Int64) (r_lengths : Nat → Int32) (r_fractions : Nat → Int32) (r_times : Nat → Int32) (r_energies : Nat → Int64) (r_far : Nat → Int64) (r_near : Nat → Int64) (r_echoes : Nat → Int64) (h : F_X6_copies v_m v_lengths v_fractions v_times v_energies v_far v_near v_echoes x1 = some (r, r_lineParts, r_pulseMany, r_left, r_dropped, r_merged, r_drops, r_contributions, r_packet, r_m, r_lengths, r_fractions, r_times, r_energies, r_far, r_near, r_echoes)) : Ct l yX6_copies (ws_ yX6_copies cX6_copies 4 (some .int)) rm_X6_copies Z [.ref a0, .int x1] [(a0, .inr (5, [.ref a1, .ref a2, .int v_savedCount, .ref a3, .int v_scriptLength, .int v_code, .int v_lineParts, .ref a4, .ref a5, .int v_pulseMany, .ref a6, .ref a7, .ref a8, .ref a9, .ref a10, .long v_left, .long v_dropped, .int v_merged, .int v_drops, .int v_contributions, .long v_packet, .int v_peelResult, .int v_peelTime, .int v_peelSum, .int v_at, .int v_commands, .ref a11, .long v_hash])), (a1, .inl (Z.2 1, 431, .inr (.inl v_m))), (a2, .inl (Z.2 1, 1293, .inr (.inl v_saved))), (a3, .inl (Z.2 0, 120, .inl v_script)), (a4, .inl (Z.2 0, 8, .inl v_lengths)), (a5, .inl (Z.2 0, 9, .inl v_fractions)), (a6, .inl (Z.2 0, 4, .inl v_times)), (a7, .inl (Z.2 1, 4, .inr (.inl v_energies))), (a8, .inl (Z.2 1, 1809, .inr (.inl v_far))), (a9, .inl (Z.2 1, 1809, .inr (.inl v_near))), (a10, .inl (Z.2 1, 201, .inr (.inl v_echoes))), (a11, .inl (Z.2 0, 120, .inl v_draft))] [] (fun _ : Unit => (some (.int r) : Option Value)) (fun _ : Unit => ([(a0, .inr (5, [.ref a1, .ref a2, .int v_savedCount, .ref a3, .int v_scriptLength, .int v_code, .int r_lineParts, .ref a4, .ref a5, .int r_pulseMany, .ref a6, .ref a7, .ref a8, .ref a9, .ref a10, .long r_left, .long r_dropped, .int r_merged, .int r_drops, .int r_contributions, .long r_packet, .int v_peelResult, .int v_peelTime, .int v_peelSum, .int v_at, .int v_commands, .ref a11, .long v_hash])), (a1, .inl (Z.2 1, 431, .inr (.inl r_m))), (a2, .inl (Z.2 1, 1293, .inr (.inl v_saved))), (a3, .inl (Z.2 0, 120, .inl v_script)), (a4, .inl (Z.2 0, 8, .inl r_lengths)), (a5, .inl (Z.2 0, 9, .inl r_fractions)), (a6, .inl (Z.2 0, 4, .inl r_times)), (a7, .inl (Z.2 1, 4, .inr (.inl r_energies))), (a8, .inl (Z.2 1, 1809, .inr (.inl r_far))), (a9, .inl (Z.2 1, 1809, .inr (.inl r_near))), (a10, .inl (Z.2 1, 201, .inr (.inl r_echoes))), (a11, .inl (Z.2 0, 120, .inl v_draft))] : va_W)) := by
  refine Ct.of cX6_copies 4 (some .int) "LineEchoesModel" [some (.ref a0), some (.int x1), none, none] 2 (by decide) rfl (Nat.le_of_ble_eq_true rfl) rfl (fun p e s m args below meth c A X hin => ?_)
  unfold F_X6_copies at h
  refine g_aload_n X rfl dX6_copies_0 1 rfl ?_
  obtain ⟨w1_lineParts, w2_pulseMany, w3_left, w4_dropped, w5_merged, w6_drops, w7_contributions, w8_packet, w9_lengths, w10_fractions, w11_times, w12_energies, w13_far, w14_near, w15_echoes, hcl, h⟩ := bd15_e h
  refine g_callV0W X (met_X6_runPresent l Z a0 a1 a2 a3 a4 a5 a6 a7 a8 a9 a10 a11 v_savedCount v_scriptLength v_code v_lineParts v_pulseMany v_left v_dropped v_merged v_drops v_contributions v_packet v_peelResult v_peelTime v_peelSum v_at v_commands v_hash v_m v_saved v_script v_lengths v_fractions v_times v_energies v_far v_near v_echoes v_draft  w1_lineParts w2_pulseMany w3_left w4_dropped w5_merged w6_drops w7_contributions w8_packet w9_lengths w10_fractions w11_times w12_energies w13_far w14_near w15_echoes hcl) rfl 0 gC5 rfl rfl (lw_V q1562 q1564 qs39 q74 q1565) md_X6_runPresent ⟨(Nat.le_of_ble_eq_true rfl), (Nat.le_of_ble_eq_true rfl)⟩ rfl dX6_copies_1 4 rfl 0 0 rfl rfl (Nat.le_of_ble_eq_true rfl) (Nat.le_of_ble_eq_true rfl) (st := []) rfl (Nat.le_of_ble_eq_true rfl) (fun _ => rfl) (fun _ => ?_)
  refine g_iconst X 0 dX6_copies_4 5 rfl kI_0 ?_
  refine g_istore_n X dX6_copies_5 6 rfl (Nat.le_of_ble_eq_true rfl) rfl [some (.ref a0), some (.int x1), some (.int 0), none] rfl ?_
  refine g_iconst X 0 dX6_copies_6 7 rfl kI_0 ?_
  refine g_istore_n X dX6_copies_7 8 rfl (Nat.le_of_ble_eq_true rfl) rfl [some (.ref a0), some (.int x1), some (.int 0), some (.int 0)] rfl ?_
  exact w_X6_copies_8 a0 a1 a2 a3 a4 a5 a6 a7 a8 a9 a10 a11  X  r r_lineParts r_pulseMany r_left r_dropped r_merged r_drops r_contributions r_packet r_m r_lengths r_fractions r_times r_energies r_far r_near r_echoes    gFU v_savedCount v_scriptLength v_code w1_lineParts w2_pulseMany w3_left w4_dropped w5_merged w6_drops w7_contributions w8_packet v_peelResult v_peelTime v_peelSum v_at v_commands v_hash v_m v_saved v_script w9_lengths w10_fractions w11_times w12_energies w13_far w14_near w15_echoes v_draft x1 0 0 h
/-! LineEchoesModel.keepSound()I -/
abbrev rm_X6_keepSound : Room := { frames := 6, cells := 0, slots := 0, locals := 140 }
def F_X6_keepSound (v_savedCount : Int32) (v_m : Nat → Int64) (v_saved : Nat → Int64) (v_lengths : Nat → Int32) (v_fractions : Nat → Int32) (v_times : Nat → Int32) (v_energies : Nat → Int64) (v_far : Nat → Int64) (v_near : Nat → Int64) (v_echoes : Nat → Int64) : Option (Int32 × Int32 × Int32 × Int32 × Int32 × Int64 × Int64 × Int32 × Int32 × Int32 × Int64 × (Nat → Int64) × (Nat → Int64) × (Nat → Int32) × (Nat → Int32) × (Nat → Int32) × (Nat → Int64) × (Nat → Int64) × (Nat → Int64) × (Nat → Int64)) :=
  bd2 (F_X6_keep v_savedCount v_m v_saved) fun w1_savedCount w2_saved =>
  bd17 (F_X6_copies v_m v_lengths v_fractions v_times v_energies v_far v_near v_echoes 29) fun r3 w4_lineParts w5_pulseMany w6_left w7_dropped w8_merged w9_drops w10_contributions w11_packet w12_m w13_lengths w14_fractions w15_times w16_energies w17_far w18_near w19_echoes =>
  some (r3, w1_savedCount, 0, w4_lineParts, w5_pulseMany, w6_left, w7_dropped, w8_merged, w9_drops, w10_contributions, w11_packet, w12_m, w2_saved, w13_lengths, w14_fractions, w15_times, w16_energies, w17_far, w18_near, w19_echoes)
theorem met_X6_keepSound (l : Launch) (Z : gZt) (a0 : Nat) (a1 : Nat) (a2 : Nat) (a3 : Nat) (a4 : Nat) (a5 : Nat) (a6 : Nat) (a7 : Nat) (a8 : Nat) (a9 : Nat) (a10 : Nat) (a11 : Nat) (v_savedCount : Int32) (v_scriptLength : Int32) (v_code : Int32) (v_lineParts : Int32) (v_pulseMany : Int32) (v_left : Int64) (v_dropped : Int64) (v_merged : Int32) (v_drops : Int32) (v_contributions : Int32) (v_packet : Int64) (v_peelResult : Int32) (v_peelTime : Int32) (v_peelSum : Int32) (v_at : Int32) (v_commands : Int32) (v_hash : Int64) (v_m : Nat → Int64) (v_saved : Nat → Int64) (v_script : Nat → Int32) (v_lengths : Nat → Int32) (v_fractions : Nat → Int32) (v_times : Nat → Int32) (v_energies : Nat → Int64) (v_far : Nat → Int64) (v_near : Nat → Int64) (v_echoes : Nat → Int64) (v_draft : Nat → Int32) (r : Int32) (r_savedCount : Int32) (r_code : Int32) (r_lineParts : Int32) (r_pulseMany : Int32) (r_left : Int64) (r_dropped : Int64) (r_merged : Int32) (r_drops : Int32) (r_contributions : Int32) (r_packet : Int64) (r_m : Nat → Int64) (r_saved : Nat → Int64) (r_lengths : Nat → Int32) (r_fractions : Nat → Int32) (r_times : Nat → Int32) (r_energies : Nat → Int64) (r_far : Nat → Int64) (r_near : Nat → Int64) (r_echoes : Nat → Int64) (h : F_X6_keepSound v_savedCount v_m v_saved v_lengths v_fractions v_times v_energies v_far v_near v_echoes = some (r, r_savedCount, r_code, r_lineParts, r_pulseMany, r_left, r_dropped, r_merged, r_drops, r_contributions, r_packet, r_m, r_saved, r_lengths, r_fractions, r_times, r_energies, r_far, r_near, r_echoes)) : Ct l yX6_keepSound (ws_ yX6_keepSound cX6_keepSound 1 (some .int)) rm_X6_keepSound Z [.ref a0] [(a0, .inr (5, [.ref a1, .ref a2, .int v_savedCount, .ref a3, .int v_scriptLength, .int v_code, .int v_lineParts, .ref a4, .ref a5, .int v_pulseMany, .ref a6, .ref a7, .ref a8, .ref a9, .ref a10, .long v_left, .long v_dropped, .int v_merged, .int v_drops, .int v_contributions, .long v_packet, .int v_peelResult, .int v_peelTime, .int v_peelSum, .int v_at, .int v_commands, .ref a11, .long v_hash])), (a1, .inl (Z.2 1, 431, .inr (.inl v_m))), (a2, .inl (Z.2 1, 1293, .inr (.inl v_saved))), (a3, .inl (Z.2 0, 120, .inl v_script)), (a4, .inl (Z.2 0, 8, .inl v_lengths)), (a5, .inl (Z.2 0, 9, .inl v_fractions)), (a6, .inl (Z.2 0, 4, .inl v_times)), (a7, .inl (Z.2 1, 4, .inr (.inl v_energies))), (a8, .inl (Z.2 1, 1809, .inr (.inl v_far))), (a9, .inl (Z.2 1, 1809, .inr (.inl v_near))), (a10, .inl (Z.2 1, 201, .inr (.inl v_echoes))), (a11, .inl (Z.2 0, 120, .inl v_draft))] [] (fun _ : Unit => (some (.int r) : Option Value)) (fun _ : Unit => ([(a0, .inr (5, [.ref a1, .ref a2, .int r_savedCount, .ref a3, .int v_scriptLength, .int r_code, .int r_lineParts, .ref a4, .ref a5, .int r_pulseMany, .ref a6, .ref a7, .ref a8, .ref a9, .ref a10, .long r_left, .long r_dropped, .int r_merged, .int r_drops, .int r_contributions, .long r_packet, .int v_peelResult, .int v_peelTime, .int v_peelSum, .int v_at, .int v_commands, .ref a11, .long v_hash])), (a1, .inl (Z.2 1, 431, .inr (.inl r_m))), (a2, .inl (Z.2 1, 1293, .inr (.inl r_saved))), (a3, .inl (Z.2 0, 120, .inl v_script)), (a4, .inl (Z.2 0, 8, .inl r_lengths)), (a5, .inl (Z.2 0, 9, .inl r_fractions)), (a6, .inl (Z.2 0, 4, .inl r_times)), (a7, .inl (Z.2 1, 4, .inr (.inl r_energies))), (a8, .inl (Z.2 1, 1809, .inr (.inl r_far))), (a9, .inl (Z.2 1, 1809, .inr (.inl r_near))), (a10, .inl (Z.2 1, 201, .inr (.inl r_echoes))), (a11, .inl (Z.2 0, 120, .inl v_draft))] : va_W)) := by
  refine Ct.of cX6_keepSound 1 (some .int) "LineEchoesModel" [some (.ref a0)] 0 (by decide) rfl (Nat.le_of_ble_eq_true rfl) rfl (fun p e s m args below meth c A X hin => ?_)
  unfold F_X6_keepSound at h
  refine g_aload_n X rfl dX6_keepSound_0 1 rfl ?_
  refine g_iconst X 0 dX6_keepSound_1 2 rfl kI_0 ?_
  refine g_put X gC5 0 rfl 5 (by decide) q1347 (fun _ h9 => h9) rfl rfl rfl (Nat.le_of_ble_eq_true rfl) dX6_keepSound_2 5 rfl ?_
  refine g_aload_n X rfl dX6_keepSound_5 6 rfl ?_
  obtain ⟨w1_savedCount, w2_saved, hcl, h⟩ := bd2_e h
  refine g_callV0W X (met_X6_keep l Z a0 a1 a2 a3 a4 a5 a6 a7 a8 a9 a10 a11 v_savedCount v_scriptLength 0 v_lineParts v_pulseMany v_left v_dropped v_merged v_drops v_contributions v_packet v_peelResult v_peelTime v_peelSum v_at v_commands v_hash v_m v_saved v_script v_lengths v_fractions v_times v_energies v_far v_near v_echoes v_draft  w1_savedCount w2_saved hcl) rfl 0 gC5 rfl rfl (lw_V q1451 q1453 qs23 q74 q1454) md_X6_keep ⟨(Nat.le_of_ble_eq_true rfl), (Nat.le_of_ble_eq_true rfl)⟩ rfl dX6_keepSound_6 9 rfl 0 0 rfl rfl (Nat.le_of_ble_eq_true rfl) (Nat.le_of_ble_eq_true rfl) (st := []) rfl (Nat.le_of_ble_eq_true rfl) (fun _ => rfl) (fun _ => ?_)
  refine g_aload_n X rfl dX6_keepSound_9 10 rfl ?_
  refine g_bipush X 29 dX6_keepSound_10 12 rfl kB_29 ?_
  obtain ⟨r3, w4_lineParts, w5_pulseMany, w6_left, w7_dropped, w8_merged, w9_drops, w10_contributions, w11_packet, w12_m, w13_lengths, w14_fractions, w15_times, w16_energies, w17_far, w18_near, w19_echoes, hcl, h⟩ := bd17_e h
  refine g_callV1W X (met_X6_copies l Z a0 a1 a2 a3 a4 a5 a6 a7 a8 a9 a10 a11 w1_savedCount v_scriptLength 0 v_lineParts v_pulseMany v_left v_dropped v_merged v_drops v_contributions v_packet v_peelResult v_peelTime v_peelSum v_at v_commands v_hash v_m w2_saved v_script v_lengths v_fractions v_times v_energies v_far v_near v_echoes v_draft 29 r3 w4_lineParts w5_pulseMany w6_left w7_dropped w8_merged w9_drops w10_contributions w11_packet w12_m w13_lengths w14_fractions w15_times w16_energies w17_far w18_near w19_echoes hcl) rfl 0 gC5 rfl rfl (lw_V q1630 q1632 qs49 q74 q1633) md_X6_copies ⟨(Nat.le_of_ble_eq_true rfl), (Nat.le_of_ble_eq_true rfl)⟩ rfl dX6_keepSound_12 15 rfl 0 0 rfl rfl (Nat.le_of_ble_eq_true rfl) (Nat.le_of_ble_eq_true rfl) (st := []) rfl (Nat.le_of_ble_eq_true rfl) (fun _ => rfl) (fun _ => ?_)
  obtain ⟨rfl, rfl, rfl, rfl, rfl, rfl, rfl, rfl, rfl, rfl, rfl, rfl, rfl, rfl, rfl, rfl, rfl, rfl, rfl, rfl⟩ := rt20 h
  exact g_iret X dX6_keepSound_15 () rfl rfl (Nat.le_of_ble_eq_true rfl) (Nat.le_of_ble_eq_true rfl)
/-! LineEchoesModel.differencesNow()I -/
abbrev rm_X6_differencesNow : Room := { frames := 1, cells := 0, slots := 0, locals := 20 }
def B_X6_differencesNow_4 (K4 : (Nat → Int64) → (Nat → Int64) → (Int32) → (Int32) → Option (Int32)) (v_m : Nat → Int64) (v_echoes : Nat → Int64) (x1 : Int32) (x2 : Int32) : Option (Int32) :=
  bd1 (F_X6_window v_m) fun r1 =>
  if r1 < x2 then
    (some x1)
  else
    (gin x2 201 <|
    gin (29 + x2) 431 <|
    nm (x1 + (if (v_echoes x2.toNatClampNeg) = (v_m (29 + x2).toNatClampNeg) then (0 : Int32) else 1)) fun t2 =>
    K4 v_m v_echoes t2 (x2 + 1))
def F_X6_differencesNow_4 : Nat → (Nat → Int64) → (Nat → Int64) → (Int32) → (Int32) → Option (Int32)
  | 0 => fun _ _ _ _ => none
  | n + 1 => B_X6_differencesNow_4 (F_X6_differencesNow_4 n)
def F_X6_differencesNow (v_m : Nat → Int64) (v_echoes : Nat → Int64) : Option (Int32) :=
  F_X6_differencesNow_4 gFU v_m v_echoes 0 0
theorem w_X6_differencesNow_4 {p : Program} {l : Launch} {e : Env} {s : State} {m : MethodId} {args : Array Value} {below : List Frame} {meth : Method} {c : Code} {Z : gZt} {A : Nat → Prop} (a0 : Nat) (a1 : Nat) (a2 : Nat) (a3 : Nat) (a4 : Nat) (a5 : Nat) (a6 : Nat) (a7 : Nat) (a8 : Nat) (a9 : Nat) (a10 : Nat) (a11 : Nat) (X : gX p s m args meth c Z A cX6_differencesNow "LineEchoesModel" 3 (some .int) []) (r : Int32)  : ∀ (n : Nat) (v_savedCount : Int32) (v_scriptLength : Int32) (v_code : Int32) (v_lineParts : Int32) (v_pulseMany : Int32) (v_left : Int64) (v_dropped : Int64) (v_merged : Int32) (v_drops : Int32) (v_contributions : Int32) (v_packet : Int64) (v_peelResult : Int32) (v_peelTime : Int32) (v_peelSum : Int32) (v_at : Int32) (v_commands : Int32) (v_hash : Int64) (v_m : Nat → Int64) (v_saved : Nat → Int64) (v_script : Nat → Int32) (v_lengths : Nat → Int32) (v_fractions : Nat → Int32) (v_times : Nat → Int32) (v_energies : Nat → Int64) (v_far : Nat → Int64) (v_near : Nat → Int64) (v_echoes : Nat → Int64) (v_draft : Nat → Int32) (x1 : Int32) (x2 : Int32), F_X6_differencesNow_4 n v_m v_echoes x1 x2 = some r → G p l e rm_X6_differencesNow s m args below meth c Z A 3 (MQ below (gPost Z A (fun _ : Unit => (some (.int r) : Option Value)) (fun _ : Unit => ([(a0, .inr (5, [.ref a1, .ref a2, .int v_savedCount, .ref a3, .int v_scriptLength, .int v_code, .int v_lineParts, .ref a4, .ref a5, .int v_pulseMany, .ref a6, .ref a7, .ref a8, .ref a9, .ref a10, .long v_left, .long v_dropped, .int v_merged, .int v_drops, .int v_contributions, .long v_packet, .int v_peelResult, .int v_peelTime, .int v_peelSum, .int v_at, .int v_commands, .ref a11, .long v_hash])), (a1, .inl (Z.2 1, 431, .inr (.inl v_m))), (a2, .inl (Z.2 1, 1293, .inr (.inl v_saved))), (a3, .inl (Z.2 0, 120, .inl v_script)), (a4, .inl (Z.2 0, 8, .inl v_lengths)), (a5, .inl (Z.2 0, 9, .inl v_fractions)), (a6, .inl (Z.2 0, 4, .inl v_times)), (a7, .inl (Z.2 1, 4, .inr (.inl v_energies))), (a8, .inl (Z.2 1, 1809, .inr (.inl v_far))), (a9, .inl (Z.2 1, 1809, .inr (.inl v_near))), (a10, .inl (Z.2 1, 201, .inr (.inl v_echoes))), (a11, .inl (Z.2 0, 120, .inl v_draft))] : va_W))) args s 0 0 A) [(a0, .inr (5, [.ref a1, .ref a2, .int v_savedCount, .ref a3, .int v_scriptLength, .int v_code, .int v_lineParts, .ref a4, .ref a5, .int v_pulseMany, .ref a6, .ref a7, .ref a8, .ref a9, .ref a10, .long v_left, .long v_dropped, .int v_merged, .int v_drops, .int v_contributions, .long v_packet, .int v_peelResult, .int v_peelTime, .int v_peelSum, .int v_at, .int v_commands, .ref a11, .long v_hash])), (a1, .inl (Z.2 1, 431, .inr (.inl v_m))), (a2, .inl (Z.2 1, 1293, .inr (.inl v_saved))), (a3, .inl (Z.2 0, 120, .inl v_script)), (a4, .inl (Z.2 0, 8, .inl v_lengths)), (a5, .inl (Z.2 0, 9, .inl v_fractions)), (a6, .inl (Z.2 0, 4, .inl v_times)), (a7, .inl (Z.2 1, 4, .inr (.inl v_energies))), (a8, .inl (Z.2 1, 1809, .inr (.inl v_far))), (a9, .inl (Z.2 1, 1809, .inr (.inl v_near))), (a10, .inl (Z.2 1, 201, .inr (.inl v_echoes))), (a11, .inl (Z.2 0, 120, .inl v_draft))] 0 0 4 [some (.ref a0), some (.int x1), some (.int x2)] [] := by
  intro n
  induction n with
  | zero =>
    intro v_savedCount v_scriptLength v_code v_lineParts v_pulseMany v_left v_dropped v_merged v_drops v_contributions v_packet v_peelResult v_peelTime v_peelSum v_at v_commands v_hash v_m v_saved v_script v_lengths v_fractions v_times v_energies v_far v_near v_echoes v_draft x1 x2 h
    cases h
  | succ n hK4 =>
    intro v_savedCount v_scriptLength v_code v_lineParts v_pulseMany v_left v_dropped v_merged v_drops v_contributions v_packet v_peelResult v_peelTime v_peelSum v_at v_commands v_hash v_m v_saved v_script v_lengths v_fractions v_times v_energies v_far v_near v_echoes v_draft x1 x2 h
    replace h : B_X6_differencesNow_4 (F_X6_differencesNow_4 n) v_m v_echoes x1 x2 = some r := h
    unfold B_X6_differencesNow_4 at h
    refine g_iload_n X rfl dX6_differencesNow_4 5 rfl ?_
    refine g_aload_n X rfl dX6_differencesNow_5 6 rfl ?_
    obtain ⟨r1, hcl, h⟩ := bd1_e h
    refine g_callV1W X (met_X6_window l Z a0 a1 a2 a3 a4 a5 a6 a7 a8 a9 a10 a11 v_savedCount v_scriptLength v_code v_lineParts v_pulseMany v_left v_dropped v_merged v_drops v_contributions v_packet v_peelResult v_peelTime v_peelSum v_at v_commands v_hash v_m v_saved v_script v_lengths v_fractions v_times v_energies v_far v_near v_echoes v_draft  r1 hcl) rfl 0 gC5 rfl rfl (lw_V q1517 q1519 qs34 q74 q1520) md_X6_window ⟨(Nat.le_of_ble_eq_true rfl), (Nat.le_of_ble_eq_true rfl)⟩ rfl dX6_differencesNow_6 9 rfl 0 0 rfl rfl (Nat.le_of_ble_eq_true rfl) (Nat.le_of_ble_eq_true rfl) (st := [.int x2]) rfl (Nat.le_of_ble_eq_true rfl) (fun _ => rfl) (fun _ => ?_)
    refine g_icmp_gt X dX6_differencesNow_9 45 (by decide) 12 rfl (fun hc => ?_) (fun hc => ?_)
    · replace h := if_t hc h
      refine g_iload_n X rfl dX6_differencesNow_45 46 rfl ?_
      cases h
      exact g_iret X dX6_differencesNow_46 () rfl rfl (Nat.le_of_ble_eq_true rfl) (Nat.le_of_ble_eq_true rfl)
    · replace h := if_f hc h
      refine g_iload_n X rfl dX6_differencesNow_12 13 rfl ?_
      refine g_aload_n X rfl dX6_differencesNow_13 14 rfl ?_
      refine g_get X gC5 0 rfl 14 (by decide) q1356 (fun _ h9 => h9) rfl dX6_differencesNow_14 17 rfl ?_
      refine g_iload_n X rfl dX6_differencesNow_17 18 rfl ?_
      obtain ⟨hi, h⟩ := gin_e h
      refine g_lald X 10 rfl hi dX6_differencesNow_18 19 rfl ?_
      refine g_aload_n X rfl dX6_differencesNow_19 20 rfl ?_
      refine g_get X gC5 0 rfl 0 (by decide) q1342 (fun _ h9 => h9) rfl dX6_differencesNow_20 23 rfl ?_
      refine g_bipush X 29 dX6_differencesNow_23 25 rfl kB_29 ?_
      refine g_iload_n X rfl dX6_differencesNow_25 26 rfl ?_
      refine g_iadd X dX6_differencesNow_26 27 rfl ?_
      obtain ⟨hi, h⟩ := gin_e h
      refine g_lald X 1 rfl hi dX6_differencesNow_27 28 rfl ?_
      refine g_seli 37 [.int x1] (b := (v_echoes x2.toNatClampNeg) = (v_m (29 + x2).toNatClampNeg)) 0 1 ?_ (fun hc K => ?_) (fun hc K => ?_)
      · refine g_iadd X dX6_differencesNow_37 38 rfl ?_
        refine g_topi (fun t2 et2 => ?_)
        replace h := nm_at et2 h
        refine g_istore_n X dX6_differencesNow_38 39 rfl (Nat.le_of_ble_eq_true rfl) rfl [some (.ref a0), some (.int t2), some (.int x2)] rfl ?_
        refine g_iinc X 1 rfl dX6_differencesNow_39 42 rfl kI_1 (Nat.le_of_ble_eq_true rfl) rfl [some (.ref a0), some (.int t2), some (.int (x2 + 1))] rfl ?_
        refine g_goto X dX6_differencesNow_42 4 (by decide) ?_
        exact hK4 v_savedCount v_scriptLength v_code v_lineParts v_pulseMany v_left v_dropped v_merged v_drops v_contributions v_packet v_peelResult v_peelTime v_peelSum v_at v_commands v_hash v_m v_saved v_script v_lengths v_fractions v_times v_energies v_far v_near v_echoes v_draft t2 (x2 + 1) h
      · refine g_lcmp_eq X dX6_differencesNow_28 29 rfl dX6_differencesNow_29 36 (by decide) 32 rfl (fun _ => ?_) (fun hn => absurd hc hn)
        refine g_iconst X 0 dX6_differencesNow_36 37 rfl kI_0 ?_
        exact K
      · refine g_lcmp_eq X dX6_differencesNow_28 29 rfl dX6_differencesNow_29 36 (by decide) 32 rfl (fun hn => absurd hn hc) (fun _ => ?_)
        refine g_iconst X 1 dX6_differencesNow_32 33 rfl kI_1 ?_
        refine g_goto X dX6_differencesNow_33 37 (by decide) ?_
        exact K
theorem met_X6_differencesNow (l : Launch) (Z : gZt) (a0 : Nat) (a1 : Nat) (a2 : Nat) (a3 : Nat) (a4 : Nat) (a5 : Nat) (a6 : Nat) (a7 : Nat) (a8 : Nat) (a9 : Nat) (a10 : Nat) (a11 : Nat) (v_savedCount : Int32) (v_scriptLength : Int32) (v_code : Int32) (v_lineParts : Int32) (v_pulseMany : Int32) (v_left : Int64) (v_dropped : Int64) (v_merged : Int32) (v_drops : Int32) (v_contributions : Int32) (v_packet : Int64) (v_peelResult : Int32) (v_peelTime : Int32) (v_peelSum : Int32) (v_at : Int32) (v_commands : Int32) (v_hash : Int64) (v_m : Nat → Int64) (v_saved : Nat → Int64) (v_script : Nat → Int32) (v_lengths : Nat → Int32) (v_fractions : Nat → Int32) (v_times : Nat → Int32) (v_energies : Nat → Int64) (v_far : Nat → Int64) (v_near : Nat → Int64) (v_echoes : Nat → Int64) (v_draft : Nat → Int32) (r : Int32) (h : F_X6_differencesNow v_m v_echoes = some r) : Ct l yX6_differencesNow (ws_ yX6_differencesNow cX6_differencesNow 3 (some .int)) rm_X6_differencesNow Z [.ref a0] [(a0, .inr (5, [.ref a1, .ref a2, .int v_savedCount, .ref a3, .int v_scriptLength, .int v_code, .int v_lineParts, .ref a4, .ref a5, .int v_pulseMany, .ref a6, .ref a7, .ref a8, .ref a9, .ref a10, .long v_left, .long v_dropped, .int v_merged, .int v_drops, .int v_contributions, .long v_packet, .int v_peelResult, .int v_peelTime, .int v_peelSum, .int v_at, .int v_commands, .ref a11, .long v_hash])), (a1, .inl (Z.2 1, 431, .inr (.inl v_m))), (a2, .inl (Z.2 1, 1293, .inr (.inl v_saved))), (a3, .inl (Z.2 0, 120, .inl v_script)), (a4, .inl (Z.2 0, 8, .inl v_lengths)), (a5, .inl (Z.2 0, 9, .inl v_fractions)), (a6, .inl (Z.2 0, 4, .inl v_times)), (a7, .inl (Z.2 1, 4, .inr (.inl v_energies))), (a8, .inl (Z.2 1, 1809, .inr (.inl v_far))), (a9, .inl (Z.2 1, 1809, .inr (.inl v_near))), (a10, .inl (Z.2 1, 201, .inr (.inl v_echoes))), (a11, .inl (Z.2 0, 120, .inl v_draft))] [] (fun _ : Unit => (some (.int r) : Option Value)) (fun _ : Unit => ([(a0, .inr (5, [.ref a1, .ref a2, .int v_savedCount, .ref a3, .int v_scriptLength, .int v_code, .int v_lineParts, .ref a4, .ref a5, .int v_pulseMany, .ref a6, .ref a7, .ref a8, .ref a9, .ref a10, .long v_left, .long v_dropped, .int v_merged, .int v_drops, .int v_contributions, .long v_packet, .int v_peelResult, .int v_peelTime, .int v_peelSum, .int v_at, .int v_commands, .ref a11, .long v_hash])), (a1, .inl (Z.2 1, 431, .inr (.inl v_m))), (a2, .inl (Z.2 1, 1293, .inr (.inl v_saved))), (a3, .inl (Z.2 0, 120, .inl v_script)), (a4, .inl (Z.2 0, 8, .inl v_lengths)), (a5, .inl (Z.2 0, 9, .inl v_fractions)), (a6, .inl (Z.2 0, 4, .inl v_times)), (a7, .inl (Z.2 1, 4, .inr (.inl v_energies))), (a8, .inl (Z.2 1, 1809, .inr (.inl v_far))), (a9, .inl (Z.2 1, 1809, .inr (.inl v_near))), (a10, .inl (Z.2 1, 201, .inr (.inl v_echoes))), (a11, .inl (Z.2 0, 120, .inl v_draft))] : va_W)) := by
  refine Ct.of cX6_differencesNow 3 (some .int) "LineEchoesModel" [some (.ref a0), none, none] 2 (by decide) rfl (Nat.le_of_ble_eq_true rfl) rfl (fun p e s m args below meth c A X hin => ?_)
  unfold F_X6_differencesNow at h
  refine g_iconst X 0 dX6_differencesNow_0 1 rfl kI_0 ?_
  refine g_istore_n X dX6_differencesNow_1 2 rfl (Nat.le_of_ble_eq_true rfl) rfl [some (.ref a0), some (.int 0), none] rfl ?_
  refine g_iconst X 0 dX6_differencesNow_2 3 rfl kI_0 ?_
  refine g_istore_n X dX6_differencesNow_3 4 rfl (Nat.le_of_ble_eq_true rfl) rfl [some (.ref a0), some (.int 0), some (.int 0)] rfl ?_
  exact w_X6_differencesNow_4 a0 a1 a2 a3 a4 a5 a6 a7 a8 a9 a10 a11  X  r    gFU v_savedCount v_scriptLength v_code v_lineParts v_pulseMany v_left v_dropped v_merged v_drops v_contributions v_packet v_peelResult v_peelTime v_peelSum v_at v_commands v_hash v_m v_saved v_script v_lengths v_fractions v_times v_energies v_far v_near v_echoes v_draft 0 0 h
/-! LineEchoesModel.differences()I -/
abbrev rm_X6_differences : Room := { frames := 5, cells := 0, slots := 0, locals := 117 }
def F_X6_differences (v_m : Nat → Int64) (v_lengths : Nat → Int32) (v_fractions : Nat → Int32) (v_times : Nat → Int32) (v_energies : Nat → Int64) (v_far : Nat → Int64) (v_near : Nat → Int64) (v_echoes : Nat → Int64) : Option (Int32 × Int32 × Int32 × Int32 × Int64 × Int64 × Int32 × Int32 × Int32 × Int64 × (Nat → Int32) × (Nat → Int32) × (Nat → Int32) × (Nat → Int64) × (Nat → Int64) × (Nat → Int64) × (Nat → Int64)) :=
  bd15 (F_X6_runPresent v_m v_lengths v_fractions v_times v_energies v_far v_near v_echoes) fun w1_lineParts w2_pulseMany w3_left w4_dropped w5_merged w6_drops w7_contributions w8_packet w9_lengths w10_fractions w11_times w12_energies w13_far w14_near w15_echoes =>
  bd1 (F_X6_differencesNow v_m w15_echoes) fun r16 =>
  some (r16, 0, w1_lineParts, w2_pulseMany, w3_left, w4_dropped, w5_merged, w6_drops, w7_contributions, w8_packet, w9_lengths, w10_fractions, w11_times, w12_energies, w13_far, w14_near, w15_echoes)
theorem met_X6_differences (l : Launch) (Z : gZt) (a0 : Nat) (a1 : Nat) (a2 : Nat) (a3 : Nat) (a4 : Nat) (a5 : Nat) (a6 : Nat) (a7 : Nat) (a8 : Nat) (a9 : Nat) (a10 : Nat) (a11 : Nat) (v_savedCount : Int32) (v_scriptLength : Int32) (v_code : Int32) (v_lineParts : Int32) (v_pulseMany : Int32) (v_left : Int64) (v_dropped : Int64) (v_merged : Int32) (v_drops : Int32) (v_contributions : Int32) (v_packet : Int64) (v_peelResult : Int32) (v_peelTime : Int32) (v_peelSum : Int32) (v_at : Int32) (v_commands : Int32) (v_hash : Int64) (v_m : Nat → Int64) (v_saved : Nat → Int64) (v_script : Nat → Int32) (v_lengths : Nat → Int32) (v_fractions : Nat → Int32) (v_times : Nat → Int32) (v_energies : Nat → Int64) (v_far : Nat → Int64) (v_near : Nat → Int64) (v_echoes : Nat → Int64) (v_draft : Nat → Int32) (r : Int32) (r_code : Int32) (r_lineParts : Int32) (r_pulseMany : Int32) (r_left : Int64) (r_dropped : Int64) (r_merged : Int32) (r_drops : Int32) (r_contributions : Int32) (r_packet : Int64) (r_lengths : Nat → Int32) (r_fractions : Nat → Int32) (r_times : Nat → Int32) (r_energies : Nat → Int64) (r_far : Nat → Int64) (r_near : Nat → Int64) (r_echoes : Nat → Int64) (h : F_X6_differences v_m v_lengths v_fractions v_times v_energies v_far v_near v_echoes = some (r, r_code, r_lineParts, r_pulseMany, r_left, r_dropped, r_merged, r_drops, r_contributions, r_packet, r_lengths, r_fractions, r_times, r_energies, r_far, r_near, r_echoes)) : Ct l yX6_differences (ws_ yX6_differences cX6_differences 1 (some .int)) rm_X6_differences Z [.ref a0] [(a0, .inr (5, [.ref a1, .ref a2, .int v_savedCount, .ref a3, .int v_scriptLength, .int v_code, .int v_lineParts, .ref a4, .ref a5, .int v_pulseMany, .ref a6, .ref a7, .ref a8, .ref a9, .ref a10, .long v_left, .long v_dropped, .int v_merged, .int v_drops, .int v_contributions, .long v_packet, .int v_peelResult, .int v_peelTime, .int v_peelSum, .int v_at, .int v_commands, .ref a11, .long v_hash])), (a1, .inl (Z.2 1, 431, .inr (.inl v_m))), (a2, .inl (Z.2 1, 1293, .inr (.inl v_saved))), (a3, .inl (Z.2 0, 120, .inl v_script)), (a4, .inl (Z.2 0, 8, .inl v_lengths)), (a5, .inl (Z.2 0, 9, .inl v_fractions)), (a6, .inl (Z.2 0, 4, .inl v_times)), (a7, .inl (Z.2 1, 4, .inr (.inl v_energies))), (a8, .inl (Z.2 1, 1809, .inr (.inl v_far))), (a9, .inl (Z.2 1, 1809, .inr (.inl v_near))), (a10, .inl (Z.2 1, 201, .inr (.inl v_echoes))), (a11, .inl (Z.2 0, 120, .inl v_draft))] [] (fun _ : Unit => (some (.int r) : Option Value)) (fun _ : Unit => ([(a0, .inr (5, [.ref a1, .ref a2, .int v_savedCount, .ref a3, .int v_scriptLength, .int r_code, .int r_lineParts, .ref a4, .ref a5, .int r_pulseMany, .ref a6, .ref a7, .ref a8, .ref a9, .ref a10, .long r_left, .long r_dropped, .int r_merged, .int r_drops, .int r_contributions, .long r_packet, .int v_peelResult, .int v_peelTime, .int v_peelSum, .int v_at, .int v_commands, .ref a11, .long v_hash])), (a1, .inl (Z.2 1, 431, .inr (.inl v_m))), (a2, .inl (Z.2 1, 1293, .inr (.inl v_saved))), (a3, .inl (Z.2 0, 120, .inl v_script)), (a4, .inl (Z.2 0, 8, .inl r_lengths)), (a5, .inl (Z.2 0, 9, .inl r_fractions)), (a6, .inl (Z.2 0, 4, .inl r_times)), (a7, .inl (Z.2 1, 4, .inr (.inl r_energies))), (a8, .inl (Z.2 1, 1809, .inr (.inl r_far))), (a9, .inl (Z.2 1, 1809, .inr (.inl r_near))), (a10, .inl (Z.2 1, 201, .inr (.inl r_echoes))), (a11, .inl (Z.2 0, 120, .inl v_draft))] : va_W)) := by
  refine Ct.of cX6_differences 1 (some .int) "LineEchoesModel" [some (.ref a0)] 0 (by decide) rfl (Nat.le_of_ble_eq_true rfl) rfl (fun p e s m args below meth c A X hin => ?_)
  unfold F_X6_differences at h
  refine g_aload_n X rfl dX6_differences_0 1 rfl ?_
  refine g_iconst X 0 dX6_differences_1 2 rfl kI_0 ?_
  refine g_put X gC5 0 rfl 5 (by decide) q1347 (fun _ h9 => h9) rfl rfl rfl (Nat.le_of_ble_eq_true rfl) dX6_differences_2 5 rfl ?_
  refine g_aload_n X rfl dX6_differences_5 6 rfl ?_
  obtain ⟨w1_lineParts, w2_pulseMany, w3_left, w4_dropped, w5_merged, w6_drops, w7_contributions, w8_packet, w9_lengths, w10_fractions, w11_times, w12_energies, w13_far, w14_near, w15_echoes, hcl, h⟩ := bd15_e h
  refine g_callV0W X (met_X6_runPresent l Z a0 a1 a2 a3 a4 a5 a6 a7 a8 a9 a10 a11 v_savedCount v_scriptLength 0 v_lineParts v_pulseMany v_left v_dropped v_merged v_drops v_contributions v_packet v_peelResult v_peelTime v_peelSum v_at v_commands v_hash v_m v_saved v_script v_lengths v_fractions v_times v_energies v_far v_near v_echoes v_draft  w1_lineParts w2_pulseMany w3_left w4_dropped w5_merged w6_drops w7_contributions w8_packet w9_lengths w10_fractions w11_times w12_energies w13_far w14_near w15_echoes hcl) rfl 0 gC5 rfl rfl (lw_V q1562 q1564 qs39 q74 q1565) md_X6_runPresent ⟨(Nat.le_of_ble_eq_true rfl), (Nat.le_of_ble_eq_true rfl)⟩ rfl dX6_differences_6 9 rfl 0 0 rfl rfl (Nat.le_of_ble_eq_true rfl) (Nat.le_of_ble_eq_true rfl) (st := []) rfl (Nat.le_of_ble_eq_true rfl) (fun _ => rfl) (fun _ => ?_)
  refine g_aload_n X rfl dX6_differences_9 10 rfl ?_
  obtain ⟨r16, hcl, h⟩ := bd1_e h
  refine g_callV1W X (met_X6_differencesNow l Z a0 a1 a2 a3 a4 a5 a6 a7 a8 a9 a10 a11 v_savedCount v_scriptLength 0 w1_lineParts w2_pulseMany w3_left w4_dropped w5_merged w6_drops w7_contributions w8_packet v_peelResult v_peelTime v_peelSum v_at v_commands v_hash v_m v_saved v_script w9_lengths w10_fractions w11_times w12_energies w13_far w14_near w15_echoes v_draft  r16 hcl) rfl 0 gC5 rfl rfl (lw_V q1638 q1640 qs50 q74 q1641) md_X6_differencesNow ⟨(Nat.le_of_ble_eq_true rfl), (Nat.le_of_ble_eq_true rfl)⟩ rfl dX6_differences_10 13 rfl 0 0 rfl rfl (Nat.le_of_ble_eq_true rfl) (Nat.le_of_ble_eq_true rfl) (st := []) rfl (Nat.le_of_ble_eq_true rfl) (fun _ => rfl) (fun _ => ?_)
  obtain ⟨rfl, rfl, rfl, rfl, rfl, rfl, rfl, rfl, rfl, rfl, rfl, rfl, rfl, rfl, rfl, rfl, rfl⟩ := rt17 h
  exact g_iret X dX6_differences_13 () rfl rfl (Nat.le_of_ble_eq_true rfl) (Nat.le_of_ble_eq_true rfl)
