/-! THE REFERENCE, walked (printed by gen/model.py) -/
set_option maxRecDepth 100000
/-! LineEchoesModel.adopts()I -/
abbrev rm_X6_adopts : Room := { frames := 7, cells := 0, slots := 0, locals := 163 }
def B_X6_adopts_17 (K17 : (Int32) → (Int32) → (Int64) → (Int64) → (Int32) → (Int32) → (Int32) → (Int64) → (Int32) → (Int32) → (Int32) → (Nat → Int64) → (Nat → Int32) → (Nat → Int32) → (Nat → Int32) → (Nat → Int64) → (Nat → Int64) → (Nat → Int64) → (Nat → Int64) → (Int32) → Option (Int32 × Int32 × Int32 × Int64 × Int64 × Int32 × Int32 × Int32 × Int64 × Int32 × Int32 × Int32 × (Nat → Int64) × (Nat → Int32) × (Nat → Int32) × (Nat → Int32) × (Nat → Int64) × (Nat → Int64) × (Nat → Int64) × (Nat → Int64))) (v_lineParts : Int32) (v_pulseMany : Int32) (v_left : Int64) (v_dropped : Int64) (v_merged : Int32) (v_drops : Int32) (v_contributions : Int32) (v_packet : Int64) (v_peelResult : Int32) (v_peelTime : Int32) (v_peelSum : Int32) (v_m : Nat → Int64) (v_lengths : Nat → Int32) (v_fractions : Nat → Int32) (v_times : Nat → Int32) (v_energies : Nat → Int64) (v_far : Nat → Int64) (v_near : Nat → Int64) (v_echoes : Nat → Int64) (x1 : Int32) : Option (Int32 × Int32 × Int32 × Int64 × Int64 × Int32 × Int32 × Int32 × Int64 × Int32 × Int32 × Int32 × (Nat → Int64) × (Nat → Int32) × (Nat → Int32) × (Nat → Int32) × (Nat → Int64) × (Nat → Int64) × (Nat → Int64) × (Nat → Int64)) :=
  if v_lineParts ≤ x1 then
    (some (v_lineParts, v_lineParts, v_pulseMany, v_left, v_dropped, v_merged, v_drops, v_contributions, v_packet, v_peelResult, v_peelTime, v_peelSum, v_m, v_lengths, v_fractions, v_times, v_energies, v_far, v_near, v_echoes))
  else
    (gin x1 8 <|
    gin (x1 + 1) 9 <|
    bd1 (F_X6_laysPart v_m x1 (v_lengths x1.toNatClampNeg) (v_fractions (x1 + 1).toNatClampNeg)) fun w1_m =>
    K17 v_lineParts v_pulseMany v_left v_dropped v_merged v_drops v_contributions v_packet v_peelResult v_peelTime v_peelSum w1_m v_lengths v_fractions v_times v_energies v_far v_near v_echoes (x1 + 1))
def F_X6_adopts_17 : Nat → (Int32) → (Int32) → (Int64) → (Int64) → (Int32) → (Int32) → (Int32) → (Int64) → (Int32) → (Int32) → (Int32) → (Nat → Int64) → (Nat → Int32) → (Nat → Int32) → (Nat → Int32) → (Nat → Int64) → (Nat → Int64) → (Nat → Int64) → (Nat → Int64) → (Int32) → Option (Int32 × Int32 × Int32 × Int64 × Int64 × Int32 × Int32 × Int32 × Int64 × Int32 × Int32 × Int32 × (Nat → Int64) × (Nat → Int32) × (Nat → Int32) × (Nat → Int32) × (Nat → Int64) × (Nat → Int64) × (Nat → Int64) × (Nat → Int64))
  | 0 => fun _ _ _ _ _ _ _ _ _ _ _ _ _ _ _ _ _ _ _ _ => none
  | n + 1 => B_X6_adopts_17 (F_X6_adopts_17 n)
def F_X6_adopts (v_peelResult : Int32) (v_peelTime : Int32) (v_m : Nat → Int64) (v_lengths : Nat → Int32) (v_fractions : Nat → Int32) (v_times : Nat → Int32) (v_energies : Nat → Int64) (v_far : Nat → Int64) (v_near : Nat → Int64) (v_echoes : Nat → Int64) : Option (Int32 × Int32 × Int32 × Int64 × Int64 × Int32 × Int32 × Int32 × Int64 × Int32 × Int32 × Int32 × (Nat → Int64) × (Nat → Int32) × (Nat → Int32) × (Nat → Int32) × (Nat → Int64) × (Nat → Int64) × (Nat → Int64) × (Nat → Int64)) :=
  bd18 (F_X6_peelAll v_peelResult v_peelTime v_m v_lengths v_fractions v_times v_energies v_far v_near v_echoes) fun w1_lineParts w2_pulseMany w3_left w4_dropped w5_merged w6_drops w7_contributions w8_packet w9_peelResult w10_peelTime w11_peelSum w12_lengths w13_fractions w14_times w15_energies w16_far w17_near w18_echoes =>
  gin 0 431 <|
  F_X6_adopts_17 gFU w1_lineParts w2_pulseMany w3_left w4_dropped w5_merged w6_drops w7_contributions w8_packet w9_peelResult w10_peelTime w11_peelSum (vp_updL v_m (Int32.toNatClampNeg 0) w1_lineParts.toInt64) w12_lengths w13_fractions w14_times w15_energies w16_far w17_near w18_echoes 0
theorem w_X6_adopts_17 {p : Program} {l : Launch} {e : Env} {s : State} {m : MethodId} {args : Array Value} {below : List Frame} {meth : Method} {c : Code} {Z : gZt} {A : Nat → Prop} (a0 : Nat) (a1 : Nat) (a2 : Nat) (a3 : Nat) (a4 : Nat) (a5 : Nat) (a6 : Nat) (a7 : Nat) (a8 : Nat) (a9 : Nat) (a10 : Nat) (a11 : Nat) (X : gX p s m args meth c Z A cX6_adopts "LineEchoesModel" 2 (some .int) []) (r : Int32) (r_lineParts : Int32) (r_pulseMany : Int32) (r_left : Int64) (r_dropped : Int64) (r_merged : Int32) (r_drops : Int32) (r_contributions : Int32) (r_packet : Int64) (r_peelResult : Int32) (r_peelTime : Int32) (r_peelSum : Int32) (r_m : Nat → Int64) (r_lengths : Nat → Int32) (r_fractions : Nat → Int32) (r_times : Nat → Int32) (r_energies : Nat → Int64) (r_far : Nat → Int64) (r_near : Nat → Int64) (r_echoes : Nat → Int64)  : ∀ (n : Nat) (v_savedCount : Int32) (v_scriptLength : Int32) (v_code : Int32) (v_lineParts : Int32) (v_pulseMany : Int32) (v_left : Int64) (v_dropped : Int64) (v_merged : Int32) (v_drops : Int32) (v_contributions : Int32) (v_packet : Int64) (v_peelResult : Int32) (v_peelTime : Int32) (v_peelSum : Int32) (v_at : Int32) (v_commands : Int32) (v_hash : Int64) (v_m : Nat → Int64) (v_saved : Nat → Int64) (v_script : Nat → Int32) (v_lengths : Nat → Int32) (v_fractions : Nat → Int32) (v_times : Nat → Int32) (v_energies : Nat → Int64) (v_far : Nat → Int64) (v_near : Nat → Int64) (v_echoes : Nat → Int64) (v_draft : Nat → Int32) (x1 : Int32), F_X6_adopts_17 n v_lineParts v_pulseMany v_left v_dropped v_merged v_drops v_contributions v_packet v_peelResult v_peelTime v_peelSum v_m v_lengths v_fractions v_times v_energies v_far v_near v_echoes x1 = some (r, r_lineParts, r_pulseMany, r_left, r_dropped, r_merged, r_drops, r_contributions, r_packet, r_peelResult, r_peelTime, r_peelSum, r_m, r_lengths, r_fractions, r_times, r_energies, r_far, r_near, r_echoes) → G p l e rm_X6_adopts s m args below meth c Z A 2 (MQ below (gPost Z A (fun _ : Unit => (some (.int r) : Option Value)) (fun _ : Unit => ([(a0, .inr (5, [.ref a1, .ref a2, .int v_savedCount, .ref a3, .int v_scriptLength, .int v_code, .int r_lineParts, .ref a4, .ref a5, .int r_pulseMany, .ref a6, .ref a7, .ref a8, .ref a9, .ref a10, .long r_left, .long r_dropped, .int r_merged, .int r_drops, .int r_contributions, .long r_packet, .int r_peelResult, .int r_peelTime, .int r_peelSum, .int v_at, .int v_commands, .ref a11, .long v_hash])), (a1, .inl (Z.2 1, 431, .inr (.inl r_m))), (a2, .inl (Z.2 1, 1293, .inr (.inl v_saved))), (a3, .inl (Z.2 0, 120, .inl v_script)), (a4, .inl (Z.2 0, 8, .inl r_lengths)), (a5, .inl (Z.2 0, 9, .inl r_fractions)), (a6, .inl (Z.2 0, 4, .inl r_times)), (a7, .inl (Z.2 1, 4, .inr (.inl r_energies))), (a8, .inl (Z.2 1, 1809, .inr (.inl r_far))), (a9, .inl (Z.2 1, 1809, .inr (.inl r_near))), (a10, .inl (Z.2 1, 201, .inr (.inl r_echoes))), (a11, .inl (Z.2 0, 120, .inl v_draft))] : va_W))) args s 0 0 A) [(a0, .inr (5, [.ref a1, .ref a2, .int v_savedCount, .ref a3, .int v_scriptLength, .int v_code, .int v_lineParts, .ref a4, .ref a5, .int v_pulseMany, .ref a6, .ref a7, .ref a8, .ref a9, .ref a10, .long v_left, .long v_dropped, .int v_merged, .int v_drops, .int v_contributions, .long v_packet, .int v_peelResult, .int v_peelTime, .int v_peelSum, .int v_at, .int v_commands, .ref a11, .long v_hash])), (a1, .inl (Z.2 1, 431, .inr (.inl v_m))), (a2, .inl (Z.2 1, 1293, .inr (.inl v_saved))), (a3, .inl (Z.2 0, 120, .inl v_script)), (a4, .inl (Z.2 0, 8, .inl v_lengths)), (a5, .inl (Z.2 0, 9, .inl v_fractions)), (a6, .inl (Z.2 0, 4, .inl v_times)), (a7, .inl (Z.2 1, 4, .inr (.inl v_energies))), (a8, .inl (Z.2 1, 1809, .inr (.inl v_far))), (a9, .inl (Z.2 1, 1809, .inr (.inl v_near))), (a10, .inl (Z.2 1, 201, .inr (.inl v_echoes))), (a11, .inl (Z.2 0, 120, .inl v_draft))] 0 0 17 [some (.ref a0), some (.int x1)] [] := by
  intro n
  induction n with
  | zero =>
    intro v_savedCount v_scriptLength v_code v_lineParts v_pulseMany v_left v_dropped v_merged v_drops v_contributions v_packet v_peelResult v_peelTime v_peelSum v_at v_commands v_hash v_m v_saved v_script v_lengths v_fractions v_times v_energies v_far v_near v_echoes v_draft x1 h
    cases h
  | succ n hK17 =>
    intro v_savedCount v_scriptLength v_code v_lineParts v_pulseMany v_left v_dropped v_merged v_drops v_contributions v_packet v_peelResult v_peelTime v_peelSum v_at v_commands v_hash v_m v_saved v_script v_lengths v_fractions v_times v_energies v_far v_near v_echoes v_draft x1 h
    replace h : B_X6_adopts_17 (F_X6_adopts_17 n) v_lineParts v_pulseMany v_left v_dropped v_merged v_drops v_contributions v_packet v_peelResult v_peelTime v_peelSum v_m v_lengths v_fractions v_times v_energies v_far v_near v_echoes x1 = some (r, r_lineParts, r_pulseMany, r_left, r_dropped, r_merged, r_drops, r_contributions, r_packet, r_peelResult, r_peelTime, r_peelSum, r_m, r_lengths, r_fractions, r_times, r_energies, r_far, r_near, r_echoes) := h
    unfold B_X6_adopts_17 at h
    refine g_iload_n X rfl dX6_adopts_17 18 rfl ?_
    refine g_aload_n X rfl dX6_adopts_18 19 rfl ?_
    refine g_get X gC5 0 rfl 6 (by decide) q1348 (fun _ h9 => h9) rfl dX6_adopts_19 22 rfl ?_
    refine g_icmp_ge X dX6_adopts_22 50 (by decide) 25 rfl (fun hc => ?_) (fun hc => ?_)
    · replace h := if_t hc h
      refine g_aload_n X rfl dX6_adopts_50 51 rfl ?_
      refine g_get X gC5 0 rfl 6 (by decide) q1348 (fun _ h9 => h9) rfl dX6_adopts_51 54 rfl ?_
      obtain ⟨rfl, rfl, rfl, rfl, rfl, rfl, rfl, rfl, rfl, rfl, rfl, rfl, rfl, rfl, rfl, rfl, rfl, rfl, rfl, rfl⟩ := rt20 h
      exact g_iret X dX6_adopts_54 () rfl rfl (Nat.le_of_ble_eq_true rfl) (Nat.le_of_ble_eq_true rfl)
    · replace h := if_f hc h
      refine g_aload_n X rfl dX6_adopts_25 26 rfl ?_
      refine g_iload_n X rfl dX6_adopts_26 27 rfl ?_
      refine g_aload_n X rfl dX6_adopts_27 28 rfl ?_
      refine g_get X gC5 0 rfl 7 (by decide) q1349 (fun _ h9 => h9) rfl dX6_adopts_28 31 rfl ?_
      refine g_iload_n X rfl dX6_adopts_31 32 rfl ?_
      obtain ⟨hi, h⟩ := gin_e h
      refine g_iald X 4 rfl hi dX6_adopts_32 33 rfl ?_
      refine g_aload_n X rfl dX6_adopts_33 34 rfl ?_
      refine g_get X gC5 0 rfl 8 (by decide) q1350 (fun _ h9 => h9) rfl dX6_adopts_34 37 rfl ?_
      refine g_iload_n X rfl dX6_adopts_37 38 rfl ?_
      refine g_iconst X 1 dX6_adopts_38 39 rfl kI_1 ?_
      refine g_iadd X dX6_adopts_39 40 rfl ?_
      obtain ⟨hi, h⟩ := gin_e h
      refine g_iald X 5 rfl hi dX6_adopts_40 41 rfl ?_
      obtain ⟨w1_m, hcl, h⟩ := bd1_e h
      refine g_callV0W X (met_X6_laysPart l Z a0 a1 a2 a3 a4 a5 a6 a7 a8 a9 a10 a11 v_savedCount v_scriptLength v_code v_lineParts v_pulseMany v_left v_dropped v_merged v_drops v_contributions v_packet v_peelResult v_peelTime v_peelSum v_at v_commands v_hash v_m v_saved v_script v_lengths v_fractions v_times v_energies v_far v_near v_echoes v_draft x1 (v_lengths x1.toNatClampNeg) (v_fractions (x1 + 1).toNatClampNeg) w1_m hcl) rfl 0 gC5 rfl rfl (lw_V q1459 q1461 qs25 q74 q1462) md_X6_laysPart ⟨(Nat.le_of_ble_eq_true rfl), (Nat.le_of_ble_eq_true rfl)⟩ rfl dX6_adopts_41 44 rfl 0 0 rfl rfl (Nat.le_of_ble_eq_true rfl) (Nat.le_of_ble_eq_true rfl) (st := []) rfl (Nat.le_of_ble_eq_true rfl) (fun _ => rfl) (fun _ => ?_)
      refine g_iinc X 1 rfl dX6_adopts_44 47 rfl kI_1 (Nat.le_of_ble_eq_true rfl) rfl [some (.ref a0), some (.int (x1 + 1))] rfl ?_
      refine g_goto X dX6_adopts_47 17 (by decide) ?_
      exact hK17 v_savedCount v_scriptLength v_code v_lineParts v_pulseMany v_left v_dropped v_merged v_drops v_contributions v_packet v_peelResult v_peelTime v_peelSum v_at v_commands v_hash w1_m v_saved v_script v_lengths v_fractions v_times v_energies v_far v_near v_echoes v_draft (x1 + 1) h
theorem met_X6_adopts (l : Launch) (Z : gZt) (a0 : Nat) (a1 : Nat) (a2 : Nat) (a3 : Nat) (a4 : Nat) (a5 : Nat) (a6 : Nat) (a7 : Nat) (a8 : Nat) (a9 : Nat) (a10 : Nat) (a11 : Nat) (v_savedCount : Int32) (v_scriptLength : Int32) (v_code : Int32) (v_lineParts : Int32) (v_pulseMany : Int32) (v_left : Int64) (v_dropped : Int64) (v_merged : Int32) (v_drops : Int32) (v_contributions : Int32) (v_packet : Int64) (v_peelResult : Int32) (v_peelTime : Int32) (v_peelSum : Int32) (v_at : Int32) (v_commands : Int32) (v_hash : Int64) (v_m : Nat → Int64) (v_saved : Nat → Int64) (v_script : Nat → Int32) (v_lengths : Nat → Int32) (v_fractions : Nat → Int32) (v_times : Nat → Int32) (v_energies : Nat → Int64) (v_far : Nat → Int64) (v_near : Nat → Int64) (v_echoes : Nat → Int64) (v_draft : Nat → Int32) (r : Int32) (r_lineParts : Int32) (r_pulseMany : Int32) (r_left : Int64) (r_dropped : Int64) (r_merged : Int32) (r_drops : Int32) (r_contributions : Int32) (r_packet : Int64) (r_peelResult : Int32) (r_peelTime : Int32) (r_peelSum : Int32) (r_m : Nat → Int64) (r_lengths : Nat → Int32) (r_fractions : Nat → Int32) (r_times : Nat → Int32) (r_energies : Nat → Int64) (r_far : Nat → Int64) (r_near : Nat → Int64) (r_echoes : Nat → Int64) (h : F_X6_adopts v_peelResult v_peelTime v_m v_lengths v_fractions v_times v_energies v_far v_near v_echoes = some (r, r_lineParts, r_pulseMany, r_left, r_dropped, r_merged, r_drops, r_contributions, r_packet, r_peelResult, r_peelTime, r_peelSum, r_m, r_lengths, r_fractions, r_times, r_energies, r_far, r_near, r_echoes)) : Ct l yX6_adopts (ws_ yX6_adopts cX6_adopts 2 (some .int)) rm_X6_adopts Z [.ref a0] [(a0, .inr (5, [.ref a1, .ref a2, .int v_savedCount, .ref a3, .int v_scriptLength, .int v_code, .int v_lineParts, .ref a4, .ref a5, .int v_pulseMany, .ref a6, .ref a7, .ref a8, .ref a9, .ref a10, .long v_left, .long v_dropped, .int v_merged, .int v_drops, .int v_contributions, .long v_packet, .int v_peelResult, .int v_peelTime, .int v_peelSum, .int v_at, .int v_commands, .ref a11, .long v_hash])), (a1, .inl (Z.2 1, 431, .inr (.inl v_m))), (a2, .inl (Z.2 1, 1293, .inr (.inl v_saved))), (a3, .inl (Z.2 0, 120, .inl v_script)), (a4, .inl (Z.2 0, 8, .inl v_lengths)), (a5, .inl (Z.2 0, 9, .inl v_fractions)), (a6, .inl (Z.2 0, 4, .inl v_times)), (a7, .inl (Z.2 1, 4, .inr (.inl v_energies))), (a8, .inl (Z.2 1, 1809, .inr (.inl v_far))), (a9, .inl (Z.2 1, 1809, .inr (.inl v_near))), (a10, .inl (Z.2 1, 201, .inr (.inl v_echoes))), (a11, .inl (Z.2 0, 120, .inl v_draft))] [] (fun _ : Unit => (some (.int r) : Option Value)) (fun _ : Unit => ([(a0, .inr (5, [.ref a1, .ref a2, .int v_savedCount, .ref a3, .int v_scriptLength, .int v_code, .int r_lineParts, .ref a4, .ref a5, .int r_pulseMany, .ref a6, .ref a7, .ref a8, .ref a9, .ref a10, .long r_left, .long r_dropped, .int r_merged, .int r_drops, .int r_contributions, .long r_packet, .int r_peelResult, .int r_peelTime, .int r_peelSum, .int v_at, .int v_commands, .ref a11, .long v_hash])), (a1, .inl (Z.2 1, 431, .inr (.inl r_m))), (a2, .inl (Z.2 1, 1293, .inr (.inl v_saved))), (a3, .inl (Z.2 0, 120, .inl v_script)), (a4, .inl (Z.2 0, 8, .inl r_lengths)), (a5, .inl (Z.2 0, 9, .inl r_fractions)), (a6, .inl (Z.2 0, 4, .inl r_times)), (a7, .inl (Z.2 1, 4, .inr (.inl r_energies))), (a8, .inl (Z.2 1, 1809, .inr (.inl r_far))), (a9, .inl (Z.2 1, 1809, .inr (.inl r_near))), (a10, .inl (Z.2 1, 201, .inr (.inl r_echoes))), (a11, .inl (Z.2 0, 120, .inl v_draft))] : va_W)) := by
  refine Ct.of cX6_adopts 2 (some .int) "LineEchoesModel" [some (.ref a0), none] 1 (by decide) rfl (Nat.le_of_ble_eq_true rfl) rfl (fun p e s m args below meth c A X hin => ?_)
  unfold F_X6_adopts at h
  refine g_aload_n X rfl dX6_adopts_0 1 rfl ?_
  obtain ⟨w1_lineParts, w2_pulseMany, w3_left, w4_dropped, w5_merged, w6_drops, w7_contributions, w8_packet, w9_peelResult, w10_peelTime, w11_peelSum, w12_lengths, w13_fractions, w14_times, w15_energies, w16_far, w17_near, w18_echoes, hcl, h⟩ := bd18_e h
  refine g_callV0W X (met_X6_peelAll l Z a0 a1 a2 a3 a4 a5 a6 a7 a8 a9 a10 a11 v_savedCount v_scriptLength v_code v_lineParts v_pulseMany v_left v_dropped v_merged v_drops v_contributions v_packet v_peelResult v_peelTime v_peelSum v_at v_commands v_hash v_m v_saved v_script v_lengths v_fractions v_times v_energies v_far v_near v_echoes v_draft  w1_lineParts w2_pulseMany w3_left w4_dropped w5_merged w6_drops w7_contributions w8_packet w9_peelResult w10_peelTime w11_peelSum w12_lengths w13_fractions w14_times w15_energies w16_far w17_near w18_echoes hcl) rfl 0 gC5 rfl rfl (lw_V q1672 q1674 qs53 q74 q1675) md_X6_peelAll ⟨(Nat.le_of_ble_eq_true rfl), (Nat.le_of_ble_eq_true rfl)⟩ rfl dX6_adopts_1 4 rfl 0 0 rfl rfl (Nat.le_of_ble_eq_true rfl) (Nat.le_of_ble_eq_true rfl) (st := []) rfl (Nat.le_of_ble_eq_true rfl) (fun _ => rfl) (fun _ => ?_)
  refine g_aload_n X rfl dX6_adopts_4 5 rfl ?_
  refine g_get X gC5 0 rfl 0 (by decide) q1342 (fun _ h9 => h9) rfl dX6_adopts_5 8 rfl ?_
  refine g_iconst X 0 dX6_adopts_8 9 rfl kI_0 ?_
  refine g_aload_n X rfl dX6_adopts_9 10 rfl ?_
  refine g_get X gC5 0 rfl 6 (by decide) q1348 (fun _ h9 => h9) rfl dX6_adopts_10 13 rfl ?_
  refine g_i2l X dX6_adopts_13 14 rfl ?_
  obtain ⟨hi, h⟩ := gin_e h
  refine g_last X 1 rfl hi dX6_adopts_14 15 rfl ?_
  refine g_iconst X 0 dX6_adopts_15 16 rfl kI_0 ?_
  refine g_istore_n X dX6_adopts_16 17 rfl (Nat.le_of_ble_eq_true rfl) rfl [some (.ref a0), some (.int 0)] rfl ?_
  exact w_X6_adopts_17 a0 a1 a2 a3 a4 a5 a6 a7 a8 a9 a10 a11  X  r r_lineParts r_pulseMany r_left r_dropped r_merged r_drops r_contributions r_packet r_peelResult r_peelTime r_peelSum r_m r_lengths r_fractions r_times r_energies r_far r_near r_echoes    gFU v_savedCount v_scriptLength v_code w1_lineParts w2_pulseMany w3_left w4_dropped w5_merged w6_drops w7_contributions w8_packet w9_peelResult w10_peelTime w11_peelSum v_at v_commands v_hash (vp_updL v_m (Int32.toNatClampNeg 0) w1_lineParts.toInt64) v_saved v_script w12_lengths w13_fractions w14_times w15_energies w16_far w17_near w18_echoes v_draft 0 h
/-! LineEchoesModel.adopt()I -/
abbrev rm_X6_adopt : Room := { frames := 8, cells := 0, slots := 0, locals := 184 }
def F_X6_adopt (v_savedCount : Int32) (v_peelResult : Int32) (v_peelTime : Int32) (v_m : Nat → Int64) (v_saved : Nat → Int64) (v_lengths : Nat → Int32) (v_fractions : Nat → Int32) (v_times : Nat → Int32) (v_energies : Nat → Int64) (v_far : Nat → Int64) (v_near : Nat → Int64) (v_echoes : Nat → Int64) : Option (Int32 × Int32 × Int32 × Int32 × Int32 × Int64 × Int64 × Int32 × Int32 × Int32 × Int64 × Int32 × Int32 × Int32 × (Nat → Int64) × (Nat → Int64) × (Nat → Int32) × (Nat → Int32) × (Nat → Int32) × (Nat → Int64) × (Nat → Int64) × (Nat → Int64) × (Nat → Int64)) :=
  bd2 (F_X6_keep v_savedCount v_m v_saved) fun w1_savedCount w2_saved =>
  bd20 (F_X6_adopts v_peelResult v_peelTime v_m v_lengths v_fractions v_times v_energies v_far v_near v_echoes) fun r3 w4_lineParts w5_pulseMany w6_left w7_dropped w8_merged w9_drops w10_contributions w11_packet w12_peelResult w13_peelTime w14_peelSum w15_m w16_lengths w17_fractions w18_times w19_energies w20_far w21_near w22_echoes =>
  some (r3, w1_savedCount, 0, w4_lineParts, w5_pulseMany, w6_left, w7_dropped, w8_merged, w9_drops, w10_contributions, w11_packet, w12_peelResult, w13_peelTime, w14_peelSum, w15_m, w2_saved, w16_lengths, w17_fractions, w18_times, w19_energies, w20_far, w21_near, w22_echoes)
theorem met_X6_adopt (l : Launch) (Z : gZt) (a0 : Nat) (a1 : Nat) (a2 : Nat) (a3 : Nat) (a4 : Nat) (a5 : Nat) (a6 : Nat) (a7 : Nat) (a8 : Nat) (a9 : Nat) (a10 : Nat) (a11 : Nat) (v_savedCount : Int32) (v_scriptLength : Int32) (v_code : Int32) (v_lineParts : Int32) (v_pulseMany : Int32) (v_left : Int64) (v_dropped : Int64) (v_merged : Int32) (v_drops : Int32) (v_contributions : Int32) (v_packet : Int64) (v_peelResult : Int32) (v_peelTime : Int32) (v_peelSum : Int32) (v_at : Int32) (v_commands : Int32) (v_hash : Int64) (v_m : Nat → Int64) (v_saved : Nat → Int64) (v_script : Nat → Int32) (v_lengths : Nat → Int32) (v_fractions : Nat → Int32) (v_times : Nat → Int32) (v_energies : Nat → Int64) (v_far : Nat → Int64) (v_near : Nat → Int64) (v_echoes : Nat → Int64) (v_draft : Nat → Int32) (r : Int32) (r_savedCount : Int32) (r_code : Int32) (r_lineParts : Int32) (r_pulseMany : Int32) (r_left : Int64) (r_dropped : Int64) (r_merged : Int32) (r_drops : Int32) (r_contributions : Int32) (r_packet : Int64) (r_peelResult : Int32) (r_peelTime : Int32) (r_peelSum : Int32) (r_m : Nat → Int64) (r_saved : Nat → Int64) (r_lengths : Nat → Int32) (r_fractions : Nat → Int32) (r_times : Nat → Int32) (r_energies : Nat → Int64) (r_far : Nat → Int64) (r_near : Nat → Int64) (r_echoes : Nat → Int64) (h : F_X6_adopt v_savedCount v_peelResult v_peelTime v_m v_saved v_lengths v_fractions v_times v_energies v_far v_near v_echoes = some (r, r_savedCount, r_code, r_lineParts, r_pulseMany, r_left, r_dropped, r_merged, r_drops, r_contributions, r_packet, r_peelResult, r_peelTime, r_peelSum, r_m, r_saved, r_lengths, r_fractions, r_times, r_energies, r_far, r_near, r_echoes)) : Ct l yX6_adopt (ws_ yX6_adopt cX6_adopt 1 (some .int)) rm_X6_adopt Z [.ref a0] [(a0, .inr (5, [.ref a1, .ref a2, .int v_savedCount, .ref a3, .int v_scriptLength, .int v_code, .int v_lineParts, .ref a4, .ref a5, .int v_pulseMany, .ref a6, .ref a7, .ref a8, .ref a9, .ref a10, .long v_left, .long v_dropped, .int v_merged, .int v_drops, .int v_contributions, .long v_packet, .int v_peelResult, .int v_peelTime, .int v_peelSum, .int v_at, .int v_commands, .ref a11, .long v_hash])), (a1, .inl (Z.2 1, 431, .inr (.inl v_m))), (a2, .inl (Z.2 1, 1293, .inr (.inl v_saved))), (a3, .inl (Z.2 0, 120, .inl v_script)), (a4, .inl (Z.2 0, 8, .inl v_lengths)), (a5, .inl (Z.2 0, 9, .inl v_fractions)), (a6, .inl (Z.2 0, 4, .inl v_times)), (a7, .inl (Z.2 1, 4, .inr (.inl v_energies))), (a8, .inl (Z.2 1, 1809, .inr (.inl v_far))), (a9, .inl (Z.2 1, 1809, .inr (.inl v_near))), (a10, .inl (Z.2 1, 201, .inr (.inl v_echoes))), (a11, .inl (Z.2 0, 120, .inl v_draft))] [] (fun _ : Unit => (some (.int r) : Option Value)) (fun _ : Unit => ([(a0, .inr (5, [.ref a1, .ref a2, .int r_savedCount, .ref a3, .int v_scriptLength, .int r_code, .int r_lineParts, .ref a4, .ref a5, .int r_pulseMany, .ref a6, .ref a7, .ref a8, .ref a9, .ref a10, .long r_left, .long r_dropped, .int r_merged, .int r_drops, .int r_contributions, .long r_packet, .int r_peelResult, .int r_peelTime, .int r_peelSum, .int v_at, .int v_commands, .ref a11, .long v_hash])), (a1, .inl (Z.2 1, 431, .inr (.inl r_m))), (a2, .inl (Z.2 1, 1293, .inr (.inl r_saved))), (a3, .inl (Z.2 0, 120, .inl v_script)), (a4, .inl (Z.2 0, 8, .inl r_lengths)), (a5, .inl (Z.2 0, 9, .inl r_fractions)), (a6, .inl (Z.2 0, 4, .inl r_times)), (a7, .inl (Z.2 1, 4, .inr (.inl r_energies))), (a8, .inl (Z.2 1, 1809, .inr (.inl r_far))), (a9, .inl (Z.2 1, 1809, .inr (.inl r_near))), (a10, .inl (Z.2 1, 201, .inr (.inl r_echoes))), (a11, .inl (Z.2 0, 120, .inl v_draft))] : va_W)) := by
  refine Ct.of cX6_adopt 1 (some .int) "LineEchoesModel" [some (.ref a0)] 0 (by decide) rfl (Nat.le_of_ble_eq_true rfl) rfl (fun p e s m args below meth c A X hin => ?_)
  unfold F_X6_adopt at h
  refine g_aload_n X rfl dX6_adopt_0 1 rfl ?_
  refine g_iconst X 0 dX6_adopt_1 2 rfl kI_0 ?_
  refine g_put X gC5 0 rfl 5 (by decide) q1347 (fun _ h9 => h9) rfl rfl rfl (Nat.le_of_ble_eq_true rfl) dX6_adopt_2 5 rfl ?_
  refine g_aload_n X rfl dX6_adopt_5 6 rfl ?_
  obtain ⟨w1_savedCount, w2_saved, hcl, h⟩ := bd2_e h
  refine g_callV0W X (met_X6_keep l Z a0 a1 a2 a3 a4 a5 a6 a7 a8 a9 a10 a11 v_savedCount v_scriptLength 0 v_lineParts v_pulseMany v_left v_dropped v_merged v_drops v_contributions v_packet v_peelResult v_peelTime v_peelSum v_at v_commands v_hash v_m v_saved v_script v_lengths v_fractions v_times v_energies v_far v_near v_echoes v_draft  w1_savedCount w2_saved hcl) rfl 0 gC5 rfl rfl (lw_V q1451 q1453 qs23 q74 q1454) md_X6_keep ⟨(Nat.le_of_ble_eq_true rfl), (Nat.le_of_ble_eq_true rfl)⟩ rfl dX6_adopt_6 9 rfl 0 0 rfl rfl (Nat.le_of_ble_eq_true rfl) (Nat.le_of_ble_eq_true rfl) (st := []) rfl (Nat.le_of_ble_eq_true rfl) (fun _ => rfl) (fun _ => ?_)
  refine g_aload_n X rfl dX6_adopt_9 10 rfl ?_
  obtain ⟨r3, w4_lineParts, w5_pulseMany, w6_left, w7_dropped, w8_merged, w9_drops, w10_contributions, w11_packet, w12_peelResult, w13_peelTime, w14_peelSum, w15_m, w16_lengths, w17_fractions, w18_times, w19_energies, w20_far, w21_near, w22_echoes, hcl, h⟩ := bd20_e h
  refine g_callV1W X (met_X6_adopts l Z a0 a1 a2 a3 a4 a5 a6 a7 a8 a9 a10 a11 w1_savedCount v_scriptLength 0 v_lineParts v_pulseMany v_left v_dropped v_merged v_drops v_contributions v_packet v_peelResult v_peelTime v_peelSum v_at v_commands v_hash v_m w2_saved v_script v_lengths v_fractions v_times v_energies v_far v_near v_echoes v_draft  r3 w4_lineParts w5_pulseMany w6_left w7_dropped w8_merged w9_drops w10_contributions w11_packet w12_peelResult w13_peelTime w14_peelSum w15_m w16_lengths w17_fractions w18_times w19_energies w20_far w21_near w22_echoes hcl) rfl 0 gC5 rfl rfl (lw_V q1700 q1702 qs58 q74 q1703) md_X6_adopts ⟨(Nat.le_of_ble_eq_true rfl), (Nat.le_of_ble_eq_true rfl)⟩ rfl dX6_adopt_10 13 rfl 0 0 rfl rfl (Nat.le_of_ble_eq_true rfl) (Nat.le_of_ble_eq_true rfl) (st := []) rfl (Nat.le_of_ble_eq_true rfl) (fun _ => rfl) (fun _ => ?_)
  obtain ⟨rfl, rfl, rfl, rfl, rfl, rfl, rfl, rfl, rfl, rfl, rfl, rfl, rfl, rfl, rfl, rfl, rfl, rfl, rfl, rfl, rfl, rfl, rfl⟩ := rt23 h
  exact g_iret X dX6_adopt_13 () rfl rfl (Nat.le_of_ble_eq_true rfl) (Nat.le_of_ble_eq_true rfl)
/-! LineEchoesModel.type(I)I -/
abbrev rm_X6_type : Room := { frames := 1, cells := 0, slots := 0, locals := 25 }
def F_X6_type_31 (v_scriptLength : Int32) (v_script : Nat → Int32) (x1 : Int32) (s1 : Int32) : Option (Int32 × Int32 × Int32 × (Nat → Int32)) :=
  if s1 = 0 then
    (gin v_scriptLength 120 <|
    some (v_scriptLength + 1, v_scriptLength + 1, s1, upd v_script v_scriptLength.toNatClampNeg x1))
  else
    (some (0, v_scriptLength, s1, v_script))
def F_X6_type (v_scriptLength : Int32) (v_script : Nat → Int32) (x1 : Int32) : Option (Int32 × Int32 × Int32 × (Nat → Int32)) :=
  bd1 (F_X6_in x1.toInt64 0 127) fun r1 =>
  if r1 = 0 then
    (F_X6_type_31 v_scriptLength v_script x1 1)
  else
    (F_X6_type_31 v_scriptLength v_script x1 (if v_scriptLength = 120 then (2 : Int32) else 0))
theorem w_X6_type_31 {p : Program} {l : Launch} {e : Env} {s : State} {m : MethodId} {args : Array Value} {below : List Frame} {meth : Method} {c : Code} {Z : gZt} {A : Nat → Prop} (a0 : Nat) (a1 : Nat) (a2 : Nat) (a3 : Nat) (a4 : Nat) (a5 : Nat) (a6 : Nat) (a7 : Nat) (a8 : Nat) (a9 : Nat) (a10 : Nat) (a11 : Nat) (X : gX p s m args meth c Z A cX6_type "LineEchoesModel" 2 (some .int) []) (r : Int32) (r_scriptLength : Int32) (r_code : Int32) (r_script : Nat → Int32)  (v_savedCount : Int32) (v_scriptLength : Int32) (v_code : Int32) (v_lineParts : Int32) (v_pulseMany : Int32) (v_left : Int64) (v_dropped : Int64) (v_merged : Int32) (v_drops : Int32) (v_contributions : Int32) (v_packet : Int64) (v_peelResult : Int32) (v_peelTime : Int32) (v_peelSum : Int32) (v_at : Int32) (v_commands : Int32) (v_hash : Int64) (v_m : Nat → Int64) (v_saved : Nat → Int64) (v_script : Nat → Int32) (v_lengths : Nat → Int32) (v_fractions : Nat → Int32) (v_times : Nat → Int32) (v_energies : Nat → Int64) (v_far : Nat → Int64) (v_near : Nat → Int64) (v_echoes : Nat → Int64) (v_draft : Nat → Int32) (x1 : Int32) (s1 : Int32) (h : F_X6_type_31 v_scriptLength v_script x1 s1 = some (r, r_scriptLength, r_code, r_script)) : G p l e rm_X6_type s m args below meth c Z A 2 (MQ below (gPost Z A (fun _ : Unit => (some (.int r) : Option Value)) (fun _ : Unit => ([(a0, .inr (5, [.ref a1, .ref a2, .int v_savedCount, .ref a3, .int r_scriptLength, .int r_code, .int v_lineParts, .ref a4, .ref a5, .int v_pulseMany, .ref a6, .ref a7, .ref a8, .ref a9, .ref a10, .long v_left, .long v_dropped, .int v_merged, .int v_drops, .int v_contributions, .long v_packet, .int v_peelResult, .int v_peelTime, .int v_peelSum, .int v_at, .int v_commands, .ref a11, .long v_hash])), (a1, .inl (Z.2 1, 431, .inr (.inl v_m))), (a2, .inl (Z.2 1, 1293, .inr (.inl v_saved))), (a3, .inl (Z.2 0, 120, .inl r_script)), (a4, .inl (Z.2 0, 8, .inl v_lengths)), (a5, .inl (Z.2 0, 9, .inl v_fractions)), (a6, .inl (Z.2 0, 4, .inl v_times)), (a7, .inl (Z.2 1, 4, .inr (.inl v_energies))), (a8, .inl (Z.2 1, 1809, .inr (.inl v_far))), (a9, .inl (Z.2 1, 1809, .inr (.inl v_near))), (a10, .inl (Z.2 1, 201, .inr (.inl v_echoes))), (a11, .inl (Z.2 0, 120, .inl v_draft))] : va_W))) args s 0 0 A) [(a0, .inr (5, [.ref a1, .ref a2, .int v_savedCount, .ref a3, .int v_scriptLength, .int v_code, .int v_lineParts, .ref a4, .ref a5, .int v_pulseMany, .ref a6, .ref a7, .ref a8, .ref a9, .ref a10, .long v_left, .long v_dropped, .int v_merged, .int v_drops, .int v_contributions, .long v_packet, .int v_peelResult, .int v_peelTime, .int v_peelSum, .int v_at, .int v_commands, .ref a11, .long v_hash])), (a1, .inl (Z.2 1, 431, .inr (.inl v_m))), (a2, .inl (Z.2 1, 1293, .inr (.inl v_saved))), (a3, .inl (Z.2 0, 120, .inl v_script)), (a4, .inl (Z.2 0, 8, .inl v_lengths)), (a5, .inl (Z.2 0, 9, .inl v_fractions)), (a6, .inl (Z.2 0, 4, .inl v_times)), (a7, .inl (Z.2 1, 4, .inr (.inl v_energies))), (a8, .inl (Z.2 1, 1809, .inr (.inl v_far))), (a9, .inl (Z.2 1, 1809, .inr (.inl v_near))), (a10, .inl (Z.2 1, 201, .inr (.inl v_echoes))), (a11, .inl (Z.2 0, 120, .inl v_draft))] 0 0 31 [some (.ref a0), some (.int x1)] [.int s1, .ref a0] := by
  unfold F_X6_type_31 at h
  refine g_put X gC5 0 rfl 5 (by decide) q1347 (fun _ h9 => h9) rfl rfl rfl (Nat.le_of_ble_eq_true rfl) dX6_type_31 34 rfl ?_
  refine g_aload_n X rfl dX6_type_34 35 rfl ?_
  refine g_get X gC5 0 rfl 5 (by decide) q1347 (fun _ h9 => h9) rfl dX6_type_35 38 rfl ?_
  refine g_if_eq X dX6_type_38 43 (by decide) 41 rfl (fun hc => ?_) (fun hc => ?_)
  · replace h := if_t hc h
    refine g_aload_n X rfl dX6_type_43 44 rfl ?_
    refine g_get X gC5 0 rfl 3 (by decide) q1345 (fun _ h9 => h9) rfl dX6_type_44 47 rfl ?_
    refine g_aload_n X rfl dX6_type_47 48 rfl ?_
    refine g_get X gC5 0 rfl 4 (by decide) q1346 (fun _ h9 => h9) rfl dX6_type_48 51 rfl ?_
    refine g_iload_n X rfl dX6_type_51 52 rfl ?_
    obtain ⟨hi, h⟩ := gin_e h
    refine g_iast X 3 rfl hi dX6_type_52 53 rfl ?_
    refine g_aload_n X rfl dX6_type_53 54 rfl ?_
    refine g_dup X dX6_type_54 55 rfl rfl ?_
    refine g_get X gC5 0 rfl 4 (by decide) q1346 (fun _ h9 => h9) rfl dX6_type_55 58 rfl ?_
    refine g_iconst X 1 dX6_type_58 59 rfl kI_1 ?_
    refine g_iadd X dX6_type_59 60 rfl ?_
    refine g_put X gC5 0 rfl 4 (by decide) q1346 (fun _ h9 => h9) rfl rfl rfl (Nat.le_of_ble_eq_true rfl) dX6_type_60 63 rfl ?_
    refine g_aload_n X rfl dX6_type_63 64 rfl ?_
    refine g_get X gC5 0 rfl 4 (by decide) q1346 (fun _ h9 => h9) rfl dX6_type_64 67 rfl ?_
    cases h
    exact g_iret X dX6_type_67 () rfl rfl (Nat.le_of_ble_eq_true rfl) (Nat.le_of_ble_eq_true rfl)
  · replace h := if_f hc h
    refine g_iconst X 0 dX6_type_41 42 rfl kI_0 ?_
    cases h
    exact g_iret X dX6_type_42 () rfl rfl (Nat.le_of_ble_eq_true rfl) (Nat.le_of_ble_eq_true rfl)
theorem met_X6_type (l : Launch) (Z : gZt) (a0 : Nat) (a1 : Nat) (a2 : Nat) (a3 : Nat) (a4 : Nat) (a5 : Nat) (a6 : Nat) (a7 : Nat) (a8 : Nat) (a9 : Nat) (a10 : Nat) (a11 : Nat) (v_savedCount : Int32) (v_scriptLength : Int32) (v_code : Int32) (v_lineParts : Int32) (v_pulseMany : Int32) (v_left : Int64) (v_dropped : Int64) (v_merged : Int32) (v_drops : Int32) (v_contributions : Int32) (v_packet : Int64) (v_peelResult : Int32) (v_peelTime : Int32) (v_peelSum : Int32) (v_at : Int32) (v_commands : Int32) (v_hash : Int64) (v_m : Nat → Int64) (v_saved : Nat → Int64) (v_script : Nat → Int32) (v_lengths : Nat → Int32) (v_fractions : Nat → Int32) (v_times : Nat → Int32) (v_energies : Nat → Int64) (v_far : Nat → Int64) (v_near : Nat → Int64) (v_echoes : Nat → Int64) (v_draft : Nat → Int32) (x1 : Int32) (r : Int32) (r_scriptLength : Int32) (r_code : Int32) (r_script : Nat → Int32) (h : F_X6_type v_scriptLength v_script x1 = some (r, r_scriptLength, r_code, r_script)) : Ct l yX6_type (ws_ yX6_type cX6_type 2 (some .int)) rm_X6_type Z [.ref a0, .int x1] [(a0, .inr (5, [.ref a1, .ref a2, .int v_savedCount, .ref a3, .int v_scriptLength, .int v_code, .int v_lineParts, .ref a4, .ref a5, .int v_pulseMany, .ref a6, .ref a7, .ref a8, .ref a9, .ref a10, .long v_left, .long v_dropped, .int v_merged, .int v_drops, .int v_contributions, .long v_packet, .int v_peelResult, .int v_peelTime, .int v_peelSum, .int v_at, .int v_commands, .ref a11, .long v_hash])), (a1, .inl (Z.2 1, 431, .inr (.inl v_m))), (a2, .inl (Z.2 1, 1293, .inr (.inl v_saved))), (a3, .inl (Z.2 0, 120, .inl v_script)), (a4, .inl (Z.2 0, 8, .inl v_lengths)), (a5, .inl (Z.2 0, 9, .inl v_fractions)), (a6, .inl (Z.2 0, 4, .inl v_times)), (a7, .inl (Z.2 1, 4, .inr (.inl v_energies))), (a8, .inl (Z.2 1, 1809, .inr (.inl v_far))), (a9, .inl (Z.2 1, 1809, .inr (.inl v_near))), (a10, .inl (Z.2 1, 201, .inr (.inl v_echoes))), (a11, .inl (Z.2 0, 120, .inl v_draft))] [] (fun _ : Unit => (some (.int r) : Option Value)) (fun _ : Unit => ([(a0, .inr (5, [.ref a1, .ref a2, .int v_savedCount, .ref a3, .int r_scriptLength, .int r_code, .int v_lineParts, .ref a4, .ref a5, .int v_pulseMany, .ref a6, .ref a7, .ref a8, .ref a9, .ref a10, .long v_left, .long v_dropped, .int v_merged, .int v_drops, .int v_contributions, .long v_packet, .int v_peelResult, .int v_peelTime, .int v_peelSum, .int v_at, .int v_commands, .ref a11, .long v_hash])), (a1, .inl (Z.2 1, 431, .inr (.inl v_m))), (a2, .inl (Z.2 1, 1293, .inr (.inl v_saved))), (a3, .inl (Z.2 0, 120, .inl r_script)), (a4, .inl (Z.2 0, 8, .inl v_lengths)), (a5, .inl (Z.2 0, 9, .inl v_fractions)), (a6, .inl (Z.2 0, 4, .inl v_times)), (a7, .inl (Z.2 1, 4, .inr (.inl v_energies))), (a8, .inl (Z.2 1, 1809, .inr (.inl v_far))), (a9, .inl (Z.2 1, 1809, .inr (.inl v_near))), (a10, .inl (Z.2 1, 201, .inr (.inl v_echoes))), (a11, .inl (Z.2 0, 120, .inl v_draft))] : va_W)) := by
  refine Ct.of cX6_type 2 (some .int) "LineEchoesModel" [some (.ref a0), some (.int x1)] 0 (by decide) rfl (Nat.le_of_ble_eq_true rfl) rfl (fun p e s m args below meth c A X hin => ?_)
  unfold F_X6_type at h
  refine g_aload_n X rfl dX6_type_0 1 rfl ?_
  refine g_iload_n X rfl dX6_type_1 2 rfl ?_
  refine g_i2l X dX6_type_2 3 rfl ?_
  refine g_lconst X 0 dX6_type_3 4 rfl rfl ?_
  refine g_ldc2 X q1708 dX6_type_4 7 rfl ?_
  obtain ⟨r1, hcl, h⟩ := bd1_e h
  refine g_callS1Z X (met_X6_in l Z   x1.toInt64 0 127 r1 hcl) (lw_S q1443 q1444 q74 q1445) md_X6_in ⟨(Nat.le_of_ble_eq_true rfl), (Nat.le_of_ble_eq_true rfl)⟩ rfl dX6_type_7 10 rfl 0 0 rfl rfl (Nat.le_of_ble_eq_true rfl) (Nat.le_of_ble_eq_true rfl) (st := [.ref a0]) rfl (Nat.le_of_ble_eq_true rfl) (fun _ => rfl) (fun _ => ?_)
  refine g_if_ne X dX6_type_10 17 (by decide) 13 rfl (fun hc => ?_) (fun hc => ?_)
  · replace h := if_f hc h
    refine g_aload_n X rfl dX6_type_17 18 rfl ?_
    refine g_get X gC5 0 rfl 4 (by decide) q1346 (fun _ h9 => h9) rfl dX6_type_18 21 rfl ?_
    refine g_bipush X 120 dX6_type_21 23 rfl kB_120 ?_
    refine g_seli 31 [.ref a0] (b := v_scriptLength = 120) 2 0 ?_ (fun hc K => ?_) (fun hc K => ?_)
    · exact w_X6_type_31 a0 a1 a2 a3 a4 a5 a6 a7 a8 a9 a10 a11  X  r r_scriptLength r_code r_script    v_savedCount v_scriptLength v_code v_lineParts v_pulseMany v_left v_dropped v_merged v_drops v_contributions v_packet v_peelResult v_peelTime v_peelSum v_at v_commands v_hash v_m v_saved v_script v_lengths v_fractions v_times v_energies v_far v_near v_echoes v_draft x1 (if v_scriptLength = 120 then (2 : Int32) else 0) h
    · refine g_icmp_ne X dX6_type_23 30 (by decide) 26 rfl (fun hn => absurd hc hn) (fun _ => ?_)
      refine g_iconst X 2 dX6_type_26 27 rfl kI_2 ?_
      refine g_goto X dX6_type_27 31 (by decide) ?_
      exact K
    · refine g_icmp_ne X dX6_type_23 30 (by decide) 26 rfl (fun _ => ?_) (fun hn => absurd hn hc)
      refine g_iconst X 0 dX6_type_30 31 rfl kI_0 ?_
      exact K
  · replace h := if_t hc h
    refine g_iconst X 1 dX6_type_13 14 rfl kI_1 ?_
    refine g_goto X dX6_type_14 31 (by decide) ?_
    exact w_X6_type_31 a0 a1 a2 a3 a4 a5 a6 a7 a8 a9 a10 a11  X  r r_scriptLength r_code r_script    v_savedCount v_scriptLength v_code v_lineParts v_pulseMany v_left v_dropped v_merged v_drops v_contributions v_packet v_peelResult v_peelTime v_peelSum v_at v_commands v_hash v_m v_saved v_script v_lengths v_fractions v_times v_energies v_far v_near v_echoes v_draft x1 1 h
/-! LineEchoesModel.clearScript()I -/
abbrev rm_X6_clearScript : Room := { frames := 0, cells := 0, slots := 0, locals := 0 }
def F_X6_clearScript (v_scriptLength : Int32) : Option (Int32 × Int32 × Int32) :=
  some (v_scriptLength, 0, 0)
theorem met_X6_clearScript (l : Launch) (Z : gZt) (a0 : Nat) (a1 : Nat) (a2 : Nat) (a3 : Nat) (a4 : Nat) (a5 : Nat) (a6 : Nat) (a7 : Nat) (a8 : Nat) (a9 : Nat) (a10 : Nat) (a11 : Nat) (v_savedCount : Int32) (v_scriptLength : Int32) (v_code : Int32) (v_lineParts : Int32) (v_pulseMany : Int32) (v_left : Int64) (v_dropped : Int64) (v_merged : Int32) (v_drops : Int32) (v_contributions : Int32) (v_packet : Int64) (v_peelResult : Int32) (v_peelTime : Int32) (v_peelSum : Int32) (v_at : Int32) (v_commands : Int32) (v_hash : Int64) (v_m : Nat → Int64) (v_saved : Nat → Int64) (v_script : Nat → Int32) (v_lengths : Nat → Int32) (v_fractions : Nat → Int32) (v_times : Nat → Int32) (v_energies : Nat → Int64) (v_far : Nat → Int64) (v_near : Nat → Int64) (v_echoes : Nat → Int64) (v_draft : Nat → Int32) (r : Int32) (r_scriptLength : Int32) (r_code : Int32) (h : F_X6_clearScript v_scriptLength = some (r, r_scriptLength, r_code)) : Ct l yX6_clearScript (ws_ yX6_clearScript cX6_clearScript 2 (some .int)) rm_X6_clearScript Z [.ref a0] [(a0, .inr (5, [.ref a1, .ref a2, .int v_savedCount, .ref a3, .int v_scriptLength, .int v_code, .int v_lineParts, .ref a4, .ref a5, .int v_pulseMany, .ref a6, .ref a7, .ref a8, .ref a9, .ref a10, .long v_left, .long v_dropped, .int v_merged, .int v_drops, .int v_contributions, .long v_packet, .int v_peelResult, .int v_peelTime, .int v_peelSum, .int v_at, .int v_commands, .ref a11, .long v_hash])), (a1, .inl (Z.2 1, 431, .inr (.inl v_m))), (a2, .inl (Z.2 1, 1293, .inr (.inl v_saved))), (a3, .inl (Z.2 0, 120, .inl v_script)), (a4, .inl (Z.2 0, 8, .inl v_lengths)), (a5, .inl (Z.2 0, 9, .inl v_fractions)), (a6, .inl (Z.2 0, 4, .inl v_times)), (a7, .inl (Z.2 1, 4, .inr (.inl v_energies))), (a8, .inl (Z.2 1, 1809, .inr (.inl v_far))), (a9, .inl (Z.2 1, 1809, .inr (.inl v_near))), (a10, .inl (Z.2 1, 201, .inr (.inl v_echoes))), (a11, .inl (Z.2 0, 120, .inl v_draft))] [] (fun _ : Unit => (some (.int r) : Option Value)) (fun _ : Unit => ([(a0, .inr (5, [.ref a1, .ref a2, .int v_savedCount, .ref a3, .int r_scriptLength, .int r_code, .int v_lineParts, .ref a4, .ref a5, .int v_pulseMany, .ref a6, .ref a7, .ref a8, .ref a9, .ref a10, .long v_left, .long v_dropped, .int v_merged, .int v_drops, .int v_contributions, .long v_packet, .int v_peelResult, .int v_peelTime, .int v_peelSum, .int v_at, .int v_commands, .ref a11, .long v_hash])), (a1, .inl (Z.2 1, 431, .inr (.inl v_m))), (a2, .inl (Z.2 1, 1293, .inr (.inl v_saved))), (a3, .inl (Z.2 0, 120, .inl v_script)), (a4, .inl (Z.2 0, 8, .inl v_lengths)), (a5, .inl (Z.2 0, 9, .inl v_fractions)), (a6, .inl (Z.2 0, 4, .inl v_times)), (a7, .inl (Z.2 1, 4, .inr (.inl v_energies))), (a8, .inl (Z.2 1, 1809, .inr (.inl v_far))), (a9, .inl (Z.2 1, 1809, .inr (.inl v_near))), (a10, .inl (Z.2 1, 201, .inr (.inl v_echoes))), (a11, .inl (Z.2 0, 120, .inl v_draft))] : va_W)) := by
  refine Ct.of cX6_clearScript 2 (some .int) "LineEchoesModel" [some (.ref a0), none] 1 (by decide) rfl (Nat.le_of_ble_eq_true rfl) rfl (fun p e s m args below meth c A X hin => ?_)
  unfold F_X6_clearScript at h
  refine g_aload_n X rfl dX6_clearScript_0 1 rfl ?_
  refine g_iconst X 0 dX6_clearScript_1 2 rfl kI_0 ?_
  refine g_put X gC5 0 rfl 5 (by decide) q1347 (fun _ h9 => h9) rfl rfl rfl (Nat.le_of_ble_eq_true rfl) dX6_clearScript_2 5 rfl ?_
  refine g_aload_n X rfl dX6_clearScript_5 6 rfl ?_
  refine g_get X gC5 0 rfl 4 (by decide) q1346 (fun _ h9 => h9) rfl dX6_clearScript_6 9 rfl ?_
  refine g_istore_n X dX6_clearScript_9 10 rfl (Nat.le_of_ble_eq_true rfl) rfl [some (.ref a0), some (.int v_scriptLength)] rfl ?_
  refine g_aload_n X rfl dX6_clearScript_10 11 rfl ?_
  refine g_iconst X 0 dX6_clearScript_11 12 rfl kI_0 ?_
  refine g_put X gC5 0 rfl 4 (by decide) q1346 (fun _ h9 => h9) rfl rfl rfl (Nat.le_of_ble_eq_true rfl) dX6_clearScript_12 15 rfl ?_
  refine g_iload_n X rfl dX6_clearScript_15 16 rfl ?_
  cases h
  exact g_iret X dX6_clearScript_16 () rfl rfl (Nat.le_of_ble_eq_true rfl) (Nat.le_of_ble_eq_true rfl)
/-! LineEchoesModel.does(I)Z -/
abbrev rm_X6_does : Room := { frames := 8, cells := 0, slots := 0, locals := 184 }
def F_X6_does_298 (v_code : Int32) (v_lineParts : Int32) (v_pulseMany : Int32) (v_left : Int64) (v_dropped : Int64) (v_merged : Int32) (v_drops : Int32) (v_contributions : Int32) (v_packet : Int64) (v_peelResult : Int32) (v_peelTime : Int32) (v_peelSum : Int32) (v_m : Nat → Int64) (v_lengths : Nat → Int32) (v_fractions : Nat → Int32) (v_times : Nat → Int32) (v_energies : Nat → Int64) (v_far : Nat → Int64) (v_near : Nat → Int64) (v_echoes : Nat → Int64) (x5 : Int32) : Option (Int32 × Int32 × Int32 × Int32 × Int64 × Int64 × Int32 × Int32 × Int32 × Int64 × Int32 × Int32 × Int32 × (Nat → Int64) × (Nat → Int32) × (Nat → Int32) × (Nat → Int32) × (Nat → Int64) × (Nat → Int64) × (Nat → Int64) × (Nat → Int64)) :=
  some ((if v_code = 0 then (if x5 < 0 then (0 : Int32) else 1) else 0), v_code, v_lineParts, v_pulseMany, v_left, v_dropped, v_merged, v_drops, v_contributions, v_packet, v_peelResult, v_peelTime, v_peelSum, v_m, v_lengths, v_fractions, v_times, v_energies, v_far, v_near, v_echoes)
def F_X6_does_111 (v_code : Int32) (v_lineParts : Int32) (v_pulseMany : Int32) (v_left : Int64) (v_dropped : Int64) (v_merged : Int32) (v_drops : Int32) (v_contributions : Int32) (v_packet : Int64) (v_peelResult : Int32) (v_peelTime : Int32) (v_peelSum : Int32) (v_m : Nat → Int64) (v_lengths : Nat → Int32) (v_fractions : Nat → Int32) (v_times : Nat → Int32) (v_energies : Nat → Int64) (v_far : Nat → Int64) (v_near : Nat → Int64) (v_echoes : Nat → Int64) (s0 : Int32) : Option (Int32 × Int32 × Int32 × Int32 × Int64 × Int64 × Int32 × Int32 × Int32 × Int64 × Int32 × Int32 × Int32 × (Nat → Int64) × (Nat → Int32) × (Nat → Int32) × (Nat → Int32) × (Nat → Int64) × (Nat → Int64) × (Nat → Int64) × (Nat → Int64)) :=
  F_X6_does_298 v_code v_lineParts v_pulseMany v_left v_dropped v_merged v_drops v_contributions v_packet v_peelResult v_peelTime v_peelSum v_m v_lengths v_fractions v_times v_energies v_far v_near v_echoes s0
def F_X6_does_147 (v_code : Int32) (v_lineParts : Int32) (v_pulseMany : Int32) (v_left : Int64) (v_dropped : Int64) (v_merged : Int32) (v_drops : Int32) (v_contributions : Int32) (v_packet : Int64) (v_peelResult : Int32) (v_peelTime : Int32) (v_peelSum : Int32) (v_m : Nat → Int64) (v_lengths : Nat → Int32) (v_fractions : Nat → Int32) (v_times : Nat → Int32) (v_energies : Nat → Int64) (v_far : Nat → Int64) (v_near : Nat → Int64) (v_echoes : Nat → Int64) (s0 : Int32) : Option (Int32 × Int32 × Int32 × Int32 × Int64 × Int64 × Int32 × Int32 × Int32 × Int64 × Int32 × Int32 × Int32 × (Nat → Int64) × (Nat → Int32) × (Nat → Int32) × (Nat → Int32) × (Nat → Int64) × (Nat → Int64) × (Nat → Int64) × (Nat → Int64)) :=
  F_X6_does_298 v_code v_lineParts v_pulseMany v_left v_dropped v_merged v_drops v_contributions v_packet v_peelResult v_peelTime v_peelSum v_m v_lengths v_fractions v_times v_energies v_far v_near v_echoes s0
def F_X6_does_179 (v_code : Int32) (v_lineParts : Int32) (v_pulseMany : Int32) (v_left : Int64) (v_dropped : Int64) (v_merged : Int32) (v_drops : Int32) (v_contributions : Int32) (v_packet : Int64) (v_peelResult : Int32) (v_peelTime : Int32) (v_peelSum : Int32) (v_m : Nat → Int64) (v_lengths : Nat → Int32) (v_fractions : Nat → Int32) (v_times : Nat → Int32) (v_energies : Nat → Int64) (v_far : Nat → Int64) (v_near : Nat → Int64) (v_echoes : Nat → Int64) (s0 : Int32) : Option (Int32 × Int32 × Int32 × Int32 × Int64 × Int64 × Int32 × Int32 × Int32 × Int64 × Int32 × Int32 × Int32 × (Nat → Int64) × (Nat → Int32) × (Nat → Int32) × (Nat → Int32) × (Nat → Int64) × (Nat → Int64) × (Nat → Int64) × (Nat → Int64)) :=
  F_X6_does_298 v_code v_lineParts v_pulseMany v_left v_dropped v_merged v_drops v_contributions v_packet v_peelResult v_peelTime v_peelSum v_m v_lengths v_fractions v_times v_energies v_far v_near v_echoes s0
def F_X6_does_211 (v_code : Int32) (v_lineParts : Int32) (v_pulseMany : Int32) (v_left : Int64) (v_dropped : Int64) (v_merged : Int32) (v_drops : Int32) (v_contributions : Int32) (v_packet : Int64) (v_peelResult : Int32) (v_peelTime : Int32) (v_peelSum : Int32) (v_m : Nat → Int64) (v_lengths : Nat → Int32) (v_fractions : Nat → Int32) (v_times : Nat → Int32) (v_energies : Nat → Int64) (v_far : Nat → Int64) (v_near : Nat → Int64) (v_echoes : Nat → Int64) (s0 : Int32) : Option (Int32 × Int32 × Int32 × Int32 × Int64 × Int64 × Int32 × Int32 × Int32 × Int64 × Int32 × Int32 × Int32 × (Nat → Int64) × (Nat → Int32) × (Nat → Int32) × (Nat → Int32) × (Nat → Int64) × (Nat → Int64) × (Nat → Int64) × (Nat → Int64)) :=
  F_X6_does_298 v_code v_lineParts v_pulseMany v_left v_dropped v_merged v_drops v_contributions v_packet v_peelResult v_peelTime v_peelSum v_m v_lengths v_fractions v_times v_energies v_far v_near v_echoes s0
def F_X6_does_249 (v_code : Int32) (v_lineParts : Int32) (v_pulseMany : Int32) (v_left : Int64) (v_dropped : Int64) (v_merged : Int32) (v_drops : Int32) (v_contributions : Int32) (v_packet : Int64) (v_peelResult : Int32) (v_peelTime : Int32) (v_peelSum : Int32) (v_m : Nat → Int64) (v_lengths : Nat → Int32) (v_fractions : Nat → Int32) (v_times : Nat → Int32) (v_energies : Nat → Int64) (v_far : Nat → Int64) (v_near : Nat → Int64) (v_echoes : Nat → Int64) (s0 : Int32) : Option (Int32 × Int32 × Int32 × Int32 × Int64 × Int64 × Int32 × Int32 × Int32 × Int64 × Int32 × Int32 × Int32 × (Nat → Int64) × (Nat → Int32) × (Nat → Int32) × (Nat → Int32) × (Nat → Int64) × (Nat → Int64) × (Nat → Int64) × (Nat → Int64)) :=
  F_X6_does_298 v_code v_lineParts v_pulseMany v_left v_dropped v_merged v_drops v_contributions v_packet v_peelResult v_peelTime v_peelSum v_m v_lengths v_fractions v_times v_energies v_far v_near v_echoes s0
def F_X6_does (v_lineParts : Int32) (v_pulseMany : Int32) (v_left : Int64) (v_dropped : Int64) (v_merged : Int32) (v_drops : Int32) (v_contributions : Int32) (v_packet : Int64) (v_peelResult : Int32) (v_peelTime : Int32) (v_peelSum : Int32) (v_m : Nat → Int64) (v_lengths : Nat → Int32) (v_fractions : Nat → Int32) (v_times : Nat → Int32) (v_energies : Nat → Int64) (v_far : Nat → Int64) (v_near : Nat → Int64) (v_echoes : Nat → Int64) (v_draft : Nat → Int32) (x1 : Int32) : Option (Int32 × Int32 × Int32 × Int32 × Int64 × Int64 × Int32 × Int32 × Int32 × Int64 × Int32 × Int32 × Int32 × (Nat → Int64) × (Nat → Int32) × (Nat → Int32) × (Nat → Int32) × (Nat → Int64) × (Nat → Int64) × (Nat → Int64) × (Nat → Int64)) :=
  gin (x1 + 1) 120 <|
  gin (x1 + 2) 120 <|
  gin (x1 + 3) 120 <|
  gin x1 120 <|
  if (v_draft x1.toNatClampNeg) = 0 then
    (bd1 (F_X6_whyNotSet v_m (v_draft (x1 + 1).toNatClampNeg) (v_draft (x1 + 2).toNatClampNeg) (v_draft (x1 + 3).toNatClampNeg)) fun r1 =>
    if r1 = 0 then
      (bd2 (F_X6_setsPart v_m (v_draft (x1 + 1).toNatClampNeg) (v_draft (x1 + 2).toNatClampNeg) (v_draft (x1 + 3).toNatClampNeg)) fun r2 w3_m =>
      F_X6_does_111 r1 v_lineParts v_pulseMany v_left v_dropped v_merged v_drops v_contributions v_packet v_peelResult v_peelTime v_peelSum w3_m v_lengths v_fractions v_times v_energies v_far v_near v_echoes r2)
    else
      (F_X6_does_111 r1 v_lineParts v_pulseMany v_left v_dropped v_merged v_drops v_contributions v_packet v_peelResult v_peelTime v_peelSum v_m v_lengths v_fractions v_times v_energies v_far v_near v_echoes 0))
  else
    (if (v_draft x1.toNatClampNeg) = 1 then
      (bd1 (F_X6_whyNotSplit v_m (v_draft (x1 + 1).toNatClampNeg) (v_draft (x1 + 2).toNatClampNeg) (v_draft (x1 + 3).toNatClampNeg)) fun r4 =>
      if r4 = 0 then
        (bd2 (F_X6_splitsPart v_m (v_draft (x1 + 1).toNatClampNeg) (v_draft (x1 + 2).toNatClampNeg) (v_draft (x1 + 3).toNatClampNeg)) fun r5 w6_m =>
        F_X6_does_147 r4 v_lineParts v_pulseMany v_left v_dropped v_merged v_drops v_contributions v_packet v_peelResult v_peelTime v_peelSum w6_m v_lengths v_fractions v_times v_energies v_far v_near v_echoes r5)
      else
        (F_X6_does_147 r4 v_lineParts v_pulseMany v_left v_dropped v_merged v_drops v_contributions v_packet v_peelResult v_peelTime v_peelSum v_m v_lengths v_fractions v_times v_energies v_far v_near v_echoes 0))
    else
      (if (v_draft x1.toNatClampNeg) = 2 then
        (bd1 (F_X6_whyNoPart v_m (v_draft (x1 + 1).toNatClampNeg) (v_draft (x1 + 2).toNatClampNeg)) fun r7 =>
        if r7 = 0 then
          (bd2 (F_X6_addsPart v_m (v_draft (x1 + 1).toNatClampNeg) (v_draft (x1 + 2).toNatClampNeg)) fun r8 w9_m =>
          F_X6_does_179 r7 v_lineParts v_pulseMany v_left v_dropped v_merged v_drops v_contributions v_packet v_peelResult v_peelTime v_peelSum w9_m v_lengths v_fractions v_times v_energies v_far v_near v_echoes r8)
        else
          (F_X6_does_179 r7 v_lineParts v_pulseMany v_left v_dropped v_merged v_drops v_contributions v_packet v_peelResult v_peelTime v_peelSum v_m v_lengths v_fractions v_times v_energies v_far v_near v_echoes 0))
      else
        (if (v_draft x1.toNatClampNeg) = 3 then
          (bd1 (F_X6_whyNoPulse v_m (v_draft (x1 + 1).toNatClampNeg) (v_draft (x1 + 2).toNatClampNeg)) fun r10 =>
          if r10 = 0 then
            (bd2 (F_X6_addsPulse v_m (v_draft (x1 + 1).toNatClampNeg) (v_draft (x1 + 2).toNatClampNeg)) fun r11 w12_m =>
            F_X6_does_211 r10 v_lineParts v_pulseMany v_left v_dropped v_merged v_drops v_contributions v_packet v_peelResult v_peelTime v_peelSum w12_m v_lengths v_fractions v_times v_energies v_far v_near v_echoes r11)
          else
            (F_X6_does_211 r10 v_lineParts v_pulseMany v_left v_dropped v_merged v_drops v_contributions v_packet v_peelResult v_peelTime v_peelSum v_m v_lengths v_fractions v_times v_energies v_far v_near v_echoes 0))
        else
          (if (v_draft x1.toNatClampNeg) = 4 then
            (bd1 (F_X6_isPart v_m (v_draft (x1 + 1).toNatClampNeg)) fun r13 =>
            if (if r13 = 0 then (1 : Int32) else 0) = 0 then
              (bd2 (F_X6_removesPart v_m (v_draft (x1 + 1).toNatClampNeg)) fun r14 w15_m =>
              F_X6_does_249 (if r13 = 0 then (1 : Int32) else 0) v_lineParts v_pulseMany v_left v_dropped v_merged v_drops v_contributions v_packet v_peelResult v_peelTime v_peelSum w15_m v_lengths v_fractions v_times v_energies v_far v_near v_echoes r14)
            else
              (F_X6_does_249 (if r13 = 0 then (1 : Int32) else 0) v_lineParts v_pulseMany v_left v_dropped v_merged v_drops v_contributions v_packet v_peelResult v_peelTime v_peelSum v_m v_lengths v_fractions v_times v_energies v_far v_near v_echoes 0))
          else
            (if (v_draft x1.toNatClampNeg) = 5 then
              (bd17 (F_X6_copies v_m v_lengths v_fractions v_times v_energies v_far v_near v_echoes 29) fun r16 w17_lineParts w18_pulseMany w19_left w20_dropped w21_merged w22_drops w23_contributions w24_packet w25_m w26_lengths w27_fractions w28_times w29_energies w30_far w31_near w32_echoes =>
              F_X6_does_298 0 w17_lineParts w18_pulseMany w19_left w20_dropped w21_merged w22_drops w23_contributions w24_packet v_peelResult v_peelTime v_peelSum w25_m w26_lengths w27_fractions w28_times w29_energies w30_far w31_near w32_echoes r16)
            else
              (if (v_draft x1.toNatClampNeg) = 6 then
                (bd17 (F_X6_copies v_m v_lengths v_fractions v_times v_energies v_far v_near v_echoes 230) fun r33 w34_lineParts w35_pulseMany w36_left w37_dropped w38_merged w39_drops w40_contributions w41_packet w42_m w43_lengths w44_fractions w45_times w46_energies w47_far w48_near w49_echoes =>
                F_X6_does_298 0 w34_lineParts w35_pulseMany w36_left w37_dropped w38_merged w39_drops w40_contributions w41_packet v_peelResult v_peelTime v_peelSum w42_m w43_lengths w44_fractions w45_times w46_energies w47_far w48_near w49_echoes r33)
              else
                (bd20 (F_X6_adopts v_peelResult v_peelTime v_m v_lengths v_fractions v_times v_energies v_far v_near v_echoes) fun r50 w51_lineParts w52_pulseMany w53_left w54_dropped w55_merged w56_drops w57_contributions w58_packet w59_peelResult w60_peelTime w61_peelSum w62_m w63_lengths w64_fractions w65_times w66_energies w67_far w68_near w69_echoes =>
                F_X6_does_298 0 w51_lineParts w52_pulseMany w53_left w54_dropped w55_merged w56_drops w57_contributions w58_packet w59_peelResult w60_peelTime w61_peelSum w62_m w63_lengths w64_fractions w65_times w66_energies w67_far w68_near w69_echoes r50)))))))
theorem w_X6_does_298 {p : Program} {l : Launch} {e : Env} {s : State} {m : MethodId} {args : Array Value} {below : List Frame} {meth : Method} {c : Code} {Z : gZt} {A : Nat → Prop} (a0 : Nat) (a1 : Nat) (a2 : Nat) (a3 : Nat) (a4 : Nat) (a5 : Nat) (a6 : Nat) (a7 : Nat) (a8 : Nat) (a9 : Nat) (a10 : Nat) (a11 : Nat) (X : gX p s m args meth c Z A cX6_does "LineEchoesModel" 6 (some .boolean) []) (r : Int32) (r_code : Int32) (r_lineParts : Int32) (r_pulseMany : Int32) (r_left : Int64) (r_dropped : Int64) (r_merged : Int32) (r_drops : Int32) (r_contributions : Int32) (r_packet : Int64) (r_peelResult : Int32) (r_peelTime : Int32) (r_peelSum : Int32) (r_m : Nat → Int64) (r_lengths : Nat → Int32) (r_fractions : Nat → Int32) (r_times : Nat → Int32) (r_energies : Nat → Int64) (r_far : Nat → Int64) (r_near : Nat → Int64) (r_echoes : Nat → Int64)  (v_savedCount : Int32) (v_scriptLength : Int32) (v_code : Int32) (v_lineParts : Int32) (v_pulseMany : Int32) (v_left : Int64) (v_dropped : Int64) (v_merged : Int32) (v_drops : Int32) (v_contributions : Int32) (v_packet : Int64) (v_peelResult : Int32) (v_peelTime : Int32) (v_peelSum : Int32) (v_at : Int32) (v_commands : Int32) (v_hash : Int64) (v_m : Nat → Int64) (v_saved : Nat → Int64) (v_script : Nat → Int32) (v_lengths : Nat → Int32) (v_fractions : Nat → Int32) (v_times : Nat → Int32) (v_energies : Nat → Int64) (v_far : Nat → Int64) (v_near : Nat → Int64) (v_echoes : Nat → Int64) (v_draft : Nat → Int32) (x5 : Int32) (h : F_X6_does_298 v_code v_lineParts v_pulseMany v_left v_dropped v_merged v_drops v_contributions v_packet v_peelResult v_peelTime v_peelSum v_m v_lengths v_fractions v_times v_energies v_far v_near v_echoes x5 = some (r, r_code, r_lineParts, r_pulseMany, r_left, r_dropped, r_merged, r_drops, r_contributions, r_packet, r_peelResult, r_peelTime, r_peelSum, r_m, r_lengths, r_fractions, r_times, r_energies, r_far, r_near, r_echoes)) : G p l e rm_X6_does s m args below meth c Z A 6 (MQ below (gPost Z A (fun _ : Unit => (some (.int r) : Option Value)) (fun _ : Unit => ([(a0, .inr (5, [.ref a1, .ref a2, .int v_savedCount, .ref a3, .int v_scriptLength, .int r_code, .int r_lineParts, .ref a4, .ref a5, .int r_pulseMany, .ref a6, .ref a7, .ref a8, .ref a9, .ref a10, .long r_left, .long r_dropped, .int r_merged, .int r_drops, .int r_contributions, .long r_packet, .int r_peelResult, .int r_peelTime, .int r_peelSum, .int v_at, .int v_commands, .ref a11, .long v_hash])), (a1, .inl (Z.2 1, 431, .inr (.inl r_m))), (a2, .inl (Z.2 1, 1293, .inr (.inl v_saved))), (a3, .inl (Z.2 0, 120, .inl v_script)), (a4, .inl (Z.2 0, 8, .inl r_lengths)), (a5, .inl (Z.2 0, 9, .inl r_fractions)), (a6, .inl (Z.2 0, 4, .inl r_times)), (a7, .inl (Z.2 1, 4, .inr (.inl r_energies))), (a8, .inl (Z.2 1, 1809, .inr (.inl r_far))), (a9, .inl (Z.2 1, 1809, .inr (.inl r_near))), (a10, .inl (Z.2 1, 201, .inr (.inl r_echoes))), (a11, .inl (Z.2 0, 120, .inl v_draft))] : va_W))) args s 0 0 A) [(a0, .inr (5, [.ref a1, .ref a2, .int v_savedCount, .ref a3, .int v_scriptLength, .int v_code, .int v_lineParts, .ref a4, .ref a5, .int v_pulseMany, .ref a6, .ref a7, .ref a8, .ref a9, .ref a10, .long v_left, .long v_dropped, .int v_merged, .int v_drops, .int v_contributions, .long v_packet, .int v_peelResult, .int v_peelTime, .int v_peelSum, .int v_at, .int v_commands, .ref a11, .long v_hash])), (a1, .inl (Z.2 1, 431, .inr (.inl v_m))), (a2, .inl (Z.2 1, 1293, .inr (.inl v_saved))), (a3, .inl (Z.2 0, 120, .inl v_script)), (a4, .inl (Z.2 0, 8, .inl v_lengths)), (a5, .inl (Z.2 0, 9, .inl v_fractions)), (a6, .inl (Z.2 0, 4, .inl v_times)), (a7, .inl (Z.2 1, 4, .inr (.inl v_energies))), (a8, .inl (Z.2 1, 1809, .inr (.inl v_far))), (a9, .inl (Z.2 1, 1809, .inr (.inl v_near))), (a10, .inl (Z.2 1, 201, .inr (.inl v_echoes))), (a11, .inl (Z.2 0, 120, .inl v_draft))] 0 0 298 [some (.ref a0), none, none, none, none, some (.int x5)] [] := by
  unfold F_X6_does_298 at h
  refine g_aload_n X rfl dX6_does_298 299 rfl ?_
  refine g_get X gC5 0 rfl 5 (by decide) q1347 (fun _ h9 => h9) rfl dX6_does_299 302 rfl ?_
  refine g_seli 315 [] (b := v_code = 0) (if x5 < 0 then (0 : Int32) else 1) 0 ?_ (fun hc K => ?_) (fun hc K => ?_)
  · obtain ⟨rfl, rfl, rfl, rfl, rfl, rfl, rfl, rfl, rfl, rfl, rfl, rfl, rfl, rfl, rfl, rfl, rfl, rfl, rfl, rfl, rfl⟩ := rt21 h
    exact g_zret X dX6_does_315 (gb_if (gb_if gb_0 gb_1) gb_0) () rfl rfl (Nat.le_of_ble_eq_true rfl) (Nat.le_of_ble_eq_true rfl)
  · refine g_if_ne X dX6_does_302 314 (by decide) 305 rfl (fun hn => absurd hc hn) (fun _ => ?_)
    refine g_iload X rfl dX6_does_305 307 rfl ?_
    refine g_if_lt X dX6_does_307 314 (by decide) 310 rfl (fun hc => ?_) (fun hc => ?_)
    · replace K := gsel_ti hc K
      refine g_iconst X 0 dX6_does_314 315 rfl kI_0 ?_
      exact K
    · replace K := gsel_fi hc K
      refine g_iconst X 1 dX6_does_310 311 rfl kI_1 ?_
      refine g_goto X dX6_does_311 315 (by decide) ?_
      exact K
  · refine g_if_ne X dX6_does_302 314 (by decide) 305 rfl (fun _ => ?_) (fun hn => absurd hn hc)
    refine g_iconst X 0 dX6_does_314 315 rfl kI_0 ?_
    exact K
theorem w_X6_does_111 {p : Program} {l : Launch} {e : Env} {s : State} {m : MethodId} {args : Array Value} {below : List Frame} {meth : Method} {c : Code} {Z : gZt} {A : Nat → Prop} (a0 : Nat) (a1 : Nat) (a2 : Nat) (a3 : Nat) (a4 : Nat) (a5 : Nat) (a6 : Nat) (a7 : Nat) (a8 : Nat) (a9 : Nat) (a10 : Nat) (a11 : Nat) (X : gX p s m args meth c Z A cX6_does "LineEchoesModel" 6 (some .boolean) []) (r : Int32) (r_code : Int32) (r_lineParts : Int32) (r_pulseMany : Int32) (r_left : Int64) (r_dropped : Int64) (r_merged : Int32) (r_drops : Int32) (r_contributions : Int32) (r_packet : Int64) (r_peelResult : Int32) (r_peelTime : Int32) (r_peelSum : Int32) (r_m : Nat → Int64) (r_lengths : Nat → Int32) (r_fractions : Nat → Int32) (r_times : Nat → Int32) (r_energies : Nat → Int64) (r_far : Nat → Int64) (r_near : Nat → Int64) (r_echoes : Nat → Int64)  (v_savedCount : Int32) (v_scriptLength : Int32) (v_code : Int32) (v_lineParts : Int32) (v_pulseMany : Int32) (v_left : Int64) (v_dropped : Int64) (v_merged : Int32) (v_drops : Int32) (v_contributions : Int32) (v_packet : Int64) (v_peelResult : Int32) (v_peelTime : Int32) (v_peelSum : Int32) (v_at : Int32) (v_commands : Int32) (v_hash : Int64) (v_m : Nat → Int64) (v_saved : Nat → Int64) (v_script : Nat → Int32) (v_lengths : Nat → Int32) (v_fractions : Nat → Int32) (v_times : Nat → Int32) (v_energies : Nat → Int64) (v_far : Nat → Int64) (v_near : Nat → Int64) (v_echoes : Nat → Int64) (v_draft : Nat → Int32) (s0 : Int32) (h : F_X6_does_111 v_code v_lineParts v_pulseMany v_left v_dropped v_merged v_drops v_contributions v_packet v_peelResult v_peelTime v_peelSum v_m v_lengths v_fractions v_times v_energies v_far v_near v_echoes s0 = some (r, r_code, r_lineParts, r_pulseMany, r_left, r_dropped, r_merged, r_drops, r_contributions, r_packet, r_peelResult, r_peelTime, r_peelSum, r_m, r_lengths, r_fractions, r_times, r_energies, r_far, r_near, r_echoes)) : G p l e rm_X6_does s m args below meth c Z A 6 (MQ below (gPost Z A (fun _ : Unit => (some (.int r) : Option Value)) (fun _ : Unit => ([(a0, .inr (5, [.ref a1, .ref a2, .int v_savedCount, .ref a3, .int v_scriptLength, .int r_code, .int r_lineParts, .ref a4, .ref a5, .int r_pulseMany, .ref a6, .ref a7, .ref a8, .ref a9, .ref a10, .long r_left, .long r_dropped, .int r_merged, .int r_drops, .int r_contributions, .long r_packet, .int r_peelResult, .int r_peelTime, .int r_peelSum, .int v_at, .int v_commands, .ref a11, .long v_hash])), (a1, .inl (Z.2 1, 431, .inr (.inl r_m))), (a2, .inl (Z.2 1, 1293, .inr (.inl v_saved))), (a3, .inl (Z.2 0, 120, .inl v_script)), (a4, .inl (Z.2 0, 8, .inl r_lengths)), (a5, .inl (Z.2 0, 9, .inl r_fractions)), (a6, .inl (Z.2 0, 4, .inl r_times)), (a7, .inl (Z.2 1, 4, .inr (.inl r_energies))), (a8, .inl (Z.2 1, 1809, .inr (.inl r_far))), (a9, .inl (Z.2 1, 1809, .inr (.inl r_near))), (a10, .inl (Z.2 1, 201, .inr (.inl r_echoes))), (a11, .inl (Z.2 0, 120, .inl v_draft))] : va_W))) args s 0 0 A) [(a0, .inr (5, [.ref a1, .ref a2, .int v_savedCount, .ref a3, .int v_scriptLength, .int v_code, .int v_lineParts, .ref a4, .ref a5, .int v_pulseMany, .ref a6, .ref a7, .ref a8, .ref a9, .ref a10, .long v_left, .long v_dropped, .int v_merged, .int v_drops, .int v_contributions, .long v_packet, .int v_peelResult, .int v_peelTime, .int v_peelSum, .int v_at, .int v_commands, .ref a11, .long v_hash])), (a1, .inl (Z.2 1, 431, .inr (.inl v_m))), (a2, .inl (Z.2 1, 1293, .inr (.inl v_saved))), (a3, .inl (Z.2 0, 120, .inl v_script)), (a4, .inl (Z.2 0, 8, .inl v_lengths)), (a5, .inl (Z.2 0, 9, .inl v_fractions)), (a6, .inl (Z.2 0, 4, .inl v_times)), (a7, .inl (Z.2 1, 4, .inr (.inl v_energies))), (a8, .inl (Z.2 1, 1809, .inr (.inl v_far))), (a9, .inl (Z.2 1, 1809, .inr (.inl v_near))), (a10, .inl (Z.2 1, 201, .inr (.inl v_echoes))), (a11, .inl (Z.2 0, 120, .inl v_draft))] 0 0 111 [some (.ref a0), none, none, none, none, none] [.int s0] := by
  unfold F_X6_does_111 at h
  refine g_istore X dX6_does_111 113 rfl (Nat.le_of_ble_eq_true rfl) rfl [some (.ref a0), none, none, none, none, some (.int s0)] rfl ?_
  refine g_goto X dX6_does_113 298 (by decide) ?_
  exact w_X6_does_298 a0 a1 a2 a3 a4 a5 a6 a7 a8 a9 a10 a11  X  r r_code r_lineParts r_pulseMany r_left r_dropped r_merged r_drops r_contributions r_packet r_peelResult r_peelTime r_peelSum r_m r_lengths r_fractions r_times r_energies r_far r_near r_echoes    v_savedCount v_scriptLength v_code v_lineParts v_pulseMany v_left v_dropped v_merged v_drops v_contributions v_packet v_peelResult v_peelTime v_peelSum v_at v_commands v_hash v_m v_saved v_script v_lengths v_fractions v_times v_energies v_far v_near v_echoes v_draft s0 h
theorem w_X6_does_147 {p : Program} {l : Launch} {e : Env} {s : State} {m : MethodId} {args : Array Value} {below : List Frame} {meth : Method} {c : Code} {Z : gZt} {A : Nat → Prop} (a0 : Nat) (a1 : Nat) (a2 : Nat) (a3 : Nat) (a4 : Nat) (a5 : Nat) (a6 : Nat) (a7 : Nat) (a8 : Nat) (a9 : Nat) (a10 : Nat) (a11 : Nat) (X : gX p s m args meth c Z A cX6_does "LineEchoesModel" 6 (some .boolean) []) (r : Int32) (r_code : Int32) (r_lineParts : Int32) (r_pulseMany : Int32) (r_left : Int64) (r_dropped : Int64) (r_merged : Int32) (r_drops : Int32) (r_contributions : Int32) (r_packet : Int64) (r_peelResult : Int32) (r_peelTime : Int32) (r_peelSum : Int32) (r_m : Nat → Int64) (r_lengths : Nat → Int32) (r_fractions : Nat → Int32) (r_times : Nat → Int32) (r_energies : Nat → Int64) (r_far : Nat → Int64) (r_near : Nat → Int64) (r_echoes : Nat → Int64)  (v_savedCount : Int32) (v_scriptLength : Int32) (v_code : Int32) (v_lineParts : Int32) (v_pulseMany : Int32) (v_left : Int64) (v_dropped : Int64) (v_merged : Int32) (v_drops : Int32) (v_contributions : Int32) (v_packet : Int64) (v_peelResult : Int32) (v_peelTime : Int32) (v_peelSum : Int32) (v_at : Int32) (v_commands : Int32) (v_hash : Int64) (v_m : Nat → Int64) (v_saved : Nat → Int64) (v_script : Nat → Int32) (v_lengths : Nat → Int32) (v_fractions : Nat → Int32) (v_times : Nat → Int32) (v_energies : Nat → Int64) (v_far : Nat → Int64) (v_near : Nat → Int64) (v_echoes : Nat → Int64) (v_draft : Nat → Int32) (s0 : Int32) (h : F_X6_does_147 v_code v_lineParts v_pulseMany v_left v_dropped v_merged v_drops v_contributions v_packet v_peelResult v_peelTime v_peelSum v_m v_lengths v_fractions v_times v_energies v_far v_near v_echoes s0 = some (r, r_code, r_lineParts, r_pulseMany, r_left, r_dropped, r_merged, r_drops, r_contributions, r_packet, r_peelResult, r_peelTime, r_peelSum, r_m, r_lengths, r_fractions, r_times, r_energies, r_far, r_near, r_echoes)) : G p l e rm_X6_does s m args below meth c Z A 6 (MQ below (gPost Z A (fun _ : Unit => (some (.int r) : Option Value)) (fun _ : Unit => ([(a0, .inr (5, [.ref a1, .ref a2, .int v_savedCount, .ref a3, .int v_scriptLength, .int r_code, .int r_lineParts, .ref a4, .ref a5, .int r_pulseMany, .ref a6, .ref a7, .ref a8, .ref a9, .ref a10, .long r_left, .long r_dropped, .int r_merged, .int r_drops, .int r_contributions, .long r_packet, .int r_peelResult, .int r_peelTime, .int r_peelSum, .int v_at, .int v_commands, .ref a11, .long v_hash])), (a1, .inl (Z.2 1, 431, .inr (.inl r_m))), (a2, .inl (Z.2 1, 1293, .inr (.inl v_saved))), (a3, .inl (Z.2 0, 120, .inl v_script)), (a4, .inl (Z.2 0, 8, .inl r_lengths)), (a5, .inl (Z.2 0, 9, .inl r_fractions)), (a6, .inl (Z.2 0, 4, .inl r_times)), (a7, .inl (Z.2 1, 4, .inr (.inl r_energies))), (a8, .inl (Z.2 1, 1809, .inr (.inl r_far))), (a9, .inl (Z.2 1, 1809, .inr (.inl r_near))), (a10, .inl (Z.2 1, 201, .inr (.inl r_echoes))), (a11, .inl (Z.2 0, 120, .inl v_draft))] : va_W))) args s 0 0 A) [(a0, .inr (5, [.ref a1, .ref a2, .int v_savedCount, .ref a3, .int v_scriptLength, .int v_code, .int v_lineParts, .ref a4, .ref a5, .int v_pulseMany, .ref a6, .ref a7, .ref a8, .ref a9, .ref a10, .long v_left, .long v_dropped, .int v_merged, .int v_drops, .int v_contributions, .long v_packet, .int v_peelResult, .int v_peelTime, .int v_peelSum, .int v_at, .int v_commands, .ref a11, .long v_hash])), (a1, .inl (Z.2 1, 431, .inr (.inl v_m))), (a2, .inl (Z.2 1, 1293, .inr (.inl v_saved))), (a3, .inl (Z.2 0, 120, .inl v_script)), (a4, .inl (Z.2 0, 8, .inl v_lengths)), (a5, .inl (Z.2 0, 9, .inl v_fractions)), (a6, .inl (Z.2 0, 4, .inl v_times)), (a7, .inl (Z.2 1, 4, .inr (.inl v_energies))), (a8, .inl (Z.2 1, 1809, .inr (.inl v_far))), (a9, .inl (Z.2 1, 1809, .inr (.inl v_near))), (a10, .inl (Z.2 1, 201, .inr (.inl v_echoes))), (a11, .inl (Z.2 0, 120, .inl v_draft))] 0 0 147 [some (.ref a0), none, none, none, none, none] [.int s0] := by
  unfold F_X6_does_147 at h
  refine g_istore X dX6_does_147 149 rfl (Nat.le_of_ble_eq_true rfl) rfl [some (.ref a0), none, none, none, none, some (.int s0)] rfl ?_
  refine g_goto X dX6_does_149 298 (by decide) ?_
  exact w_X6_does_298 a0 a1 a2 a3 a4 a5 a6 a7 a8 a9 a10 a11  X  r r_code r_lineParts r_pulseMany r_left r_dropped r_merged r_drops r_contributions r_packet r_peelResult r_peelTime r_peelSum r_m r_lengths r_fractions r_times r_energies r_far r_near r_echoes    v_savedCount v_scriptLength v_code v_lineParts v_pulseMany v_left v_dropped v_merged v_drops v_contributions v_packet v_peelResult v_peelTime v_peelSum v_at v_commands v_hash v_m v_saved v_script v_lengths v_fractions v_times v_energies v_far v_near v_echoes v_draft s0 h
theorem w_X6_does_179 {p : Program} {l : Launch} {e : Env} {s : State} {m : MethodId} {args : Array Value} {below : List Frame} {meth : Method} {c : Code} {Z : gZt} {A : Nat → Prop} (a0 : Nat) (a1 : Nat) (a2 : Nat) (a3 : Nat) (a4 : Nat) (a5 : Nat) (a6 : Nat) (a7 : Nat) (a8 : Nat) (a9 : Nat) (a10 : Nat) (a11 : Nat) (X : gX p s m args meth c Z A cX6_does "LineEchoesModel" 6 (some .boolean) []) (r : Int32) (r_code : Int32) (r_lineParts : Int32) (r_pulseMany : Int32) (r_left : Int64) (r_dropped : Int64) (r_merged : Int32) (r_drops : Int32) (r_contributions : Int32) (r_packet : Int64) (r_peelResult : Int32) (r_peelTime : Int32) (r_peelSum : Int32) (r_m : Nat → Int64) (r_lengths : Nat → Int32) (r_fractions : Nat → Int32) (r_times : Nat → Int32) (r_energies : Nat → Int64) (r_far : Nat → Int64) (r_near : Nat → Int64) (r_echoes : Nat → Int64)  (v_savedCount : Int32) (v_scriptLength : Int32) (v_code : Int32) (v_lineParts : Int32) (v_pulseMany : Int32) (v_left : Int64) (v_dropped : Int64) (v_merged : Int32) (v_drops : Int32) (v_contributions : Int32) (v_packet : Int64) (v_peelResult : Int32) (v_peelTime : Int32) (v_peelSum : Int32) (v_at : Int32) (v_commands : Int32) (v_hash : Int64) (v_m : Nat → Int64) (v_saved : Nat → Int64) (v_script : Nat → Int32) (v_lengths : Nat → Int32) (v_fractions : Nat → Int32) (v_times : Nat → Int32) (v_energies : Nat → Int64) (v_far : Nat → Int64) (v_near : Nat → Int64) (v_echoes : Nat → Int64) (v_draft : Nat → Int32) (s0 : Int32) (h : F_X6_does_179 v_code v_lineParts v_pulseMany v_left v_dropped v_merged v_drops v_contributions v_packet v_peelResult v_peelTime v_peelSum v_m v_lengths v_fractions v_times v_energies v_far v_near v_echoes s0 = some (r, r_code, r_lineParts, r_pulseMany, r_left, r_dropped, r_merged, r_drops, r_contributions, r_packet, r_peelResult, r_peelTime, r_peelSum, r_m, r_lengths, r_fractions, r_times, r_energies, r_far, r_near, r_echoes)) : G p l e rm_X6_does s m args below meth c Z A 6 (MQ below (gPost Z A (fun _ : Unit => (some (.int r) : Option Value)) (fun _ : Unit => ([(a0, .inr (5, [.ref a1, .ref a2, .int v_savedCount, .ref a3, .int v_scriptLength, .int r_code, .int r_lineParts, .ref a4, .ref a5, .int r_pulseMany, .ref a6, .ref a7, .ref a8, .ref a9, .ref a10, .long r_left, .long r_dropped, .int r_merged, .int r_drops, .int r_contributions, .long r_packet, .int r_peelResult, .int r_peelTime, .int r_peelSum, .int v_at, .int v_commands, .ref a11, .long v_hash])), (a1, .inl (Z.2 1, 431, .inr (.inl r_m))), (a2, .inl (Z.2 1, 1293, .inr (.inl v_saved))), (a3, .inl (Z.2 0, 120, .inl v_script)), (a4, .inl (Z.2 0, 8, .inl r_lengths)), (a5, .inl (Z.2 0, 9, .inl r_fractions)), (a6, .inl (Z.2 0, 4, .inl r_times)), (a7, .inl (Z.2 1, 4, .inr (.inl r_energies))), (a8, .inl (Z.2 1, 1809, .inr (.inl r_far))), (a9, .inl (Z.2 1, 1809, .inr (.inl r_near))), (a10, .inl (Z.2 1, 201, .inr (.inl r_echoes))), (a11, .inl (Z.2 0, 120, .inl v_draft))] : va_W))) args s 0 0 A) [(a0, .inr (5, [.ref a1, .ref a2, .int v_savedCount, .ref a3, .int v_scriptLength, .int v_code, .int v_lineParts, .ref a4, .ref a5, .int v_pulseMany, .ref a6, .ref a7, .ref a8, .ref a9, .ref a10, .long v_left, .long v_dropped, .int v_merged, .int v_drops, .int v_contributions, .long v_packet, .int v_peelResult, .int v_peelTime, .int v_peelSum, .int v_at, .int v_commands, .ref a11, .long v_hash])), (a1, .inl (Z.2 1, 431, .inr (.inl v_m))), (a2, .inl (Z.2 1, 1293, .inr (.inl v_saved))), (a3, .inl (Z.2 0, 120, .inl v_script)), (a4, .inl (Z.2 0, 8, .inl v_lengths)), (a5, .inl (Z.2 0, 9, .inl v_fractions)), (a6, .inl (Z.2 0, 4, .inl v_times)), (a7, .inl (Z.2 1, 4, .inr (.inl v_energies))), (a8, .inl (Z.2 1, 1809, .inr (.inl v_far))), (a9, .inl (Z.2 1, 1809, .inr (.inl v_near))), (a10, .inl (Z.2 1, 201, .inr (.inl v_echoes))), (a11, .inl (Z.2 0, 120, .inl v_draft))] 0 0 179 [some (.ref a0), none, none, none, none, none] [.int s0] := by
  unfold F_X6_does_179 at h
  refine g_istore X dX6_does_179 181 rfl (Nat.le_of_ble_eq_true rfl) rfl [some (.ref a0), none, none, none, none, some (.int s0)] rfl ?_
  refine g_goto X dX6_does_181 298 (by decide) ?_
  exact w_X6_does_298 a0 a1 a2 a3 a4 a5 a6 a7 a8 a9 a10 a11  X  r r_code r_lineParts r_pulseMany r_left r_dropped r_merged r_drops r_contributions r_packet r_peelResult r_peelTime r_peelSum r_m r_lengths r_fractions r_times r_energies r_far r_near r_echoes    v_savedCount v_scriptLength v_code v_lineParts v_pulseMany v_left v_dropped v_merged v_drops v_contributions v_packet v_peelResult v_peelTime v_peelSum v_at v_commands v_hash v_m v_saved v_script v_lengths v_fractions v_times v_energies v_far v_near v_echoes v_draft s0 h
theorem w_X6_does_211 {p : Program} {l : Launch} {e : Env} {s : State} {m : MethodId} {args : Array Value} {below : List Frame} {meth : Method} {c : Code} {Z : gZt} {A : Nat → Prop} (a0 : Nat) (a1 : Nat) (a2 : Nat) (a3 : Nat) (a4 : Nat) (a5 : Nat) (a6 : Nat) (a7 : Nat) (a8 : Nat) (a9 : Nat) (a10 : Nat) (a11 : Nat) (X : gX p s m args meth c Z A cX6_does "LineEchoesModel" 6 (some .boolean) []) (r : Int32) (r_code : Int32) (r_lineParts : Int32) (r_pulseMany : Int32) (r_left : Int64) (r_dropped : Int64) (r_merged : Int32) (r_drops : Int32) (r_contributions : Int32) (r_packet : Int64) (r_peelResult : Int32) (r_peelTime : Int32) (r_peelSum : Int32) (r_m : Nat → Int64) (r_lengths : Nat → Int32) (r_fractions : Nat → Int32) (r_times : Nat → Int32) (r_energies : Nat → Int64) (r_far : Nat → Int64) (r_near : Nat → Int64) (r_echoes : Nat → Int64)  (v_savedCount : Int32) (v_scriptLength : Int32) (v_code : Int32) (v_lineParts : Int32) (v_pulseMany : Int32) (v_left : Int64) (v_dropped : Int64) (v_merged : Int32) (v_drops : Int32) (v_contributions : Int32) (v_packet : Int64) (v_peelResult : Int32) (v_peelTime : Int32) (v_peelSum : Int32) (v_at : Int32) (v_commands : Int32) (v_hash : Int64) (v_m : Nat → Int64) (v_saved : Nat → Int64) (v_script : Nat → Int32) (v_lengths : Nat → Int32) (v_fractions : Nat → Int32) (v_times : Nat → Int32) (v_energies : Nat → Int64) (v_far : Nat → Int64) (v_near : Nat → Int64) (v_echoes : Nat → Int64) (v_draft : Nat → Int32) (s0 : Int32) (h : F_X6_does_211 v_code v_lineParts v_pulseMany v_left v_dropped v_merged v_drops v_contributions v_packet v_peelResult v_peelTime v_peelSum v_m v_lengths v_fractions v_times v_energies v_far v_near v_echoes s0 = some (r, r_code, r_lineParts, r_pulseMany, r_left, r_dropped, r_merged, r_drops, r_contributions, r_packet, r_peelResult, r_peelTime, r_peelSum, r_m, r_lengths, r_fractions, r_times, r_energies, r_far, r_near, r_echoes)) : G p l e rm_X6_does s m args below meth c Z A 6 (MQ below (gPost Z A (fun _ : Unit => (some (.int r) : Option Value)) (fun _ : Unit => ([(a0, .inr (5, [.ref a1, .ref a2, .int v_savedCount, .ref a3, .int v_scriptLength, .int r_code, .int r_lineParts, .ref a4, .ref a5, .int r_pulseMany, .ref a6, .ref a7, .ref a8, .ref a9, .ref a10, .long r_left, .long r_dropped, .int r_merged, .int r_drops, .int r_contributions, .long r_packet, .int r_peelResult, .int r_peelTime, .int r_peelSum, .int v_at, .int v_commands, .ref a11, .long v_hash])), (a1, .inl (Z.2 1, 431, .inr (.inl r_m))), (a2, .inl (Z.2 1, 1293, .inr (.inl v_saved))), (a3, .inl (Z.2 0, 120, .inl v_script)), (a4, .inl (Z.2 0, 8, .inl r_lengths)), (a5, .inl (Z.2 0, 9, .inl r_fractions)), (a6, .inl (Z.2 0, 4, .inl r_times)), (a7, .inl (Z.2 1, 4, .inr (.inl r_energies))), (a8, .inl (Z.2 1, 1809, .inr (.inl r_far))), (a9, .inl (Z.2 1, 1809, .inr (.inl r_near))), (a10, .inl (Z.2 1, 201, .inr (.inl r_echoes))), (a11, .inl (Z.2 0, 120, .inl v_draft))] : va_W))) args s 0 0 A) [(a0, .inr (5, [.ref a1, .ref a2, .int v_savedCount, .ref a3, .int v_scriptLength, .int v_code, .int v_lineParts, .ref a4, .ref a5, .int v_pulseMany, .ref a6, .ref a7, .ref a8, .ref a9, .ref a10, .long v_left, .long v_dropped, .int v_merged, .int v_drops, .int v_contributions, .long v_packet, .int v_peelResult, .int v_peelTime, .int v_peelSum, .int v_at, .int v_commands, .ref a11, .long v_hash])), (a1, .inl (Z.2 1, 431, .inr (.inl v_m))), (a2, .inl (Z.2 1, 1293, .inr (.inl v_saved))), (a3, .inl (Z.2 0, 120, .inl v_script)), (a4, .inl (Z.2 0, 8, .inl v_lengths)), (a5, .inl (Z.2 0, 9, .inl v_fractions)), (a6, .inl (Z.2 0, 4, .inl v_times)), (a7, .inl (Z.2 1, 4, .inr (.inl v_energies))), (a8, .inl (Z.2 1, 1809, .inr (.inl v_far))), (a9, .inl (Z.2 1, 1809, .inr (.inl v_near))), (a10, .inl (Z.2 1, 201, .inr (.inl v_echoes))), (a11, .inl (Z.2 0, 120, .inl v_draft))] 0 0 211 [some (.ref a0), none, none, none, none, none] [.int s0] := by
  unfold F_X6_does_211 at h
  refine g_istore X dX6_does_211 213 rfl (Nat.le_of_ble_eq_true rfl) rfl [some (.ref a0), none, none, none, none, some (.int s0)] rfl ?_
  refine g_goto X dX6_does_213 298 (by decide) ?_
  exact w_X6_does_298 a0 a1 a2 a3 a4 a5 a6 a7 a8 a9 a10 a11  X  r r_code r_lineParts r_pulseMany r_left r_dropped r_merged r_drops r_contributions r_packet r_peelResult r_peelTime r_peelSum r_m r_lengths r_fractions r_times r_energies r_far r_near r_echoes    v_savedCount v_scriptLength v_code v_lineParts v_pulseMany v_left v_dropped v_merged v_drops v_contributions v_packet v_peelResult v_peelTime v_peelSum v_at v_commands v_hash v_m v_saved v_script v_lengths v_fractions v_times v_energies v_far v_near v_echoes v_draft s0 h
theorem w_X6_does_249 {p : Program} {l : Launch} {e : Env} {s : State} {m : MethodId} {args : Array Value} {below : List Frame} {meth : Method} {c : Code} {Z : gZt} {A : Nat → Prop} (a0 : Nat) (a1 : Nat) (a2 : Nat) (a3 : Nat) (a4 : Nat) (a5 : Nat) (a6 : Nat) (a7 : Nat) (a8 : Nat) (a9 : Nat) (a10 : Nat) (a11 : Nat) (X : gX p s m args meth c Z A cX6_does "LineEchoesModel" 6 (some .boolean) []) (r : Int32) (r_code : Int32) (r_lineParts : Int32) (r_pulseMany : Int32) (r_left : Int64) (r_dropped : Int64) (r_merged : Int32) (r_drops : Int32) (r_contributions : Int32) (r_packet : Int64) (r_peelResult : Int32) (r_peelTime : Int32) (r_peelSum : Int32) (r_m : Nat → Int64) (r_lengths : Nat → Int32) (r_fractions : Nat → Int32) (r_times : Nat → Int32) (r_energies : Nat → Int64) (r_far : Nat → Int64) (r_near : Nat → Int64) (r_echoes : Nat → Int64)  (v_savedCount : Int32) (v_scriptLength : Int32) (v_code : Int32) (v_lineParts : Int32) (v_pulseMany : Int32) (v_left : Int64) (v_dropped : Int64) (v_merged : Int32) (v_drops : Int32) (v_contributions : Int32) (v_packet : Int64) (v_peelResult : Int32) (v_peelTime : Int32) (v_peelSum : Int32) (v_at : Int32) (v_commands : Int32) (v_hash : Int64) (v_m : Nat → Int64) (v_saved : Nat → Int64) (v_script : Nat → Int32) (v_lengths : Nat → Int32) (v_fractions : Nat → Int32) (v_times : Nat → Int32) (v_energies : Nat → Int64) (v_far : Nat → Int64) (v_near : Nat → Int64) (v_echoes : Nat → Int64) (v_draft : Nat → Int32) (s0 : Int32) (h : F_X6_does_249 v_code v_lineParts v_pulseMany v_left v_dropped v_merged v_drops v_contributions v_packet v_peelResult v_peelTime v_peelSum v_m v_lengths v_fractions v_times v_energies v_far v_near v_echoes s0 = some (r, r_code, r_lineParts, r_pulseMany, r_left, r_dropped, r_merged, r_drops, r_contributions, r_packet, r_peelResult, r_peelTime, r_peelSum, r_m, r_lengths, r_fractions, r_times, r_energies, r_far, r_near, r_echoes)) : G p l e rm_X6_does s m args below meth c Z A 6 (MQ below (gPost Z A (fun _ : Unit => (some (.int r) : Option Value)) (fun _ : Unit => ([(a0, .inr (5, [.ref a1, .ref a2, .int v_savedCount, .ref a3, .int v_scriptLength, .int r_code, .int r_lineParts, .ref a4, .ref a5, .int r_pulseMany, .ref a6, .ref a7, .ref a8, .ref a9, .ref a10, .long r_left, .long r_dropped, .int r_merged, .int r_drops, .int r_contributions, .long r_packet, .int r_peelResult, .int r_peelTime, .int r_peelSum, .int v_at, .int v_commands, .ref a11, .long v_hash])), (a1, .inl (Z.2 1, 431, .inr (.inl r_m))), (a2, .inl (Z.2 1, 1293, .inr (.inl v_saved))), (a3, .inl (Z.2 0, 120, .inl v_script)), (a4, .inl (Z.2 0, 8, .inl r_lengths)), (a5, .inl (Z.2 0, 9, .inl r_fractions)), (a6, .inl (Z.2 0, 4, .inl r_times)), (a7, .inl (Z.2 1, 4, .inr (.inl r_energies))), (a8, .inl (Z.2 1, 1809, .inr (.inl r_far))), (a9, .inl (Z.2 1, 1809, .inr (.inl r_near))), (a10, .inl (Z.2 1, 201, .inr (.inl r_echoes))), (a11, .inl (Z.2 0, 120, .inl v_draft))] : va_W))) args s 0 0 A) [(a0, .inr (5, [.ref a1, .ref a2, .int v_savedCount, .ref a3, .int v_scriptLength, .int v_code, .int v_lineParts, .ref a4, .ref a5, .int v_pulseMany, .ref a6, .ref a7, .ref a8, .ref a9, .ref a10, .long v_left, .long v_dropped, .int v_merged, .int v_drops, .int v_contributions, .long v_packet, .int v_peelResult, .int v_peelTime, .int v_peelSum, .int v_at, .int v_commands, .ref a11, .long v_hash])), (a1, .inl (Z.2 1, 431, .inr (.inl v_m))), (a2, .inl (Z.2 1, 1293, .inr (.inl v_saved))), (a3, .inl (Z.2 0, 120, .inl v_script)), (a4, .inl (Z.2 0, 8, .inl v_lengths)), (a5, .inl (Z.2 0, 9, .inl v_fractions)), (a6, .inl (Z.2 0, 4, .inl v_times)), (a7, .inl (Z.2 1, 4, .inr (.inl v_energies))), (a8, .inl (Z.2 1, 1809, .inr (.inl v_far))), (a9, .inl (Z.2 1, 1809, .inr (.inl v_near))), (a10, .inl (Z.2 1, 201, .inr (.inl v_echoes))), (a11, .inl (Z.2 0, 120, .inl v_draft))] 0 0 249 [some (.ref a0), none, none, none, none, none] [.int s0] := by
  unfold F_X6_does_249 at h
  refine g_istore X dX6_does_249 251 rfl (Nat.le_of_ble_eq_true rfl) rfl [some (.ref a0), none, none, none, none, some (.int s0)] rfl ?_
  refine g_goto X dX6_does_251 298 (by decide) ?_
  exact w_X6_does_298 a0 a1 a2 a3 a4 a5 a6 a7 a8 a9 a10 a11  X  r r_code r_lineParts r_pulseMany r_left r_dropped r_merged r_drops r_contributions r_packet r_peelResult r_peelTime r_peelSum r_m r_lengths r_fractions r_times r_energies r_far r_near r_echoes    v_savedCount v_scriptLength v_code v_lineParts v_pulseMany v_left v_dropped v_merged v_drops v_contributions v_packet v_peelResult v_peelTime v_peelSum v_at v_commands v_hash v_m v_saved v_script v_lengths v_fractions v_times v_energies v_far v_near v_echoes v_draft s0 h
theorem met_X6_does (l : Launch) (Z : gZt) (a0 : Nat) (a1 : Nat) (a2 : Nat) (a3 : Nat) (a4 : Nat) (a5 : Nat) (a6 : Nat) (a7 : Nat) (a8 : Nat) (a9 : Nat) (a10 : Nat) (a11 : Nat) (v_savedCount : Int32) (v_scriptLength : Int32) (v_code : Int32) (v_lineParts : Int32) (v_pulseMany : Int32) (v_left : Int64) (v_dropped : Int64) (v_merged : Int32) (v_drops : Int32) (v_contributions : Int32) (v_packet : Int64) (v_peelResult : Int32) (v_peelTime : Int32) (v_peelSum : Int32) (v_at : Int32) (v_commands : Int32) (v_hash : Int64) (v_m : Nat → Int64) (v_saved : Nat → Int64) (v_script : Nat → Int32) (v_lengths : Nat → Int32) (v_fractions : Nat → Int32) (v_times : Nat → Int32) (v_energies : Nat → Int64) (v_far : Nat → Int64) (v_near : Nat → Int64) (v_echoes : Nat → Int64) (v_draft : Nat → Int32) (x1 : Int32) (r : Int32) (r_code : Int32) (r_lineParts : Int32) (r_pulseMany : Int32) (r_left : Int64) (r_dropped : Int64) (r_merged : Int32) (r_drops : Int32) (r_contributions : Int32) (r_packet : Int64) (r_peelResult : Int32) (r_peelTime : Int32) (r_peelSum : Int32) (r_m : Nat → Int64) (r_lengths : Nat → Int32) (r_fractions : Nat → Int32) (r_times : Nat → Int32) (r_energies : Nat → Int64) (r_far : Nat → Int64) (r_near : Nat → Int64) (r_echoes : Nat → Int64) (h : F_X6_does v_lineParts v_pulseMany v_left v_dropped v_merged v_drops v_contributions v_packet v_peelResult v_peelTime v_peelSum v_m v_lengths v_fractions v_times v_energies v_far v_near v_echoes v_draft x1 = some (r, r_code, r_lineParts, r_pulseMany, r_left, r_dropped, r_merged, r_drops, r_contributions, r_packet, r_peelResult, r_peelTime, r_peelSum, r_m, r_lengths, r_fractions, r_times, r_energies, r_far, r_near, r_echoes)) : Ct l yX6_does (ws_ yX6_does cX6_does 6 (some .boolean)) rm_X6_does Z [.ref a0, .int x1] [(a0, .inr (5, [.ref a1, .ref a2, .int v_savedCount, .ref a3, .int v_scriptLength, .int v_code, .int v_lineParts, .ref a4, .ref a5, .int v_pulseMany, .ref a6, .ref a7, .ref a8, .ref a9, .ref a10, .long v_left, .long v_dropped, .int v_merged, .int v_drops, .int v_contributions, .long v_packet, .int v_peelResult, .int v_peelTime, .int v_peelSum, .int v_at, .int v_commands, .ref a11, .long v_hash])), (a1, .inl (Z.2 1, 431, .inr (.inl v_m))), (a2, .inl (Z.2 1, 1293, .inr (.inl v_saved))), (a3, .inl (Z.2 0, 120, .inl v_script)), (a4, .inl (Z.2 0, 8, .inl v_lengths)), (a5, .inl (Z.2 0, 9, .inl v_fractions)), (a6, .inl (Z.2 0, 4, .inl v_times)), (a7, .inl (Z.2 1, 4, .inr (.inl v_energies))), (a8, .inl (Z.2 1, 1809, .inr (.inl v_far))), (a9, .inl (Z.2 1, 1809, .inr (.inl v_near))), (a10, .inl (Z.2 1, 201, .inr (.inl v_echoes))), (a11, .inl (Z.2 0, 120, .inl v_draft))] [] (fun _ : Unit => (some (.int r) : Option Value)) (fun _ : Unit => ([(a0, .inr (5, [.ref a1, .ref a2, .int v_savedCount, .ref a3, .int v_scriptLength, .int r_code, .int r_lineParts, .ref a4, .ref a5, .int r_pulseMany, .ref a6, .ref a7, .ref a8, .ref a9, .ref a10, .long r_left, .long r_dropped, .int r_merged, .int r_drops, .int r_contributions, .long r_packet, .int r_peelResult, .int r_peelTime, .int r_peelSum, .int v_at, .int v_commands, .ref a11, .long v_hash])), (a1, .inl (Z.2 1, 431, .inr (.inl r_m))), (a2, .inl (Z.2 1, 1293, .inr (.inl v_saved))), (a3, .inl (Z.2 0, 120, .inl v_script)), (a4, .inl (Z.2 0, 8, .inl r_lengths)), (a5, .inl (Z.2 0, 9, .inl r_fractions)), (a6, .inl (Z.2 0, 4, .inl r_times)), (a7, .inl (Z.2 1, 4, .inr (.inl r_energies))), (a8, .inl (Z.2 1, 1809, .inr (.inl r_far))), (a9, .inl (Z.2 1, 1809, .inr (.inl r_near))), (a10, .inl (Z.2 1, 201, .inr (.inl r_echoes))), (a11, .inl (Z.2 0, 120, .inl v_draft))] : va_W)) := by
  refine Ct.of cX6_does 6 (some .boolean) "LineEchoesModel" [some (.ref a0), some (.int x1), none, none, none, none] 4 (by decide) rfl (Nat.le_of_ble_eq_true rfl) rfl (fun p e s m args below meth c A X hin => ?_)
  unfold F_X6_does at h
  refine g_aload_n X rfl dX6_does_0 1 rfl ?_
  refine g_get X gC5 0 rfl 26 (by decide) q1368 (fun _ h9 => h9) rfl dX6_does_1 4 rfl ?_
  refine g_iload_n X rfl dX6_does_4 5 rfl ?_
  refine g_iconst X 1 dX6_does_5 6 rfl kI_1 ?_
  refine g_iadd X dX6_does_6 7 rfl ?_
  obtain ⟨hi, h⟩ := gin_e h
  refine g_iald X 11 rfl hi dX6_does_7 8 rfl ?_
  refine g_istore_n X dX6_does_8 9 rfl (Nat.le_of_ble_eq_true rfl) rfl [some (.ref a0), some (.int x1), some (.int (v_draft (x1 + 1).toNatClampNeg)), none, none, none] rfl ?_
  refine g_aload_n X rfl dX6_does_9 10 rfl ?_
  refine g_get X gC5 0 rfl 26 (by decide) q1368 (fun _ h9 => h9) rfl dX6_does_10 13 rfl ?_
  refine g_iload_n X rfl dX6_does_13 14 rfl ?_
  refine g_iconst X 2 dX6_does_14 15 rfl kI_2 ?_
  refine g_iadd X dX6_does_15 16 rfl ?_
  obtain ⟨hi, h⟩ := gin_e h
  refine g_iald X 11 rfl hi dX6_does_16 17 rfl ?_
  refine g_istore_n X dX6_does_17 18 rfl (Nat.le_of_ble_eq_true rfl) rfl [some (.ref a0), some (.int x1), some (.int (v_draft (x1 + 1).toNatClampNeg)), some (.int (v_draft (x1 + 2).toNatClampNeg)), none, none] rfl ?_
  refine g_aload_n X rfl dX6_does_18 19 rfl ?_
  refine g_get X gC5 0 rfl 26 (by decide) q1368 (fun _ h9 => h9) rfl dX6_does_19 22 rfl ?_
  refine g_iload_n X rfl dX6_does_22 23 rfl ?_
  refine g_iconst X 3 dX6_does_23 24 rfl kI_3 ?_
  refine g_iadd X dX6_does_24 25 rfl ?_
  obtain ⟨hi, h⟩ := gin_e h
  refine g_iald X 11 rfl hi dX6_does_25 26 rfl ?_
  refine g_istore X dX6_does_26 28 rfl (Nat.le_of_ble_eq_true rfl) rfl [some (.ref a0), some (.int x1), some (.int (v_draft (x1 + 1).toNatClampNeg)), some (.int (v_draft (x1 + 2).toNatClampNeg)), some (.int (v_draft (x1 + 3).toNatClampNeg)), none] rfl ?_
  refine g_iconst X 0 dX6_does_28 29 rfl kI_0 ?_
  refine g_istore X dX6_does_29 31 rfl (Nat.le_of_ble_eq_true rfl) rfl [some (.ref a0), some (.int x1), some (.int (v_draft (x1 + 1).toNatClampNeg)), some (.int (v_draft (x1 + 2).toNatClampNeg)), some (.int (v_draft (x1 + 3).toNatClampNeg)), some (.int 0)] rfl ?_
  refine g_aload_n X rfl dX6_does_31 32 rfl ?_
  refine g_get X gC5 0 rfl 26 (by decide) q1368 (fun _ h9 => h9) rfl dX6_does_32 35 rfl ?_
  refine g_iload_n X rfl dX6_does_35 36 rfl ?_
  obtain ⟨hi, h⟩ := gin_e h
  refine g_iald X 11 rfl hi dX6_does_36 37 rfl ?_
  by_cases hc0 : (v_draft x1.toNatClampNeg) = 0
  · replace h := if_t hc0 h
    refine g_tabIn X dX6_does_37 80 0 hc0 (by decide) (by decide) rfl (by decide) ?_
    refine g_aload_n X rfl dX6_does_80 81 rfl ?_
    refine g_aload_n X rfl dX6_does_81 82 rfl ?_
    refine g_iload_n X rfl dX6_does_82 83 rfl ?_
    refine g_iload_n X rfl dX6_does_83 84 rfl ?_
    refine g_iload X rfl dX6_does_84 86 rfl ?_
    obtain ⟨r1, hcl, h⟩ := bd1_e h
    refine g_callV1W X (met_X6_whyNotSet l Z a0 a1 a2 a3 a4 a5 a6 a7 a8 a9 a10 a11 v_savedCount v_scriptLength v_code v_lineParts v_pulseMany v_left v_dropped v_merged v_drops v_contributions v_packet v_peelResult v_peelTime v_peelSum v_at v_commands v_hash v_m v_saved v_script v_lengths v_fractions v_times v_energies v_far v_near v_echoes v_draft (v_draft (x1 + 1).toNatClampNeg) (v_draft (x1 + 2).toNatClampNeg) (v_draft (x1 + 3).toNatClampNeg) r1 hcl) rfl 0 gC5 rfl rfl (lw_V q1467 q1469 qs26 q74 q1470) md_X6_whyNotSet ⟨(Nat.le_of_ble_eq_true rfl), (Nat.le_of_ble_eq_true rfl)⟩ rfl dX6_does_86 89 rfl 0 0 rfl rfl (Nat.le_of_ble_eq_true rfl) (Nat.le_of_ble_eq_true rfl) (st := [.ref a0]) rfl (Nat.le_of_ble_eq_true rfl) (fun _ => rfl) (fun _ => ?_)
    refine g_put X gC5 0 rfl 5 (by decide) q1347 (fun _ h9 => h9) rfl rfl rfl (Nat.le_of_ble_eq_true rfl) dX6_does_89 92 rfl ?_
    refine g_aload_n X rfl dX6_does_92 93 rfl ?_
    refine g_get X gC5 0 rfl 5 (by decide) q1347 (fun _ h9 => h9) rfl dX6_does_93 96 rfl ?_
    refine g_if_ne X dX6_does_96 110 (by decide) 99 rfl (fun hc => ?_) (fun hc => ?_)
    · replace h := if_f hc h
      refine g_iconst X 0 dX6_does_110 111 rfl kI_0 ?_
      refine g_kill (j := 1) [some (.ref a0), none, some (.int (v_draft (x1 + 1).toNatClampNeg)), some (.int (v_draft (x1 + 2).toNatClampNeg)), some (.int (v_draft (x1 + 3).toNatClampNeg)), some (.int 0)] rfl ?_
      refine g_kill (j := 2) [some (.ref a0), none, none, some (.int (v_draft (x1 + 2).toNatClampNeg)), some (.int (v_draft (x1 + 3).toNatClampNeg)), some (.int 0)] rfl ?_
      refine g_kill (j := 3) [some (.ref a0), none, none, none, some (.int (v_draft (x1 + 3).toNatClampNeg)), some (.int 0)] rfl ?_
      refine g_kill (j := 4) [some (.ref a0), none, none, none, none, some (.int 0)] rfl ?_
      refine g_kill (j := 5) [some (.ref a0), none, none, none, none, none] rfl ?_
      exact w_X6_does_111 a0 a1 a2 a3 a4 a5 a6 a7 a8 a9 a10 a11  X  r r_code r_lineParts r_pulseMany r_left r_dropped r_merged r_drops r_contributions r_packet r_peelResult r_peelTime r_peelSum r_m r_lengths r_fractions r_times r_energies r_far r_near r_echoes    v_savedCount v_scriptLength r1 v_lineParts v_pulseMany v_left v_dropped v_merged v_drops v_contributions v_packet v_peelResult v_peelTime v_peelSum v_at v_commands v_hash v_m v_saved v_script v_lengths v_fractions v_times v_energies v_far v_near v_echoes v_draft 0 h
    · replace h := if_t hc h
      refine g_aload_n X rfl dX6_does_99 100 rfl ?_
      refine g_iload_n X rfl dX6_does_100 101 rfl ?_
      refine g_iload_n X rfl dX6_does_101 102 rfl ?_
      refine g_iload X rfl dX6_does_102 104 rfl ?_
      obtain ⟨r2, w3_m, hcl, h⟩ := bd2_e h
      refine g_callV1W X (met_X6_setsPart l Z a0 a1 a2 a3 a4 a5 a6 a7 a8 a9 a10 a11 v_savedCount v_scriptLength r1 v_lineParts v_pulseMany v_left v_dropped v_merged v_drops v_contributions v_packet v_peelResult v_peelTime v_peelSum v_at v_commands v_hash v_m v_saved v_script v_lengths v_fractions v_times v_energies v_far v_near v_echoes v_draft (v_draft (x1 + 1).toNatClampNeg) (v_draft (x1 + 2).toNatClampNeg) (v_draft (x1 + 3).toNatClampNeg) r2 w3_m hcl) rfl 0 gC5 rfl rfl (lw_V q1475 q1477 qs28 q74 q1478) md_X6_setsPart ⟨(Nat.le_of_ble_eq_true rfl), (Nat.le_of_ble_eq_true rfl)⟩ rfl dX6_does_104 107 rfl 0 0 rfl rfl (Nat.le_of_ble_eq_true rfl) (Nat.le_of_ble_eq_true rfl) (st := []) rfl (Nat.le_of_ble_eq_true rfl) (fun _ => rfl) (fun _ => ?_)
      refine g_goto X dX6_does_107 111 (by decide) ?_
      refine g_kill (j := 1) [some (.ref a0), none, some (.int (v_draft (x1 + 1).toNatClampNeg)), some (.int (v_draft (x1 + 2).toNatClampNeg)), some (.int (v_draft (x1 + 3).toNatClampNeg)), some (.int 0)] rfl ?_
      refine g_kill (j := 2) [some (.ref a0), none, none, some (.int (v_draft (x1 + 2).toNatClampNeg)), some (.int (v_draft (x1 + 3).toNatClampNeg)), some (.int 0)] rfl ?_
      refine g_kill (j := 3) [some (.ref a0), none, none, none, some (.int (v_draft (x1 + 3).toNatClampNeg)), some (.int 0)] rfl ?_
      refine g_kill (j := 4) [some (.ref a0), none, none, none, none, some (.int 0)] rfl ?_
      refine g_kill (j := 5) [some (.ref a0), none, none, none, none, none] rfl ?_
      exact w_X6_does_111 a0 a1 a2 a3 a4 a5 a6 a7 a8 a9 a10 a11  X  r r_code r_lineParts r_pulseMany r_left r_dropped r_merged r_drops r_contributions r_packet r_peelResult r_peelTime r_peelSum r_m r_lengths r_fractions r_times r_energies r_far r_near r_echoes    v_savedCount v_scriptLength r1 v_lineParts v_pulseMany v_left v_dropped v_merged v_drops v_contributions v_packet v_peelResult v_peelTime v_peelSum v_at v_commands v_hash w3_m v_saved v_script v_lengths v_fractions v_times v_energies v_far v_near v_echoes v_draft r2 h
  replace h := if_f hc0 h
  by_cases hc1 : (v_draft x1.toNatClampNeg) = 1
  · replace h := if_t hc1 h
    refine g_tabIn X dX6_does_37 116 1 hc1 (by decide) (by decide) rfl (by decide) ?_
    refine g_aload_n X rfl dX6_does_116 117 rfl ?_
    refine g_aload_n X rfl dX6_does_117 118 rfl ?_
    refine g_iload_n X rfl dX6_does_118 119 rfl ?_
    refine g_iload_n X rfl dX6_does_119 120 rfl ?_
    refine g_iload X rfl dX6_does_120 122 rfl ?_
    obtain ⟨r4, hcl, h⟩ := bd1_e h
    refine g_callV1W X (met_X6_whyNotSplit l Z a0 a1 a2 a3 a4 a5 a6 a7 a8 a9 a10 a11 v_savedCount v_scriptLength v_code v_lineParts v_pulseMany v_left v_dropped v_merged v_drops v_contributions v_packet v_peelResult v_peelTime v_peelSum v_at v_commands v_hash v_m v_saved v_script v_lengths v_fractions v_times v_energies v_far v_near v_echoes v_draft (v_draft (x1 + 1).toNatClampNeg) (v_draft (x1 + 2).toNatClampNeg) (v_draft (x1 + 3).toNatClampNeg) r4 hcl) rfl 0 gC5 rfl rfl (lw_V q1491 q1493 qs30 q74 q1494) md_X6_whyNotSplit ⟨(Nat.le_of_ble_eq_true rfl), (Nat.le_of_ble_eq_true rfl)⟩ rfl dX6_does_122 125 rfl 0 0 rfl rfl (Nat.le_of_ble_eq_true rfl) (Nat.le_of_ble_eq_true rfl) (st := [.ref a0]) rfl (Nat.le_of_ble_eq_true rfl) (fun _ => rfl) (fun _ => ?_)
    refine g_put X gC5 0 rfl 5 (by decide) q1347 (fun _ h9 => h9) rfl rfl rfl (Nat.le_of_ble_eq_true rfl) dX6_does_125 128 rfl ?_
    refine g_aload_n X rfl dX6_does_128 129 rfl ?_
    refine g_get X gC5 0 rfl 5 (by decide) q1347 (fun _ h9 => h9) rfl dX6_does_129 132 rfl ?_
    refine g_if_ne X dX6_does_132 146 (by decide) 135 rfl (fun hc => ?_) (fun hc => ?_)
    · replace h := if_f hc h
      refine g_iconst X 0 dX6_does_146 147 rfl kI_0 ?_
      refine g_kill (j := 1) [some (.ref a0), none, some (.int (v_draft (x1 + 1).toNatClampNeg)), some (.int (v_draft (x1 + 2).toNatClampNeg)), some (.int (v_draft (x1 + 3).toNatClampNeg)), some (.int 0)] rfl ?_
      refine g_kill (j := 2) [some (.ref a0), none, none, some (.int (v_draft (x1 + 2).toNatClampNeg)), some (.int (v_draft (x1 + 3).toNatClampNeg)), some (.int 0)] rfl ?_
      refine g_kill (j := 3) [some (.ref a0), none, none, none, some (.int (v_draft (x1 + 3).toNatClampNeg)), some (.int 0)] rfl ?_
      refine g_kill (j := 4) [some (.ref a0), none, none, none, none, some (.int 0)] rfl ?_
      refine g_kill (j := 5) [some (.ref a0), none, none, none, none, none] rfl ?_
      exact w_X6_does_147 a0 a1 a2 a3 a4 a5 a6 a7 a8 a9 a10 a11  X  r r_code r_lineParts r_pulseMany r_left r_dropped r_merged r_drops r_contributions r_packet r_peelResult r_peelTime r_peelSum r_m r_lengths r_fractions r_times r_energies r_far r_near r_echoes    v_savedCount v_scriptLength r4 v_lineParts v_pulseMany v_left v_dropped v_merged v_drops v_contributions v_packet v_peelResult v_peelTime v_peelSum v_at v_commands v_hash v_m v_saved v_script v_lengths v_fractions v_times v_energies v_far v_near v_echoes v_draft 0 h
    · replace h := if_t hc h
      refine g_aload_n X rfl dX6_does_135 136 rfl ?_
      refine g_iload_n X rfl dX6_does_136 137 rfl ?_
      refine g_iload_n X rfl dX6_does_137 138 rfl ?_
      refine g_iload X rfl dX6_does_138 140 rfl ?_
      obtain ⟨r5, w6_m, hcl, h⟩ := bd2_e h
      refine g_callV1W X (met_X6_splitsPart l Z a0 a1 a2 a3 a4 a5 a6 a7 a8 a9 a10 a11 v_savedCount v_scriptLength r4 v_lineParts v_pulseMany v_left v_dropped v_merged v_drops v_contributions v_packet v_peelResult v_peelTime v_peelSum v_at v_commands v_hash v_m v_saved v_script v_lengths v_fractions v_times v_energies v_far v_near v_echoes v_draft (v_draft (x1 + 1).toNatClampNeg) (v_draft (x1 + 2).toNatClampNeg) (v_draft (x1 + 3).toNatClampNeg) r5 w6_m hcl) rfl 0 gC5 rfl rfl (lw_V q1495 q1497 qs31 q74 q1498) md_X6_splitsPart ⟨(Nat.le_of_ble_eq_true rfl), (Nat.le_of_ble_eq_true rfl)⟩ rfl dX6_does_140 143 rfl 0 0 rfl rfl (Nat.le_of_ble_eq_true rfl) (Nat.le_of_ble_eq_true rfl) (st := []) rfl (Nat.le_of_ble_eq_true rfl) (fun _ => rfl) (fun _ => ?_)
      refine g_goto X dX6_does_143 147 (by decide) ?_
      refine g_kill (j := 1) [some (.ref a0), none, some (.int (v_draft (x1 + 1).toNatClampNeg)), some (.int (v_draft (x1 + 2).toNatClampNeg)), some (.int (v_draft (x1 + 3).toNatClampNeg)), some (.int 0)] rfl ?_
      refine g_kill (j := 2) [some (.ref a0), none, none, some (.int (v_draft (x1 + 2).toNatClampNeg)), some (.int (v_draft (x1 + 3).toNatClampNeg)), some (.int 0)] rfl ?_
      refine g_kill (j := 3) [some (.ref a0), none, none, none, some (.int (v_draft (x1 + 3).toNatClampNeg)), some (.int 0)] rfl ?_
      refine g_kill (j := 4) [some (.ref a0), none, none, none, none, some (.int 0)] rfl ?_
      refine g_kill (j := 5) [some (.ref a0), none, none, none, none, none] rfl ?_
      exact w_X6_does_147 a0 a1 a2 a3 a4 a5 a6 a7 a8 a9 a10 a11  X  r r_code r_lineParts r_pulseMany r_left r_dropped r_merged r_drops r_contributions r_packet r_peelResult r_peelTime r_peelSum r_m r_lengths r_fractions r_times r_energies r_far r_near r_echoes    v_savedCount v_scriptLength r4 v_lineParts v_pulseMany v_left v_dropped v_merged v_drops v_contributions v_packet v_peelResult v_peelTime v_peelSum v_at v_commands v_hash w6_m v_saved v_script v_lengths v_fractions v_times v_energies v_far v_near v_echoes v_draft r5 h
  replace h := if_f hc1 h
  by_cases hc2 : (v_draft x1.toNatClampNeg) = 2
  · replace h := if_t hc2 h
    refine g_tabIn X dX6_does_37 152 2 hc2 (by decide) (by decide) rfl (by decide) ?_
    refine g_aload_n X rfl dX6_does_152 153 rfl ?_
    refine g_aload_n X rfl dX6_does_153 154 rfl ?_
    refine g_iload_n X rfl dX6_does_154 155 rfl ?_
    refine g_iload_n X rfl dX6_does_155 156 rfl ?_
    obtain ⟨r7, hcl, h⟩ := bd1_e h
    refine g_callV1W X (met_X6_whyNoPart l Z a0 a1 a2 a3 a4 a5 a6 a7 a8 a9 a10 a11 v_savedCount v_scriptLength v_code v_lineParts v_pulseMany v_left v_dropped v_merged v_drops v_contributions v_packet v_peelResult v_peelTime v_peelSum v_at v_commands v_hash v_m v_saved v_script v_lengths v_fractions v_times v_energies v_far v_near v_echoes v_draft (v_draft (x1 + 1).toNatClampNeg) (v_draft (x1 + 2).toNatClampNeg) r7 hcl) rfl 0 gC5 rfl rfl (lw_V q1435 q1437 qs21 q74 q1438) md_X6_whyNoPart ⟨(Nat.le_of_ble_eq_true rfl), (Nat.le_of_ble_eq_true rfl)⟩ rfl dX6_does_156 159 rfl 0 0 rfl rfl (Nat.le_of_ble_eq_true rfl) (Nat.le_of_ble_eq_true rfl) (st := [.ref a0]) rfl (Nat.le_of_ble_eq_true rfl) (fun _ => rfl) (fun _ => ?_)
    refine g_put X gC5 0 rfl 5 (by decide) q1347 (fun _ h9 => h9) rfl rfl rfl (Nat.le_of_ble_eq_true rfl) dX6_does_159 162 rfl ?_
    refine g_aload_n X rfl dX6_does_162 163 rfl ?_
    refine g_get X gC5 0 rfl 5 (by decide) q1347 (fun _ h9 => h9) rfl dX6_does_163 166 rfl ?_
    refine g_if_ne X dX6_does_166 178 (by decide) 169 rfl (fun hc => ?_) (fun hc => ?_)
    · replace h := if_f hc h
      refine g_iconst X 0 dX6_does_178 179 rfl kI_0 ?_
      refine g_kill (j := 1) [some (.ref a0), none, some (.int (v_draft (x1 + 1).toNatClampNeg)), some (.int (v_draft (x1 + 2).toNatClampNeg)), some (.int (v_draft (x1 + 3).toNatClampNeg)), some (.int 0)] rfl ?_
      refine g_kill (j := 2) [some (.ref a0), none, none, some (.int (v_draft (x1 + 2).toNatClampNeg)), some (.int (v_draft (x1 + 3).toNatClampNeg)), some (.int 0)] rfl ?_
      refine g_kill (j := 3) [some (.ref a0), none, none, none, some (.int (v_draft (x1 + 3).toNatClampNeg)), some (.int 0)] rfl ?_
      refine g_kill (j := 4) [some (.ref a0), none, none, none, none, some (.int 0)] rfl ?_
      refine g_kill (j := 5) [some (.ref a0), none, none, none, none, none] rfl ?_
      exact w_X6_does_179 a0 a1 a2 a3 a4 a5 a6 a7 a8 a9 a10 a11  X  r r_code r_lineParts r_pulseMany r_left r_dropped r_merged r_drops r_contributions r_packet r_peelResult r_peelTime r_peelSum r_m r_lengths r_fractions r_times r_energies r_far r_near r_echoes    v_savedCount v_scriptLength r7 v_lineParts v_pulseMany v_left v_dropped v_merged v_drops v_contributions v_packet v_peelResult v_peelTime v_peelSum v_at v_commands v_hash v_m v_saved v_script v_lengths v_fractions v_times v_energies v_far v_near v_echoes v_draft 0 h
    · replace h := if_t hc h
      refine g_aload_n X rfl dX6_does_169 170 rfl ?_
      refine g_iload_n X rfl dX6_does_170 171 rfl ?_
      refine g_iload_n X rfl dX6_does_171 172 rfl ?_
      obtain ⟨r8, w9_m, hcl, h⟩ := bd2_e h
      refine g_callV1W X (met_X6_addsPart l Z a0 a1 a2 a3 a4 a5 a6 a7 a8 a9 a10 a11 v_savedCount v_scriptLength r7 v_lineParts v_pulseMany v_left v_dropped v_merged v_drops v_contributions v_packet v_peelResult v_peelTime v_peelSum v_at v_commands v_hash v_m v_saved v_script v_lengths v_fractions v_times v_energies v_far v_near v_echoes v_draft (v_draft (x1 + 1).toNatClampNeg) (v_draft (x1 + 2).toNatClampNeg) r8 w9_m hcl) rfl 0 gC5 rfl rfl (lw_V q1455 q1457 qs24 q74 q1458) md_X6_addsPart ⟨(Nat.le_of_ble_eq_true rfl), (Nat.le_of_ble_eq_true rfl)⟩ rfl dX6_does_172 175 rfl 0 0 rfl rfl (Nat.le_of_ble_eq_true rfl) (Nat.le_of_ble_eq_true rfl) (st := []) rfl (Nat.le_of_ble_eq_true rfl) (fun _ => rfl) (fun _ => ?_)
      refine g_goto X dX6_does_175 179 (by decide) ?_
      refine g_kill (j := 1) [some (.ref a0), none, some (.int (v_draft (x1 + 1).toNatClampNeg)), some (.int (v_draft (x1 + 2).toNatClampNeg)), some (.int (v_draft (x1 + 3).toNatClampNeg)), some (.int 0)] rfl ?_
      refine g_kill (j := 2) [some (.ref a0), none, none, some (.int (v_draft (x1 + 2).toNatClampNeg)), some (.int (v_draft (x1 + 3).toNatClampNeg)), some (.int 0)] rfl ?_
      refine g_kill (j := 3) [some (.ref a0), none, none, none, some (.int (v_draft (x1 + 3).toNatClampNeg)), some (.int 0)] rfl ?_
      refine g_kill (j := 4) [some (.ref a0), none, none, none, none, some (.int 0)] rfl ?_
      refine g_kill (j := 5) [some (.ref a0), none, none, none, none, none] rfl ?_
      exact w_X6_does_179 a0 a1 a2 a3 a4 a5 a6 a7 a8 a9 a10 a11  X  r r_code r_lineParts r_pulseMany r_left r_dropped r_merged r_drops r_contributions r_packet r_peelResult r_peelTime r_peelSum r_m r_lengths r_fractions r_times r_energies r_far r_near r_echoes    v_savedCount v_scriptLength r7 v_lineParts v_pulseMany v_left v_dropped v_merged v_drops v_contributions v_packet v_peelResult v_peelTime v_peelSum v_at v_commands v_hash w9_m v_saved v_script v_lengths v_fractions v_times v_energies v_far v_near v_echoes v_draft r8 h
  replace h := if_f hc2 h
  by_cases hc3 : (v_draft x1.toNatClampNeg) = 3
  · replace h := if_t hc3 h
    refine g_tabIn X dX6_does_37 184 3 hc3 (by decide) (by decide) rfl (by decide) ?_
    refine g_aload_n X rfl dX6_does_184 185 rfl ?_
    refine g_aload_n X rfl dX6_does_185 186 rfl ?_
    refine g_iload_n X rfl dX6_does_186 187 rfl ?_
    refine g_iload_n X rfl dX6_does_187 188 rfl ?_
    obtain ⟨r10, hcl, h⟩ := bd1_e h
    refine g_callV1W X (met_X6_whyNoPulse l Z a0 a1 a2 a3 a4 a5 a6 a7 a8 a9 a10 a11 v_savedCount v_scriptLength v_code v_lineParts v_pulseMany v_left v_dropped v_merged v_drops v_contributions v_packet v_peelResult v_peelTime v_peelSum v_at v_commands v_hash v_m v_saved v_script v_lengths v_fractions v_times v_energies v_far v_near v_echoes v_draft (v_draft (x1 + 1).toNatClampNeg) (v_draft (x1 + 2).toNatClampNeg) r10 hcl) rfl 0 gC5 rfl rfl (lw_V q1525 q1527 qs35 q74 q1528) md_X6_whyNoPulse ⟨(Nat.le_of_ble_eq_true rfl), (Nat.le_of_ble_eq_true rfl)⟩ rfl dX6_does_188 191 rfl 0 0 rfl rfl (Nat.le_of_ble_eq_true rfl) (Nat.le_of_ble_eq_true rfl) (st := [.ref a0]) rfl (Nat.le_of_ble_eq_true rfl) (fun _ => rfl) (fun _ => ?_)
    refine g_put X gC5 0 rfl 5 (by decide) q1347 (fun _ h9 => h9) rfl rfl rfl (Nat.le_of_ble_eq_true rfl) dX6_does_191 194 rfl ?_
    refine g_aload_n X rfl dX6_does_194 195 rfl ?_
    refine g_get X gC5 0 rfl 5 (by decide) q1347 (fun _ h9 => h9) rfl dX6_does_195 198 rfl ?_
    refine g_if_ne X dX6_does_198 210 (by decide) 201 rfl (fun hc => ?_) (fun hc => ?_)
    · replace h := if_f hc h
      refine g_iconst X 0 dX6_does_210 211 rfl kI_0 ?_
      refine g_kill (j := 1) [some (.ref a0), none, some (.int (v_draft (x1 + 1).toNatClampNeg)), some (.int (v_draft (x1 + 2).toNatClampNeg)), some (.int (v_draft (x1 + 3).toNatClampNeg)), some (.int 0)] rfl ?_
      refine g_kill (j := 2) [some (.ref a0), none, none, some (.int (v_draft (x1 + 2).toNatClampNeg)), some (.int (v_draft (x1 + 3).toNatClampNeg)), some (.int 0)] rfl ?_
      refine g_kill (j := 3) [some (.ref a0), none, none, none, some (.int (v_draft (x1 + 3).toNatClampNeg)), some (.int 0)] rfl ?_
      refine g_kill (j := 4) [some (.ref a0), none, none, none, none, some (.int 0)] rfl ?_
      refine g_kill (j := 5) [some (.ref a0), none, none, none, none, none] rfl ?_
      exact w_X6_does_211 a0 a1 a2 a3 a4 a5 a6 a7 a8 a9 a10 a11  X  r r_code r_lineParts r_pulseMany r_left r_dropped r_merged r_drops r_contributions r_packet r_peelResult r_peelTime r_peelSum r_m r_lengths r_fractions r_times r_energies r_far r_near r_echoes    v_savedCount v_scriptLength r10 v_lineParts v_pulseMany v_left v_dropped v_merged v_drops v_contributions v_packet v_peelResult v_peelTime v_peelSum v_at v_commands v_hash v_m v_saved v_script v_lengths v_fractions v_times v_energies v_far v_near v_echoes v_draft 0 h
    · replace h := if_t hc h
      refine g_aload_n X rfl dX6_does_201 202 rfl ?_
      refine g_iload_n X rfl dX6_does_202 203 rfl ?_
      refine g_iload_n X rfl dX6_does_203 204 rfl ?_
      obtain ⟨r11, w12_m, hcl, h⟩ := bd2_e h
      refine g_callV1W X (met_X6_addsPulse l Z a0 a1 a2 a3 a4 a5 a6 a7 a8 a9 a10 a11 v_savedCount v_scriptLength r10 v_lineParts v_pulseMany v_left v_dropped v_merged v_drops v_contributions v_packet v_peelResult v_peelTime v_peelSum v_at v_commands v_hash v_m v_saved v_script v_lengths v_fractions v_times v_energies v_far v_near v_echoes v_draft (v_draft (x1 + 1).toNatClampNeg) (v_draft (x1 + 2).toNatClampNeg) r11 w12_m hcl) rfl 0 gC5 rfl rfl (lw_V q1531 q1533 qs36 q74 q1534) md_X6_addsPulse ⟨(Nat.le_of_ble_eq_true rfl), (Nat.le_of_ble_eq_true rfl)⟩ rfl dX6_does_204 207 rfl 0 0 rfl rfl (Nat.le_of_ble_eq_true rfl) (Nat.le_of_ble_eq_true rfl) (st := []) rfl (Nat.le_of_ble_eq_true rfl) (fun _ => rfl) (fun _ => ?_)
      refine g_goto X dX6_does_207 211 (by decide) ?_
      refine g_kill (j := 1) [some (.ref a0), none, some (.int (v_draft (x1 + 1).toNatClampNeg)), some (.int (v_draft (x1 + 2).toNatClampNeg)), some (.int (v_draft (x1 + 3).toNatClampNeg)), some (.int 0)] rfl ?_
      refine g_kill (j := 2) [some (.ref a0), none, none, some (.int (v_draft (x1 + 2).toNatClampNeg)), some (.int (v_draft (x1 + 3).toNatClampNeg)), some (.int 0)] rfl ?_
      refine g_kill (j := 3) [some (.ref a0), none, none, none, some (.int (v_draft (x1 + 3).toNatClampNeg)), some (.int 0)] rfl ?_
      refine g_kill (j := 4) [some (.ref a0), none, none, none, none, some (.int 0)] rfl ?_
      refine g_kill (j := 5) [some (.ref a0), none, none, none, none, none] rfl ?_
      exact w_X6_does_211 a0 a1 a2 a3 a4 a5 a6 a7 a8 a9 a10 a11  X  r r_code r_lineParts r_pulseMany r_left r_dropped r_merged r_drops r_contributions r_packet r_peelResult r_peelTime r_peelSum r_m r_lengths r_fractions r_times r_energies r_far r_near r_echoes    v_savedCount v_scriptLength r10 v_lineParts v_pulseMany v_left v_dropped v_merged v_drops v_contributions v_packet v_peelResult v_peelTime v_peelSum v_at v_commands v_hash w12_m v_saved v_script v_lengths v_fractions v_times v_energies v_far v_near v_echoes v_draft r11 h
  replace h := if_f hc3 h
  by_cases hc4 : (v_draft x1.toNatClampNeg) = 4
  · replace h := if_t hc4 h
    refine g_tabIn X dX6_does_37 216 4 hc4 (by decide) (by decide) rfl (by decide) ?_
    refine g_aload_n X rfl dX6_does_216 217 rfl ?_
    refine g_aload_n X rfl dX6_does_217 218 rfl ?_
    refine g_iload_n X rfl dX6_does_218 219 rfl ?_
    obtain ⟨r13, hcl, h⟩ := bd1_e h
    refine g_callV1W X (met_X6_isPart l Z a0 a1 a2 a3 a4 a5 a6 a7 a8 a9 a10 a11 v_savedCount v_scriptLength v_code v_lineParts v_pulseMany v_left v_dropped v_merged v_drops v_contributions v_packet v_peelResult v_peelTime v_peelSum v_at v_commands v_hash v_m v_saved v_script v_lengths v_fractions v_times v_energies v_far v_near v_echoes v_draft (v_draft (x1 + 1).toNatClampNeg) r13 hcl) rfl 0 gC5 rfl rfl (lw_V q1471 q1473 qs27 q74 q1474) md_X6_isPart ⟨(Nat.le_of_ble_eq_true rfl), (Nat.le_of_ble_eq_true rfl)⟩ rfl dX6_does_219 222 rfl 0 0 rfl rfl (Nat.le_of_ble_eq_true rfl) (Nat.le_of_ble_eq_true rfl) (st := [.ref a0]) rfl (Nat.le_of_ble_eq_true rfl) (fun _ => rfl) (fun _ => ?_)
    refine g_seli 230 [.ref a0] (b := r13 = 0) 1 0 ?_ (fun hc K => ?_) (fun hc K => ?_)
    · refine g_put X gC5 0 rfl 5 (by decide) q1347 (fun _ h9 => h9) rfl rfl rfl (Nat.le_of_ble_eq_true rfl) dX6_does_230 233 rfl ?_
      refine g_aload_n X rfl dX6_does_233 234 rfl ?_
      refine g_get X gC5 0 rfl 5 (by decide) q1347 (fun _ h9 => h9) rfl dX6_does_234 237 rfl ?_
      refine g_if_ne X dX6_does_237 248 (by decide) 240 rfl (fun hc => ?_) (fun hc => ?_)
      · replace h := if_f hc h
        refine g_iconst X 0 dX6_does_248 249 rfl kI_0 ?_
        refine g_kill (j := 1) [some (.ref a0), none, some (.int (v_draft (x1 + 1).toNatClampNeg)), some (.int (v_draft (x1 + 2).toNatClampNeg)), some (.int (v_draft (x1 + 3).toNatClampNeg)), some (.int 0)] rfl ?_
        refine g_kill (j := 2) [some (.ref a0), none, none, some (.int (v_draft (x1 + 2).toNatClampNeg)), some (.int (v_draft (x1 + 3).toNatClampNeg)), some (.int 0)] rfl ?_
        refine g_kill (j := 3) [some (.ref a0), none, none, none, some (.int (v_draft (x1 + 3).toNatClampNeg)), some (.int 0)] rfl ?_
        refine g_kill (j := 4) [some (.ref a0), none, none, none, none, some (.int 0)] rfl ?_
        refine g_kill (j := 5) [some (.ref a0), none, none, none, none, none] rfl ?_
        exact w_X6_does_249 a0 a1 a2 a3 a4 a5 a6 a7 a8 a9 a10 a11  X  r r_code r_lineParts r_pulseMany r_left r_dropped r_merged r_drops r_contributions r_packet r_peelResult r_peelTime r_peelSum r_m r_lengths r_fractions r_times r_energies r_far r_near r_echoes    v_savedCount v_scriptLength (if r13 = 0 then (1 : Int32) else 0) v_lineParts v_pulseMany v_left v_dropped v_merged v_drops v_contributions v_packet v_peelResult v_peelTime v_peelSum v_at v_commands v_hash v_m v_saved v_script v_lengths v_fractions v_times v_energies v_far v_near v_echoes v_draft 0 h
      · replace h := if_t hc h
        refine g_aload_n X rfl dX6_does_240 241 rfl ?_
        refine g_iload_n X rfl dX6_does_241 242 rfl ?_
        obtain ⟨r14, w15_m, hcl, h⟩ := bd2_e h
        refine g_callV1W X (met_X6_removesPart l Z a0 a1 a2 a3 a4 a5 a6 a7 a8 a9 a10 a11 v_savedCount v_scriptLength (if r13 = 0 then (1 : Int32) else 0) v_lineParts v_pulseMany v_left v_dropped v_merged v_drops v_contributions v_packet v_peelResult v_peelTime v_peelSum v_at v_commands v_hash v_m v_saved v_script v_lengths v_fractions v_times v_energies v_far v_near v_echoes v_draft (v_draft (x1 + 1).toNatClampNeg) r14 w15_m hcl) rfl 0 gC5 rfl rfl (lw_V q1483 q1485 qs29 q74 q1486) md_X6_removesPart ⟨(Nat.le_of_ble_eq_true rfl), (Nat.le_of_ble_eq_true rfl)⟩ rfl dX6_does_242 245 rfl 0 0 rfl rfl (Nat.le_of_ble_eq_true rfl) (Nat.le_of_ble_eq_true rfl) (st := []) rfl (Nat.le_of_ble_eq_true rfl) (fun _ => rfl) (fun _ => ?_)
        refine g_goto X dX6_does_245 249 (by decide) ?_
        refine g_kill (j := 1) [some (.ref a0), none, some (.int (v_draft (x1 + 1).toNatClampNeg)), some (.int (v_draft (x1 + 2).toNatClampNeg)), some (.int (v_draft (x1 + 3).toNatClampNeg)), some (.int 0)] rfl ?_
        refine g_kill (j := 2) [some (.ref a0), none, none, some (.int (v_draft (x1 + 2).toNatClampNeg)), some (.int (v_draft (x1 + 3).toNatClampNeg)), some (.int 0)] rfl ?_
        refine g_kill (j := 3) [some (.ref a0), none, none, none, some (.int (v_draft (x1 + 3).toNatClampNeg)), some (.int 0)] rfl ?_
        refine g_kill (j := 4) [some (.ref a0), none, none, none, none, some (.int 0)] rfl ?_
        refine g_kill (j := 5) [some (.ref a0), none, none, none, none, none] rfl ?_
        exact w_X6_does_249 a0 a1 a2 a3 a4 a5 a6 a7 a8 a9 a10 a11  X  r r_code r_lineParts r_pulseMany r_left r_dropped r_merged r_drops r_contributions r_packet r_peelResult r_peelTime r_peelSum r_m r_lengths r_fractions r_times r_energies r_far r_near r_echoes    v_savedCount v_scriptLength (if r13 = 0 then (1 : Int32) else 0) v_lineParts v_pulseMany v_left v_dropped v_merged v_drops v_contributions v_packet v_peelResult v_peelTime v_peelSum v_at v_commands v_hash w15_m v_saved v_script v_lengths v_fractions v_times v_energies v_far v_near v_echoes v_draft r14 h
    · refine g_if_eq X dX6_does_222 229 (by decide) 225 rfl (fun _ => ?_) (fun hn => absurd hc hn)
      refine g_iconst X 1 dX6_does_229 230 rfl kI_1 ?_
      exact K
    · refine g_if_eq X dX6_does_222 229 (by decide) 225 rfl (fun hn => absurd hn hc) (fun _ => ?_)
      refine g_iconst X 0 dX6_does_225 226 rfl kI_0 ?_
      refine g_goto X dX6_does_226 230 (by decide) ?_
      exact K
  replace h := if_f hc4 h
  by_cases hc5 : (v_draft x1.toNatClampNeg) = 5
  · replace h := if_t hc5 h
    refine g_tabIn X dX6_does_37 254 5 hc5 (by decide) (by decide) rfl (by decide) ?_
    refine g_aload_n X rfl dX6_does_254 255 rfl ?_
    refine g_iconst X 0 dX6_does_255 256 rfl kI_0 ?_
    refine g_put X gC5 0 rfl 5 (by decide) q1347 (fun _ h9 => h9) rfl rfl rfl (Nat.le_of_ble_eq_true rfl) dX6_does_256 259 rfl ?_
    refine g_aload_n X rfl dX6_does_259 260 rfl ?_
    refine g_bipush X 29 dX6_does_260 262 rfl kB_29 ?_
    obtain ⟨r16, w17_lineParts, w18_pulseMany, w19_left, w20_dropped, w21_merged, w22_drops, w23_contributions, w24_packet, w25_m, w26_lengths, w27_fractions, w28_times, w29_energies, w30_far, w31_near, w32_echoes, hcl, h⟩ := bd17_e h
    refine g_callV1W X (met_X6_copies l Z a0 a1 a2 a3 a4 a5 a6 a7 a8 a9 a10 a11 v_savedCount v_scriptLength 0 v_lineParts v_pulseMany v_left v_dropped v_merged v_drops v_contributions v_packet v_peelResult v_peelTime v_peelSum v_at v_commands v_hash v_m v_saved v_script v_lengths v_fractions v_times v_energies v_far v_near v_echoes v_draft 29 r16 w17_lineParts w18_pulseMany w19_left w20_dropped w21_merged w22_drops w23_contributions w24_packet w25_m w26_lengths w27_fractions w28_times w29_energies w30_far w31_near w32_echoes hcl) rfl 0 gC5 rfl rfl (lw_V q1630 q1632 qs49 q74 q1633) md_X6_copies ⟨(Nat.le_of_ble_eq_true rfl), (Nat.le_of_ble_eq_true rfl)⟩ rfl dX6_does_262 265 rfl 0 0 rfl rfl (Nat.le_of_ble_eq_true rfl) (Nat.le_of_ble_eq_true rfl) (st := []) rfl (Nat.le_of_ble_eq_true rfl) (fun _ => rfl) (fun _ => ?_)
    refine g_istore X dX6_does_265 267 rfl (Nat.le_of_ble_eq_true rfl) rfl [some (.ref a0), some (.int x1), some (.int (v_draft (x1 + 1).toNatClampNeg)), some (.int (v_draft (x1 + 2).toNatClampNeg)), some (.int (v_draft (x1 + 3).toNatClampNeg)), some (.int r16)] rfl ?_
    refine g_goto X dX6_does_267 298 (by decide) ?_
    refine g_kill (j := 1) [some (.ref a0), none, some (.int (v_draft (x1 + 1).toNatClampNeg)), some (.int (v_draft (x1 + 2).toNatClampNeg)), some (.int (v_draft (x1 + 3).toNatClampNeg)), some (.int r16)] rfl ?_
    refine g_kill (j := 2) [some (.ref a0), none, none, some (.int (v_draft (x1 + 2).toNatClampNeg)), some (.int (v_draft (x1 + 3).toNatClampNeg)), some (.int r16)] rfl ?_
    refine g_kill (j := 3) [some (.ref a0), none, none, none, some (.int (v_draft (x1 + 3).toNatClampNeg)), some (.int r16)] rfl ?_
    refine g_kill (j := 4) [some (.ref a0), none, none, none, none, some (.int r16)] rfl ?_
    exact w_X6_does_298 a0 a1 a2 a3 a4 a5 a6 a7 a8 a9 a10 a11  X  r r_code r_lineParts r_pulseMany r_left r_dropped r_merged r_drops r_contributions r_packet r_peelResult r_peelTime r_peelSum r_m r_lengths r_fractions r_times r_energies r_far r_near r_echoes    v_savedCount v_scriptLength 0 w17_lineParts w18_pulseMany w19_left w20_dropped w21_merged w22_drops w23_contributions w24_packet v_peelResult v_peelTime v_peelSum v_at v_commands v_hash w25_m v_saved v_script w26_lengths w27_fractions w28_times w29_energies w30_far w31_near w32_echoes v_draft r16 h
  replace h := if_f hc5 h
  by_cases hc6 : (v_draft x1.toNatClampNeg) = 6
  · replace h := if_t hc6 h
    refine g_tabIn X dX6_does_37 270 6 hc6 (by decide) (by decide) rfl (by decide) ?_
    refine g_aload_n X rfl dX6_does_270 271 rfl ?_
    refine g_iconst X 0 dX6_does_271 272 rfl kI_0 ?_
    refine g_put X gC5 0 rfl 5 (by decide) q1347 (fun _ h9 => h9) rfl rfl rfl (Nat.le_of_ble_eq_true rfl) dX6_does_272 275 rfl ?_
    refine g_aload_n X rfl dX6_does_275 276 rfl ?_
    refine g_sipush X 230 dX6_does_276 279 rfl kS_230 ?_
    obtain ⟨r33, w34_lineParts, w35_pulseMany, w36_left, w37_dropped, w38_merged, w39_drops, w40_contributions, w41_packet, w42_m, w43_lengths, w44_fractions, w45_times, w46_energies, w47_far, w48_near, w49_echoes, hcl, h⟩ := bd17_e h
    refine g_callV1W X (met_X6_copies l Z a0 a1 a2 a3 a4 a5 a6 a7 a8 a9 a10 a11 v_savedCount v_scriptLength 0 v_lineParts v_pulseMany v_left v_dropped v_merged v_drops v_contributions v_packet v_peelResult v_peelTime v_peelSum v_at v_commands v_hash v_m v_saved v_script v_lengths v_fractions v_times v_energies v_far v_near v_echoes v_draft 230 r33 w34_lineParts w35_pulseMany w36_left w37_dropped w38_merged w39_drops w40_contributions w41_packet w42_m w43_lengths w44_fractions w45_times w46_energies w47_far w48_near w49_echoes hcl) rfl 0 gC5 rfl rfl (lw_V q1630 q1632 qs49 q74 q1633) md_X6_copies ⟨(Nat.le_of_ble_eq_true rfl), (Nat.le_of_ble_eq_true rfl)⟩ rfl dX6_does_279 282 rfl 0 0 rfl rfl (Nat.le_of_ble_eq_true rfl) (Nat.le_of_ble_eq_true rfl) (st := []) rfl (Nat.le_of_ble_eq_true rfl) (fun _ => rfl) (fun _ => ?_)
    refine g_istore X dX6_does_282 284 rfl (Nat.le_of_ble_eq_true rfl) rfl [some (.ref a0), some (.int x1), some (.int (v_draft (x1 + 1).toNatClampNeg)), some (.int (v_draft (x1 + 2).toNatClampNeg)), some (.int (v_draft (x1 + 3).toNatClampNeg)), some (.int r33)] rfl ?_
    refine g_goto X dX6_does_284 298 (by decide) ?_
    refine g_kill (j := 1) [some (.ref a0), none, some (.int (v_draft (x1 + 1).toNatClampNeg)), some (.int (v_draft (x1 + 2).toNatClampNeg)), some (.int (v_draft (x1 + 3).toNatClampNeg)), some (.int r33)] rfl ?_
    refine g_kill (j := 2) [some (.ref a0), none, none, some (.int (v_draft (x1 + 2).toNatClampNeg)), some (.int (v_draft (x1 + 3).toNatClampNeg)), some (.int r33)] rfl ?_
    refine g_kill (j := 3) [some (.ref a0), none, none, none, some (.int (v_draft (x1 + 3).toNatClampNeg)), some (.int r33)] rfl ?_
    refine g_kill (j := 4) [some (.ref a0), none, none, none, none, some (.int r33)] rfl ?_
    exact w_X6_does_298 a0 a1 a2 a3 a4 a5 a6 a7 a8 a9 a10 a11  X  r r_code r_lineParts r_pulseMany r_left r_dropped r_merged r_drops r_contributions r_packet r_peelResult r_peelTime r_peelSum r_m r_lengths r_fractions r_times r_energies r_far r_near r_echoes    v_savedCount v_scriptLength 0 w34_lineParts w35_pulseMany w36_left w37_dropped w38_merged w39_drops w40_contributions w41_packet v_peelResult v_peelTime v_peelSum v_at v_commands v_hash w42_m v_saved v_script w43_lengths w44_fractions w45_times w46_energies w47_far w48_near w49_echoes v_draft r33 h
  replace h := if_f hc6 h
  refine g_tabOut X dX6_does_37 287 (g_rng (lo := 0) (n := 7) (fun i hi => match i, hi with | 0, _ => lv_neT hc0 (by decide) | 1, _ => lv_neT hc1 (by decide) | 2, _ => lv_neT hc2 (by decide) | 3, _ => lv_neT hc3 (by decide) | 4, _ => lv_neT hc4 (by decide) | 5, _ => lv_neT hc5 (by decide) | 6, _ => lv_neT hc6 (by decide) | n + 7, hi => absurd hi (by omega)) (by decide)) (by decide) ?_
  refine g_aload_n X rfl dX6_does_287 288 rfl ?_
  refine g_iconst X 0 dX6_does_288 289 rfl kI_0 ?_
  refine g_put X gC5 0 rfl 5 (by decide) q1347 (fun _ h9 => h9) rfl rfl rfl (Nat.le_of_ble_eq_true rfl) dX6_does_289 292 rfl ?_
  refine g_aload_n X rfl dX6_does_292 293 rfl ?_
  obtain ⟨r50, w51_lineParts, w52_pulseMany, w53_left, w54_dropped, w55_merged, w56_drops, w57_contributions, w58_packet, w59_peelResult, w60_peelTime, w61_peelSum, w62_m, w63_lengths, w64_fractions, w65_times, w66_energies, w67_far, w68_near, w69_echoes, hcl, h⟩ := bd20_e h
  refine g_callV1W X (met_X6_adopts l Z a0 a1 a2 a3 a4 a5 a6 a7 a8 a9 a10 a11 v_savedCount v_scriptLength 0 v_lineParts v_pulseMany v_left v_dropped v_merged v_drops v_contributions v_packet v_peelResult v_peelTime v_peelSum v_at v_commands v_hash v_m v_saved v_script v_lengths v_fractions v_times v_energies v_far v_near v_echoes v_draft  r50 w51_lineParts w52_pulseMany w53_left w54_dropped w55_merged w56_drops w57_contributions w58_packet w59_peelResult w60_peelTime w61_peelSum w62_m w63_lengths w64_fractions w65_times w66_energies w67_far w68_near w69_echoes hcl) rfl 0 gC5 rfl rfl (lw_V q1700 q1702 qs58 q74 q1703) md_X6_adopts ⟨(Nat.le_of_ble_eq_true rfl), (Nat.le_of_ble_eq_true rfl)⟩ rfl dX6_does_293 296 rfl 0 0 rfl rfl (Nat.le_of_ble_eq_true rfl) (Nat.le_of_ble_eq_true rfl) (st := []) rfl (Nat.le_of_ble_eq_true rfl) (fun _ => rfl) (fun _ => ?_)
  refine g_istore X dX6_does_296 298 rfl (Nat.le_of_ble_eq_true rfl) rfl [some (.ref a0), some (.int x1), some (.int (v_draft (x1 + 1).toNatClampNeg)), some (.int (v_draft (x1 + 2).toNatClampNeg)), some (.int (v_draft (x1 + 3).toNatClampNeg)), some (.int r50)] rfl ?_
  refine g_kill (j := 1) [some (.ref a0), none, some (.int (v_draft (x1 + 1).toNatClampNeg)), some (.int (v_draft (x1 + 2).toNatClampNeg)), some (.int (v_draft (x1 + 3).toNatClampNeg)), some (.int r50)] rfl ?_
  refine g_kill (j := 2) [some (.ref a0), none, none, some (.int (v_draft (x1 + 2).toNatClampNeg)), some (.int (v_draft (x1 + 3).toNatClampNeg)), some (.int r50)] rfl ?_
  refine g_kill (j := 3) [some (.ref a0), none, none, none, some (.int (v_draft (x1 + 3).toNatClampNeg)), some (.int r50)] rfl ?_
  refine g_kill (j := 4) [some (.ref a0), none, none, none, none, some (.int r50)] rfl ?_
  exact w_X6_does_298 a0 a1 a2 a3 a4 a5 a6 a7 a8 a9 a10 a11  X  r r_code r_lineParts r_pulseMany r_left r_dropped r_merged r_drops r_contributions r_packet r_peelResult r_peelTime r_peelSum r_m r_lengths r_fractions r_times r_energies r_far r_near r_echoes    v_savedCount v_scriptLength 0 w51_lineParts w52_pulseMany w53_left w54_dropped w55_merged w56_drops w57_contributions w58_packet w59_peelResult w60_peelTime w61_peelSum v_at v_commands v_hash w62_m v_saved v_script w63_lengths w64_fractions w65_times w66_energies w67_far w68_near w69_echoes v_draft r50 h
/-! LineEchoesModel.here()I -/
abbrev rm_X6_here : Room := { frames := 0, cells := 0, slots := 0, locals := 0 }
def F_X6_here_24 (s0 : Int32) : Option (Int32) :=
  some s0
def F_X6_here (v_scriptLength : Int32) (v_at : Int32) (v_script : Nat → Int32) : Option (Int32) :=
  if v_scriptLength ≤ v_at then
    (F_X6_here_24 (-1))
  else
    (gin v_at 120 <|
    F_X6_here_24 (v_script v_at.toNatClampNeg))
theorem w_X6_here_24 {p : Program} {l : Launch} {e : Env} {s : State} {m : MethodId} {args : Array Value} {below : List Frame} {meth : Method} {c : Code} {Z : gZt} {A : Nat → Prop} (a0 : Nat) (a1 : Nat) (a2 : Nat) (a3 : Nat) (a4 : Nat) (a5 : Nat) (a6 : Nat) (a7 : Nat) (a8 : Nat) (a9 : Nat) (a10 : Nat) (a11 : Nat) (X : gX p s m args meth c Z A cX6_here "LineEchoesModel" 1 (some .int) []) (r : Int32)  (v_savedCount : Int32) (v_scriptLength : Int32) (v_code : Int32) (v_lineParts : Int32) (v_pulseMany : Int32) (v_left : Int64) (v_dropped : Int64) (v_merged : Int32) (v_drops : Int32) (v_contributions : Int32) (v_packet : Int64) (v_peelResult : Int32) (v_peelTime : Int32) (v_peelSum : Int32) (v_at : Int32) (v_commands : Int32) (v_hash : Int64) (v_m : Nat → Int64) (v_saved : Nat → Int64) (v_script : Nat → Int32) (v_lengths : Nat → Int32) (v_fractions : Nat → Int32) (v_times : Nat → Int32) (v_energies : Nat → Int64) (v_far : Nat → Int64) (v_near : Nat → Int64) (v_echoes : Nat → Int64) (v_draft : Nat → Int32) (s0 : Int32) (h : F_X6_here_24 s0 = some r) : G p l e rm_X6_here s m args below meth c Z A 1 (MQ below (gPost Z A (fun _ : Unit => (some (.int r) : Option Value)) (fun _ : Unit => ([(a0, .inr (5, [.ref a1, .ref a2, .int v_savedCount, .ref a3, .int v_scriptLength, .int v_code, .int v_lineParts, .ref a4, .ref a5, .int v_pulseMany, .ref a6, .ref a7, .ref a8, .ref a9, .ref a10, .long v_left, .long v_dropped, .int v_merged, .int v_drops, .int v_contributions, .long v_packet, .int v_peelResult, .int v_peelTime, .int v_peelSum, .int v_at, .int v_commands, .ref a11, .long v_hash])), (a1, .inl (Z.2 1, 431, .inr (.inl v_m))), (a2, .inl (Z.2 1, 1293, .inr (.inl v_saved))), (a3, .inl (Z.2 0, 120, .inl v_script)), (a4, .inl (Z.2 0, 8, .inl v_lengths)), (a5, .inl (Z.2 0, 9, .inl v_fractions)), (a6, .inl (Z.2 0, 4, .inl v_times)), (a7, .inl (Z.2 1, 4, .inr (.inl v_energies))), (a8, .inl (Z.2 1, 1809, .inr (.inl v_far))), (a9, .inl (Z.2 1, 1809, .inr (.inl v_near))), (a10, .inl (Z.2 1, 201, .inr (.inl v_echoes))), (a11, .inl (Z.2 0, 120, .inl v_draft))] : va_W))) args s 0 0 A) [(a0, .inr (5, [.ref a1, .ref a2, .int v_savedCount, .ref a3, .int v_scriptLength, .int v_code, .int v_lineParts, .ref a4, .ref a5, .int v_pulseMany, .ref a6, .ref a7, .ref a8, .ref a9, .ref a10, .long v_left, .long v_dropped, .int v_merged, .int v_drops, .int v_contributions, .long v_packet, .int v_peelResult, .int v_peelTime, .int v_peelSum, .int v_at, .int v_commands, .ref a11, .long v_hash])), (a1, .inl (Z.2 1, 431, .inr (.inl v_m))), (a2, .inl (Z.2 1, 1293, .inr (.inl v_saved))), (a3, .inl (Z.2 0, 120, .inl v_script)), (a4, .inl (Z.2 0, 8, .inl v_lengths)), (a5, .inl (Z.2 0, 9, .inl v_fractions)), (a6, .inl (Z.2 0, 4, .inl v_times)), (a7, .inl (Z.2 1, 4, .inr (.inl v_energies))), (a8, .inl (Z.2 1, 1809, .inr (.inl v_far))), (a9, .inl (Z.2 1, 1809, .inr (.inl v_near))), (a10, .inl (Z.2 1, 201, .inr (.inl v_echoes))), (a11, .inl (Z.2 0, 120, .inl v_draft))] 0 0 24 [none] [.int s0] := by
  unfold F_X6_here_24 at h
  cases h
  exact g_iret X dX6_here_24 () rfl rfl (Nat.le_of_ble_eq_true rfl) (Nat.le_of_ble_eq_true rfl)
theorem met_X6_here (l : Launch) (Z : gZt) (a0 : Nat) (a1 : Nat) (a2 : Nat) (a3 : Nat) (a4 : Nat) (a5 : Nat) (a6 : Nat) (a7 : Nat) (a8 : Nat) (a9 : Nat) (a10 : Nat) (a11 : Nat) (v_savedCount : Int32) (v_scriptLength : Int32) (v_code : Int32) (v_lineParts : Int32) (v_pulseMany : Int32) (v_left : Int64) (v_dropped : Int64) (v_merged : Int32) (v_drops : Int32) (v_contributions : Int32) (v_packet : Int64) (v_peelResult : Int32) (v_peelTime : Int32) (v_peelSum : Int32) (v_at : Int32) (v_commands : Int32) (v_hash : Int64) (v_m : Nat → Int64) (v_saved : Nat → Int64) (v_script : Nat → Int32) (v_lengths : Nat → Int32) (v_fractions : Nat → Int32) (v_times : Nat → Int32) (v_energies : Nat → Int64) (v_far : Nat → Int64) (v_near : Nat → Int64) (v_echoes : Nat → Int64) (v_draft : Nat → Int32) (r : Int32) (h : F_X6_here v_scriptLength v_at v_script = some r) : Ct l yX6_here (ws_ yX6_here cX6_here 1 (some .int)) rm_X6_here Z [.ref a0] [(a0, .inr (5, [.ref a1, .ref a2, .int v_savedCount, .ref a3, .int v_scriptLength, .int v_code, .int v_lineParts, .ref a4, .ref a5, .int v_pulseMany, .ref a6, .ref a7, .ref a8, .ref a9, .ref a10, .long v_left, .long v_dropped, .int v_merged, .int v_drops, .int v_contributions, .long v_packet, .int v_peelResult, .int v_peelTime, .int v_peelSum, .int v_at, .int v_commands, .ref a11, .long v_hash])), (a1, .inl (Z.2 1, 431, .inr (.inl v_m))), (a2, .inl (Z.2 1, 1293, .inr (.inl v_saved))), (a3, .inl (Z.2 0, 120, .inl v_script)), (a4, .inl (Z.2 0, 8, .inl v_lengths)), (a5, .inl (Z.2 0, 9, .inl v_fractions)), (a6, .inl (Z.2 0, 4, .inl v_times)), (a7, .inl (Z.2 1, 4, .inr (.inl v_energies))), (a8, .inl (Z.2 1, 1809, .inr (.inl v_far))), (a9, .inl (Z.2 1, 1809, .inr (.inl v_near))), (a10, .inl (Z.2 1, 201, .inr (.inl v_echoes))), (a11, .inl (Z.2 0, 120, .inl v_draft))] [] (fun _ : Unit => (some (.int r) : Option Value)) (fun _ : Unit => ([(a0, .inr (5, [.ref a1, .ref a2, .int v_savedCount, .ref a3, .int v_scriptLength, .int v_code, .int v_lineParts, .ref a4, .ref a5, .int v_pulseMany, .ref a6, .ref a7, .ref a8, .ref a9, .ref a10, .long v_left, .long v_dropped, .int v_merged, .int v_drops, .int v_contributions, .long v_packet, .int v_peelResult, .int v_peelTime, .int v_peelSum, .int v_at, .int v_commands, .ref a11, .long v_hash])), (a1, .inl (Z.2 1, 431, .inr (.inl v_m))), (a2, .inl (Z.2 1, 1293, .inr (.inl v_saved))), (a3, .inl (Z.2 0, 120, .inl v_script)), (a4, .inl (Z.2 0, 8, .inl v_lengths)), (a5, .inl (Z.2 0, 9, .inl v_fractions)), (a6, .inl (Z.2 0, 4, .inl v_times)), (a7, .inl (Z.2 1, 4, .inr (.inl v_energies))), (a8, .inl (Z.2 1, 1809, .inr (.inl v_far))), (a9, .inl (Z.2 1, 1809, .inr (.inl v_near))), (a10, .inl (Z.2 1, 201, .inr (.inl v_echoes))), (a11, .inl (Z.2 0, 120, .inl v_draft))] : va_W)) := by
  refine Ct.of cX6_here 1 (some .int) "LineEchoesModel" [some (.ref a0)] 0 (by decide) rfl (Nat.le_of_ble_eq_true rfl) rfl (fun p e s m args below meth c A X hin => ?_)
  unfold F_X6_here at h
  refine g_aload_n X rfl dX6_here_0 1 rfl ?_
  refine g_get X gC5 0 rfl 24 (by decide) q1366 (fun _ h9 => h9) rfl dX6_here_1 4 rfl ?_
  refine g_aload_n X rfl dX6_here_4 5 rfl ?_
  refine g_get X gC5 0 rfl 4 (by decide) q1346 (fun _ h9 => h9) rfl dX6_here_5 8 rfl ?_
  refine g_icmp_ge X dX6_here_8 23 (by decide) 11 rfl (fun hc => ?_) (fun hc => ?_)
  · replace h := if_t hc h
    refine g_iconst X (-1) dX6_here_23 24 rfl kI_m1 ?_
    refine g_kill (j := 0) [none] rfl ?_
    exact w_X6_here_24 a0 a1 a2 a3 a4 a5 a6 a7 a8 a9 a10 a11  X  r    v_savedCount v_scriptLength v_code v_lineParts v_pulseMany v_left v_dropped v_merged v_drops v_contributions v_packet v_peelResult v_peelTime v_peelSum v_at v_commands v_hash v_m v_saved v_script v_lengths v_fractions v_times v_energies v_far v_near v_echoes v_draft (-1) h
  · replace h := if_f hc h
    refine g_aload_n X rfl dX6_here_11 12 rfl ?_
    refine g_get X gC5 0 rfl 3 (by decide) q1345 (fun _ h9 => h9) rfl dX6_here_12 15 rfl ?_
    refine g_aload_n X rfl dX6_here_15 16 rfl ?_
    refine g_get X gC5 0 rfl 24 (by decide) q1366 (fun _ h9 => h9) rfl dX6_here_16 19 rfl ?_
    obtain ⟨hi, h⟩ := gin_e h
    refine g_iald X 3 rfl hi dX6_here_19 20 rfl ?_
    refine g_goto X dX6_here_20 24 (by decide) ?_
    refine g_kill (j := 0) [none] rfl ?_
    exact w_X6_here_24 a0 a1 a2 a3 a4 a5 a6 a7 a8 a9 a10 a11  X  r    v_savedCount v_scriptLength v_code v_lineParts v_pulseMany v_left v_dropped v_merged v_drops v_contributions v_packet v_peelResult v_peelTime v_peelSum v_at v_commands v_hash v_m v_saved v_script v_lengths v_fractions v_times v_energies v_far v_near v_echoes v_draft (v_script v_at.toNatClampNeg) h
/-! LineEchoesModel.spaces()Z -/
abbrev rm_X6_spaces : Room := { frames := 1, cells := 0, slots := 0, locals := 20 }
def B_X6_spaces_5 (K5 : (Int32) → (Int32) → (Nat → Int32) → (Int32) → Option (Int32 × Int32)) (v_scriptLength : Int32) (v_at : Int32) (v_script : Nat → Int32) (x1 : Int32) : Option (Int32 × Int32) :=
  bd1 (F_X6_here v_scriptLength v_at v_script) fun r1 =>
  if r1 = 32 then
    (K5 v_scriptLength (v_at + 1) v_script x1)
  else
    (some ((if v_at ≤ x1 then (0 : Int32) else 1), v_at))
def F_X6_spaces_5 : Nat → (Int32) → (Int32) → (Nat → Int32) → (Int32) → Option (Int32 × Int32)
  | 0 => fun _ _ _ _ => none
  | n + 1 => B_X6_spaces_5 (F_X6_spaces_5 n)
def F_X6_spaces (v_scriptLength : Int32) (v_at : Int32) (v_script : Nat → Int32) : Option (Int32 × Int32) :=
  F_X6_spaces_5 gFU v_scriptLength v_at v_script v_at
theorem w_X6_spaces_5 {p : Program} {l : Launch} {e : Env} {s : State} {m : MethodId} {args : Array Value} {below : List Frame} {meth : Method} {c : Code} {Z : gZt} {A : Nat → Prop} (a0 : Nat) (a1 : Nat) (a2 : Nat) (a3 : Nat) (a4 : Nat) (a5 : Nat) (a6 : Nat) (a7 : Nat) (a8 : Nat) (a9 : Nat) (a10 : Nat) (a11 : Nat) (X : gX p s m args meth c Z A cX6_spaces "LineEchoesModel" 2 (some .boolean) []) (r : Int32) (r_at : Int32)  : ∀ (n : Nat) (v_savedCount : Int32) (v_scriptLength : Int32) (v_code : Int32) (v_lineParts : Int32) (v_pulseMany : Int32) (v_left : Int64) (v_dropped : Int64) (v_merged : Int32) (v_drops : Int32) (v_contributions : Int32) (v_packet : Int64) (v_peelResult : Int32) (v_peelTime : Int32) (v_peelSum : Int32) (v_at : Int32) (v_commands : Int32) (v_hash : Int64) (v_m : Nat → Int64) (v_saved : Nat → Int64) (v_script : Nat → Int32) (v_lengths : Nat → Int32) (v_fractions : Nat → Int32) (v_times : Nat → Int32) (v_energies : Nat → Int64) (v_far : Nat → Int64) (v_near : Nat → Int64) (v_echoes : Nat → Int64) (v_draft : Nat → Int32) (x1 : Int32), F_X6_spaces_5 n v_scriptLength v_at v_script x1 = some (r, r_at) → G p l e rm_X6_spaces s m args below meth c Z A 2 (MQ below (gPost Z A (fun _ : Unit => (some (.int r) : Option Value)) (fun _ : Unit => ([(a0, .inr (5, [.ref a1, .ref a2, .int v_savedCount, .ref a3, .int v_scriptLength, .int v_code, .int v_lineParts, .ref a4, .ref a5, .int v_pulseMany, .ref a6, .ref a7, .ref a8, .ref a9, .ref a10, .long v_left, .long v_dropped, .int v_merged, .int v_drops, .int v_contributions, .long v_packet, .int v_peelResult, .int v_peelTime, .int v_peelSum, .int r_at, .int v_commands, .ref a11, .long v_hash])), (a1, .inl (Z.2 1, 431, .inr (.inl v_m))), (a2, .inl (Z.2 1, 1293, .inr (.inl v_saved))), (a3, .inl (Z.2 0, 120, .inl v_script)), (a4, .inl (Z.2 0, 8, .inl v_lengths)), (a5, .inl (Z.2 0, 9, .inl v_fractions)), (a6, .inl (Z.2 0, 4, .inl v_times)), (a7, .inl (Z.2 1, 4, .inr (.inl v_energies))), (a8, .inl (Z.2 1, 1809, .inr (.inl v_far))), (a9, .inl (Z.2 1, 1809, .inr (.inl v_near))), (a10, .inl (Z.2 1, 201, .inr (.inl v_echoes))), (a11, .inl (Z.2 0, 120, .inl v_draft))] : va_W))) args s 0 0 A) [(a0, .inr (5, [.ref a1, .ref a2, .int v_savedCount, .ref a3, .int v_scriptLength, .int v_code, .int v_lineParts, .ref a4, .ref a5, .int v_pulseMany, .ref a6, .ref a7, .ref a8, .ref a9, .ref a10, .long v_left, .long v_dropped, .int v_merged, .int v_drops, .int v_contributions, .long v_packet, .int v_peelResult, .int v_peelTime, .int v_peelSum, .int v_at, .int v_commands, .ref a11, .long v_hash])), (a1, .inl (Z.2 1, 431, .inr (.inl v_m))), (a2, .inl (Z.2 1, 1293, .inr (.inl v_saved))), (a3, .inl (Z.2 0, 120, .inl v_script)), (a4, .inl (Z.2 0, 8, .inl v_lengths)), (a5, .inl (Z.2 0, 9, .inl v_fractions)), (a6, .inl (Z.2 0, 4, .inl v_times)), (a7, .inl (Z.2 1, 4, .inr (.inl v_energies))), (a8, .inl (Z.2 1, 1809, .inr (.inl v_far))), (a9, .inl (Z.2 1, 1809, .inr (.inl v_near))), (a10, .inl (Z.2 1, 201, .inr (.inl v_echoes))), (a11, .inl (Z.2 0, 120, .inl v_draft))] 0 0 5 [some (.ref a0), some (.int x1)] [] := by
  intro n
  induction n with
  | zero =>
    intro v_savedCount v_scriptLength v_code v_lineParts v_pulseMany v_left v_dropped v_merged v_drops v_contributions v_packet v_peelResult v_peelTime v_peelSum v_at v_commands v_hash v_m v_saved v_script v_lengths v_fractions v_times v_energies v_far v_near v_echoes v_draft x1 h
    cases h
  | succ n hK5 =>
    intro v_savedCount v_scriptLength v_code v_lineParts v_pulseMany v_left v_dropped v_merged v_drops v_contributions v_packet v_peelResult v_peelTime v_peelSum v_at v_commands v_hash v_m v_saved v_script v_lengths v_fractions v_times v_energies v_far v_near v_echoes v_draft x1 h
    replace h : B_X6_spaces_5 (F_X6_spaces_5 n) v_scriptLength v_at v_script x1 = some (r, r_at) := h
    unfold B_X6_spaces_5 at h
    refine g_aload_n X rfl dX6_spaces_5 6 rfl ?_
    obtain ⟨r1, hcl, h⟩ := bd1_e h
    refine g_callV1W X (met_X6_here l Z a0 a1 a2 a3 a4 a5 a6 a7 a8 a9 a10 a11 v_savedCount v_scriptLength v_code v_lineParts v_pulseMany v_left v_dropped v_merged v_drops v_contributions v_packet v_peelResult v_peelTime v_peelSum v_at v_commands v_hash v_m v_saved v_script v_lengths v_fractions v_times v_energies v_far v_near v_echoes v_draft  r1 hcl) rfl 0 gC5 rfl rfl (lw_V q1725 q1727 qs61 q74 q1728) md_X6_here ⟨(Nat.le_of_ble_eq_true rfl), (Nat.le_of_ble_eq_true rfl)⟩ rfl dX6_spaces_6 9 rfl 0 0 rfl rfl (Nat.le_of_ble_eq_true rfl) (Nat.le_of_ble_eq_true rfl) (st := []) rfl (Nat.le_of_ble_eq_true rfl) (fun _ => rfl) (fun _ => ?_)
    refine g_bipush X 32 dX6_spaces_9 11 rfl kB_32 ?_
    refine g_icmp_ne X dX6_spaces_11 27 (by decide) 14 rfl (fun hc => ?_) (fun hc => ?_)
    · replace h := if_f hc h
      refine g_aload_n X rfl dX6_spaces_27 28 rfl ?_
      refine g_get X gC5 0 rfl 24 (by decide) q1366 (fun _ h9 => h9) rfl dX6_spaces_28 31 rfl ?_
      refine g_iload_n X rfl dX6_spaces_31 32 rfl ?_
      refine g_seli 40 [] (b := v_at ≤ x1) 0 1 ?_ (fun hc K => ?_) (fun hc K => ?_)
      · cases h
        exact g_zret X dX6_spaces_40 (gb_if gb_0 gb_1) () rfl rfl (Nat.le_of_ble_eq_true rfl) (Nat.le_of_ble_eq_true rfl)
      · refine g_icmp_le X dX6_spaces_32 39 (by decide) 35 rfl (fun _ => ?_) (fun hn => absurd hc hn)
        refine g_iconst X 0 dX6_spaces_39 40 rfl kI_0 ?_
        exact K
      · refine g_icmp_le X dX6_spaces_32 39 (by decide) 35 rfl (fun hn => absurd hn hc) (fun _ => ?_)
        refine g_iconst X 1 dX6_spaces_35 36 rfl kI_1 ?_
        refine g_goto X dX6_spaces_36 40 (by decide) ?_
        exact K
    · replace h := if_t hc h
      refine g_aload_n X rfl dX6_spaces_14 15 rfl ?_
      refine g_dup X dX6_spaces_15 16 rfl rfl ?_
      refine g_get X gC5 0 rfl 24 (by decide) q1366 (fun _ h9 => h9) rfl dX6_spaces_16 19 rfl ?_
      refine g_iconst X 1 dX6_spaces_19 20 rfl kI_1 ?_
      refine g_iadd X dX6_spaces_20 21 rfl ?_
      refine g_put X gC5 0 rfl 24 (by decide) q1366 (fun _ h9 => h9) rfl rfl rfl (Nat.le_of_ble_eq_true rfl) dX6_spaces_21 24 rfl ?_
      refine g_goto X dX6_spaces_24 5 (by decide) ?_
      exact hK5 v_savedCount v_scriptLength v_code v_lineParts v_pulseMany v_left v_dropped v_merged v_drops v_contributions v_packet v_peelResult v_peelTime v_peelSum (v_at + 1) v_commands v_hash v_m v_saved v_script v_lengths v_fractions v_times v_energies v_far v_near v_echoes v_draft x1 h
theorem met_X6_spaces (l : Launch) (Z : gZt) (a0 : Nat) (a1 : Nat) (a2 : Nat) (a3 : Nat) (a4 : Nat) (a5 : Nat) (a6 : Nat) (a7 : Nat) (a8 : Nat) (a9 : Nat) (a10 : Nat) (a11 : Nat) (v_savedCount : Int32) (v_scriptLength : Int32) (v_code : Int32) (v_lineParts : Int32) (v_pulseMany : Int32) (v_left : Int64) (v_dropped : Int64) (v_merged : Int32) (v_drops : Int32) (v_contributions : Int32) (v_packet : Int64) (v_peelResult : Int32) (v_peelTime : Int32) (v_peelSum : Int32) (v_at : Int32) (v_commands : Int32) (v_hash : Int64) (v_m : Nat → Int64) (v_saved : Nat → Int64) (v_script : Nat → Int32) (v_lengths : Nat → Int32) (v_fractions : Nat → Int32) (v_times : Nat → Int32) (v_energies : Nat → Int64) (v_far : Nat → Int64) (v_near : Nat → Int64) (v_echoes : Nat → Int64) (v_draft : Nat → Int32) (r : Int32) (r_at : Int32) (h : F_X6_spaces v_scriptLength v_at v_script = some (r, r_at)) : Ct l yX6_spaces (ws_ yX6_spaces cX6_spaces 2 (some .boolean)) rm_X6_spaces Z [.ref a0] [(a0, .inr (5, [.ref a1, .ref a2, .int v_savedCount, .ref a3, .int v_scriptLength, .int v_code, .int v_lineParts, .ref a4, .ref a5, .int v_pulseMany, .ref a6, .ref a7, .ref a8, .ref a9, .ref a10, .long v_left, .long v_dropped, .int v_merged, .int v_drops, .int v_contributions, .long v_packet, .int v_peelResult, .int v_peelTime, .int v_peelSum, .int v_at, .int v_commands, .ref a11, .long v_hash])), (a1, .inl (Z.2 1, 431, .inr (.inl v_m))), (a2, .inl (Z.2 1, 1293, .inr (.inl v_saved))), (a3, .inl (Z.2 0, 120, .inl v_script)), (a4, .inl (Z.2 0, 8, .inl v_lengths)), (a5, .inl (Z.2 0, 9, .inl v_fractions)), (a6, .inl (Z.2 0, 4, .inl v_times)), (a7, .inl (Z.2 1, 4, .inr (.inl v_energies))), (a8, .inl (Z.2 1, 1809, .inr (.inl v_far))), (a9, .inl (Z.2 1, 1809, .inr (.inl v_near))), (a10, .inl (Z.2 1, 201, .inr (.inl v_echoes))), (a11, .inl (Z.2 0, 120, .inl v_draft))] [] (fun _ : Unit => (some (.int r) : Option Value)) (fun _ : Unit => ([(a0, .inr (5, [.ref a1, .ref a2, .int v_savedCount, .ref a3, .int v_scriptLength, .int v_code, .int v_lineParts, .ref a4, .ref a5, .int v_pulseMany, .ref a6, .ref a7, .ref a8, .ref a9, .ref a10, .long v_left, .long v_dropped, .int v_merged, .int v_drops, .int v_contributions, .long v_packet, .int v_peelResult, .int v_peelTime, .int v_peelSum, .int r_at, .int v_commands, .ref a11, .long v_hash])), (a1, .inl (Z.2 1, 431, .inr (.inl v_m))), (a2, .inl (Z.2 1, 1293, .inr (.inl v_saved))), (a3, .inl (Z.2 0, 120, .inl v_script)), (a4, .inl (Z.2 0, 8, .inl v_lengths)), (a5, .inl (Z.2 0, 9, .inl v_fractions)), (a6, .inl (Z.2 0, 4, .inl v_times)), (a7, .inl (Z.2 1, 4, .inr (.inl v_energies))), (a8, .inl (Z.2 1, 1809, .inr (.inl v_far))), (a9, .inl (Z.2 1, 1809, .inr (.inl v_near))), (a10, .inl (Z.2 1, 201, .inr (.inl v_echoes))), (a11, .inl (Z.2 0, 120, .inl v_draft))] : va_W)) := by
  refine Ct.of cX6_spaces 2 (some .boolean) "LineEchoesModel" [some (.ref a0), none] 1 (by decide) rfl (Nat.le_of_ble_eq_true rfl) rfl (fun p e s m args below meth c A X hin => ?_)
  unfold F_X6_spaces at h
  refine g_aload_n X rfl dX6_spaces_0 1 rfl ?_
  refine g_get X gC5 0 rfl 24 (by decide) q1366 (fun _ h9 => h9) rfl dX6_spaces_1 4 rfl ?_
  refine g_istore_n X dX6_spaces_4 5 rfl (Nat.le_of_ble_eq_true rfl) rfl [some (.ref a0), some (.int v_at)] rfl ?_
  exact w_X6_spaces_5 a0 a1 a2 a3 a4 a5 a6 a7 a8 a9 a10 a11  X  r r_at    gFU v_savedCount v_scriptLength v_code v_lineParts v_pulseMany v_left v_dropped v_merged v_drops v_contributions v_packet v_peelResult v_peelTime v_peelSum v_at v_commands v_hash v_m v_saved v_script v_lengths v_fractions v_times v_energies v_far v_near v_echoes v_draft v_at h
/-! LineEchoesModel.readNumber(I)Z -/
abbrev rm_X6_readNumber : Room := { frames := 2, cells := 0, slots := 0, locals := 41 }
def F_X6_readNumber_107 (v_at : Int32) (v_draft : Nat → Int32) (s0 : Int32) : Option (Int32 × Int32 × (Nat → Int32)) :=
  gch (s0 = 0 ∨ s0 = 1) <|
  some (s0, v_at, v_draft)
def F_X6_readNumber_106 (v_at : Int32) (v_draft : Nat → Int32) : Option (Int32 × Int32 × (Nat → Int32)) :=
  F_X6_readNumber_107 v_at v_draft 0
def F_X6_readNumber_70 (v_scriptLength : Int32) (v_at : Int32) (v_script : Nat → Int32) (v_draft : Nat → Int32) (x1 : Int32) (x2 : Int32) (x3 : Int32) : Option (Int32 × Int32 × (Nat → Int32)) :=
  gin x1 120 <|
  if v_at ≤ x2 then
    (F_X6_readNumber_106 v_at (upd v_draft x1.toNatClampNeg x3))
  else
    (bd1 (F_X6_here v_scriptLength v_at v_script) fun r1 =>
    bd1 (F_X6_in r1.toInt64 48 57) fun r2 =>
    if r2 = 0 then
      (F_X6_readNumber_107 v_at (upd v_draft x1.toNatClampNeg x3) 1)
    else
      (F_X6_readNumber_106 v_at (upd v_draft x1.toNatClampNeg x3)))
def B_X6_readNumber_16 (K16 : (Int32) → (Int32) → (Nat → Int32) → (Nat → Int32) → (Int32) → (Int32) → (Int32) → Option (Int32 × Int32 × (Nat → Int32))) (v_scriptLength : Int32) (v_at : Int32) (v_script : Nat → Int32) (v_draft : Nat → Int32) (x1 : Int32) (x2 : Int32) (x3 : Int32) : Option (Int32 × Int32 × (Nat → Int32)) :=
  if (x2 + 6) ≤ v_at then
    (F_X6_readNumber_70 v_scriptLength v_at v_script v_draft x1 x2 x3)
  else
    (bd1 (F_X6_here v_scriptLength v_at v_script) fun r1 =>
    bd1 (F_X6_in r1.toInt64 48 57) fun r2 =>
    if r2 = 0 then
      (F_X6_readNumber_70 v_scriptLength v_at v_script v_draft x1 x2 x3)
    else
      (bd1 (F_X6_here v_scriptLength v_at v_script) fun r3 =>
      K16 v_scriptLength (v_at + 1) v_script v_draft x1 x2 (((10 * x3) + r3) - 48)))
def F_X6_readNumber_16 : Nat → (Int32) → (Int32) → (Nat → Int32) → (Nat → Int32) → (Int32) → (Int32) → (Int32) → Option (Int32 × Int32 × (Nat → Int32))
  | 0 => fun _ _ _ _ _ _ _ => none
  | n + 1 => B_X6_readNumber_16 (F_X6_readNumber_16 n)
def F_X6_readNumber (v_scriptLength : Int32) (v_at : Int32) (v_script : Nat → Int32) (v_draft : Nat → Int32) (x1 : Int32) : Option (Int32 × Int32 × (Nat → Int32)) :=
  bd2 (F_X6_spaces v_scriptLength v_at v_script) fun r1 w2_at =>
  if r1 = 0 then
    (some (0, w2_at, v_draft))
  else
    (F_X6_readNumber_16 gFU v_scriptLength w2_at v_script v_draft x1 w2_at 0)
theorem w_X6_readNumber_107 {p : Program} {l : Launch} {e : Env} {s : State} {m : MethodId} {args : Array Value} {below : List Frame} {meth : Method} {c : Code} {Z : gZt} {A : Nat → Prop} (a0 : Nat) (a1 : Nat) (a2 : Nat) (a3 : Nat) (a4 : Nat) (a5 : Nat) (a6 : Nat) (a7 : Nat) (a8 : Nat) (a9 : Nat) (a10 : Nat) (a11 : Nat) (X : gX p s m args meth c Z A cX6_readNumber "LineEchoesModel" 4 (some .boolean) []) (r : Int32) (r_at : Int32) (r_draft : Nat → Int32)  (v_savedCount : Int32) (v_scriptLength : Int32) (v_code : Int32) (v_lineParts : Int32) (v_pulseMany : Int32) (v_left : Int64) (v_dropped : Int64) (v_merged : Int32) (v_drops : Int32) (v_contributions : Int32) (v_packet : Int64) (v_peelResult : Int32) (v_peelTime : Int32) (v_peelSum : Int32) (v_at : Int32) (v_commands : Int32) (v_hash : Int64) (v_m : Nat → Int64) (v_saved : Nat → Int64) (v_script : Nat → Int32) (v_lengths : Nat → Int32) (v_fractions : Nat → Int32) (v_times : Nat → Int32) (v_energies : Nat → Int64) (v_far : Nat → Int64) (v_near : Nat → Int64) (v_echoes : Nat → Int64) (v_draft : Nat → Int32) (s0 : Int32) (h : F_X6_readNumber_107 v_at v_draft s0 = some (r, r_at, r_draft)) : G p l e rm_X6_readNumber s m args below meth c Z A 4 (MQ below (gPost Z A (fun _ : Unit => (some (.int r) : Option Value)) (fun _ : Unit => ([(a0, .inr (5, [.ref a1, .ref a2, .int v_savedCount, .ref a3, .int v_scriptLength, .int v_code, .int v_lineParts, .ref a4, .ref a5, .int v_pulseMany, .ref a6, .ref a7, .ref a8, .ref a9, .ref a10, .long v_left, .long v_dropped, .int v_merged, .int v_drops, .int v_contributions, .long v_packet, .int v_peelResult, .int v_peelTime, .int v_peelSum, .int r_at, .int v_commands, .ref a11, .long v_hash])), (a1, .inl (Z.2 1, 431, .inr (.inl v_m))), (a2, .inl (Z.2 1, 1293, .inr (.inl v_saved))), (a3, .inl (Z.2 0, 120, .inl v_script)), (a4, .inl (Z.2 0, 8, .inl v_lengths)), (a5, .inl (Z.2 0, 9, .inl v_fractions)), (a6, .inl (Z.2 0, 4, .inl v_times)), (a7, .inl (Z.2 1, 4, .inr (.inl v_energies))), (a8, .inl (Z.2 1, 1809, .inr (.inl v_far))), (a9, .inl (Z.2 1, 1809, .inr (.inl v_near))), (a10, .inl (Z.2 1, 201, .inr (.inl v_echoes))), (a11, .inl (Z.2 0, 120, .inl r_draft))] : va_W))) args s 0 0 A) [(a0, .inr (5, [.ref a1, .ref a2, .int v_savedCount, .ref a3, .int v_scriptLength, .int v_code, .int v_lineParts, .ref a4, .ref a5, .int v_pulseMany, .ref a6, .ref a7, .ref a8, .ref a9, .ref a10, .long v_left, .long v_dropped, .int v_merged, .int v_drops, .int v_contributions, .long v_packet, .int v_peelResult, .int v_peelTime, .int v_peelSum, .int v_at, .int v_commands, .ref a11, .long v_hash])), (a1, .inl (Z.2 1, 431, .inr (.inl v_m))), (a2, .inl (Z.2 1, 1293, .inr (.inl v_saved))), (a3, .inl (Z.2 0, 120, .inl v_script)), (a4, .inl (Z.2 0, 8, .inl v_lengths)), (a5, .inl (Z.2 0, 9, .inl v_fractions)), (a6, .inl (Z.2 0, 4, .inl v_times)), (a7, .inl (Z.2 1, 4, .inr (.inl v_energies))), (a8, .inl (Z.2 1, 1809, .inr (.inl v_far))), (a9, .inl (Z.2 1, 1809, .inr (.inl v_near))), (a10, .inl (Z.2 1, 201, .inr (.inl v_echoes))), (a11, .inl (Z.2 0, 120, .inl v_draft))] 0 0 107 [none, none, none, none] [.int s0] := by
  unfold F_X6_readNumber_107 at h
  obtain ⟨hz, h⟩ := gch_e h
  cases h
  exact g_zret X dX6_readNumber_107 (gb_01 hz) () rfl rfl (Nat.le_of_ble_eq_true rfl) (Nat.le_of_ble_eq_true rfl)
theorem w_X6_readNumber_106 {p : Program} {l : Launch} {e : Env} {s : State} {m : MethodId} {args : Array Value} {below : List Frame} {meth : Method} {c : Code} {Z : gZt} {A : Nat → Prop} (a0 : Nat) (a1 : Nat) (a2 : Nat) (a3 : Nat) (a4 : Nat) (a5 : Nat) (a6 : Nat) (a7 : Nat) (a8 : Nat) (a9 : Nat) (a10 : Nat) (a11 : Nat) (X : gX p s m args meth c Z A cX6_readNumber "LineEchoesModel" 4 (some .boolean) []) (r : Int32) (r_at : Int32) (r_draft : Nat → Int32)  (v_savedCount : Int32) (v_scriptLength : Int32) (v_code : Int32) (v_lineParts : Int32) (v_pulseMany : Int32) (v_left : Int64) (v_dropped : Int64) (v_merged : Int32) (v_drops : Int32) (v_contributions : Int32) (v_packet : Int64) (v_peelResult : Int32) (v_peelTime : Int32) (v_peelSum : Int32) (v_at : Int32) (v_commands : Int32) (v_hash : Int64) (v_m : Nat → Int64) (v_saved : Nat → Int64) (v_script : Nat → Int32) (v_lengths : Nat → Int32) (v_fractions : Nat → Int32) (v_times : Nat → Int32) (v_energies : Nat → Int64) (v_far : Nat → Int64) (v_near : Nat → Int64) (v_echoes : Nat → Int64) (v_draft : Nat → Int32) (h : F_X6_readNumber_106 v_at v_draft = some (r, r_at, r_draft)) : G p l e rm_X6_readNumber s m args below meth c Z A 4 (MQ below (gPost Z A (fun _ : Unit => (some (.int r) : Option Value)) (fun _ : Unit => ([(a0, .inr (5, [.ref a1, .ref a2, .int v_savedCount, .ref a3, .int v_scriptLength, .int v_code, .int v_lineParts, .ref a4, .ref a5, .int v_pulseMany, .ref a6, .ref a7, .ref a8, .ref a9, .ref a10, .long v_left, .long v_dropped, .int v_merged, .int v_drops, .int v_contributions, .long v_packet, .int v_peelResult, .int v_peelTime, .int v_peelSum, .int r_at, .int v_commands, .ref a11, .long v_hash])), (a1, .inl (Z.2 1, 431, .inr (.inl v_m))), (a2, .inl (Z.2 1, 1293, .inr (.inl v_saved))), (a3, .inl (Z.2 0, 120, .inl v_script)), (a4, .inl (Z.2 0, 8, .inl v_lengths)), (a5, .inl (Z.2 0, 9, .inl v_fractions)), (a6, .inl (Z.2 0, 4, .inl v_times)), (a7, .inl (Z.2 1, 4, .inr (.inl v_energies))), (a8, .inl (Z.2 1, 1809, .inr (.inl v_far))), (a9, .inl (Z.2 1, 1809, .inr (.inl v_near))), (a10, .inl (Z.2 1, 201, .inr (.inl v_echoes))), (a11, .inl (Z.2 0, 120, .inl r_draft))] : va_W))) args s 0 0 A) [(a0, .inr (5, [.ref a1, .ref a2, .int v_savedCount, .ref a3, .int v_scriptLength, .int v_code, .int v_lineParts, .ref a4, .ref a5, .int v_pulseMany, .ref a6, .ref a7, .ref a8, .ref a9, .ref a10, .long v_left, .long v_dropped, .int v_merged, .int v_drops, .int v_contributions, .long v_packet, .int v_peelResult, .int v_peelTime, .int v_peelSum, .int v_at, .int v_commands, .ref a11, .long v_hash])), (a1, .inl (Z.2 1, 431, .inr (.inl v_m))), (a2, .inl (Z.2 1, 1293, .inr (.inl v_saved))), (a3, .inl (Z.2 0, 120, .inl v_script)), (a4, .inl (Z.2 0, 8, .inl v_lengths)), (a5, .inl (Z.2 0, 9, .inl v_fractions)), (a6, .inl (Z.2 0, 4, .inl v_times)), (a7, .inl (Z.2 1, 4, .inr (.inl v_energies))), (a8, .inl (Z.2 1, 1809, .inr (.inl v_far))), (a9, .inl (Z.2 1, 1809, .inr (.inl v_near))), (a10, .inl (Z.2 1, 201, .inr (.inl v_echoes))), (a11, .inl (Z.2 0, 120, .inl v_draft))] 0 0 106 [none, none, none, none] [] := by
  unfold F_X6_readNumber_106 at h
  refine g_iconst X 0 dX6_readNumber_106 107 rfl kI_0 ?_
  exact w_X6_readNumber_107 a0 a1 a2 a3 a4 a5 a6 a7 a8 a9 a10 a11  X  r r_at r_draft    v_savedCount v_scriptLength v_code v_lineParts v_pulseMany v_left v_dropped v_merged v_drops v_contributions v_packet v_peelResult v_peelTime v_peelSum v_at v_commands v_hash v_m v_saved v_script v_lengths v_fractions v_times v_energies v_far v_near v_echoes v_draft 0 h
theorem w_X6_readNumber_70 {p : Program} {l : Launch} {e : Env} {s : State} {m : MethodId} {args : Array Value} {below : List Frame} {meth : Method} {c : Code} {Z : gZt} {A : Nat → Prop} (a0 : Nat) (a1 : Nat) (a2 : Nat) (a3 : Nat) (a4 : Nat) (a5 : Nat) (a6 : Nat) (a7 : Nat) (a8 : Nat) (a9 : Nat) (a10 : Nat) (a11 : Nat) (X : gX p s m args meth c Z A cX6_readNumber "LineEchoesModel" 4 (some .boolean) []) (r : Int32) (r_at : Int32) (r_draft : Nat → Int32)  (v_savedCount : Int32) (v_scriptLength : Int32) (v_code : Int32) (v_lineParts : Int32) (v_pulseMany : Int32) (v_left : Int64) (v_dropped : Int64) (v_merged : Int32) (v_drops : Int32) (v_contributions : Int32) (v_packet : Int64) (v_peelResult : Int32) (v_peelTime : Int32) (v_peelSum : Int32) (v_at : Int32) (v_commands : Int32) (v_hash : Int64) (v_m : Nat → Int64) (v_saved : Nat → Int64) (v_script : Nat → Int32) (v_lengths : Nat → Int32) (v_fractions : Nat → Int32) (v_times : Nat → Int32) (v_energies : Nat → Int64) (v_far : Nat → Int64) (v_near : Nat → Int64) (v_echoes : Nat → Int64) (v_draft : Nat → Int32) (x1 : Int32) (x2 : Int32) (x3 : Int32) (h : F_X6_readNumber_70 v_scriptLength v_at v_script v_draft x1 x2 x3 = some (r, r_at, r_draft)) : G p l e rm_X6_readNumber s m args below meth c Z A 4 (MQ below (gPost Z A (fun _ : Unit => (some (.int r) : Option Value)) (fun _ : Unit => ([(a0, .inr (5, [.ref a1, .ref a2, .int v_savedCount, .ref a3, .int v_scriptLength, .int v_code, .int v_lineParts, .ref a4, .ref a5, .int v_pulseMany, .ref a6, .ref a7, .ref a8, .ref a9, .ref a10, .long v_left, .long v_dropped, .int v_merged, .int v_drops, .int v_contributions, .long v_packet, .int v_peelResult, .int v_peelTime, .int v_peelSum, .int r_at, .int v_commands, .ref a11, .long v_hash])), (a1, .inl (Z.2 1, 431, .inr (.inl v_m))), (a2, .inl (Z.2 1, 1293, .inr (.inl v_saved))), (a3, .inl (Z.2 0, 120, .inl v_script)), (a4, .inl (Z.2 0, 8, .inl v_lengths)), (a5, .inl (Z.2 0, 9, .inl v_fractions)), (a6, .inl (Z.2 0, 4, .inl v_times)), (a7, .inl (Z.2 1, 4, .inr (.inl v_energies))), (a8, .inl (Z.2 1, 1809, .inr (.inl v_far))), (a9, .inl (Z.2 1, 1809, .inr (.inl v_near))), (a10, .inl (Z.2 1, 201, .inr (.inl v_echoes))), (a11, .inl (Z.2 0, 120, .inl r_draft))] : va_W))) args s 0 0 A) [(a0, .inr (5, [.ref a1, .ref a2, .int v_savedCount, .ref a3, .int v_scriptLength, .int v_code, .int v_lineParts, .ref a4, .ref a5, .int v_pulseMany, .ref a6, .ref a7, .ref a8, .ref a9, .ref a10, .long v_left, .long v_dropped, .int v_merged, .int v_drops, .int v_contributions, .long v_packet, .int v_peelResult, .int v_peelTime, .int v_peelSum, .int v_at, .int v_commands, .ref a11, .long v_hash])), (a1, .inl (Z.2 1, 431, .inr (.inl v_m))), (a2, .inl (Z.2 1, 1293, .inr (.inl v_saved))), (a3, .inl (Z.2 0, 120, .inl v_script)), (a4, .inl (Z.2 0, 8, .inl v_lengths)), (a5, .inl (Z.2 0, 9, .inl v_fractions)), (a6, .inl (Z.2 0, 4, .inl v_times)), (a7, .inl (Z.2 1, 4, .inr (.inl v_energies))), (a8, .inl (Z.2 1, 1809, .inr (.inl v_far))), (a9, .inl (Z.2 1, 1809, .inr (.inl v_near))), (a10, .inl (Z.2 1, 201, .inr (.inl v_echoes))), (a11, .inl (Z.2 0, 120, .inl v_draft))] 0 0 70 [some (.ref a0), some (.int x1), some (.int x2), some (.int x3)] [] := by
  unfold F_X6_readNumber_70 at h
  refine g_aload_n X rfl dX6_readNumber_70 71 rfl ?_
  refine g_get X gC5 0 rfl 26 (by decide) q1368 (fun _ h9 => h9) rfl dX6_readNumber_71 74 rfl ?_
  refine g_iload_n X rfl dX6_readNumber_74 75 rfl ?_
  refine g_iload_n X rfl dX6_readNumber_75 76 rfl ?_
  obtain ⟨hi, h⟩ := gin_e h
  refine g_iast X 11 rfl hi dX6_readNumber_76 77 rfl ?_
  refine g_aload_n X rfl dX6_readNumber_77 78 rfl ?_
  refine g_get X gC5 0 rfl 24 (by decide) q1366 (fun _ h9 => h9) rfl dX6_readNumber_78 81 rfl ?_
  refine g_iload_n X rfl dX6_readNumber_81 82 rfl ?_
  refine g_icmp_le X dX6_readNumber_82 106 (by decide) 85 rfl (fun hc => ?_) (fun hc => ?_)
  · replace h := if_t hc h
    refine g_kill (j := 0) [none, some (.int x1), some (.int x2), some (.int x3)] rfl ?_
    refine g_kill (j := 1) [none, none, some (.int x2), some (.int x3)] rfl ?_
    refine g_kill (j := 2) [none, none, none, some (.int x3)] rfl ?_
    refine g_kill (j := 3) [none, none, none, none] rfl ?_
    exact w_X6_readNumber_106 a0 a1 a2 a3 a4 a5 a6 a7 a8 a9 a10 a11  X  r r_at r_draft    v_savedCount v_scriptLength v_code v_lineParts v_pulseMany v_left v_dropped v_merged v_drops v_contributions v_packet v_peelResult v_peelTime v_peelSum v_at v_commands v_hash v_m v_saved v_script v_lengths v_fractions v_times v_energies v_far v_near v_echoes (upd v_draft x1.toNatClampNeg x3) h
  · replace h := if_f hc h
    refine g_aload_n X rfl dX6_readNumber_85 86 rfl ?_
    obtain ⟨r1, hcl, h⟩ := bd1_e h
    refine g_callV1W X (met_X6_here l Z a0 a1 a2 a3 a4 a5 a6 a7 a8 a9 a10 a11 v_savedCount v_scriptLength v_code v_lineParts v_pulseMany v_left v_dropped v_merged v_drops v_contributions v_packet v_peelResult v_peelTime v_peelSum v_at v_commands v_hash v_m v_saved v_script v_lengths v_fractions v_times v_energies v_far v_near v_echoes (upd v_draft x1.toNatClampNeg x3)  r1 hcl) rfl 0 gC5 rfl rfl (lw_V q1725 q1727 qs61 q74 q1728) md_X6_here ⟨(Nat.le_of_ble_eq_true rfl), (Nat.le_of_ble_eq_true rfl)⟩ rfl dX6_readNumber_86 89 rfl 0 0 rfl rfl (Nat.le_of_ble_eq_true rfl) (Nat.le_of_ble_eq_true rfl) (st := []) rfl (Nat.le_of_ble_eq_true rfl) (fun _ => rfl) (fun _ => ?_)
    refine g_i2l X dX6_readNumber_89 90 rfl ?_
    refine g_ldc2 X q1756 dX6_readNumber_90 93 rfl ?_
    refine g_ldc2 X q1757 dX6_readNumber_93 96 rfl ?_
    obtain ⟨r2, hcl, h⟩ := bd1_e h
    refine g_callS1Z X (met_X6_in l Z   r1.toInt64 48 57 r2 hcl) (lw_S q1443 q1444 q74 q1445) md_X6_in ⟨(Nat.le_of_ble_eq_true rfl), (Nat.le_of_ble_eq_true rfl)⟩ rfl dX6_readNumber_96 99 rfl 0 0 rfl rfl (Nat.le_of_ble_eq_true rfl) (Nat.le_of_ble_eq_true rfl) (st := []) rfl (Nat.le_of_ble_eq_true rfl) (fun _ => rfl) (fun _ => ?_)
    refine g_if_ne X dX6_readNumber_99 106 (by decide) 102 rfl (fun hc => ?_) (fun hc => ?_)
    · replace h := if_f hc h
      refine g_kill (j := 0) [none, some (.int x1), some (.int x2), some (.int x3)] rfl ?_
      refine g_kill (j := 1) [none, none, some (.int x2), some (.int x3)] rfl ?_
      refine g_kill (j := 2) [none, none, none, some (.int x3)] rfl ?_
      refine g_kill (j := 3) [none, none, none, none] rfl ?_
      exact w_X6_readNumber_106 a0 a1 a2 a3 a4 a5 a6 a7 a8 a9 a10 a11  X  r r_at r_draft    v_savedCount v_scriptLength v_code v_lineParts v_pulseMany v_left v_dropped v_merged v_drops v_contributions v_packet v_peelResult v_peelTime v_peelSum v_at v_commands v_hash v_m v_saved v_script v_lengths v_fractions v_times v_energies v_far v_near v_echoes (upd v_draft x1.toNatClampNeg x3) h
    · replace h := if_t hc h
      refine g_iconst X 1 dX6_readNumber_102 103 rfl kI_1 ?_
      refine g_goto X dX6_readNumber_103 107 (by decide) ?_
      refine g_kill (j := 0) [none, some (.int x1), some (.int x2), some (.int x3)] rfl ?_
      refine g_kill (j := 1) [none, none, some (.int x2), some (.int x3)] rfl ?_
      refine g_kill (j := 2) [none, none, none, some (.int x3)] rfl ?_
      refine g_kill (j := 3) [none, none, none, none] rfl ?_
      exact w_X6_readNumber_107 a0 a1 a2 a3 a4 a5 a6 a7 a8 a9 a10 a11  X  r r_at r_draft    v_savedCount v_scriptLength v_code v_lineParts v_pulseMany v_left v_dropped v_merged v_drops v_contributions v_packet v_peelResult v_peelTime v_peelSum v_at v_commands v_hash v_m v_saved v_script v_lengths v_fractions v_times v_energies v_far v_near v_echoes (upd v_draft x1.toNatClampNeg x3) 1 h
theorem w_X6_readNumber_16 {p : Program} {l : Launch} {e : Env} {s : State} {m : MethodId} {args : Array Value} {below : List Frame} {meth : Method} {c : Code} {Z : gZt} {A : Nat → Prop} (a0 : Nat) (a1 : Nat) (a2 : Nat) (a3 : Nat) (a4 : Nat) (a5 : Nat) (a6 : Nat) (a7 : Nat) (a8 : Nat) (a9 : Nat) (a10 : Nat) (a11 : Nat) (X : gX p s m args meth c Z A cX6_readNumber "LineEchoesModel" 4 (some .boolean) []) (r : Int32) (r_at : Int32) (r_draft : Nat → Int32)  : ∀ (n : Nat) (v_savedCount : Int32) (v_scriptLength : Int32) (v_code : Int32) (v_lineParts : Int32) (v_pulseMany : Int32) (v_left : Int64) (v_dropped : Int64) (v_merged : Int32) (v_drops : Int32) (v_contributions : Int32) (v_packet : Int64) (v_peelResult : Int32) (v_peelTime : Int32) (v_peelSum : Int32) (v_at : Int32) (v_commands : Int32) (v_hash : Int64) (v_m : Nat → Int64) (v_saved : Nat → Int64) (v_script : Nat → Int32) (v_lengths : Nat → Int32) (v_fractions : Nat → Int32) (v_times : Nat → Int32) (v_energies : Nat → Int64) (v_far : Nat → Int64) (v_near : Nat → Int64) (v_echoes : Nat → Int64) (v_draft : Nat → Int32) (x1 : Int32) (x2 : Int32) (x3 : Int32), F_X6_readNumber_16 n v_scriptLength v_at v_script v_draft x1 x2 x3 = some (r, r_at, r_draft) → G p l e rm_X6_readNumber s m args below meth c Z A 4 (MQ below (gPost Z A (fun _ : Unit => (some (.int r) : Option Value)) (fun _ : Unit => ([(a0, .inr (5, [.ref a1, .ref a2, .int v_savedCount, .ref a3, .int v_scriptLength, .int v_code, .int v_lineParts, .ref a4, .ref a5, .int v_pulseMany, .ref a6, .ref a7, .ref a8, .ref a9, .ref a10, .long v_left, .long v_dropped, .int v_merged, .int v_drops, .int v_contributions, .long v_packet, .int v_peelResult, .int v_peelTime, .int v_peelSum, .int r_at, .int v_commands, .ref a11, .long v_hash])), (a1, .inl (Z.2 1, 431, .inr (.inl v_m))), (a2, .inl (Z.2 1, 1293, .inr (.inl v_saved))), (a3, .inl (Z.2 0, 120, .inl v_script)), (a4, .inl (Z.2 0, 8, .inl v_lengths)), (a5, .inl (Z.2 0, 9, .inl v_fractions)), (a6, .inl (Z.2 0, 4, .inl v_times)), (a7, .inl (Z.2 1, 4, .inr (.inl v_energies))), (a8, .inl (Z.2 1, 1809, .inr (.inl v_far))), (a9, .inl (Z.2 1, 1809, .inr (.inl v_near))), (a10, .inl (Z.2 1, 201, .inr (.inl v_echoes))), (a11, .inl (Z.2 0, 120, .inl r_draft))] : va_W))) args s 0 0 A) [(a0, .inr (5, [.ref a1, .ref a2, .int v_savedCount, .ref a3, .int v_scriptLength, .int v_code, .int v_lineParts, .ref a4, .ref a5, .int v_pulseMany, .ref a6, .ref a7, .ref a8, .ref a9, .ref a10, .long v_left, .long v_dropped, .int v_merged, .int v_drops, .int v_contributions, .long v_packet, .int v_peelResult, .int v_peelTime, .int v_peelSum, .int v_at, .int v_commands, .ref a11, .long v_hash])), (a1, .inl (Z.2 1, 431, .inr (.inl v_m))), (a2, .inl (Z.2 1, 1293, .inr (.inl v_saved))), (a3, .inl (Z.2 0, 120, .inl v_script)), (a4, .inl (Z.2 0, 8, .inl v_lengths)), (a5, .inl (Z.2 0, 9, .inl v_fractions)), (a6, .inl (Z.2 0, 4, .inl v_times)), (a7, .inl (Z.2 1, 4, .inr (.inl v_energies))), (a8, .inl (Z.2 1, 1809, .inr (.inl v_far))), (a9, .inl (Z.2 1, 1809, .inr (.inl v_near))), (a10, .inl (Z.2 1, 201, .inr (.inl v_echoes))), (a11, .inl (Z.2 0, 120, .inl v_draft))] 0 0 16 [some (.ref a0), some (.int x1), some (.int x2), some (.int x3)] [] := by
  intro n
  induction n with
  | zero =>
    intro v_savedCount v_scriptLength v_code v_lineParts v_pulseMany v_left v_dropped v_merged v_drops v_contributions v_packet v_peelResult v_peelTime v_peelSum v_at v_commands v_hash v_m v_saved v_script v_lengths v_fractions v_times v_energies v_far v_near v_echoes v_draft x1 x2 x3 h
    cases h
  | succ n hK16 =>
    intro v_savedCount v_scriptLength v_code v_lineParts v_pulseMany v_left v_dropped v_merged v_drops v_contributions v_packet v_peelResult v_peelTime v_peelSum v_at v_commands v_hash v_m v_saved v_script v_lengths v_fractions v_times v_energies v_far v_near v_echoes v_draft x1 x2 x3 h
    replace h : B_X6_readNumber_16 (F_X6_readNumber_16 n) v_scriptLength v_at v_script v_draft x1 x2 x3 = some (r, r_at, r_draft) := h
    unfold B_X6_readNumber_16 at h
    refine g_aload_n X rfl dX6_readNumber_16 17 rfl ?_
    refine g_get X gC5 0 rfl 24 (by decide) q1366 (fun _ h9 => h9) rfl dX6_readNumber_17 20 rfl ?_
    refine g_iload_n X rfl dX6_readNumber_20 21 rfl ?_
    refine g_bipush X 6 dX6_readNumber_21 23 rfl kB_6 ?_
    refine g_iadd X dX6_readNumber_23 24 rfl ?_
    refine g_icmp_ge X dX6_readNumber_24 70 (by decide) 27 rfl (fun hc => ?_) (fun hc => ?_)
    · replace h := if_t hc h
      exact w_X6_readNumber_70 a0 a1 a2 a3 a4 a5 a6 a7 a8 a9 a10 a11  X  r r_at r_draft    v_savedCount v_scriptLength v_code v_lineParts v_pulseMany v_left v_dropped v_merged v_drops v_contributions v_packet v_peelResult v_peelTime v_peelSum v_at v_commands v_hash v_m v_saved v_script v_lengths v_fractions v_times v_energies v_far v_near v_echoes v_draft x1 x2 x3 h
    · replace h := if_f hc h
      refine g_aload_n X rfl dX6_readNumber_27 28 rfl ?_
      obtain ⟨r1, hcl, h⟩ := bd1_e h
      refine g_callV1W X (met_X6_here l Z a0 a1 a2 a3 a4 a5 a6 a7 a8 a9 a10 a11 v_savedCount v_scriptLength v_code v_lineParts v_pulseMany v_left v_dropped v_merged v_drops v_contributions v_packet v_peelResult v_peelTime v_peelSum v_at v_commands v_hash v_m v_saved v_script v_lengths v_fractions v_times v_energies v_far v_near v_echoes v_draft  r1 hcl) rfl 0 gC5 rfl rfl (lw_V q1725 q1727 qs61 q74 q1728) md_X6_here ⟨(Nat.le_of_ble_eq_true rfl), (Nat.le_of_ble_eq_true rfl)⟩ rfl dX6_readNumber_28 31 rfl 0 0 rfl rfl (Nat.le_of_ble_eq_true rfl) (Nat.le_of_ble_eq_true rfl) (st := []) rfl (Nat.le_of_ble_eq_true rfl) (fun _ => rfl) (fun _ => ?_)
      refine g_i2l X dX6_readNumber_31 32 rfl ?_
      refine g_ldc2 X q1756 dX6_readNumber_32 35 rfl ?_
      refine g_ldc2 X q1757 dX6_readNumber_35 38 rfl ?_
      obtain ⟨r2, hcl, h⟩ := bd1_e h
      refine g_callS1Z X (met_X6_in l Z   r1.toInt64 48 57 r2 hcl) (lw_S q1443 q1444 q74 q1445) md_X6_in ⟨(Nat.le_of_ble_eq_true rfl), (Nat.le_of_ble_eq_true rfl)⟩ rfl dX6_readNumber_38 41 rfl 0 0 rfl rfl (Nat.le_of_ble_eq_true rfl) (Nat.le_of_ble_eq_true rfl) (st := []) rfl (Nat.le_of_ble_eq_true rfl) (fun _ => rfl) (fun _ => ?_)
      refine g_if_eq X dX6_readNumber_41 70 (by decide) 44 rfl (fun hc => ?_) (fun hc => ?_)
      · replace h := if_t hc h
        exact w_X6_readNumber_70 a0 a1 a2 a3 a4 a5 a6 a7 a8 a9 a10 a11  X  r r_at r_draft    v_savedCount v_scriptLength v_code v_lineParts v_pulseMany v_left v_dropped v_merged v_drops v_contributions v_packet v_peelResult v_peelTime v_peelSum v_at v_commands v_hash v_m v_saved v_script v_lengths v_fractions v_times v_energies v_far v_near v_echoes v_draft x1 x2 x3 h
      · replace h := if_f hc h
        refine g_bipush X 10 dX6_readNumber_44 46 rfl kB_10 ?_
        refine g_iload_n X rfl dX6_readNumber_46 47 rfl ?_
        refine g_imul X dX6_readNumber_47 48 rfl ?_
        refine g_aload_n X rfl dX6_readNumber_48 49 rfl ?_
        obtain ⟨r3, hcl, h⟩ := bd1_e h
        refine g_callV1W X (met_X6_here l Z a0 a1 a2 a3 a4 a5 a6 a7 a8 a9 a10 a11 v_savedCount v_scriptLength v_code v_lineParts v_pulseMany v_left v_dropped v_merged v_drops v_contributions v_packet v_peelResult v_peelTime v_peelSum v_at v_commands v_hash v_m v_saved v_script v_lengths v_fractions v_times v_energies v_far v_near v_echoes v_draft  r3 hcl) rfl 0 gC5 rfl rfl (lw_V q1725 q1727 qs61 q74 q1728) md_X6_here ⟨(Nat.le_of_ble_eq_true rfl), (Nat.le_of_ble_eq_true rfl)⟩ rfl dX6_readNumber_49 52 rfl 0 0 rfl rfl (Nat.le_of_ble_eq_true rfl) (Nat.le_of_ble_eq_true rfl) (st := [.int (10 * x3)]) rfl (Nat.le_of_ble_eq_true rfl) (fun _ => rfl) (fun _ => ?_)
        refine g_iadd X dX6_readNumber_52 53 rfl ?_
        refine g_bipush X 48 dX6_readNumber_53 55 rfl kB_48 ?_
        refine g_isub X dX6_readNumber_55 56 rfl ?_
        refine g_istore_n X dX6_readNumber_56 57 rfl (Nat.le_of_ble_eq_true rfl) rfl [some (.ref a0), some (.int x1), some (.int x2), some (.int (((10 * x3) + r3) - 48))] rfl ?_
        refine g_aload_n X rfl dX6_readNumber_57 58 rfl ?_
        refine g_dup X dX6_readNumber_58 59 rfl rfl ?_
        refine g_get X gC5 0 rfl 24 (by decide) q1366 (fun _ h9 => h9) rfl dX6_readNumber_59 62 rfl ?_
        refine g_iconst X 1 dX6_readNumber_62 63 rfl kI_1 ?_
        refine g_iadd X dX6_readNumber_63 64 rfl ?_
        refine g_put X gC5 0 rfl 24 (by decide) q1366 (fun _ h9 => h9) rfl rfl rfl (Nat.le_of_ble_eq_true rfl) dX6_readNumber_64 67 rfl ?_
        refine g_goto X dX6_readNumber_67 16 (by decide) ?_
        exact hK16 v_savedCount v_scriptLength v_code v_lineParts v_pulseMany v_left v_dropped v_merged v_drops v_contributions v_packet v_peelResult v_peelTime v_peelSum (v_at + 1) v_commands v_hash v_m v_saved v_script v_lengths v_fractions v_times v_energies v_far v_near v_echoes v_draft x1 x2 (((10 * x3) + r3) - 48) h
theorem met_X6_readNumber (l : Launch) (Z : gZt) (a0 : Nat) (a1 : Nat) (a2 : Nat) (a3 : Nat) (a4 : Nat) (a5 : Nat) (a6 : Nat) (a7 : Nat) (a8 : Nat) (a9 : Nat) (a10 : Nat) (a11 : Nat) (v_savedCount : Int32) (v_scriptLength : Int32) (v_code : Int32) (v_lineParts : Int32) (v_pulseMany : Int32) (v_left : Int64) (v_dropped : Int64) (v_merged : Int32) (v_drops : Int32) (v_contributions : Int32) (v_packet : Int64) (v_peelResult : Int32) (v_peelTime : Int32) (v_peelSum : Int32) (v_at : Int32) (v_commands : Int32) (v_hash : Int64) (v_m : Nat → Int64) (v_saved : Nat → Int64) (v_script : Nat → Int32) (v_lengths : Nat → Int32) (v_fractions : Nat → Int32) (v_times : Nat → Int32) (v_energies : Nat → Int64) (v_far : Nat → Int64) (v_near : Nat → Int64) (v_echoes : Nat → Int64) (v_draft : Nat → Int32) (x1 : Int32) (r : Int32) (r_at : Int32) (r_draft : Nat → Int32) (h : F_X6_readNumber v_scriptLength v_at v_script v_draft x1 = some (r, r_at, r_draft)) : Ct l yX6_readNumber (ws_ yX6_readNumber cX6_readNumber 4 (some .boolean)) rm_X6_readNumber Z [.ref a0, .int x1] [(a0, .inr (5, [.ref a1, .ref a2, .int v_savedCount, .ref a3, .int v_scriptLength, .int v_code, .int v_lineParts, .ref a4, .ref a5, .int v_pulseMany, .ref a6, .ref a7, .ref a8, .ref a9, .ref a10, .long v_left, .long v_dropped, .int v_merged, .int v_drops, .int v_contributions, .long v_packet, .int v_peelResult, .int v_peelTime, .int v_peelSum, .int v_at, .int v_commands, .ref a11, .long v_hash])), (a1, .inl (Z.2 1, 431, .inr (.inl v_m))), (a2, .inl (Z.2 1, 1293, .inr (.inl v_saved))), (a3, .inl (Z.2 0, 120, .inl v_script)), (a4, .inl (Z.2 0, 8, .inl v_lengths)), (a5, .inl (Z.2 0, 9, .inl v_fractions)), (a6, .inl (Z.2 0, 4, .inl v_times)), (a7, .inl (Z.2 1, 4, .inr (.inl v_energies))), (a8, .inl (Z.2 1, 1809, .inr (.inl v_far))), (a9, .inl (Z.2 1, 1809, .inr (.inl v_near))), (a10, .inl (Z.2 1, 201, .inr (.inl v_echoes))), (a11, .inl (Z.2 0, 120, .inl v_draft))] [] (fun _ : Unit => (some (.int r) : Option Value)) (fun _ : Unit => ([(a0, .inr (5, [.ref a1, .ref a2, .int v_savedCount, .ref a3, .int v_scriptLength, .int v_code, .int v_lineParts, .ref a4, .ref a5, .int v_pulseMany, .ref a6, .ref a7, .ref a8, .ref a9, .ref a10, .long v_left, .long v_dropped, .int v_merged, .int v_drops, .int v_contributions, .long v_packet, .int v_peelResult, .int v_peelTime, .int v_peelSum, .int r_at, .int v_commands, .ref a11, .long v_hash])), (a1, .inl (Z.2 1, 431, .inr (.inl v_m))), (a2, .inl (Z.2 1, 1293, .inr (.inl v_saved))), (a3, .inl (Z.2 0, 120, .inl v_script)), (a4, .inl (Z.2 0, 8, .inl v_lengths)), (a5, .inl (Z.2 0, 9, .inl v_fractions)), (a6, .inl (Z.2 0, 4, .inl v_times)), (a7, .inl (Z.2 1, 4, .inr (.inl v_energies))), (a8, .inl (Z.2 1, 1809, .inr (.inl v_far))), (a9, .inl (Z.2 1, 1809, .inr (.inl v_near))), (a10, .inl (Z.2 1, 201, .inr (.inl v_echoes))), (a11, .inl (Z.2 0, 120, .inl r_draft))] : va_W)) := by
  refine Ct.of cX6_readNumber 4 (some .boolean) "LineEchoesModel" [some (.ref a0), some (.int x1), none, none] 2 (by decide) rfl (Nat.le_of_ble_eq_true rfl) rfl (fun p e s m args below meth c A X hin => ?_)
  unfold F_X6_readNumber at h
  refine g_aload_n X rfl dX6_readNumber_0 1 rfl ?_
  obtain ⟨r1, w2_at, hcl, h⟩ := bd2_e h
  refine g_callV1W X (met_X6_spaces l Z a0 a1 a2 a3 a4 a5 a6 a7 a8 a9 a10 a11 v_savedCount v_scriptLength v_code v_lineParts v_pulseMany v_left v_dropped v_merged v_drops v_contributions v_packet v_peelResult v_peelTime v_peelSum v_at v_commands v_hash v_m v_saved v_script v_lengths v_fractions v_times v_energies v_far v_near v_echoes v_draft  r1 w2_at hcl) rfl 0 gC5 rfl rfl (lw_V q1721 q1723 qs60 q74 q1724) md_X6_spaces ⟨(Nat.le_of_ble_eq_true rfl), (Nat.le_of_ble_eq_true rfl)⟩ rfl dX6_readNumber_1 4 rfl 0 0 rfl rfl (Nat.le_of_ble_eq_true rfl) (Nat.le_of_ble_eq_true rfl) (st := []) rfl (Nat.le_of_ble_eq_true rfl) (fun _ => rfl) (fun _ => ?_)
  refine g_if_ne X dX6_readNumber_4 9 (by decide) 7 rfl (fun hc => ?_) (fun hc => ?_)
  · replace h := if_f hc h
    refine g_aload_n X rfl dX6_readNumber_9 10 rfl ?_
    refine g_get X gC5 0 rfl 24 (by decide) q1366 (fun _ h9 => h9) rfl dX6_readNumber_10 13 rfl ?_
    refine g_istore_n X dX6_readNumber_13 14 rfl (Nat.le_of_ble_eq_true rfl) rfl [some (.ref a0), some (.int x1), some (.int w2_at), none] rfl ?_
    refine g_iconst X 0 dX6_readNumber_14 15 rfl kI_0 ?_
    refine g_istore_n X dX6_readNumber_15 16 rfl (Nat.le_of_ble_eq_true rfl) rfl [some (.ref a0), some (.int x1), some (.int w2_at), some (.int 0)] rfl ?_
    exact w_X6_readNumber_16 a0 a1 a2 a3 a4 a5 a6 a7 a8 a9 a10 a11  X  r r_at r_draft    gFU v_savedCount v_scriptLength v_code v_lineParts v_pulseMany v_left v_dropped v_merged v_drops v_contributions v_packet v_peelResult v_peelTime v_peelSum w2_at v_commands v_hash v_m v_saved v_script v_lengths v_fractions v_times v_energies v_far v_near v_echoes v_draft x1 w2_at 0 h
  · replace h := if_t hc h
    refine g_iconst X 0 dX6_readNumber_7 8 rfl kI_0 ?_
    cases h
    exact g_zret X dX6_readNumber_8 (by decide) () rfl rfl (Nat.le_of_ble_eq_true rfl) (Nat.le_of_ble_eq_true rfl)
/-! LineEchoesModel.kindOf(J)I -/
abbrev rm_X6_kindOf : Room := { frames := 0, cells := 0, slots := 0, locals := 0 }
def F_X6_kindOf_16 (x0 : Int64) : Option (Int32) :=
  some (if x0 = 1897204 then (0 : Int32) else 1)
def F_X6_kindOf_46 (x0 : Int64) : Option (Int32) :=
  some (if x0 = 236484980 then (2 : Int32) else 3)
def F_X6_kindOf_76 (x0 : Int64) : Option (Int32) :=
  some (if x0 = 1637108 then (4 : Int32) else 5)
def F_X6_kindOf (x0 : Int64) : Option (Int32) :=
  if x0 = 1897204 then
    (F_X6_kindOf_16 x0)
  else
    (if x0 = 31106741492 then
      (F_X6_kindOf_16 x0)
    else
      (if x0 = 236484980 then
        (F_X6_kindOf_46 x0)
      else
        (if x0 = 30311922149 then
          (F_X6_kindOf_46 x0)
        else
          (if x0 = 1637108 then
            (F_X6_kindOf_76 x0)
          else
            (if x0 = 31104792420 then
              (F_X6_kindOf_76 x0)
            else
              (some (if x0 = 228325355 then (6 : Int32) else (if x0 = 26249787508 then (7 : Int32) else (-1)))))))))
theorem w_X6_kindOf_16 {p : Program} {l : Launch} {e : Env} {s : State} {m : MethodId} {args : Array Value} {below : List Frame} {meth : Method} {c : Code} {Z : gZt} {A : Nat → Prop} (X : gX p s m args meth c Z A cX6_kindOf "LineEchoesModel" 2 (some .int) []) (r : Int32)  (x0 : Int64) (h : F_X6_kindOf_16 x0 = some r) : G p l e rm_X6_kindOf s m args below meth c Z A 2 (MQ below (gPost Z A (fun _ : Unit => (some (.int r) : Option Value)) (fun _ : Unit => ([] : va_W))) args s 0 0 A) [] 0 0 16 [some (.long x0), none] [] := by
  unfold F_X6_kindOf_16 at h
  refine g_lload_n X rfl dX6_kindOf_16 17 rfl ?_
  refine g_ldc2 X q1744 dX6_kindOf_17 20 rfl ?_
  refine g_seli 29 [] (b := x0 = 1897204) 0 1 ?_ (fun hc K => ?_) (fun hc K => ?_)
  · cases h
    exact g_iret X dX6_kindOf_29 () rfl rfl (Nat.le_of_ble_eq_true rfl) (Nat.le_of_ble_eq_true rfl)
  · refine g_lcmp_ne X dX6_kindOf_20 21 rfl dX6_kindOf_21 28 (by decide) 24 rfl (fun hn => absurd hc hn) (fun _ => ?_)
    refine g_iconst X 0 dX6_kindOf_24 25 rfl kI_0 ?_
    refine g_goto X dX6_kindOf_25 29 (by decide) ?_
    exact K
  · refine g_lcmp_ne X dX6_kindOf_20 21 rfl dX6_kindOf_21 28 (by decide) 24 rfl (fun _ => ?_) (fun hn => absurd hn hc)
    refine g_iconst X 1 dX6_kindOf_28 29 rfl kI_1 ?_
    exact K
theorem w_X6_kindOf_46 {p : Program} {l : Launch} {e : Env} {s : State} {m : MethodId} {args : Array Value} {below : List Frame} {meth : Method} {c : Code} {Z : gZt} {A : Nat → Prop} (X : gX p s m args meth c Z A cX6_kindOf "LineEchoesModel" 2 (some .int) []) (r : Int32)  (x0 : Int64) (h : F_X6_kindOf_46 x0 = some r) : G p l e rm_X6_kindOf s m args below meth c Z A 2 (MQ below (gPost Z A (fun _ : Unit => (some (.int r) : Option Value)) (fun _ : Unit => ([] : va_W))) args s 0 0 A) [] 0 0 46 [some (.long x0), none] [] := by
  unfold F_X6_kindOf_46 at h
  refine g_lload_n X rfl dX6_kindOf_46 47 rfl ?_
  refine g_ldc2 X q1746 dX6_kindOf_47 50 rfl ?_
  refine g_seli 59 [] (b := x0 = 236484980) 2 3 ?_ (fun hc K => ?_) (fun hc K => ?_)
  · cases h
    exact g_iret X dX6_kindOf_59 () rfl rfl (Nat.le_of_ble_eq_true rfl) (Nat.le_of_ble_eq_true rfl)
  · refine g_lcmp_ne X dX6_kindOf_50 51 rfl dX6_kindOf_51 58 (by decide) 54 rfl (fun hn => absurd hc hn) (fun _ => ?_)
    refine g_iconst X 2 dX6_kindOf_54 55 rfl kI_2 ?_
    refine g_goto X dX6_kindOf_55 59 (by decide) ?_
    exact K
  · refine g_lcmp_ne X dX6_kindOf_50 51 rfl dX6_kindOf_51 58 (by decide) 54 rfl (fun _ => ?_) (fun hn => absurd hn hc)
    refine g_iconst X 3 dX6_kindOf_58 59 rfl kI_3 ?_
    exact K
theorem w_X6_kindOf_76 {p : Program} {l : Launch} {e : Env} {s : State} {m : MethodId} {args : Array Value} {below : List Frame} {meth : Method} {c : Code} {Z : gZt} {A : Nat → Prop} (X : gX p s m args meth c Z A cX6_kindOf "LineEchoesModel" 2 (some .int) []) (r : Int32)  (x0 : Int64) (h : F_X6_kindOf_76 x0 = some r) : G p l e rm_X6_kindOf s m args below meth c Z A 2 (MQ below (gPost Z A (fun _ : Unit => (some (.int r) : Option Value)) (fun _ : Unit => ([] : va_W))) args s 0 0 A) [] 0 0 76 [some (.long x0), none] [] := by
  unfold F_X6_kindOf_76 at h
  refine g_lload_n X rfl dX6_kindOf_76 77 rfl ?_
  refine g_ldc2 X q1748 dX6_kindOf_77 80 rfl ?_
  refine g_seli 89 [] (b := x0 = 1637108) 4 5 ?_ (fun hc K => ?_) (fun hc K => ?_)
  · cases h
    exact g_iret X dX6_kindOf_89 () rfl rfl (Nat.le_of_ble_eq_true rfl) (Nat.le_of_ble_eq_true rfl)
  · refine g_lcmp_ne X dX6_kindOf_80 81 rfl dX6_kindOf_81 88 (by decide) 84 rfl (fun hn => absurd hc hn) (fun _ => ?_)
    refine g_iconst X 4 dX6_kindOf_84 85 rfl kI_4 ?_
    refine g_goto X dX6_kindOf_85 89 (by decide) ?_
    exact K
  · refine g_lcmp_ne X dX6_kindOf_80 81 rfl dX6_kindOf_81 88 (by decide) 84 rfl (fun _ => ?_) (fun hn => absurd hn hc)
    refine g_iconst X 5 dX6_kindOf_88 89 rfl kI_5 ?_
    exact K
theorem met_X6_kindOf (l : Launch) (Z : gZt) (x0 : Int64) (r : Int32) (h : F_X6_kindOf x0 = some r) : Ct l yX6_kindOf (ws_ yX6_kindOf cX6_kindOf 2 (some .int)) rm_X6_kindOf Z [.long x0] [] [] (fun _ : Unit => (some (.int r) : Option Value)) (fun _ : Unit => ([] : va_W)) := by
  refine Ct.of cX6_kindOf 2 (some .int) "LineEchoesModel" [some (.long x0), none] 0 (by decide) rfl (Nat.le_of_ble_eq_true rfl) rfl (fun p e s m args below meth c A X hin => ?_)
  unfold F_X6_kindOf at h
  refine g_lload_n X rfl dX6_kindOf_0 1 rfl ?_
  refine g_ldc2 X q1744 dX6_kindOf_1 4 rfl ?_
  refine g_lcmp_eq X dX6_kindOf_4 5 rfl dX6_kindOf_5 16 (by decide) 8 rfl (fun hc => ?_) (fun hc => ?_)
  · replace h := if_t hc h
    exact w_X6_kindOf_16   X  r    x0 h
  · replace h := if_f hc h
    refine g_lload_n X rfl dX6_kindOf_8 9 rfl ?_
    refine g_ldc2 X q1745 dX6_kindOf_9 12 rfl ?_
    refine g_lcmp_ne X dX6_kindOf_12 13 rfl dX6_kindOf_13 30 (by decide) 16 rfl (fun hc => ?_) (fun hc => ?_)
    · replace h := if_f hc h
      refine g_lload_n X rfl dX6_kindOf_30 31 rfl ?_
      refine g_ldc2 X q1746 dX6_kindOf_31 34 rfl ?_
      refine g_lcmp_eq X dX6_kindOf_34 35 rfl dX6_kindOf_35 46 (by decide) 38 rfl (fun hc => ?_) (fun hc => ?_)
      · replace h := if_t hc h
        exact w_X6_kindOf_46   X  r    x0 h
      · replace h := if_f hc h
        refine g_lload_n X rfl dX6_kindOf_38 39 rfl ?_
        refine g_ldc2 X q1747 dX6_kindOf_39 42 rfl ?_
        refine g_lcmp_ne X dX6_kindOf_42 43 rfl dX6_kindOf_43 60 (by decide) 46 rfl (fun hc => ?_) (fun hc => ?_)
        · replace h := if_f hc h
          refine g_lload_n X rfl dX6_kindOf_60 61 rfl ?_
          refine g_ldc2 X q1748 dX6_kindOf_61 64 rfl ?_
          refine g_lcmp_eq X dX6_kindOf_64 65 rfl dX6_kindOf_65 76 (by decide) 68 rfl (fun hc => ?_) (fun hc => ?_)
          · replace h := if_t hc h
            exact w_X6_kindOf_76   X  r    x0 h
          · replace h := if_f hc h
            refine g_lload_n X rfl dX6_kindOf_68 69 rfl ?_
            refine g_ldc2 X q1749 dX6_kindOf_69 72 rfl ?_
            refine g_lcmp_ne X dX6_kindOf_72 73 rfl dX6_kindOf_73 90 (by decide) 76 rfl (fun hc => ?_) (fun hc => ?_)
            · replace h := if_f hc h
              refine g_lload_n X rfl dX6_kindOf_90 91 rfl ?_
              refine g_ldc2 X q1750 dX6_kindOf_91 94 rfl ?_
              refine g_seli 117 [] (b := x0 = 228325355) 6 (if x0 = 26249787508 then (7 : Int32) else (-1)) ?_ (fun hc K => ?_) (fun hc K => ?_)
              · cases h
                exact g_iret X dX6_kindOf_117 () rfl rfl (Nat.le_of_ble_eq_true rfl) (Nat.le_of_ble_eq_true rfl)
              · refine g_lcmp_ne X dX6_kindOf_94 95 rfl dX6_kindOf_95 103 (by decide) 98 rfl (fun hn => absurd hc hn) (fun _ => ?_)
                refine g_bipush X 6 dX6_kindOf_98 100 rfl kB_6 ?_
                refine g_goto X dX6_kindOf_100 117 (by decide) ?_
                exact K
              · refine g_lcmp_ne X dX6_kindOf_94 95 rfl dX6_kindOf_95 103 (by decide) 98 rfl (fun _ => ?_) (fun hn => absurd hn hc)
                refine g_lload_n X rfl dX6_kindOf_103 104 rfl ?_
                refine g_ldc2 X q1751 dX6_kindOf_104 107 rfl ?_
                refine g_lcmp_ne X dX6_kindOf_107 108 rfl dX6_kindOf_108 116 (by decide) 111 rfl (fun hc => ?_) (fun hc => ?_)
                · replace K := gsel_fi hc K
                  refine g_iconst X (-1) dX6_kindOf_116 117 rfl kI_m1 ?_
                  exact K
                · replace K := gsel_ti hc K
                  refine g_bipush X 7 dX6_kindOf_111 113 rfl kB_7 ?_
                  refine g_goto X dX6_kindOf_113 117 (by decide) ?_
                  exact K
            · replace h := if_t hc h
              exact w_X6_kindOf_76   X  r    x0 h
        · replace h := if_t hc h
          exact w_X6_kindOf_46   X  r    x0 h
    · replace h := if_t hc h
      exact w_X6_kindOf_16   X  r    x0 h
/-! LineEchoesModel.readWord(I)Z -/
abbrev rm_X6_readWord : Room := { frames := 1, cells := 0, slots := 0, locals := 25 }
def F_X6_readWord_118 (v_draft : Nat → Int32) (x1 : Int32) (s1 : Int32) : Option (Int32 × Int32 × (Nat → Int32)) :=
  gin x1 120 <|
  some ((if (v_draft x1.toNatClampNeg) = (-1) then (0 : Int32) else 1), s1, v_draft)
def F_X6_readWord_98 (v_at : Int32) (v_draft : Nat → Int32) (x1 : Int32) (x2 : Int32) (s1 : Int32) (s2 : Int32) : Option (Int32 × Int32 × (Nat → Int32)) :=
  gin s1 120 <|
  gin x1 120 <|
  if ((upd v_draft s1.toNatClampNeg s2) x1.toNatClampNeg) = (-1) then
    (F_X6_readWord_118 (upd v_draft s1.toNatClampNeg s2) x1 x2)
  else
    (F_X6_readWord_118 (upd v_draft s1.toNatClampNeg s2) x1 v_at)
def F_X6_readWord_51 (K7 : (Int32) → (Int32) → (Nat → Int32) → (Nat → Int32) → (Int32) → (Int32) → (Int64) → Option (Int32 × Int32 × (Nat → Int32))) (v_scriptLength : Int32) (v_at : Int32) (v_script : Nat → Int32) (v_draft : Nat → Int32) (x1 : Int32) (x2 : Int32) (s0 : Int64) : Option (Int32 × Int32 × (Nat → Int32)) :=
  K7 v_scriptLength (v_at + 1) v_script v_draft x1 x2 s0
def B_X6_readWord_7 (K7 : (Int32) → (Int32) → (Nat → Int32) → (Nat → Int32) → (Int32) → (Int32) → (Int64) → Option (Int32 × Int32 × (Nat → Int32))) (v_scriptLength : Int32) (v_at : Int32) (v_script : Nat → Int32) (v_draft : Nat → Int32) (x1 : Int32) (x2 : Int32) (x3 : Int64) : Option (Int32 × Int32 × (Nat → Int32)) :=
  bd1 (F_X6_here v_scriptLength v_at v_script) fun r1 =>
  bd1 (F_X6_in r1.toInt64 97 122) fun r2 =>
  if r2 = 0 then
    (if v_at = x2 then
      (some (0, v_at, v_draft))
    else
      (if (v_at - x2) ≤ 5 then
        (bd1 (F_X6_kindOf x3) fun r3 =>
        F_X6_readWord_98 v_at v_draft x1 x2 x1 r3)
      else
        (F_X6_readWord_98 v_at v_draft x1 x2 x1 (-1))))
  else
    (if 5 ≤ (v_at - x2) then
      (F_X6_readWord_51 K7 v_scriptLength v_at v_script v_draft x1 x2 (-1))
    else
      (bd1 (F_X6_here v_scriptLength v_at v_script) fun r4 =>
      F_X6_readWord_51 K7 v_scriptLength v_at v_script v_draft x1 x2 ((x3 * 128) + r4.toInt64)))
def F_X6_readWord_7 : Nat → (Int32) → (Int32) → (Nat → Int32) → (Nat → Int32) → (Int32) → (Int32) → (Int64) → Option (Int32 × Int32 × (Nat → Int32))
  | 0 => fun _ _ _ _ _ _ _ => none
  | n + 1 => B_X6_readWord_7 (F_X6_readWord_7 n)
def F_X6_readWord (v_scriptLength : Int32) (v_at : Int32) (v_script : Nat → Int32) (v_draft : Nat → Int32) (x1 : Int32) : Option (Int32 × Int32 × (Nat → Int32)) :=
  F_X6_readWord_7 gFU v_scriptLength v_at v_script v_draft x1 v_at 0
theorem w_X6_readWord_118 {p : Program} {l : Launch} {e : Env} {s : State} {m : MethodId} {args : Array Value} {below : List Frame} {meth : Method} {c : Code} {Z : gZt} {A : Nat → Prop} (a0 : Nat) (a1 : Nat) (a2 : Nat) (a3 : Nat) (a4 : Nat) (a5 : Nat) (a6 : Nat) (a7 : Nat) (a8 : Nat) (a9 : Nat) (a10 : Nat) (a11 : Nat) (X : gX p s m args meth c Z A cX6_readWord "LineEchoesModel" 5 (some .boolean) []) (r : Int32) (r_at : Int32) (r_draft : Nat → Int32)  (v_savedCount : Int32) (v_scriptLength : Int32) (v_code : Int32) (v_lineParts : Int32) (v_pulseMany : Int32) (v_left : Int64) (v_dropped : Int64) (v_merged : Int32) (v_drops : Int32) (v_contributions : Int32) (v_packet : Int64) (v_peelResult : Int32) (v_peelTime : Int32) (v_peelSum : Int32) (v_at : Int32) (v_commands : Int32) (v_hash : Int64) (v_m : Nat → Int64) (v_saved : Nat → Int64) (v_script : Nat → Int32) (v_lengths : Nat → Int32) (v_fractions : Nat → Int32) (v_times : Nat → Int32) (v_energies : Nat → Int64) (v_far : Nat → Int64) (v_near : Nat → Int64) (v_echoes : Nat → Int64) (v_draft : Nat → Int32) (x1 : Int32) (s1 : Int32) (h : F_X6_readWord_118 v_draft x1 s1 = some (r, r_at, r_draft)) : G p l e rm_X6_readWord s m args below meth c Z A 5 (MQ below (gPost Z A (fun _ : Unit => (some (.int r) : Option Value)) (fun _ : Unit => ([(a0, .inr (5, [.ref a1, .ref a2, .int v_savedCount, .ref a3, .int v_scriptLength, .int v_code, .int v_lineParts, .ref a4, .ref a5, .int v_pulseMany, .ref a6, .ref a7, .ref a8, .ref a9, .ref a10, .long v_left, .long v_dropped, .int v_merged, .int v_drops, .int v_contributions, .long v_packet, .int v_peelResult, .int v_peelTime, .int v_peelSum, .int r_at, .int v_commands, .ref a11, .long v_hash])), (a1, .inl (Z.2 1, 431, .inr (.inl v_m))), (a2, .inl (Z.2 1, 1293, .inr (.inl v_saved))), (a3, .inl (Z.2 0, 120, .inl v_script)), (a4, .inl (Z.2 0, 8, .inl v_lengths)), (a5, .inl (Z.2 0, 9, .inl v_fractions)), (a6, .inl (Z.2 0, 4, .inl v_times)), (a7, .inl (Z.2 1, 4, .inr (.inl v_energies))), (a8, .inl (Z.2 1, 1809, .inr (.inl v_far))), (a9, .inl (Z.2 1, 1809, .inr (.inl v_near))), (a10, .inl (Z.2 1, 201, .inr (.inl v_echoes))), (a11, .inl (Z.2 0, 120, .inl r_draft))] : va_W))) args s 0 0 A) [(a0, .inr (5, [.ref a1, .ref a2, .int v_savedCount, .ref a3, .int v_scriptLength, .int v_code, .int v_lineParts, .ref a4, .ref a5, .int v_pulseMany, .ref a6, .ref a7, .ref a8, .ref a9, .ref a10, .long v_left, .long v_dropped, .int v_merged, .int v_drops, .int v_contributions, .long v_packet, .int v_peelResult, .int v_peelTime, .int v_peelSum, .int v_at, .int v_commands, .ref a11, .long v_hash])), (a1, .inl (Z.2 1, 431, .inr (.inl v_m))), (a2, .inl (Z.2 1, 1293, .inr (.inl v_saved))), (a3, .inl (Z.2 0, 120, .inl v_script)), (a4, .inl (Z.2 0, 8, .inl v_lengths)), (a5, .inl (Z.2 0, 9, .inl v_fractions)), (a6, .inl (Z.2 0, 4, .inl v_times)), (a7, .inl (Z.2 1, 4, .inr (.inl v_energies))), (a8, .inl (Z.2 1, 1809, .inr (.inl v_far))), (a9, .inl (Z.2 1, 1809, .inr (.inl v_near))), (a10, .inl (Z.2 1, 201, .inr (.inl v_echoes))), (a11, .inl (Z.2 0, 120, .inl v_draft))] 0 0 118 [some (.ref a0), some (.int x1), none, none, none] [.int s1, .ref a0] := by
  unfold F_X6_readWord_118 at h
  refine g_put X gC5 0 rfl 24 (by decide) q1366 (fun _ h9 => h9) rfl rfl rfl (Nat.le_of_ble_eq_true rfl) dX6_readWord_118 121 rfl ?_
  refine g_aload_n X rfl dX6_readWord_121 122 rfl ?_
  refine g_get X gC5 0 rfl 26 (by decide) q1368 (fun _ h9 => h9) rfl dX6_readWord_122 125 rfl ?_
  refine g_iload_n X rfl dX6_readWord_125 126 rfl ?_
  obtain ⟨hi, h⟩ := gin_e h
  refine g_iald X 11 rfl hi dX6_readWord_126 127 rfl ?_
  refine g_iconst X (-1) dX6_readWord_127 128 rfl kI_m1 ?_
  refine g_seli 136 [] (b := (v_draft x1.toNatClampNeg) = (-1)) 0 1 ?_ (fun hc K => ?_) (fun hc K => ?_)
  · cases h
    exact g_zret X dX6_readWord_136 (gb_if gb_0 gb_1) () rfl rfl (Nat.le_of_ble_eq_true rfl) (Nat.le_of_ble_eq_true rfl)
  · refine g_icmp_eq X dX6_readWord_128 135 (by decide) 131 rfl (fun _ => ?_) (fun hn => absurd hc hn)
    refine g_iconst X 0 dX6_readWord_135 136 rfl kI_0 ?_
    exact K
  · refine g_icmp_eq X dX6_readWord_128 135 (by decide) 131 rfl (fun hn => absurd hn hc) (fun _ => ?_)
    refine g_iconst X 1 dX6_readWord_131 132 rfl kI_1 ?_
    refine g_goto X dX6_readWord_132 136 (by decide) ?_
    exact K
theorem w_X6_readWord_98 {p : Program} {l : Launch} {e : Env} {s : State} {m : MethodId} {args : Array Value} {below : List Frame} {meth : Method} {c : Code} {Z : gZt} {A : Nat → Prop} (a0 : Nat) (a1 : Nat) (a2 : Nat) (a3 : Nat) (a4 : Nat) (a5 : Nat) (a6 : Nat) (a7 : Nat) (a8 : Nat) (a9 : Nat) (a10 : Nat) (a11 : Nat) (X : gX p s m args meth c Z A cX6_readWord "LineEchoesModel" 5 (some .boolean) []) (r : Int32) (r_at : Int32) (r_draft : Nat → Int32)  (v_savedCount : Int32) (v_scriptLength : Int32) (v_code : Int32) (v_lineParts : Int32) (v_pulseMany : Int32) (v_left : Int64) (v_dropped : Int64) (v_merged : Int32) (v_drops : Int32) (v_contributions : Int32) (v_packet : Int64) (v_peelResult : Int32) (v_peelTime : Int32) (v_peelSum : Int32) (v_at : Int32) (v_commands : Int32) (v_hash : Int64) (v_m : Nat → Int64) (v_saved : Nat → Int64) (v_script : Nat → Int32) (v_lengths : Nat → Int32) (v_fractions : Nat → Int32) (v_times : Nat → Int32) (v_energies : Nat → Int64) (v_far : Nat → Int64) (v_near : Nat → Int64) (v_echoes : Nat → Int64) (v_draft : Nat → Int32) (x1 : Int32) (x2 : Int32) (s1 : Int32) (s2 : Int32) (h : F_X6_readWord_98 v_at v_draft x1 x2 s1 s2 = some (r, r_at, r_draft)) : G p l e rm_X6_readWord s m args below meth c Z A 5 (MQ below (gPost Z A (fun _ : Unit => (some (.int r) : Option Value)) (fun _ : Unit => ([(a0, .inr (5, [.ref a1, .ref a2, .int v_savedCount, .ref a3, .int v_scriptLength, .int v_code, .int v_lineParts, .ref a4, .ref a5, .int v_pulseMany, .ref a6, .ref a7, .ref a8, .ref a9, .ref a10, .long v_left, .long v_dropped, .int v_merged, .int v_drops, .int v_contributions, .long v_packet, .int v_peelResult, .int v_peelTime, .int v_peelSum, .int r_at, .int v_commands, .ref a11, .long v_hash])), (a1, .inl (Z.2 1, 431, .inr (.inl v_m))), (a2, .inl (Z.2 1, 1293, .inr (.inl v_saved))), (a3, .inl (Z.2 0, 120, .inl v_script)), (a4, .inl (Z.2 0, 8, .inl v_lengths)), (a5, .inl (Z.2 0, 9, .inl v_fractions)), (a6, .inl (Z.2 0, 4, .inl v_times)), (a7, .inl (Z.2 1, 4, .inr (.inl v_energies))), (a8, .inl (Z.2 1, 1809, .inr (.inl v_far))), (a9, .inl (Z.2 1, 1809, .inr (.inl v_near))), (a10, .inl (Z.2 1, 201, .inr (.inl v_echoes))), (a11, .inl (Z.2 0, 120, .inl r_draft))] : va_W))) args s 0 0 A) [(a0, .inr (5, [.ref a1, .ref a2, .int v_savedCount, .ref a3, .int v_scriptLength, .int v_code, .int v_lineParts, .ref a4, .ref a5, .int v_pulseMany, .ref a6, .ref a7, .ref a8, .ref a9, .ref a10, .long v_left, .long v_dropped, .int v_merged, .int v_drops, .int v_contributions, .long v_packet, .int v_peelResult, .int v_peelTime, .int v_peelSum, .int v_at, .int v_commands, .ref a11, .long v_hash])), (a1, .inl (Z.2 1, 431, .inr (.inl v_m))), (a2, .inl (Z.2 1, 1293, .inr (.inl v_saved))), (a3, .inl (Z.2 0, 120, .inl v_script)), (a4, .inl (Z.2 0, 8, .inl v_lengths)), (a5, .inl (Z.2 0, 9, .inl v_fractions)), (a6, .inl (Z.2 0, 4, .inl v_times)), (a7, .inl (Z.2 1, 4, .inr (.inl v_energies))), (a8, .inl (Z.2 1, 1809, .inr (.inl v_far))), (a9, .inl (Z.2 1, 1809, .inr (.inl v_near))), (a10, .inl (Z.2 1, 201, .inr (.inl v_echoes))), (a11, .inl (Z.2 0, 120, .inl v_draft))] 0 0 98 [some (.ref a0), some (.int x1), some (.int x2), none, none] [.int s2, .int s1, .ref a11] := by
  unfold F_X6_readWord_98 at h
  obtain ⟨hi, h⟩ := gin_e h
  refine g_iast X 11 rfl hi dX6_readWord_98 99 rfl ?_
  refine g_aload_n X rfl dX6_readWord_99 100 rfl ?_
  refine g_aload_n X rfl dX6_readWord_100 101 rfl ?_
  refine g_get X gC5 0 rfl 26 (by decide) q1368 (fun _ h9 => h9) rfl dX6_readWord_101 104 rfl ?_
  refine g_iload_n X rfl dX6_readWord_104 105 rfl ?_
  obtain ⟨hi, h⟩ := gin_e h
  refine g_iald X 11 rfl hi dX6_readWord_105 106 rfl ?_
  refine g_iconst X (-1) dX6_readWord_106 107 rfl kI_m1 ?_
  refine g_icmp_ne X dX6_readWord_107 114 (by decide) 110 rfl (fun hc => ?_) (fun hc => ?_)
  · replace h := if_f hc h
    refine g_aload_n X rfl dX6_readWord_114 115 rfl ?_
    refine g_get X gC5 0 rfl 24 (by decide) q1366 (fun _ h9 => h9) rfl dX6_readWord_115 118 rfl ?_
    refine g_kill (j := 2) [some (.ref a0), some (.int x1), none, none, none] rfl ?_
    exact w_X6_readWord_118 a0 a1 a2 a3 a4 a5 a6 a7 a8 a9 a10 a11  X  r r_at r_draft    v_savedCount v_scriptLength v_code v_lineParts v_pulseMany v_left v_dropped v_merged v_drops v_contributions v_packet v_peelResult v_peelTime v_peelSum v_at v_commands v_hash v_m v_saved v_script v_lengths v_fractions v_times v_energies v_far v_near v_echoes (upd v_draft s1.toNatClampNeg s2) x1 v_at h
  · replace h := if_t hc h
    refine g_iload_n X rfl dX6_readWord_110 111 rfl ?_
    refine g_goto X dX6_readWord_111 118 (by decide) ?_
    refine g_kill (j := 2) [some (.ref a0), some (.int x1), none, none, none] rfl ?_
    exact w_X6_readWord_118 a0 a1 a2 a3 a4 a5 a6 a7 a8 a9 a10 a11  X  r r_at r_draft    v_savedCount v_scriptLength v_code v_lineParts v_pulseMany v_left v_dropped v_merged v_drops v_contributions v_packet v_peelResult v_peelTime v_peelSum v_at v_commands v_hash v_m v_saved v_script v_lengths v_fractions v_times v_energies v_far v_near v_echoes (upd v_draft s1.toNatClampNeg s2) x1 x2 h
theorem w_X6_readWord_51 {p : Program} {l : Launch} {e : Env} {s : State} {m : MethodId} {args : Array Value} {below : List Frame} {meth : Method} {c : Code} {Z : gZt} {A : Nat → Prop} (a0 : Nat) (a1 : Nat) (a2 : Nat) (a3 : Nat) (a4 : Nat) (a5 : Nat) (a6 : Nat) (a7 : Nat) (a8 : Nat) (a9 : Nat) (a10 : Nat) (a11 : Nat) (X : gX p s m args meth c Z A cX6_readWord "LineEchoesModel" 5 (some .boolean) []) (r : Int32) (r_at : Int32) (r_draft : Nat → Int32) (K7 : (Int32) → (Int32) → (Nat → Int32) → (Nat → Int32) → (Int32) → (Int32) → (Int64) → Option (Int32 × Int32 × (Nat → Int32))) (hK7 : ∀ (v_savedCount : Int32) (v_scriptLength : Int32) (v_code : Int32) (v_lineParts : Int32) (v_pulseMany : Int32) (v_left : Int64) (v_dropped : Int64) (v_merged : Int32) (v_drops : Int32) (v_contributions : Int32) (v_packet : Int64) (v_peelResult : Int32) (v_peelTime : Int32) (v_peelSum : Int32) (v_at : Int32) (v_commands : Int32) (v_hash : Int64) (v_m : Nat → Int64) (v_saved : Nat → Int64) (v_script : Nat → Int32) (v_lengths : Nat → Int32) (v_fractions : Nat → Int32) (v_times : Nat → Int32) (v_energies : Nat → Int64) (v_far : Nat → Int64) (v_near : Nat → Int64) (v_echoes : Nat → Int64) (v_draft : Nat → Int32) (x1 : Int32) (x2 : Int32) (x3 : Int64), K7 v_scriptLength v_at v_script v_draft x1 x2 x3 = some (r, r_at, r_draft) → G p l e rm_X6_readWord s m args below meth c Z A 5 (MQ below (gPost Z A (fun _ : Unit => (some (.int r) : Option Value)) (fun _ : Unit => ([(a0, .inr (5, [.ref a1, .ref a2, .int v_savedCount, .ref a3, .int v_scriptLength, .int v_code, .int v_lineParts, .ref a4, .ref a5, .int v_pulseMany, .ref a6, .ref a7, .ref a8, .ref a9, .ref a10, .long v_left, .long v_dropped, .int v_merged, .int v_drops, .int v_contributions, .long v_packet, .int v_peelResult, .int v_peelTime, .int v_peelSum, .int r_at, .int v_commands, .ref a11, .long v_hash])), (a1, .inl (Z.2 1, 431, .inr (.inl v_m))), (a2, .inl (Z.2 1, 1293, .inr (.inl v_saved))), (a3, .inl (Z.2 0, 120, .inl v_script)), (a4, .inl (Z.2 0, 8, .inl v_lengths)), (a5, .inl (Z.2 0, 9, .inl v_fractions)), (a6, .inl (Z.2 0, 4, .inl v_times)), (a7, .inl (Z.2 1, 4, .inr (.inl v_energies))), (a8, .inl (Z.2 1, 1809, .inr (.inl v_far))), (a9, .inl (Z.2 1, 1809, .inr (.inl v_near))), (a10, .inl (Z.2 1, 201, .inr (.inl v_echoes))), (a11, .inl (Z.2 0, 120, .inl r_draft))] : va_W))) args s 0 0 A) [(a0, .inr (5, [.ref a1, .ref a2, .int v_savedCount, .ref a3, .int v_scriptLength, .int v_code, .int v_lineParts, .ref a4, .ref a5, .int v_pulseMany, .ref a6, .ref a7, .ref a8, .ref a9, .ref a10, .long v_left, .long v_dropped, .int v_merged, .int v_drops, .int v_contributions, .long v_packet, .int v_peelResult, .int v_peelTime, .int v_peelSum, .int v_at, .int v_commands, .ref a11, .long v_hash])), (a1, .inl (Z.2 1, 431, .inr (.inl v_m))), (a2, .inl (Z.2 1, 1293, .inr (.inl v_saved))), (a3, .inl (Z.2 0, 120, .inl v_script)), (a4, .inl (Z.2 0, 8, .inl v_lengths)), (a5, .inl (Z.2 0, 9, .inl v_fractions)), (a6, .inl (Z.2 0, 4, .inl v_times)), (a7, .inl (Z.2 1, 4, .inr (.inl v_energies))), (a8, .inl (Z.2 1, 1809, .inr (.inl v_far))), (a9, .inl (Z.2 1, 1809, .inr (.inl v_near))), (a10, .inl (Z.2 1, 201, .inr (.inl v_echoes))), (a11, .inl (Z.2 0, 120, .inl v_draft))] 0 0 7 [some (.ref a0), some (.int x1), some (.int x2), some (.long x3), none] []) (v_savedCount : Int32) (v_scriptLength : Int32) (v_code : Int32) (v_lineParts : Int32) (v_pulseMany : Int32) (v_left : Int64) (v_dropped : Int64) (v_merged : Int32) (v_drops : Int32) (v_contributions : Int32) (v_packet : Int64) (v_peelResult : Int32) (v_peelTime : Int32) (v_peelSum : Int32) (v_at : Int32) (v_commands : Int32) (v_hash : Int64) (v_m : Nat → Int64) (v_saved : Nat → Int64) (v_script : Nat → Int32) (v_lengths : Nat → Int32) (v_fractions : Nat → Int32) (v_times : Nat → Int32) (v_energies : Nat → Int64) (v_far : Nat → Int64) (v_near : Nat → Int64) (v_echoes : Nat → Int64) (v_draft : Nat → Int32) (x1 : Int32) (x2 : Int32) (s0 : Int64) (h : F_X6_readWord_51 K7 v_scriptLength v_at v_script v_draft x1 x2 s0 = some (r, r_at, r_draft)) : G p l e rm_X6_readWord s m args below meth c Z A 5 (MQ below (gPost Z A (fun _ : Unit => (some (.int r) : Option Value)) (fun _ : Unit => ([(a0, .inr (5, [.ref a1, .ref a2, .int v_savedCount, .ref a3, .int v_scriptLength, .int v_code, .int v_lineParts, .ref a4, .ref a5, .int v_pulseMany, .ref a6, .ref a7, .ref a8, .ref a9, .ref a10, .long v_left, .long v_dropped, .int v_merged, .int v_drops, .int v_contributions, .long v_packet, .int v_peelResult, .int v_peelTime, .int v_peelSum, .int r_at, .int v_commands, .ref a11, .long v_hash])), (a1, .inl (Z.2 1, 431, .inr (.inl v_m))), (a2, .inl (Z.2 1, 1293, .inr (.inl v_saved))), (a3, .inl (Z.2 0, 120, .inl v_script)), (a4, .inl (Z.2 0, 8, .inl v_lengths)), (a5, .inl (Z.2 0, 9, .inl v_fractions)), (a6, .inl (Z.2 0, 4, .inl v_times)), (a7, .inl (Z.2 1, 4, .inr (.inl v_energies))), (a8, .inl (Z.2 1, 1809, .inr (.inl v_far))), (a9, .inl (Z.2 1, 1809, .inr (.inl v_near))), (a10, .inl (Z.2 1, 201, .inr (.inl v_echoes))), (a11, .inl (Z.2 0, 120, .inl r_draft))] : va_W))) args s 0 0 A) [(a0, .inr (5, [.ref a1, .ref a2, .int v_savedCount, .ref a3, .int v_scriptLength, .int v_code, .int v_lineParts, .ref a4, .ref a5, .int v_pulseMany, .ref a6, .ref a7, .ref a8, .ref a9, .ref a10, .long v_left, .long v_dropped, .int v_merged, .int v_drops, .int v_contributions, .long v_packet, .int v_peelResult, .int v_peelTime, .int v_peelSum, .int v_at, .int v_commands, .ref a11, .long v_hash])), (a1, .inl (Z.2 1, 431, .inr (.inl v_m))), (a2, .inl (Z.2 1, 1293, .inr (.inl v_saved))), (a3, .inl (Z.2 0, 120, .inl v_script)), (a4, .inl (Z.2 0, 8, .inl v_lengths)), (a5, .inl (Z.2 0, 9, .inl v_fractions)), (a6, .inl (Z.2 0, 4, .inl v_times)), (a7, .inl (Z.2 1, 4, .inr (.inl v_energies))), (a8, .inl (Z.2 1, 1809, .inr (.inl v_far))), (a9, .inl (Z.2 1, 1809, .inr (.inl v_near))), (a10, .inl (Z.2 1, 201, .inr (.inl v_echoes))), (a11, .inl (Z.2 0, 120, .inl v_draft))] 0 0 51 [some (.ref a0), some (.int x1), some (.int x2), none, none] [.long s0] := by
  unfold F_X6_readWord_51 at h
  refine g_lstore_n X dX6_readWord_51 52 rfl (Nat.le_of_ble_eq_true rfl) rfl [some (.ref a0), some (.int x1), some (.int x2), some (.long s0), none] rfl ?_
  refine g_aload_n X rfl dX6_readWord_52 53 rfl ?_
  refine g_dup X dX6_readWord_53 54 rfl rfl ?_
  refine g_get X gC5 0 rfl 24 (by decide) q1366 (fun _ h9 => h9) rfl dX6_readWord_54 57 rfl ?_
  refine g_iconst X 1 dX6_readWord_57 58 rfl kI_1 ?_
  refine g_iadd X dX6_readWord_58 59 rfl ?_
  refine g_put X gC5 0 rfl 24 (by decide) q1366 (fun _ h9 => h9) rfl rfl rfl (Nat.le_of_ble_eq_true rfl) dX6_readWord_59 62 rfl ?_
  refine g_goto X dX6_readWord_62 7 (by decide) ?_
  exact hK7 v_savedCount v_scriptLength v_code v_lineParts v_pulseMany v_left v_dropped v_merged v_drops v_contributions v_packet v_peelResult v_peelTime v_peelSum (v_at + 1) v_commands v_hash v_m v_saved v_script v_lengths v_fractions v_times v_energies v_far v_near v_echoes v_draft x1 x2 s0 h
theorem w_X6_readWord_7 {p : Program} {l : Launch} {e : Env} {s : State} {m : MethodId} {args : Array Value} {below : List Frame} {meth : Method} {c : Code} {Z : gZt} {A : Nat → Prop} (a0 : Nat) (a1 : Nat) (a2 : Nat) (a3 : Nat) (a4 : Nat) (a5 : Nat) (a6 : Nat) (a7 : Nat) (a8 : Nat) (a9 : Nat) (a10 : Nat) (a11 : Nat) (X : gX p s m args meth c Z A cX6_readWord "LineEchoesModel" 5 (some .boolean) []) (r : Int32) (r_at : Int32) (r_draft : Nat → Int32)  : ∀ (n : Nat) (v_savedCount : Int32) (v_scriptLength : Int32) (v_code : Int32) (v_lineParts : Int32) (v_pulseMany : Int32) (v_left : Int64) (v_dropped : Int64) (v_merged : Int32) (v_drops : Int32) (v_contributions : Int32) (v_packet : Int64) (v_peelResult : Int32) (v_peelTime : Int32) (v_peelSum : Int32) (v_at : Int32) (v_commands : Int32) (v_hash : Int64) (v_m : Nat → Int64) (v_saved : Nat → Int64) (v_script : Nat → Int32) (v_lengths : Nat → Int32) (v_fractions : Nat → Int32) (v_times : Nat → Int32) (v_energies : Nat → Int64) (v_far : Nat → Int64) (v_near : Nat → Int64) (v_echoes : Nat → Int64) (v_draft : Nat → Int32) (x1 : Int32) (x2 : Int32) (x3 : Int64), F_X6_readWord_7 n v_scriptLength v_at v_script v_draft x1 x2 x3 = some (r, r_at, r_draft) → G p l e rm_X6_readWord s m args below meth c Z A 5 (MQ below (gPost Z A (fun _ : Unit => (some (.int r) : Option Value)) (fun _ : Unit => ([(a0, .inr (5, [.ref a1, .ref a2, .int v_savedCount, .ref a3, .int v_scriptLength, .int v_code, .int v_lineParts, .ref a4, .ref a5, .int v_pulseMany, .ref a6, .ref a7, .ref a8, .ref a9, .ref a10, .long v_left, .long v_dropped, .int v_merged, .int v_drops, .int v_contributions, .long v_packet, .int v_peelResult, .int v_peelTime, .int v_peelSum, .int r_at, .int v_commands, .ref a11, .long v_hash])), (a1, .inl (Z.2 1, 431, .inr (.inl v_m))), (a2, .inl (Z.2 1, 1293, .inr (.inl v_saved))), (a3, .inl (Z.2 0, 120, .inl v_script)), (a4, .inl (Z.2 0, 8, .inl v_lengths)), (a5, .inl (Z.2 0, 9, .inl v_fractions)), (a6, .inl (Z.2 0, 4, .inl v_times)), (a7, .inl (Z.2 1, 4, .inr (.inl v_energies))), (a8, .inl (Z.2 1, 1809, .inr (.inl v_far))), (a9, .inl (Z.2 1, 1809, .inr (.inl v_near))), (a10, .inl (Z.2 1, 201, .inr (.inl v_echoes))), (a11, .inl (Z.2 0, 120, .inl r_draft))] : va_W))) args s 0 0 A) [(a0, .inr (5, [.ref a1, .ref a2, .int v_savedCount, .ref a3, .int v_scriptLength, .int v_code, .int v_lineParts, .ref a4, .ref a5, .int v_pulseMany, .ref a6, .ref a7, .ref a8, .ref a9, .ref a10, .long v_left, .long v_dropped, .int v_merged, .int v_drops, .int v_contributions, .long v_packet, .int v_peelResult, .int v_peelTime, .int v_peelSum, .int v_at, .int v_commands, .ref a11, .long v_hash])), (a1, .inl (Z.2 1, 431, .inr (.inl v_m))), (a2, .inl (Z.2 1, 1293, .inr (.inl v_saved))), (a3, .inl (Z.2 0, 120, .inl v_script)), (a4, .inl (Z.2 0, 8, .inl v_lengths)), (a5, .inl (Z.2 0, 9, .inl v_fractions)), (a6, .inl (Z.2 0, 4, .inl v_times)), (a7, .inl (Z.2 1, 4, .inr (.inl v_energies))), (a8, .inl (Z.2 1, 1809, .inr (.inl v_far))), (a9, .inl (Z.2 1, 1809, .inr (.inl v_near))), (a10, .inl (Z.2 1, 201, .inr (.inl v_echoes))), (a11, .inl (Z.2 0, 120, .inl v_draft))] 0 0 7 [some (.ref a0), some (.int x1), some (.int x2), some (.long x3), none] [] := by
  intro n
  induction n with
  | zero =>
    intro v_savedCount v_scriptLength v_code v_lineParts v_pulseMany v_left v_dropped v_merged v_drops v_contributions v_packet v_peelResult v_peelTime v_peelSum v_at v_commands v_hash v_m v_saved v_script v_lengths v_fractions v_times v_energies v_far v_near v_echoes v_draft x1 x2 x3 h
    cases h
  | succ n hK7 =>
    intro v_savedCount v_scriptLength v_code v_lineParts v_pulseMany v_left v_dropped v_merged v_drops v_contributions v_packet v_peelResult v_peelTime v_peelSum v_at v_commands v_hash v_m v_saved v_script v_lengths v_fractions v_times v_energies v_far v_near v_echoes v_draft x1 x2 x3 h
    replace h : B_X6_readWord_7 (F_X6_readWord_7 n) v_scriptLength v_at v_script v_draft x1 x2 x3 = some (r, r_at, r_draft) := h
    unfold B_X6_readWord_7 at h
    refine g_aload_n X rfl dX6_readWord_7 8 rfl ?_
    obtain ⟨r1, hcl, h⟩ := bd1_e h
    refine g_callV1W X (met_X6_here l Z a0 a1 a2 a3 a4 a5 a6 a7 a8 a9 a10 a11 v_savedCount v_scriptLength v_code v_lineParts v_pulseMany v_left v_dropped v_merged v_drops v_contributions v_packet v_peelResult v_peelTime v_peelSum v_at v_commands v_hash v_m v_saved v_script v_lengths v_fractions v_times v_energies v_far v_near v_echoes v_draft  r1 hcl) rfl 0 gC5 rfl rfl (lw_V q1725 q1727 qs61 q74 q1728) md_X6_here ⟨(Nat.le_of_ble_eq_true rfl), (Nat.le_of_ble_eq_true rfl)⟩ rfl dX6_readWord_8 11 rfl 0 0 rfl rfl (Nat.le_of_ble_eq_true rfl) (Nat.le_of_ble_eq_true rfl) (st := []) rfl (Nat.le_of_ble_eq_true rfl) (fun _ => rfl) (fun _ => ?_)
    refine g_i2l X dX6_readWord_11 12 rfl ?_
    refine g_ldc2 X q1737 dX6_readWord_12 15 rfl ?_
    refine g_ldc2 X q1738 dX6_readWord_15 18 rfl ?_
    obtain ⟨r2, hcl, h⟩ := bd1_e h
    refine g_callS1Z X (met_X6_in l Z   r1.toInt64 97 122 r2 hcl) (lw_S q1443 q1444 q74 q1445) md_X6_in ⟨(Nat.le_of_ble_eq_true rfl), (Nat.le_of_ble_eq_true rfl)⟩ rfl dX6_readWord_18 21 rfl 0 0 rfl rfl (Nat.le_of_ble_eq_true rfl) (Nat.le_of_ble_eq_true rfl) (st := []) rfl (Nat.le_of_ble_eq_true rfl) (fun _ => rfl) (fun _ => ?_)
    refine g_if_eq X dX6_readWord_21 65 (by decide) 24 rfl (fun hc => ?_) (fun hc => ?_)
    · replace h := if_t hc h
      refine g_aload_n X rfl dX6_readWord_65 66 rfl ?_
      refine g_get X gC5 0 rfl 24 (by decide) q1366 (fun _ h9 => h9) rfl dX6_readWord_66 69 rfl ?_
      refine g_iload_n X rfl dX6_readWord_69 70 rfl ?_
      refine g_icmp_ne X dX6_readWord_70 75 (by decide) 73 rfl (fun hc => ?_) (fun hc => ?_)
      · replace h := if_f hc h
        refine g_aload_n X rfl dX6_readWord_75 76 rfl ?_
        refine g_get X gC5 0 rfl 26 (by decide) q1368 (fun _ h9 => h9) rfl dX6_readWord_76 79 rfl ?_
        refine g_iload_n X rfl dX6_readWord_79 80 rfl ?_
        refine g_aload_n X rfl dX6_readWord_80 81 rfl ?_
        refine g_get X gC5 0 rfl 24 (by decide) q1366 (fun _ h9 => h9) rfl dX6_readWord_81 84 rfl ?_
        refine g_iload_n X rfl dX6_readWord_84 85 rfl ?_
        refine g_isub X dX6_readWord_85 86 rfl ?_
        refine g_iconst X 5 dX6_readWord_86 87 rfl kI_5 ?_
        refine g_icmp_le X dX6_readWord_87 94 (by decide) 90 rfl (fun hc => ?_) (fun hc => ?_)
        · replace h := if_t hc h
          refine g_lload_n X rfl dX6_readWord_94 95 rfl ?_
          obtain ⟨r3, hcl, h⟩ := bd1_e h
          refine g_callS1Z X (met_X6_kindOf l Z   x3 r3 hcl) (lw_S q1741 q1742 q74 q1743) md_X6_kindOf ⟨(Nat.le_of_ble_eq_true rfl), (Nat.le_of_ble_eq_true rfl)⟩ rfl dX6_readWord_95 98 rfl 0 0 rfl rfl (Nat.le_of_ble_eq_true rfl) (Nat.le_of_ble_eq_true rfl) (st := [.int x1, .ref a11]) rfl (Nat.le_of_ble_eq_true rfl) (fun _ => rfl) (fun _ => ?_)
          refine g_kill (j := 3) [some (.ref a0), some (.int x1), some (.int x2), none, none] rfl ?_
          exact w_X6_readWord_98 a0 a1 a2 a3 a4 a5 a6 a7 a8 a9 a10 a11  X  r r_at r_draft    v_savedCount v_scriptLength v_code v_lineParts v_pulseMany v_left v_dropped v_merged v_drops v_contributions v_packet v_peelResult v_peelTime v_peelSum v_at v_commands v_hash v_m v_saved v_script v_lengths v_fractions v_times v_energies v_far v_near v_echoes v_draft x1 x2 x1 r3 h
        · replace h := if_f hc h
          refine g_iconst X (-1) dX6_readWord_90 91 rfl kI_m1 ?_
          refine g_goto X dX6_readWord_91 98 (by decide) ?_
          refine g_kill (j := 3) [some (.ref a0), some (.int x1), some (.int x2), none, none] rfl ?_
          exact w_X6_readWord_98 a0 a1 a2 a3 a4 a5 a6 a7 a8 a9 a10 a11  X  r r_at r_draft    v_savedCount v_scriptLength v_code v_lineParts v_pulseMany v_left v_dropped v_merged v_drops v_contributions v_packet v_peelResult v_peelTime v_peelSum v_at v_commands v_hash v_m v_saved v_script v_lengths v_fractions v_times v_energies v_far v_near v_echoes v_draft x1 x2 x1 (-1) h
      · replace h := if_t hc h
        refine g_iconst X 0 dX6_readWord_73 74 rfl kI_0 ?_
        cases h
        exact g_zret X dX6_readWord_74 (by decide) () rfl rfl (Nat.le_of_ble_eq_true rfl) (Nat.le_of_ble_eq_true rfl)
    · replace h := if_f hc h
      refine g_aload_n X rfl dX6_readWord_24 25 rfl ?_
      refine g_get X gC5 0 rfl 24 (by decide) q1366 (fun _ h9 => h9) rfl dX6_readWord_25 28 rfl ?_
      refine g_iload_n X rfl dX6_readWord_28 29 rfl ?_
      refine g_isub X dX6_readWord_29 30 rfl ?_
      refine g_iconst X 5 dX6_readWord_30 31 rfl kI_5 ?_
      refine g_icmp_ge X dX6_readWord_31 48 (by decide) 34 rfl (fun hc => ?_) (fun hc => ?_)
      · replace h := if_t hc h
        refine g_ldc2 X q1740 dX6_readWord_48 51 rfl ?_
        refine g_kill (j := 3) [some (.ref a0), some (.int x1), some (.int x2), none, none] rfl ?_
        exact w_X6_readWord_51 a0 a1 a2 a3 a4 a5 a6 a7 a8 a9 a10 a11  X  r r_at r_draft _ hK7  v_savedCount v_scriptLength v_code v_lineParts v_pulseMany v_left v_dropped v_merged v_drops v_contributions v_packet v_peelResult v_peelTime v_peelSum v_at v_commands v_hash v_m v_saved v_script v_lengths v_fractions v_times v_energies v_far v_near v_echoes v_draft x1 x2 (-1) h
      · replace h := if_f hc h
        refine g_lload_n X rfl dX6_readWord_34 35 rfl ?_
        refine g_ldc2 X q1739 dX6_readWord_35 38 rfl ?_
        refine g_lmul X dX6_readWord_38 39 rfl ?_
        refine g_aload_n X rfl dX6_readWord_39 40 rfl ?_
        obtain ⟨r4, hcl, h⟩ := bd1_e h
        refine g_callV1W X (met_X6_here l Z a0 a1 a2 a3 a4 a5 a6 a7 a8 a9 a10 a11 v_savedCount v_scriptLength v_code v_lineParts v_pulseMany v_left v_dropped v_merged v_drops v_contributions v_packet v_peelResult v_peelTime v_peelSum v_at v_commands v_hash v_m v_saved v_script v_lengths v_fractions v_times v_energies v_far v_near v_echoes v_draft  r4 hcl) rfl 0 gC5 rfl rfl (lw_V q1725 q1727 qs61 q74 q1728) md_X6_here ⟨(Nat.le_of_ble_eq_true rfl), (Nat.le_of_ble_eq_true rfl)⟩ rfl dX6_readWord_40 43 rfl 0 0 rfl rfl (Nat.le_of_ble_eq_true rfl) (Nat.le_of_ble_eq_true rfl) (st := [.long (x3 * 128)]) rfl (Nat.le_of_ble_eq_true rfl) (fun _ => rfl) (fun _ => ?_)
        refine g_i2l X dX6_readWord_43 44 rfl ?_
        refine g_ladd X dX6_readWord_44 45 rfl ?_
        refine g_goto X dX6_readWord_45 51 (by decide) ?_
        refine g_kill (j := 3) [some (.ref a0), some (.int x1), some (.int x2), none, none] rfl ?_
        exact w_X6_readWord_51 a0 a1 a2 a3 a4 a5 a6 a7 a8 a9 a10 a11  X  r r_at r_draft _ hK7  v_savedCount v_scriptLength v_code v_lineParts v_pulseMany v_left v_dropped v_merged v_drops v_contributions v_packet v_peelResult v_peelTime v_peelSum v_at v_commands v_hash v_m v_saved v_script v_lengths v_fractions v_times v_energies v_far v_near v_echoes v_draft x1 x2 ((x3 * 128) + r4.toInt64) h
theorem met_X6_readWord (l : Launch) (Z : gZt) (a0 : Nat) (a1 : Nat) (a2 : Nat) (a3 : Nat) (a4 : Nat) (a5 : Nat) (a6 : Nat) (a7 : Nat) (a8 : Nat) (a9 : Nat) (a10 : Nat) (a11 : Nat) (v_savedCount : Int32) (v_scriptLength : Int32) (v_code : Int32) (v_lineParts : Int32) (v_pulseMany : Int32) (v_left : Int64) (v_dropped : Int64) (v_merged : Int32) (v_drops : Int32) (v_contributions : Int32) (v_packet : Int64) (v_peelResult : Int32) (v_peelTime : Int32) (v_peelSum : Int32) (v_at : Int32) (v_commands : Int32) (v_hash : Int64) (v_m : Nat → Int64) (v_saved : Nat → Int64) (v_script : Nat → Int32) (v_lengths : Nat → Int32) (v_fractions : Nat → Int32) (v_times : Nat → Int32) (v_energies : Nat → Int64) (v_far : Nat → Int64) (v_near : Nat → Int64) (v_echoes : Nat → Int64) (v_draft : Nat → Int32) (x1 : Int32) (r : Int32) (r_at : Int32) (r_draft : Nat → Int32) (h : F_X6_readWord v_scriptLength v_at v_script v_draft x1 = some (r, r_at, r_draft)) : Ct l yX6_readWord (ws_ yX6_readWord cX6_readWord 5 (some .boolean)) rm_X6_readWord Z [.ref a0, .int x1] [(a0, .inr (5, [.ref a1, .ref a2, .int v_savedCount, .ref a3, .int v_scriptLength, .int v_code, .int v_lineParts, .ref a4, .ref a5, .int v_pulseMany, .ref a6, .ref a7, .ref a8, .ref a9, .ref a10, .long v_left, .long v_dropped, .int v_merged, .int v_drops, .int v_contributions, .long v_packet, .int v_peelResult, .int v_peelTime, .int v_peelSum, .int v_at, .int v_commands, .ref a11, .long v_hash])), (a1, .inl (Z.2 1, 431, .inr (.inl v_m))), (a2, .inl (Z.2 1, 1293, .inr (.inl v_saved))), (a3, .inl (Z.2 0, 120, .inl v_script)), (a4, .inl (Z.2 0, 8, .inl v_lengths)), (a5, .inl (Z.2 0, 9, .inl v_fractions)), (a6, .inl (Z.2 0, 4, .inl v_times)), (a7, .inl (Z.2 1, 4, .inr (.inl v_energies))), (a8, .inl (Z.2 1, 1809, .inr (.inl v_far))), (a9, .inl (Z.2 1, 1809, .inr (.inl v_near))), (a10, .inl (Z.2 1, 201, .inr (.inl v_echoes))), (a11, .inl (Z.2 0, 120, .inl v_draft))] [] (fun _ : Unit => (some (.int r) : Option Value)) (fun _ : Unit => ([(a0, .inr (5, [.ref a1, .ref a2, .int v_savedCount, .ref a3, .int v_scriptLength, .int v_code, .int v_lineParts, .ref a4, .ref a5, .int v_pulseMany, .ref a6, .ref a7, .ref a8, .ref a9, .ref a10, .long v_left, .long v_dropped, .int v_merged, .int v_drops, .int v_contributions, .long v_packet, .int v_peelResult, .int v_peelTime, .int v_peelSum, .int r_at, .int v_commands, .ref a11, .long v_hash])), (a1, .inl (Z.2 1, 431, .inr (.inl v_m))), (a2, .inl (Z.2 1, 1293, .inr (.inl v_saved))), (a3, .inl (Z.2 0, 120, .inl v_script)), (a4, .inl (Z.2 0, 8, .inl v_lengths)), (a5, .inl (Z.2 0, 9, .inl v_fractions)), (a6, .inl (Z.2 0, 4, .inl v_times)), (a7, .inl (Z.2 1, 4, .inr (.inl v_energies))), (a8, .inl (Z.2 1, 1809, .inr (.inl v_far))), (a9, .inl (Z.2 1, 1809, .inr (.inl v_near))), (a10, .inl (Z.2 1, 201, .inr (.inl v_echoes))), (a11, .inl (Z.2 0, 120, .inl r_draft))] : va_W)) := by
  refine Ct.of cX6_readWord 5 (some .boolean) "LineEchoesModel" [some (.ref a0), some (.int x1), none, none, none] 3 (by decide) rfl (Nat.le_of_ble_eq_true rfl) rfl (fun p e s m args below meth c A X hin => ?_)
  unfold F_X6_readWord at h
  refine g_aload_n X rfl dX6_readWord_0 1 rfl ?_
  refine g_get X gC5 0 rfl 24 (by decide) q1366 (fun _ h9 => h9) rfl dX6_readWord_1 4 rfl ?_
  refine g_istore_n X dX6_readWord_4 5 rfl (Nat.le_of_ble_eq_true rfl) rfl [some (.ref a0), some (.int x1), some (.int v_at), none, none] rfl ?_
  refine g_lconst X 0 dX6_readWord_5 6 rfl rfl ?_
  refine g_lstore_n X dX6_readWord_6 7 rfl (Nat.le_of_ble_eq_true rfl) rfl [some (.ref a0), some (.int x1), some (.int v_at), some (.long 0), none] rfl ?_
  exact w_X6_readWord_7 a0 a1 a2 a3 a4 a5 a6 a7 a8 a9 a10 a11  X  r r_at r_draft    gFU v_savedCount v_scriptLength v_code v_lineParts v_pulseMany v_left v_dropped v_merged v_drops v_contributions v_packet v_peelResult v_peelTime v_peelSum v_at v_commands v_hash v_m v_saved v_script v_lengths v_fractions v_times v_energies v_far v_near v_echoes v_draft x1 v_at 0 h
/-! LineEchoesModel.readCommand()Z -/
abbrev rm_X6_readCommand : Room := { frames := 3, cells := 0, slots := 0, locals := 64 }
def B_X6_readCommand_56 (K56 : (Int32) → (Int32) → (Int32) → (Nat → Int32) → (Nat → Int32) → (Int32) → (Int32) → (Int32) → Option (Int32 × Int32 × Int32 × (Nat → Int32))) (v_scriptLength : Int32) (v_at : Int32) (v_commands : Int32) (v_script : Nat → Int32) (v_draft : Nat → Int32) (x1 : Int32) (x3 : Int32) (x4 : Int32) : Option (Int32 × Int32 × Int32 × (Nat → Int32)) :=
  if x3 ≤ x4 then
    (bd2 (F_X6_spaces v_scriptLength v_at v_script) fun r1 w2_at =>
    bd1 (F_X6_here v_scriptLength w2_at v_script) fun r3 =>
    if r3 = 59 then
      (some (1, w2_at + 1, v_commands + 1, v_draft))
    else
      (some (0, w2_at, v_commands, v_draft)))
  else
    (bd3 (F_X6_readNumber v_scriptLength v_at v_script v_draft ((x1 + 1) + x4)) fun r4 w5_at w6_draft =>
    if r4 = 0 then
      (some (0, w5_at, v_commands, w6_draft))
    else
      (K56 v_scriptLength w5_at v_commands v_script w6_draft x1 x3 (x4 + 1)))
def F_X6_readCommand_56 : Nat → (Int32) → (Int32) → (Int32) → (Nat → Int32) → (Nat → Int32) → (Int32) → (Int32) → (Int32) → Option (Int32 × Int32 × Int32 × (Nat → Int32))
  | 0 => fun _ _ _ _ _ _ _ _ => none
  | n + 1 => B_X6_readCommand_56 (F_X6_readCommand_56 n)
def F_X6_readCommand (v_scriptLength : Int32) (v_at : Int32) (v_commands : Int32) (v_script : Nat → Int32) (v_draft : Nat → Int32) : Option (Int32 × Int32 × Int32 × (Nat → Int32)) :=
  bd3 (F_X6_readWord v_scriptLength v_at v_script v_draft (4 * v_commands)) fun r1 w2_at w3_draft =>
  if r1 = 0 then
    (some (0, w2_at, v_commands, w3_draft))
  else
    (gin (4 * v_commands) 120 <|
    nm (w3_draft (4 * v_commands).toNatClampNeg) fun t4 =>
    F_X6_readCommand_56 gFU v_scriptLength w2_at v_commands v_script w3_draft (4 * v_commands) (if 2 ≤ t4 then (if 4 ≤ t4 then (if t4 = 4 then (1 : Int32) else 0) else 2) else 3) 0)
theorem w_X6_readCommand_56 {p : Program} {l : Launch} {e : Env} {s : State} {m : MethodId} {args : Array Value} {below : List Frame} {meth : Method} {c : Code} {Z : gZt} {A : Nat → Prop} (a0 : Nat) (a1 : Nat) (a2 : Nat) (a3 : Nat) (a4 : Nat) (a5 : Nat) (a6 : Nat) (a7 : Nat) (a8 : Nat) (a9 : Nat) (a10 : Nat) (a11 : Nat) (X : gX p s m args meth c Z A cX6_readCommand "LineEchoesModel" 5 (some .boolean) []) (r : Int32) (r_at : Int32) (r_commands : Int32) (r_draft : Nat → Int32)  : ∀ (n : Nat) (v_savedCount : Int32) (v_scriptLength : Int32) (v_code : Int32) (v_lineParts : Int32) (v_pulseMany : Int32) (v_left : Int64) (v_dropped : Int64) (v_merged : Int32) (v_drops : Int32) (v_contributions : Int32) (v_packet : Int64) (v_peelResult : Int32) (v_peelTime : Int32) (v_peelSum : Int32) (v_at : Int32) (v_commands : Int32) (v_hash : Int64) (v_m : Nat → Int64) (v_saved : Nat → Int64) (v_script : Nat → Int32) (v_lengths : Nat → Int32) (v_fractions : Nat → Int32) (v_times : Nat → Int32) (v_energies : Nat → Int64) (v_far : Nat → Int64) (v_near : Nat → Int64) (v_echoes : Nat → Int64) (v_draft : Nat → Int32) (x1 : Int32) (x3 : Int32) (x4 : Int32), F_X6_readCommand_56 n v_scriptLength v_at v_commands v_script v_draft x1 x3 x4 = some (r, r_at, r_commands, r_draft) → G p l e rm_X6_readCommand s m args below meth c Z A 5 (MQ below (gPost Z A (fun _ : Unit => (some (.int r) : Option Value)) (fun _ : Unit => ([(a0, .inr (5, [.ref a1, .ref a2, .int v_savedCount, .ref a3, .int v_scriptLength, .int v_code, .int v_lineParts, .ref a4, .ref a5, .int v_pulseMany, .ref a6, .ref a7, .ref a8, .ref a9, .ref a10, .long v_left, .long v_dropped, .int v_merged, .int v_drops, .int v_contributions, .long v_packet, .int v_peelResult, .int v_peelTime, .int v_peelSum, .int r_at, .int r_commands, .ref a11, .long v_hash])), (a1, .inl (Z.2 1, 431, .inr (.inl v_m))), (a2, .inl (Z.2 1, 1293, .inr (.inl v_saved))), (a3, .inl (Z.2 0, 120, .inl v_script)), (a4, .inl (Z.2 0, 8, .inl v_lengths)), (a5, .inl (Z.2 0, 9, .inl v_fractions)), (a6, .inl (Z.2 0, 4, .inl v_times)), (a7, .inl (Z.2 1, 4, .inr (.inl v_energies))), (a8, .inl (Z.2 1, 1809, .inr (.inl v_far))), (a9, .inl (Z.2 1, 1809, .inr (.inl v_near))), (a10, .inl (Z.2 1, 201, .inr (.inl v_echoes))), (a11, .inl (Z.2 0, 120, .inl r_draft))] : va_W))) args s 0 0 A) [(a0, .inr (5, [.ref a1, .ref a2, .int v_savedCount, .ref a3, .int v_scriptLength, .int v_code, .int v_lineParts, .ref a4, .ref a5, .int v_pulseMany, .ref a6, .ref a7, .ref a8, .ref a9, .ref a10, .long v_left, .long v_dropped, .int v_merged, .int v_drops, .int v_contributions, .long v_packet, .int v_peelResult, .int v_peelTime, .int v_peelSum, .int v_at, .int v_commands, .ref a11, .long v_hash])), (a1, .inl (Z.2 1, 431, .inr (.inl v_m))), (a2, .inl (Z.2 1, 1293, .inr (.inl v_saved))), (a3, .inl (Z.2 0, 120, .inl v_script)), (a4, .inl (Z.2 0, 8, .inl v_lengths)), (a5, .inl (Z.2 0, 9, .inl v_fractions)), (a6, .inl (Z.2 0, 4, .inl v_times)), (a7, .inl (Z.2 1, 4, .inr (.inl v_energies))), (a8, .inl (Z.2 1, 1809, .inr (.inl v_far))), (a9, .inl (Z.2 1, 1809, .inr (.inl v_near))), (a10, .inl (Z.2 1, 201, .inr (.inl v_echoes))), (a11, .inl (Z.2 0, 120, .inl v_draft))] 0 0 56 [some (.ref a0), some (.int x1), none, some (.int x3), some (.int x4)] [] := by
  intro n
  induction n with
  | zero =>
    intro v_savedCount v_scriptLength v_code v_lineParts v_pulseMany v_left v_dropped v_merged v_drops v_contributions v_packet v_peelResult v_peelTime v_peelSum v_at v_commands v_hash v_m v_saved v_script v_lengths v_fractions v_times v_energies v_far v_near v_echoes v_draft x1 x3 x4 h
    cases h
  | succ n hK56 =>
    intro v_savedCount v_scriptLength v_code v_lineParts v_pulseMany v_left v_dropped v_merged v_drops v_contributions v_packet v_peelResult v_peelTime v_peelSum v_at v_commands v_hash v_m v_saved v_script v_lengths v_fractions v_times v_energies v_far v_near v_echoes v_draft x1 x3 x4 h
    replace h : B_X6_readCommand_56 (F_X6_readCommand_56 n) v_scriptLength v_at v_commands v_script v_draft x1 x3 x4 = some (r, r_at, r_commands, r_draft) := h
    unfold B_X6_readCommand_56 at h
    refine g_iload X rfl dX6_readCommand_56 58 rfl ?_
    refine g_iload_n X rfl dX6_readCommand_58 59 rfl ?_
    refine g_icmp_ge X dX6_readCommand_59 83 (by decide) 62 rfl (fun hc => ?_) (fun hc => ?_)
    · replace h := if_t hc h
      refine g_aload_n X rfl dX6_readCommand_83 84 rfl ?_
      obtain ⟨r1, w2_at, hcl, h⟩ := bd2_e h
      refine g_callV1W X (met_X6_spaces l Z a0 a1 a2 a3 a4 a5 a6 a7 a8 a9 a10 a11 v_savedCount v_scriptLength v_code v_lineParts v_pulseMany v_left v_dropped v_merged v_drops v_contributions v_packet v_peelResult v_peelTime v_peelSum v_at v_commands v_hash v_m v_saved v_script v_lengths v_fractions v_times v_energies v_far v_near v_echoes v_draft  r1 w2_at hcl) rfl 0 gC5 rfl rfl (lw_V q1721 q1723 qs60 q74 q1724) md_X6_spaces ⟨(Nat.le_of_ble_eq_true rfl), (Nat.le_of_ble_eq_true rfl)⟩ rfl dX6_readCommand_84 87 rfl 0 0 rfl rfl (Nat.le_of_ble_eq_true rfl) (Nat.le_of_ble_eq_true rfl) (st := []) rfl (Nat.le_of_ble_eq_true rfl) (fun _ => rfl) (fun _ => ?_)
      refine g_istore X dX6_readCommand_87 89 rfl (Nat.le_of_ble_eq_true rfl) rfl [some (.ref a0), some (.int x1), none, some (.int x3), some (.int r1)] rfl ?_
      refine g_aload_n X rfl dX6_readCommand_89 90 rfl ?_
      obtain ⟨r3, hcl, h⟩ := bd1_e h
      refine g_callV1W X (met_X6_here l Z a0 a1 a2 a3 a4 a5 a6 a7 a8 a9 a10 a11 v_savedCount v_scriptLength v_code v_lineParts v_pulseMany v_left v_dropped v_merged v_drops v_contributions v_packet v_peelResult v_peelTime v_peelSum w2_at v_commands v_hash v_m v_saved v_script v_lengths v_fractions v_times v_energies v_far v_near v_echoes v_draft  r3 hcl) rfl 0 gC5 rfl rfl (lw_V q1725 q1727 qs61 q74 q1728) md_X6_here ⟨(Nat.le_of_ble_eq_true rfl), (Nat.le_of_ble_eq_true rfl)⟩ rfl dX6_readCommand_90 93 rfl 0 0 rfl rfl (Nat.le_of_ble_eq_true rfl) (Nat.le_of_ble_eq_true rfl) (st := []) rfl (Nat.le_of_ble_eq_true rfl) (fun _ => rfl) (fun _ => ?_)
      refine g_bipush X 59 dX6_readCommand_93 95 rfl kB_59 ?_
      refine g_icmp_eq X dX6_readCommand_95 100 (by decide) 98 rfl (fun hc => ?_) (fun hc => ?_)
      · replace h := if_t hc h
        refine g_aload_n X rfl dX6_readCommand_100 101 rfl ?_
        refine g_dup X dX6_readCommand_101 102 rfl rfl ?_
        refine g_get X gC5 0 rfl 24 (by decide) q1366 (fun _ h9 => h9) rfl dX6_readCommand_102 105 rfl ?_
        refine g_iconst X 1 dX6_readCommand_105 106 rfl kI_1 ?_
        refine g_iadd X dX6_readCommand_106 107 rfl ?_
        refine g_put X gC5 0 rfl 24 (by decide) q1366 (fun _ h9 => h9) rfl rfl rfl (Nat.le_of_ble_eq_true rfl) dX6_readCommand_107 110 rfl ?_
        refine g_aload_n X rfl dX6_readCommand_110 111 rfl ?_
        refine g_dup X dX6_readCommand_111 112 rfl rfl ?_
        refine g_get X gC5 0 rfl 25 (by decide) q1367 (fun _ h9 => h9) rfl dX6_readCommand_112 115 rfl ?_
        refine g_iconst X 1 dX6_readCommand_115 116 rfl kI_1 ?_
        refine g_iadd X dX6_readCommand_116 117 rfl ?_
        refine g_put X gC5 0 rfl 25 (by decide) q1367 (fun _ h9 => h9) rfl rfl rfl (Nat.le_of_ble_eq_true rfl) dX6_readCommand_117 120 rfl ?_
        refine g_iconst X 1 dX6_readCommand_120 121 rfl kI_1 ?_
        cases h
        exact g_zret X dX6_readCommand_121 (by decide) () rfl rfl (Nat.le_of_ble_eq_true rfl) (Nat.le_of_ble_eq_true rfl)
      · replace h := if_f hc h
        refine g_iconst X 0 dX6_readCommand_98 99 rfl kI_0 ?_
        cases h
        exact g_zret X dX6_readCommand_99 (by decide) () rfl rfl (Nat.le_of_ble_eq_true rfl) (Nat.le_of_ble_eq_true rfl)
    · replace h := if_f hc h
      refine g_aload_n X rfl dX6_readCommand_62 63 rfl ?_
      refine g_iload_n X rfl dX6_readCommand_63 64 rfl ?_
      refine g_iconst X 1 dX6_readCommand_64 65 rfl kI_1 ?_
      refine g_iadd X dX6_readCommand_65 66 rfl ?_
      refine g_iload X rfl dX6_readCommand_66 68 rfl ?_
      refine g_iadd X dX6_readCommand_68 69 rfl ?_
      obtain ⟨r4, w5_at, w6_draft, hcl, h⟩ := bd3_e h
      refine g_callV1W X (met_X6_readNumber l Z a0 a1 a2 a3 a4 a5 a6 a7 a8 a9 a10 a11 v_savedCount v_scriptLength v_code v_lineParts v_pulseMany v_left v_dropped v_merged v_drops v_contributions v_packet v_peelResult v_peelTime v_peelSum v_at v_commands v_hash v_m v_saved v_script v_lengths v_fractions v_times v_energies v_far v_near v_echoes v_draft ((x1 + 1) + x4) r4 w5_at w6_draft hcl) rfl 0 gC5 rfl rfl (lw_V q1752 q1754 qs64 q74 q1755) md_X6_readNumber ⟨(Nat.le_of_ble_eq_true rfl), (Nat.le_of_ble_eq_true rfl)⟩ rfl dX6_readCommand_69 72 rfl 0 0 rfl rfl (Nat.le_of_ble_eq_true rfl) (Nat.le_of_ble_eq_true rfl) (st := []) rfl (Nat.le_of_ble_eq_true rfl) (fun _ => rfl) (fun _ => ?_)
      refine g_if_ne X dX6_readCommand_72 77 (by decide) 75 rfl (fun hc => ?_) (fun hc => ?_)
      · replace h := if_f hc h
        refine g_iinc X 1 rfl dX6_readCommand_77 80 rfl kI_1 (Nat.le_of_ble_eq_true rfl) rfl [some (.ref a0), some (.int x1), none, some (.int x3), some (.int (x4 + 1))] rfl ?_
        refine g_goto X dX6_readCommand_80 56 (by decide) ?_
        exact hK56 v_savedCount v_scriptLength v_code v_lineParts v_pulseMany v_left v_dropped v_merged v_drops v_contributions v_packet v_peelResult v_peelTime v_peelSum w5_at v_commands v_hash v_m v_saved v_script v_lengths v_fractions v_times v_energies v_far v_near v_echoes w6_draft x1 x3 (x4 + 1) h
      · replace h := if_t hc h
        refine g_iconst X 0 dX6_readCommand_75 76 rfl kI_0 ?_
        cases h
        exact g_zret X dX6_readCommand_76 (by decide) () rfl rfl (Nat.le_of_ble_eq_true rfl) (Nat.le_of_ble_eq_true rfl)
theorem met_X6_readCommand (l : Launch) (Z : gZt) (a0 : Nat) (a1 : Nat) (a2 : Nat) (a3 : Nat) (a4 : Nat) (a5 : Nat) (a6 : Nat) (a7 : Nat) (a8 : Nat) (a9 : Nat) (a10 : Nat) (a11 : Nat) (v_savedCount : Int32) (v_scriptLength : Int32) (v_code : Int32) (v_lineParts : Int32) (v_pulseMany : Int32) (v_left : Int64) (v_dropped : Int64) (v_merged : Int32) (v_drops : Int32) (v_contributions : Int32) (v_packet : Int64) (v_peelResult : Int32) (v_peelTime : Int32) (v_peelSum : Int32) (v_at : Int32) (v_commands : Int32) (v_hash : Int64) (v_m : Nat → Int64) (v_saved : Nat → Int64) (v_script : Nat → Int32) (v_lengths : Nat → Int32) (v_fractions : Nat → Int32) (v_times : Nat → Int32) (v_energies : Nat → Int64) (v_far : Nat → Int64) (v_near : Nat → Int64) (v_echoes : Nat → Int64) (v_draft : Nat → Int32) (r : Int32) (r_at : Int32) (r_commands : Int32) (r_draft : Nat → Int32) (h : F_X6_readCommand v_scriptLength v_at v_commands v_script v_draft = some (r, r_at, r_commands, r_draft)) : Ct l yX6_readCommand (ws_ yX6_readCommand cX6_readCommand 5 (some .boolean)) rm_X6_readCommand Z [.ref a0] [(a0, .inr (5, [.ref a1, .ref a2, .int v_savedCount, .ref a3, .int v_scriptLength, .int v_code, .int v_lineParts, .ref a4, .ref a5, .int v_pulseMany, .ref a6, .ref a7, .ref a8, .ref a9, .ref a10, .long v_left, .long v_dropped, .int v_merged, .int v_drops, .int v_contributions, .long v_packet, .int v_peelResult, .int v_peelTime, .int v_peelSum, .int v_at, .int v_commands, .ref a11, .long v_hash])), (a1, .inl (Z.2 1, 431, .inr (.inl v_m))), (a2, .inl (Z.2 1, 1293, .inr (.inl v_saved))), (a3, .inl (Z.2 0, 120, .inl v_script)), (a4, .inl (Z.2 0, 8, .inl v_lengths)), (a5, .inl (Z.2 0, 9, .inl v_fractions)), (a6, .inl (Z.2 0, 4, .inl v_times)), (a7, .inl (Z.2 1, 4, .inr (.inl v_energies))), (a8, .inl (Z.2 1, 1809, .inr (.inl v_far))), (a9, .inl (Z.2 1, 1809, .inr (.inl v_near))), (a10, .inl (Z.2 1, 201, .inr (.inl v_echoes))), (a11, .inl (Z.2 0, 120, .inl v_draft))] [] (fun _ : Unit => (some (.int r) : Option Value)) (fun _ : Unit => ([(a0, .inr (5, [.ref a1, .ref a2, .int v_savedCount, .ref a3, .int v_scriptLength, .int v_code, .int v_lineParts, .ref a4, .ref a5, .int v_pulseMany, .ref a6, .ref a7, .ref a8, .ref a9, .ref a10, .long v_left, .long v_dropped, .int v_merged, .int v_drops, .int v_contributions, .long v_packet, .int v_peelResult, .int v_peelTime, .int v_peelSum, .int r_at, .int r_commands, .ref a11, .long v_hash])), (a1, .inl (Z.2 1, 431, .inr (.inl v_m))), (a2, .inl (Z.2 1, 1293, .inr (.inl v_saved))), (a3, .inl (Z.2 0, 120, .inl v_script)), (a4, .inl (Z.2 0, 8, .inl v_lengths)), (a5, .inl (Z.2 0, 9, .inl v_fractions)), (a6, .inl (Z.2 0, 4, .inl v_times)), (a7, .inl (Z.2 1, 4, .inr (.inl v_energies))), (a8, .inl (Z.2 1, 1809, .inr (.inl v_far))), (a9, .inl (Z.2 1, 1809, .inr (.inl v_near))), (a10, .inl (Z.2 1, 201, .inr (.inl v_echoes))), (a11, .inl (Z.2 0, 120, .inl r_draft))] : va_W)) := by
  refine Ct.of cX6_readCommand 5 (some .boolean) "LineEchoesModel" [some (.ref a0), none, none, none, none] 4 (by decide) rfl (Nat.le_of_ble_eq_true rfl) rfl (fun p e s m args below meth c A X hin => ?_)
  unfold F_X6_readCommand at h
  refine g_iconst X 4 dX6_readCommand_0 1 rfl kI_4 ?_
  refine g_aload_n X rfl dX6_readCommand_1 2 rfl ?_
  refine g_get X gC5 0 rfl 25 (by decide) q1367 (fun _ h9 => h9) rfl dX6_readCommand_2 5 rfl ?_
  refine g_imul X dX6_readCommand_5 6 rfl ?_
  refine g_istore_n X dX6_readCommand_6 7 rfl (Nat.le_of_ble_eq_true rfl) rfl [some (.ref a0), some (.int (4 * v_commands)), none, none, none] rfl ?_
  refine g_aload_n X rfl dX6_readCommand_7 8 rfl ?_
  refine g_iload_n X rfl dX6_readCommand_8 9 rfl ?_
  obtain ⟨r1, w2_at, w3_draft, hcl, h⟩ := bd3_e h
  refine g_callV1W X (met_X6_readWord l Z a0 a1 a2 a3 a4 a5 a6 a7 a8 a9 a10 a11 v_savedCount v_scriptLength v_code v_lineParts v_pulseMany v_left v_dropped v_merged v_drops v_contributions v_packet v_peelResult v_peelTime v_peelSum v_at v_commands v_hash v_m v_saved v_script v_lengths v_fractions v_times v_energies v_far v_near v_echoes v_draft (4 * v_commands) r1 w2_at w3_draft hcl) rfl 0 gC5 rfl rfl (lw_V q1733 q1735 qs63 q74 q1736) md_X6_readWord ⟨(Nat.le_of_ble_eq_true rfl), (Nat.le_of_ble_eq_true rfl)⟩ rfl dX6_readCommand_9 12 rfl 0 0 rfl rfl (Nat.le_of_ble_eq_true rfl) (Nat.le_of_ble_eq_true rfl) (st := []) rfl (Nat.le_of_ble_eq_true rfl) (fun _ => rfl) (fun _ => ?_)
  refine g_if_ne X dX6_readCommand_12 17 (by decide) 15 rfl (fun hc => ?_) (fun hc => ?_)
  · replace h := if_f hc h
    refine g_aload_n X rfl dX6_readCommand_17 18 rfl ?_
    refine g_get X gC5 0 rfl 26 (by decide) q1368 (fun _ h9 => h9) rfl dX6_readCommand_18 21 rfl ?_
    refine g_iload_n X rfl dX6_readCommand_21 22 rfl ?_
    obtain ⟨hi, h⟩ := gin_e h
    refine g_iald X 11 rfl hi dX6_readCommand_22 23 rfl ?_
    refine g_topi (fun t4 et4 => ?_)
    replace h := nm_at et4 h
    refine g_istore_n X dX6_readCommand_23 24 rfl (Nat.le_of_ble_eq_true rfl) rfl [some (.ref a0), some (.int (4 * v_commands)), some (.int t4), none, none] rfl ?_
    refine g_iload_n X rfl dX6_readCommand_24 25 rfl ?_
    refine g_iconst X 2 dX6_readCommand_25 26 rfl kI_2 ?_
    refine g_seli 52 [] (b := 2 ≤ t4) (if 4 ≤ t4 then (if t4 = 4 then (1 : Int32) else 0) else 2) 3 ?_ (fun hc K => ?_) (fun hc K => ?_)
    · refine g_istore_n X dX6_readCommand_52 53 rfl (Nat.le_of_ble_eq_true rfl) rfl [some (.ref a0), some (.int (4 * v_commands)), some (.int t4), some (.int (if 2 ≤ t4 then (if 4 ≤ t4 then (if t4 = 4 then (1 : Int32) else 0) else 2) else 3)), none] rfl ?_
      refine g_iconst X 0 dX6_readCommand_53 54 rfl kI_0 ?_
      refine g_istore X dX6_readCommand_54 56 rfl (Nat.le_of_ble_eq_true rfl) rfl [some (.ref a0), some (.int (4 * v_commands)), some (.int t4), some (.int (if 2 ≤ t4 then (if 4 ≤ t4 then (if t4 = 4 then (1 : Int32) else 0) else 2) else 3)), some (.int 0)] rfl ?_
      refine g_kill (j := 2) [some (.ref a0), some (.int (4 * v_commands)), none, some (.int (if 2 ≤ t4 then (if 4 ≤ t4 then (if t4 = 4 then (1 : Int32) else 0) else 2) else 3)), some (.int 0)] rfl ?_
      exact w_X6_readCommand_56 a0 a1 a2 a3 a4 a5 a6 a7 a8 a9 a10 a11  X  r r_at r_commands r_draft    gFU v_savedCount v_scriptLength v_code v_lineParts v_pulseMany v_left v_dropped v_merged v_drops v_contributions v_packet v_peelResult v_peelTime v_peelSum w2_at v_commands v_hash v_m v_saved v_script v_lengths v_fractions v_times v_energies v_far v_near v_echoes w3_draft (4 * v_commands) (if 2 ≤ t4 then (if 4 ≤ t4 then (if t4 = 4 then (1 : Int32) else 0) else 2) else 3) 0 h
    · refine g_icmp_ge X dX6_readCommand_26 33 (by decide) 29 rfl (fun _ => ?_) (fun hn => absurd hc hn)
      refine g_iload_n X rfl dX6_readCommand_33 34 rfl ?_
      refine g_iconst X 4 dX6_readCommand_34 35 rfl kI_4 ?_
      refine g_icmp_ge X dX6_readCommand_35 42 (by decide) 38 rfl (fun hc => ?_) (fun hc => ?_)
      · replace K := gsel_ti hc K
        refine g_iload_n X rfl dX6_readCommand_42 43 rfl ?_
        refine g_iconst X 4 dX6_readCommand_43 44 rfl kI_4 ?_
        refine g_icmp_ne X dX6_readCommand_44 51 (by decide) 47 rfl (fun hc => ?_) (fun hc => ?_)
        · replace K := gsel_fi hc K
          refine g_iconst X 0 dX6_readCommand_51 52 rfl kI_0 ?_
          exact K
        · replace K := gsel_ti hc K
          refine g_iconst X 1 dX6_readCommand_47 48 rfl kI_1 ?_
          refine g_goto X dX6_readCommand_48 52 (by decide) ?_
          exact K
      · replace K := gsel_fi hc K
        refine g_iconst X 2 dX6_readCommand_38 39 rfl kI_2 ?_
        refine g_goto X dX6_readCommand_39 52 (by decide) ?_
        exact K
    · refine g_icmp_ge X dX6_readCommand_26 33 (by decide) 29 rfl (fun hn => absurd hn hc) (fun _ => ?_)
      refine g_iconst X 3 dX6_readCommand_29 30 rfl kI_3 ?_
      refine g_goto X dX6_readCommand_30 52 (by decide) ?_
      exact K
  · replace h := if_t hc h
    refine g_iconst X 0 dX6_readCommand_15 16 rfl kI_0 ?_
    cases h
    exact g_zret X dX6_readCommand_16 (by decide) () rfl rfl (Nat.le_of_ble_eq_true rfl) (Nat.le_of_ble_eq_true rfl)
