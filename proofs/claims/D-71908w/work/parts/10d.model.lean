/-! THE REFERENCE, walked (printed by gen/model.py) -/
set_option maxRecDepth 100000
/-! LineEchoesModel.earliest()I -/
abbrev rm_X6_earliest : Room := { frames := 0, cells := 0, slots := 0, locals := 0 }
def F_X6_earliest_37 (K9 : (Int32) → (Nat → Int32) → (Int32) → (Int32) → Option (Int32)) (v_pulseMany : Int32) (v_times : Nat → Int32) (x2 : Int32) (s0 : Int32) : Option (Int32) :=
  K9 v_pulseMany v_times s0 (x2 + 1)
def B_X6_earliest_9 (K9 : (Int32) → (Nat → Int32) → (Int32) → (Int32) → Option (Int32)) (v_pulseMany : Int32) (v_times : Nat → Int32) (x1 : Int32) (x2 : Int32) : Option (Int32) :=
  if v_pulseMany ≤ x2 then
    (some x1)
  else
    (gin x2 4 <|
    if x1 ≤ (v_times x2.toNatClampNeg) then
      (F_X6_earliest_37 K9 v_pulseMany v_times x2 x1)
    else
      (gin x2 4 <|
      F_X6_earliest_37 K9 v_pulseMany v_times x2 (v_times x2.toNatClampNeg)))
def F_X6_earliest_9 : Nat → (Int32) → (Nat → Int32) → (Int32) → (Int32) → Option (Int32)
  | 0 => fun _ _ _ _ => none
  | n + 1 => B_X6_earliest_9 (F_X6_earliest_9 n)
def F_X6_earliest (v_pulseMany : Int32) (v_times : Nat → Int32) : Option (Int32) :=
  gin 0 4 <|
  nm (v_times (Int32.toNatClampNeg 0)) fun t1 =>
  F_X6_earliest_9 gFU v_pulseMany v_times t1 1
theorem w_X6_earliest_37 {p : Program} {l : Launch} {e : Env} {s : State} {m : MethodId} {args : Array Value} {below : List Frame} {meth : Method} {c : Code} {Z : gZt} {A : Nat → Prop} (a0 : Nat) (a1 : Nat) (a2 : Nat) (a3 : Nat) (a4 : Nat) (a5 : Nat) (a6 : Nat) (a7 : Nat) (a8 : Nat) (a9 : Nat) (a10 : Nat) (a11 : Nat) (X : gX p s m args meth c Z A cX6_earliest "LineEchoesModel" 3 (some .int) []) (r : Int32) (K9 : (Int32) → (Nat → Int32) → (Int32) → (Int32) → Option (Int32)) (hK9 : ∀ (v_savedCount : Int32) (v_scriptLength : Int32) (v_code : Int32) (v_lineParts : Int32) (v_pulseMany : Int32) (v_left : Int64) (v_dropped : Int64) (v_merged : Int32) (v_drops : Int32) (v_contributions : Int32) (v_packet : Int64) (v_peelResult : Int32) (v_peelTime : Int32) (v_peelSum : Int32) (v_at : Int32) (v_commands : Int32) (v_hash : Int64) (v_m : Nat → Int64) (v_saved : Nat → Int64) (v_script : Nat → Int32) (v_lengths : Nat → Int32) (v_fractions : Nat → Int32) (v_times : Nat → Int32) (v_energies : Nat → Int64) (v_far : Nat → Int64) (v_near : Nat → Int64) (v_echoes : Nat → Int64) (v_draft : Nat → Int32) (x1 : Int32) (x2 : Int32), K9 v_pulseMany v_times x1 x2 = some r → G p l e rm_X6_earliest s m args below meth c Z A 3 (MQ below (gPost Z A (fun _ : Unit => (some (.int r) : Option Value)) (fun _ : Unit => ([(a0, .inr (5, [.ref a1, .ref a2, .int v_savedCount, .ref a3, .int v_scriptLength, .int v_code, .int v_lineParts, .ref a4, .ref a5, .int v_pulseMany, .ref a6, .ref a7, .ref a8, .ref a9, .ref a10, .long v_left, .long v_dropped, .int v_merged, .int v_drops, .int v_contributions, .long v_packet, .int v_peelResult, .int v_peelTime, .int v_peelSum, .int v_at, .int v_commands, .ref a11, .long v_hash])), (a1, .inl (Z.2 1, 431, .inr (.inl v_m))), (a2, .inl (Z.2 1, 1293, .inr (.inl v_saved))), (a3, .inl (Z.2 0, 120, .inl v_script)), (a4, .inl (Z.2 0, 8, .inl v_lengths)), (a5, .inl (Z.2 0, 9, .inl v_fractions)), (a6, .inl (Z.2 0, 4, .inl v_times)), (a7, .inl (Z.2 1, 4, .inr (.inl v_energies))), (a8, .inl (Z.2 1, 1809, .inr (.inl v_far))), (a9, .inl (Z.2 1, 1809, .inr (.inl v_near))), (a10, .inl (Z.2 1, 201, .inr (.inl v_echoes))), (a11, .inl (Z.2 0, 120, .inl v_draft))] : va_W))) args s 0 0 A) [(a0, .inr (5, [.ref a1, .ref a2, .int v_savedCount, .ref a3, .int v_scriptLength, .int v_code, .int v_lineParts, .ref a4, .ref a5, .int v_pulseMany, .ref a6, .ref a7, .ref a8, .ref a9, .ref a10, .long v_left, .long v_dropped, .int v_merged, .int v_drops, .int v_contributions, .long v_packet, .int v_peelResult, .int v_peelTime, .int v_peelSum, .int v_at, .int v_commands, .ref a11, .long v_hash])), (a1, .inl (Z.2 1, 431, .inr (.inl v_m))), (a2, .inl (Z.2 1, 1293, .inr (.inl v_saved))), (a3, .inl (Z.2 0, 120, .inl v_script)), (a4, .inl (Z.2 0, 8, .inl v_lengths)), (a5, .inl (Z.2 0, 9, .inl v_fractions)), (a6, .inl (Z.2 0, 4, .inl v_times)), (a7, .inl (Z.2 1, 4, .inr (.inl v_energies))), (a8, .inl (Z.2 1, 1809, .inr (.inl v_far))), (a9, .inl (Z.2 1, 1809, .inr (.inl v_near))), (a10, .inl (Z.2 1, 201, .inr (.inl v_echoes))), (a11, .inl (Z.2 0, 120, .inl v_draft))] 0 0 9 [some (.ref a0), some (.int x1), some (.int x2)] []) (v_savedCount : Int32) (v_scriptLength : Int32) (v_code : Int32) (v_lineParts : Int32) (v_pulseMany : Int32) (v_left : Int64) (v_dropped : Int64) (v_merged : Int32) (v_drops : Int32) (v_contributions : Int32) (v_packet : Int64) (v_peelResult : Int32) (v_peelTime : Int32) (v_peelSum : Int32) (v_at : Int32) (v_commands : Int32) (v_hash : Int64) (v_m : Nat → Int64) (v_saved : Nat → Int64) (v_script : Nat → Int32) (v_lengths : Nat → Int32) (v_fractions : Nat → Int32) (v_times : Nat → Int32) (v_energies : Nat → Int64) (v_far : Nat → Int64) (v_near : Nat → Int64) (v_echoes : Nat → Int64) (v_draft : Nat → Int32) (x2 : Int32) (s0 : Int32) (h : F_X6_earliest_37 K9 v_pulseMany v_times x2 s0 = some r) : G p l e rm_X6_earliest s m args below meth c Z A 3 (MQ below (gPost Z A (fun _ : Unit => (some (.int r) : Option Value)) (fun _ : Unit => ([(a0, .inr (5, [.ref a1, .ref a2, .int v_savedCount, .ref a3, .int v_scriptLength, .int v_code, .int v_lineParts, .ref a4, .ref a5, .int v_pulseMany, .ref a6, .ref a7, .ref a8, .ref a9, .ref a10, .long v_left, .long v_dropped, .int v_merged, .int v_drops, .int v_contributions, .long v_packet, .int v_peelResult, .int v_peelTime, .int v_peelSum, .int v_at, .int v_commands, .ref a11, .long v_hash])), (a1, .inl (Z.2 1, 431, .inr (.inl v_m))), (a2, .inl (Z.2 1, 1293, .inr (.inl v_saved))), (a3, .inl (Z.2 0, 120, .inl v_script)), (a4, .inl (Z.2 0, 8, .inl v_lengths)), (a5, .inl (Z.2 0, 9, .inl v_fractions)), (a6, .inl (Z.2 0, 4, .inl v_times)), (a7, .inl (Z.2 1, 4, .inr (.inl v_energies))), (a8, .inl (Z.2 1, 1809, .inr (.inl v_far))), (a9, .inl (Z.2 1, 1809, .inr (.inl v_near))), (a10, .inl (Z.2 1, 201, .inr (.inl v_echoes))), (a11, .inl (Z.2 0, 120, .inl v_draft))] : va_W))) args s 0 0 A) [(a0, .inr (5, [.ref a1, .ref a2, .int v_savedCount, .ref a3, .int v_scriptLength, .int v_code, .int v_lineParts, .ref a4, .ref a5, .int v_pulseMany, .ref a6, .ref a7, .ref a8, .ref a9, .ref a10, .long v_left, .long v_dropped, .int v_merged, .int v_drops, .int v_contributions, .long v_packet, .int v_peelResult, .int v_peelTime, .int v_peelSum, .int v_at, .int v_commands, .ref a11, .long v_hash])), (a1, .inl (Z.2 1, 431, .inr (.inl v_m))), (a2, .inl (Z.2 1, 1293, .inr (.inl v_saved))), (a3, .inl (Z.2 0, 120, .inl v_script)), (a4, .inl (Z.2 0, 8, .inl v_lengths)), (a5, .inl (Z.2 0, 9, .inl v_fractions)), (a6, .inl (Z.2 0, 4, .inl v_times)), (a7, .inl (Z.2 1, 4, .inr (.inl v_energies))), (a8, .inl (Z.2 1, 1809, .inr (.inl v_far))), (a9, .inl (Z.2 1, 1809, .inr (.inl v_near))), (a10, .inl (Z.2 1, 201, .inr (.inl v_echoes))), (a11, .inl (Z.2 0, 120, .inl v_draft))] 0 0 37 [some (.ref a0), none, some (.int x2)] [.int s0] := by
  unfold F_X6_earliest_37 at h
  refine g_istore_n X dX6_earliest_37 38 rfl (Nat.le_of_ble_eq_true rfl) rfl [some (.ref a0), some (.int s0), some (.int x2)] rfl ?_
  refine g_iinc X 1 rfl dX6_earliest_38 41 rfl kI_1 (Nat.le_of_ble_eq_true rfl) rfl [some (.ref a0), some (.int s0), some (.int (x2 + 1))] rfl ?_
  refine g_goto X dX6_earliest_41 9 (by decide) ?_
  exact hK9 v_savedCount v_scriptLength v_code v_lineParts v_pulseMany v_left v_dropped v_merged v_drops v_contributions v_packet v_peelResult v_peelTime v_peelSum v_at v_commands v_hash v_m v_saved v_script v_lengths v_fractions v_times v_energies v_far v_near v_echoes v_draft s0 (x2 + 1) h
theorem w_X6_earliest_9 {p : Program} {l : Launch} {e : Env} {s : State} {m : MethodId} {args : Array Value} {below : List Frame} {meth : Method} {c : Code} {Z : gZt} {A : Nat → Prop} (a0 : Nat) (a1 : Nat) (a2 : Nat) (a3 : Nat) (a4 : Nat) (a5 : Nat) (a6 : Nat) (a7 : Nat) (a8 : Nat) (a9 : Nat) (a10 : Nat) (a11 : Nat) (X : gX p s m args meth c Z A cX6_earliest "LineEchoesModel" 3 (some .int) []) (r : Int32)  : ∀ (n : Nat) (v_savedCount : Int32) (v_scriptLength : Int32) (v_code : Int32) (v_lineParts : Int32) (v_pulseMany : Int32) (v_left : Int64) (v_dropped : Int64) (v_merged : Int32) (v_drops : Int32) (v_contributions : Int32) (v_packet : Int64) (v_peelResult : Int32) (v_peelTime : Int32) (v_peelSum : Int32) (v_at : Int32) (v_commands : Int32) (v_hash : Int64) (v_m : Nat → Int64) (v_saved : Nat → Int64) (v_script : Nat → Int32) (v_lengths : Nat → Int32) (v_fractions : Nat → Int32) (v_times : Nat → Int32) (v_energies : Nat → Int64) (v_far : Nat → Int64) (v_near : Nat → Int64) (v_echoes : Nat → Int64) (v_draft : Nat → Int32) (x1 : Int32) (x2 : Int32), F_X6_earliest_9 n v_pulseMany v_times x1 x2 = some r → G p l e rm_X6_earliest s m args below meth c Z A 3 (MQ below (gPost Z A (fun _ : Unit => (some (.int r) : Option Value)) (fun _ : Unit => ([(a0, .inr (5, [.ref a1, .ref a2, .int v_savedCount, .ref a3, .int v_scriptLength, .int v_code, .int v_lineParts, .ref a4, .ref a5, .int v_pulseMany, .ref a6, .ref a7, .ref a8, .ref a9, .ref a10, .long v_left, .long v_dropped, .int v_merged, .int v_drops, .int v_contributions, .long v_packet, .int v_peelResult, .int v_peelTime, .int v_peelSum, .int v_at, .int v_commands, .ref a11, .long v_hash])), (a1, .inl (Z.2 1, 431, .inr (.inl v_m))), (a2, .inl (Z.2 1, 1293, .inr (.inl v_saved))), (a3, .inl (Z.2 0, 120, .inl v_script)), (a4, .inl (Z.2 0, 8, .inl v_lengths)), (a5, .inl (Z.2 0, 9, .inl v_fractions)), (a6, .inl (Z.2 0, 4, .inl v_times)), (a7, .inl (Z.2 1, 4, .inr (.inl v_energies))), (a8, .inl (Z.2 1, 1809, .inr (.inl v_far))), (a9, .inl (Z.2 1, 1809, .inr (.inl v_near))), (a10, .inl (Z.2 1, 201, .inr (.inl v_echoes))), (a11, .inl (Z.2 0, 120, .inl v_draft))] : va_W))) args s 0 0 A) [(a0, .inr (5, [.ref a1, .ref a2, .int v_savedCount, .ref a3, .int v_scriptLength, .int v_code, .int v_lineParts, .ref a4, .ref a5, .int v_pulseMany, .ref a6, .ref a7, .ref a8, .ref a9, .ref a10, .long v_left, .long v_dropped, .int v_merged, .int v_drops, .int v_contributions, .long v_packet, .int v_peelResult, .int v_peelTime, .int v_peelSum, .int v_at, .int v_commands, .ref a11, .long v_hash])), (a1, .inl (Z.2 1, 431, .inr (.inl v_m))), (a2, .inl (Z.2 1, 1293, .inr (.inl v_saved))), (a3, .inl (Z.2 0, 120, .inl v_script)), (a4, .inl (Z.2 0, 8, .inl v_lengths)), (a5, .inl (Z.2 0, 9, .inl v_fractions)), (a6, .inl (Z.2 0, 4, .inl v_times)), (a7, .inl (Z.2 1, 4, .inr (.inl v_energies))), (a8, .inl (Z.2 1, 1809, .inr (.inl v_far))), (a9, .inl (Z.2 1, 1809, .inr (.inl v_near))), (a10, .inl (Z.2 1, 201, .inr (.inl v_echoes))), (a11, .inl (Z.2 0, 120, .inl v_draft))] 0 0 9 [some (.ref a0), some (.int x1), some (.int x2)] [] := by
  intro n
  induction n with
  | zero =>
    intro v_savedCount v_scriptLength v_code v_lineParts v_pulseMany v_left v_dropped v_merged v_drops v_contributions v_packet v_peelResult v_peelTime v_peelSum v_at v_commands v_hash v_m v_saved v_script v_lengths v_fractions v_times v_energies v_far v_near v_echoes v_draft x1 x2 h
    cases h
  | succ n hK9 =>
    intro v_savedCount v_scriptLength v_code v_lineParts v_pulseMany v_left v_dropped v_merged v_drops v_contributions v_packet v_peelResult v_peelTime v_peelSum v_at v_commands v_hash v_m v_saved v_script v_lengths v_fractions v_times v_energies v_far v_near v_echoes v_draft x1 x2 h
    replace h : B_X6_earliest_9 (F_X6_earliest_9 n) v_pulseMany v_times x1 x2 = some r := h
    unfold B_X6_earliest_9 at h
    refine g_iload_n X rfl dX6_earliest_9 10 rfl ?_
    refine g_aload_n X rfl dX6_earliest_10 11 rfl ?_
    refine g_get X gC5 0 rfl 9 (by decide) q1351 (fun _ h9 => h9) rfl dX6_earliest_11 14 rfl ?_
    refine g_icmp_ge X dX6_earliest_14 44 (by decide) 17 rfl (fun hc => ?_) (fun hc => ?_)
    · replace h := if_t hc h
      refine g_iload_n X rfl dX6_earliest_44 45 rfl ?_
      cases h
      exact g_iret X dX6_earliest_45 () rfl rfl (Nat.le_of_ble_eq_true rfl) (Nat.le_of_ble_eq_true rfl)
    · replace h := if_f hc h
      refine g_aload_n X rfl dX6_earliest_17 18 rfl ?_
      refine g_get X gC5 0 rfl 10 (by decide) q1352 (fun _ h9 => h9) rfl dX6_earliest_18 21 rfl ?_
      refine g_iload_n X rfl dX6_earliest_21 22 rfl ?_
      obtain ⟨hi, h⟩ := gin_e h
      refine g_iald X 6 rfl hi dX6_earliest_22 23 rfl ?_
      refine g_iload_n X rfl dX6_earliest_23 24 rfl ?_
      refine g_icmp_ge X dX6_earliest_24 36 (by decide) 27 rfl (fun hc => ?_) (fun hc => ?_)
      · replace h := if_t hc h
        refine g_iload_n X rfl dX6_earliest_36 37 rfl ?_
        refine g_kill (j := 1) [some (.ref a0), none, some (.int x2)] rfl ?_
        exact w_X6_earliest_37 a0 a1 a2 a3 a4 a5 a6 a7 a8 a9 a10 a11  X  r _ hK9  v_savedCount v_scriptLength v_code v_lineParts v_pulseMany v_left v_dropped v_merged v_drops v_contributions v_packet v_peelResult v_peelTime v_peelSum v_at v_commands v_hash v_m v_saved v_script v_lengths v_fractions v_times v_energies v_far v_near v_echoes v_draft x2 x1 h
      · replace h := if_f hc h
        refine g_aload_n X rfl dX6_earliest_27 28 rfl ?_
        refine g_get X gC5 0 rfl 10 (by decide) q1352 (fun _ h9 => h9) rfl dX6_earliest_28 31 rfl ?_
        refine g_iload_n X rfl dX6_earliest_31 32 rfl ?_
        obtain ⟨hi, h⟩ := gin_e h
        refine g_iald X 6 rfl hi dX6_earliest_32 33 rfl ?_
        refine g_goto X dX6_earliest_33 37 (by decide) ?_
        refine g_kill (j := 1) [some (.ref a0), none, some (.int x2)] rfl ?_
        exact w_X6_earliest_37 a0 a1 a2 a3 a4 a5 a6 a7 a8 a9 a10 a11  X  r _ hK9  v_savedCount v_scriptLength v_code v_lineParts v_pulseMany v_left v_dropped v_merged v_drops v_contributions v_packet v_peelResult v_peelTime v_peelSum v_at v_commands v_hash v_m v_saved v_script v_lengths v_fractions v_times v_energies v_far v_near v_echoes v_draft x2 (v_times x2.toNatClampNeg) h
theorem met_X6_earliest (l : Launch) (Z : gZt) (a0 : Nat) (a1 : Nat) (a2 : Nat) (a3 : Nat) (a4 : Nat) (a5 : Nat) (a6 : Nat) (a7 : Nat) (a8 : Nat) (a9 : Nat) (a10 : Nat) (a11 : Nat) (v_savedCount : Int32) (v_scriptLength : Int32) (v_code : Int32) (v_lineParts : Int32) (v_pulseMany : Int32) (v_left : Int64) (v_dropped : Int64) (v_merged : Int32) (v_drops : Int32) (v_contributions : Int32) (v_packet : Int64) (v_peelResult : Int32) (v_peelTime : Int32) (v_peelSum : Int32) (v_at : Int32) (v_commands : Int32) (v_hash : Int64) (v_m : Nat → Int64) (v_saved : Nat → Int64) (v_script : Nat → Int32) (v_lengths : Nat → Int32) (v_fractions : Nat → Int32) (v_times : Nat → Int32) (v_energies : Nat → Int64) (v_far : Nat → Int64) (v_near : Nat → Int64) (v_echoes : Nat → Int64) (v_draft : Nat → Int32) (r : Int32) (h : F_X6_earliest v_pulseMany v_times = some r) : Ct l yX6_earliest (ws_ yX6_earliest cX6_earliest 3 (some .int)) rm_X6_earliest Z [.ref a0] [(a0, .inr (5, [.ref a1, .ref a2, .int v_savedCount, .ref a3, .int v_scriptLength, .int v_code, .int v_lineParts, .ref a4, .ref a5, .int v_pulseMany, .ref a6, .ref a7, .ref a8, .ref a9, .ref a10, .long v_left, .long v_dropped, .int v_merged, .int v_drops, .int v_contributions, .long v_packet, .int v_peelResult, .int v_peelTime, .int v_peelSum, .int v_at, .int v_commands, .ref a11, .long v_hash])), (a1, .inl (Z.2 1, 431, .inr (.inl v_m))), (a2, .inl (Z.2 1, 1293, .inr (.inl v_saved))), (a3, .inl (Z.2 0, 120, .inl v_script)), (a4, .inl (Z.2 0, 8, .inl v_lengths)), (a5, .inl (Z.2 0, 9, .inl v_fractions)), (a6, .inl (Z.2 0, 4, .inl v_times)), (a7, .inl (Z.2 1, 4, .inr (.inl v_energies))), (a8, .inl (Z.2 1, 1809, .inr (.inl v_far))), (a9, .inl (Z.2 1, 1809, .inr (.inl v_near))), (a10, .inl (Z.2 1, 201, .inr (.inl v_echoes))), (a11, .inl (Z.2 0, 120, .inl v_draft))] [] (fun _ : Unit => (some (.int r) : Option Value)) (fun _ : Unit => ([(a0, .inr (5, [.ref a1, .ref a2, .int v_savedCount, .ref a3, .int v_scriptLength, .int v_code, .int v_lineParts, .ref a4, .ref a5, .int v_pulseMany, .ref a6, .ref a7, .ref a8, .ref a9, .ref a10, .long v_left, .long v_dropped, .int v_merged, .int v_drops, .int v_contributions, .long v_packet, .int v_peelResult, .int v_peelTime, .int v_peelSum, .int v_at, .int v_commands, .ref a11, .long v_hash])), (a1, .inl (Z.2 1, 431, .inr (.inl v_m))), (a2, .inl (Z.2 1, 1293, .inr (.inl v_saved))), (a3, .inl (Z.2 0, 120, .inl v_script)), (a4, .inl (Z.2 0, 8, .inl v_lengths)), (a5, .inl (Z.2 0, 9, .inl v_fractions)), (a6, .inl (Z.2 0, 4, .inl v_times)), (a7, .inl (Z.2 1, 4, .inr (.inl v_energies))), (a8, .inl (Z.2 1, 1809, .inr (.inl v_far))), (a9, .inl (Z.2 1, 1809, .inr (.inl v_near))), (a10, .inl (Z.2 1, 201, .inr (.inl v_echoes))), (a11, .inl (Z.2 0, 120, .inl v_draft))] : va_W)) := by
  refine Ct.of cX6_earliest 3 (some .int) "LineEchoesModel" [some (.ref a0), none, none] 2 (by decide) rfl (Nat.le_of_ble_eq_true rfl) rfl (fun p e s m args below meth c A X hin => ?_)
  unfold F_X6_earliest at h
  refine g_aload_n X rfl dX6_earliest_0 1 rfl ?_
  refine g_get X gC5 0 rfl 10 (by decide) q1352 (fun _ h9 => h9) rfl dX6_earliest_1 4 rfl ?_
  refine g_iconst X 0 dX6_earliest_4 5 rfl kI_0 ?_
  obtain ⟨hi, h⟩ := gin_e h
  refine g_iald X 6 rfl hi dX6_earliest_5 6 rfl ?_
  refine g_topi (fun t1 et1 => ?_)
  replace h := nm_at et1 h
  refine g_istore_n X dX6_earliest_6 7 rfl (Nat.le_of_ble_eq_true rfl) rfl [some (.ref a0), some (.int t1), none] rfl ?_
  refine g_iconst X 1 dX6_earliest_7 8 rfl kI_1 ?_
  refine g_istore_n X dX6_earliest_8 9 rfl (Nat.le_of_ble_eq_true rfl) rfl [some (.ref a0), some (.int t1), some (.int 1)] rfl ?_
  exact w_X6_earliest_9 a0 a1 a2 a3 a4 a5 a6 a7 a8 a9 a10 a11  X  r    gFU v_savedCount v_scriptLength v_code v_lineParts v_pulseMany v_left v_dropped v_merged v_drops v_contributions v_packet v_peelResult v_peelTime v_peelSum v_at v_commands v_hash v_m v_saved v_script v_lengths v_fractions v_times v_energies v_far v_near v_echoes v_draft t1 1 h
/-! LineEchoesModel.faultOf(I)I -/
abbrev rm_X6_faultOf : Room := { frames := 1, cells := 0, slots := 0, locals := 23 }
def F_X6_faultOf_151 (K100 : (Nat → Int64) → (Int32) → (Int32) → Option (Int32)) (v_m : Nat → Int64) (x3 : Int32) (x4 : Int32) : Option (Int32) :=
  K100 v_m x3 (x4 + 1)
def B_X6_faultOf_100 (K100 : (Nat → Int64) → (Int32) → (Int32) → Option (Int32)) (v_m : Nat → Int64) (x3 : Int32) (x4 : Int32) : Option (Int32) :=
  bd1 (F_X6_parts v_m) fun r1 =>
  if r1 ≤ x4 then
    (some (-1))
  else
    (bd1 (F_X6_upTo v_m x4) fun r2 =>
    gin (1 + x4) 431 <|
    if x3.toInt64 ≤ (2 * (r2.toInt64 - (v_m (1 + x4).toNatClampNeg))) then
      (F_X6_faultOf_151 K100 v_m x3 x4)
    else
      (bd1 (F_X6_upTo v_m x4) fun r3 =>
      if (2 * r3) < x3 then
        (F_X6_faultOf_151 K100 v_m x3 x4)
      else
        (some x4)))
def F_X6_faultOf_100 : Nat → (Nat → Int64) → (Int32) → (Int32) → Option (Int32)
  | 0 => fun _ _ _ => none
  | n + 1 => B_X6_faultOf_100 (F_X6_faultOf_100 n)
def F_X6_faultOf_35 (v_pulseMany : Int32) (v_m : Nat → Int64) (v_times : Nat → Int32) (v_echoes : Nat → Int64) (x1 : Int32) (x2 : Int32) : Option (Int32) :=
  bd1 (F_X6_window v_m) fun r1 =>
  if x2 ≤ r1 then
    (bd1 (F_X6_earliest v_pulseMany v_times) fun r2 =>
    if 2 ≤ x1 then
      (if x1 = 3 then
        (gin x2 201 <|
        gin (29 + x2) 431 <|
        some (if (v_echoes x2.toNatClampNeg) ≤ (v_m (29 + x2).toNatClampNeg) then ((-1) : Int32) else 1))
      else
        (F_X6_faultOf_100 gFU v_m (x2 - r2) 0))
    else
      (some (if x1 = 0 then x2 else x2 - r2)))
  else
    (some (-1))
def B_X6_faultOf_2 (K2 : (Int32) → (Nat → Int64) → (Nat → Int32) → (Nat → Int64) → (Int32) → (Int32) → Option (Int32)) (v_pulseMany : Int32) (v_m : Nat → Int64) (v_times : Nat → Int32) (v_echoes : Nat → Int64) (x1 : Int32) (x2 : Int32) : Option (Int32) :=
  bd1 (F_X6_window v_m) fun r1 =>
  if r1 < x2 then
    (F_X6_faultOf_35 v_pulseMany v_m v_times v_echoes x1 x2)
  else
    (gin x2 201 <|
    gin (29 + x2) 431 <|
    if (v_echoes x2.toNatClampNeg) = (v_m (29 + x2).toNatClampNeg) then
      (K2 v_pulseMany v_m v_times v_echoes x1 (x2 + 1))
    else
      (F_X6_faultOf_35 v_pulseMany v_m v_times v_echoes x1 x2))
def F_X6_faultOf_2 : Nat → (Int32) → (Nat → Int64) → (Nat → Int32) → (Nat → Int64) → (Int32) → (Int32) → Option (Int32)
  | 0 => fun _ _ _ _ _ _ => none
  | n + 1 => B_X6_faultOf_2 (F_X6_faultOf_2 n)
def F_X6_faultOf (v_pulseMany : Int32) (v_m : Nat → Int64) (v_times : Nat → Int32) (v_echoes : Nat → Int64) (x1 : Int32) : Option (Int32) :=
  F_X6_faultOf_2 gFU v_pulseMany v_m v_times v_echoes x1 0
theorem w_X6_faultOf_151 {p : Program} {l : Launch} {e : Env} {s : State} {m : MethodId} {args : Array Value} {below : List Frame} {meth : Method} {c : Code} {Z : gZt} {A : Nat → Prop} (a0 : Nat) (a1 : Nat) (a2 : Nat) (a3 : Nat) (a4 : Nat) (a5 : Nat) (a6 : Nat) (a7 : Nat) (a8 : Nat) (a9 : Nat) (a10 : Nat) (a11 : Nat) (X : gX p s m args meth c Z A cX6_faultOf "LineEchoesModel" 5 (some .int) []) (r : Int32) (K100 : (Nat → Int64) → (Int32) → (Int32) → Option (Int32)) (hK100 : ∀ (v_savedCount : Int32) (v_scriptLength : Int32) (v_code : Int32) (v_lineParts : Int32) (v_pulseMany : Int32) (v_left : Int64) (v_dropped : Int64) (v_merged : Int32) (v_drops : Int32) (v_contributions : Int32) (v_packet : Int64) (v_peelResult : Int32) (v_peelTime : Int32) (v_peelSum : Int32) (v_at : Int32) (v_commands : Int32) (v_hash : Int64) (v_m : Nat → Int64) (v_saved : Nat → Int64) (v_script : Nat → Int32) (v_lengths : Nat → Int32) (v_fractions : Nat → Int32) (v_times : Nat → Int32) (v_energies : Nat → Int64) (v_far : Nat → Int64) (v_near : Nat → Int64) (v_echoes : Nat → Int64) (v_draft : Nat → Int32) (x3 : Int32) (x4 : Int32), K100 v_m x3 x4 = some r → G p l e rm_X6_faultOf s m args below meth c Z A 5 (MQ below (gPost Z A (fun _ : Unit => (some (.int r) : Option Value)) (fun _ : Unit => ([(a0, .inr (5, [.ref a1, .ref a2, .int v_savedCount, .ref a3, .int v_scriptLength, .int v_code, .int v_lineParts, .ref a4, .ref a5, .int v_pulseMany, .ref a6, .ref a7, .ref a8, .ref a9, .ref a10, .long v_left, .long v_dropped, .int v_merged, .int v_drops, .int v_contributions, .long v_packet, .int v_peelResult, .int v_peelTime, .int v_peelSum, .int v_at, .int v_commands, .ref a11, .long v_hash])), (a1, .inl (Z.2 1, 431, .inr (.inl v_m))), (a2, .inl (Z.2 1, 1293, .inr (.inl v_saved))), (a3, .inl (Z.2 0, 120, .inl v_script)), (a4, .inl (Z.2 0, 8, .inl v_lengths)), (a5, .inl (Z.2 0, 9, .inl v_fractions)), (a6, .inl (Z.2 0, 4, .inl v_times)), (a7, .inl (Z.2 1, 4, .inr (.inl v_energies))), (a8, .inl (Z.2 1, 1809, .inr (.inl v_far))), (a9, .inl (Z.2 1, 1809, .inr (.inl v_near))), (a10, .inl (Z.2 1, 201, .inr (.inl v_echoes))), (a11, .inl (Z.2 0, 120, .inl v_draft))] : va_W))) args s 0 0 A) [(a0, .inr (5, [.ref a1, .ref a2, .int v_savedCount, .ref a3, .int v_scriptLength, .int v_code, .int v_lineParts, .ref a4, .ref a5, .int v_pulseMany, .ref a6, .ref a7, .ref a8, .ref a9, .ref a10, .long v_left, .long v_dropped, .int v_merged, .int v_drops, .int v_contributions, .long v_packet, .int v_peelResult, .int v_peelTime, .int v_peelSum, .int v_at, .int v_commands, .ref a11, .long v_hash])), (a1, .inl (Z.2 1, 431, .inr (.inl v_m))), (a2, .inl (Z.2 1, 1293, .inr (.inl v_saved))), (a3, .inl (Z.2 0, 120, .inl v_script)), (a4, .inl (Z.2 0, 8, .inl v_lengths)), (a5, .inl (Z.2 0, 9, .inl v_fractions)), (a6, .inl (Z.2 0, 4, .inl v_times)), (a7, .inl (Z.2 1, 4, .inr (.inl v_energies))), (a8, .inl (Z.2 1, 1809, .inr (.inl v_far))), (a9, .inl (Z.2 1, 1809, .inr (.inl v_near))), (a10, .inl (Z.2 1, 201, .inr (.inl v_echoes))), (a11, .inl (Z.2 0, 120, .inl v_draft))] 0 0 100 [some (.ref a0), none, none, some (.int x3), some (.int x4)] []) (v_savedCount : Int32) (v_scriptLength : Int32) (v_code : Int32) (v_lineParts : Int32) (v_pulseMany : Int32) (v_left : Int64) (v_dropped : Int64) (v_merged : Int32) (v_drops : Int32) (v_contributions : Int32) (v_packet : Int64) (v_peelResult : Int32) (v_peelTime : Int32) (v_peelSum : Int32) (v_at : Int32) (v_commands : Int32) (v_hash : Int64) (v_m : Nat → Int64) (v_saved : Nat → Int64) (v_script : Nat → Int32) (v_lengths : Nat → Int32) (v_fractions : Nat → Int32) (v_times : Nat → Int32) (v_energies : Nat → Int64) (v_far : Nat → Int64) (v_near : Nat → Int64) (v_echoes : Nat → Int64) (v_draft : Nat → Int32) (x3 : Int32) (x4 : Int32) (h : F_X6_faultOf_151 K100 v_m x3 x4 = some r) : G p l e rm_X6_faultOf s m args below meth c Z A 5 (MQ below (gPost Z A (fun _ : Unit => (some (.int r) : Option Value)) (fun _ : Unit => ([(a0, .inr (5, [.ref a1, .ref a2, .int v_savedCount, .ref a3, .int v_scriptLength, .int v_code, .int v_lineParts, .ref a4, .ref a5, .int v_pulseMany, .ref a6, .ref a7, .ref a8, .ref a9, .ref a10, .long v_left, .long v_dropped, .int v_merged, .int v_drops, .int v_contributions, .long v_packet, .int v_peelResult, .int v_peelTime, .int v_peelSum, .int v_at, .int v_commands, .ref a11, .long v_hash])), (a1, .inl (Z.2 1, 431, .inr (.inl v_m))), (a2, .inl (Z.2 1, 1293, .inr (.inl v_saved))), (a3, .inl (Z.2 0, 120, .inl v_script)), (a4, .inl (Z.2 0, 8, .inl v_lengths)), (a5, .inl (Z.2 0, 9, .inl v_fractions)), (a6, .inl (Z.2 0, 4, .inl v_times)), (a7, .inl (Z.2 1, 4, .inr (.inl v_energies))), (a8, .inl (Z.2 1, 1809, .inr (.inl v_far))), (a9, .inl (Z.2 1, 1809, .inr (.inl v_near))), (a10, .inl (Z.2 1, 201, .inr (.inl v_echoes))), (a11, .inl (Z.2 0, 120, .inl v_draft))] : va_W))) args s 0 0 A) [(a0, .inr (5, [.ref a1, .ref a2, .int v_savedCount, .ref a3, .int v_scriptLength, .int v_code, .int v_lineParts, .ref a4, .ref a5, .int v_pulseMany, .ref a6, .ref a7, .ref a8, .ref a9, .ref a10, .long v_left, .long v_dropped, .int v_merged, .int v_drops, .int v_contributions, .long v_packet, .int v_peelResult, .int v_peelTime, .int v_peelSum, .int v_at, .int v_commands, .ref a11, .long v_hash])), (a1, .inl (Z.2 1, 431, .inr (.inl v_m))), (a2, .inl (Z.2 1, 1293, .inr (.inl v_saved))), (a3, .inl (Z.2 0, 120, .inl v_script)), (a4, .inl (Z.2 0, 8, .inl v_lengths)), (a5, .inl (Z.2 0, 9, .inl v_fractions)), (a6, .inl (Z.2 0, 4, .inl v_times)), (a7, .inl (Z.2 1, 4, .inr (.inl v_energies))), (a8, .inl (Z.2 1, 1809, .inr (.inl v_far))), (a9, .inl (Z.2 1, 1809, .inr (.inl v_near))), (a10, .inl (Z.2 1, 201, .inr (.inl v_echoes))), (a11, .inl (Z.2 0, 120, .inl v_draft))] 0 0 151 [some (.ref a0), none, none, some (.int x3), some (.int x4)] [] := by
  unfold F_X6_faultOf_151 at h
  refine g_iinc X 1 rfl dX6_faultOf_151 154 rfl kI_1 (Nat.le_of_ble_eq_true rfl) rfl [some (.ref a0), none, none, some (.int x3), some (.int (x4 + 1))] rfl ?_
  refine g_goto X dX6_faultOf_154 100 (by decide) ?_
  exact hK100 v_savedCount v_scriptLength v_code v_lineParts v_pulseMany v_left v_dropped v_merged v_drops v_contributions v_packet v_peelResult v_peelTime v_peelSum v_at v_commands v_hash v_m v_saved v_script v_lengths v_fractions v_times v_energies v_far v_near v_echoes v_draft x3 (x4 + 1) h
theorem w_X6_faultOf_100 {p : Program} {l : Launch} {e : Env} {s : State} {m : MethodId} {args : Array Value} {below : List Frame} {meth : Method} {c : Code} {Z : gZt} {A : Nat → Prop} (a0 : Nat) (a1 : Nat) (a2 : Nat) (a3 : Nat) (a4 : Nat) (a5 : Nat) (a6 : Nat) (a7 : Nat) (a8 : Nat) (a9 : Nat) (a10 : Nat) (a11 : Nat) (X : gX p s m args meth c Z A cX6_faultOf "LineEchoesModel" 5 (some .int) []) (r : Int32)  : ∀ (n : Nat) (v_savedCount : Int32) (v_scriptLength : Int32) (v_code : Int32) (v_lineParts : Int32) (v_pulseMany : Int32) (v_left : Int64) (v_dropped : Int64) (v_merged : Int32) (v_drops : Int32) (v_contributions : Int32) (v_packet : Int64) (v_peelResult : Int32) (v_peelTime : Int32) (v_peelSum : Int32) (v_at : Int32) (v_commands : Int32) (v_hash : Int64) (v_m : Nat → Int64) (v_saved : Nat → Int64) (v_script : Nat → Int32) (v_lengths : Nat → Int32) (v_fractions : Nat → Int32) (v_times : Nat → Int32) (v_energies : Nat → Int64) (v_far : Nat → Int64) (v_near : Nat → Int64) (v_echoes : Nat → Int64) (v_draft : Nat → Int32) (x3 : Int32) (x4 : Int32), F_X6_faultOf_100 n v_m x3 x4 = some r → G p l e rm_X6_faultOf s m args below meth c Z A 5 (MQ below (gPost Z A (fun _ : Unit => (some (.int r) : Option Value)) (fun _ : Unit => ([(a0, .inr (5, [.ref a1, .ref a2, .int v_savedCount, .ref a3, .int v_scriptLength, .int v_code, .int v_lineParts, .ref a4, .ref a5, .int v_pulseMany, .ref a6, .ref a7, .ref a8, .ref a9, .ref a10, .long v_left, .long v_dropped, .int v_merged, .int v_drops, .int v_contributions, .long v_packet, .int v_peelResult, .int v_peelTime, .int v_peelSum, .int v_at, .int v_commands, .ref a11, .long v_hash])), (a1, .inl (Z.2 1, 431, .inr (.inl v_m))), (a2, .inl (Z.2 1, 1293, .inr (.inl v_saved))), (a3, .inl (Z.2 0, 120, .inl v_script)), (a4, .inl (Z.2 0, 8, .inl v_lengths)), (a5, .inl (Z.2 0, 9, .inl v_fractions)), (a6, .inl (Z.2 0, 4, .inl v_times)), (a7, .inl (Z.2 1, 4, .inr (.inl v_energies))), (a8, .inl (Z.2 1, 1809, .inr (.inl v_far))), (a9, .inl (Z.2 1, 1809, .inr (.inl v_near))), (a10, .inl (Z.2 1, 201, .inr (.inl v_echoes))), (a11, .inl (Z.2 0, 120, .inl v_draft))] : va_W))) args s 0 0 A) [(a0, .inr (5, [.ref a1, .ref a2, .int v_savedCount, .ref a3, .int v_scriptLength, .int v_code, .int v_lineParts, .ref a4, .ref a5, .int v_pulseMany, .ref a6, .ref a7, .ref a8, .ref a9, .ref a10, .long v_left, .long v_dropped, .int v_merged, .int v_drops, .int v_contributions, .long v_packet, .int v_peelResult, .int v_peelTime, .int v_peelSum, .int v_at, .int v_commands, .ref a11, .long v_hash])), (a1, .inl (Z.2 1, 431, .inr (.inl v_m))), (a2, .inl (Z.2 1, 1293, .inr (.inl v_saved))), (a3, .inl (Z.2 0, 120, .inl v_script)), (a4, .inl (Z.2 0, 8, .inl v_lengths)), (a5, .inl (Z.2 0, 9, .inl v_fractions)), (a6, .inl (Z.2 0, 4, .inl v_times)), (a7, .inl (Z.2 1, 4, .inr (.inl v_energies))), (a8, .inl (Z.2 1, 1809, .inr (.inl v_far))), (a9, .inl (Z.2 1, 1809, .inr (.inl v_near))), (a10, .inl (Z.2 1, 201, .inr (.inl v_echoes))), (a11, .inl (Z.2 0, 120, .inl v_draft))] 0 0 100 [some (.ref a0), none, none, some (.int x3), some (.int x4)] [] := by
  intro n
  induction n with
  | zero =>
    intro v_savedCount v_scriptLength v_code v_lineParts v_pulseMany v_left v_dropped v_merged v_drops v_contributions v_packet v_peelResult v_peelTime v_peelSum v_at v_commands v_hash v_m v_saved v_script v_lengths v_fractions v_times v_energies v_far v_near v_echoes v_draft x3 x4 h
    cases h
  | succ n hK100 =>
    intro v_savedCount v_scriptLength v_code v_lineParts v_pulseMany v_left v_dropped v_merged v_drops v_contributions v_packet v_peelResult v_peelTime v_peelSum v_at v_commands v_hash v_m v_saved v_script v_lengths v_fractions v_times v_energies v_far v_near v_echoes v_draft x3 x4 h
    replace h : B_X6_faultOf_100 (F_X6_faultOf_100 n) v_m x3 x4 = some r := h
    unfold B_X6_faultOf_100 at h
    refine g_iload X rfl dX6_faultOf_100 102 rfl ?_
    refine g_aload_n X rfl dX6_faultOf_102 103 rfl ?_
    obtain ⟨r1, hcl, h⟩ := bd1_e h
    refine g_callV1W X (met_X6_parts l Z a0 a1 a2 a3 a4 a5 a6 a7 a8 a9 a10 a11 v_savedCount v_scriptLength v_code v_lineParts v_pulseMany v_left v_dropped v_merged v_drops v_contributions v_packet v_peelResult v_peelTime v_peelSum v_at v_commands v_hash v_m v_saved v_script v_lengths v_fractions v_times v_energies v_far v_near v_echoes v_draft  r1 hcl) rfl 0 gC5 rfl rfl (lw_V q1447 q1449 qs22 q74 q1450) md_X6_parts ⟨(Nat.le_of_ble_eq_true rfl), (Nat.le_of_ble_eq_true rfl)⟩ rfl dX6_faultOf_103 106 rfl 0 0 rfl rfl (Nat.le_of_ble_eq_true rfl) (Nat.le_of_ble_eq_true rfl) (st := [.int x4]) rfl (Nat.le_of_ble_eq_true rfl) (fun _ => rfl) (fun _ => ?_)
    refine g_icmp_ge X dX6_faultOf_106 157 (by decide) 109 rfl (fun hc => ?_) (fun hc => ?_)
    · replace h := if_t hc h
      refine g_iconst X (-1) dX6_faultOf_157 158 rfl kI_m1 ?_
      cases h
      exact g_iret X dX6_faultOf_158 () rfl rfl (Nat.le_of_ble_eq_true rfl) (Nat.le_of_ble_eq_true rfl)
    · replace h := if_f hc h
      refine g_iload_n X rfl dX6_faultOf_109 110 rfl ?_
      refine g_i2l X dX6_faultOf_110 111 rfl ?_
      refine g_ldc2 X q1540 dX6_faultOf_111 114 rfl ?_
      refine g_aload_n X rfl dX6_faultOf_114 115 rfl ?_
      refine g_iload X rfl dX6_faultOf_115 117 rfl ?_
      obtain ⟨r2, hcl, h⟩ := bd1_e h
      refine g_callV1W X (met_X6_upTo l Z a0 a1 a2 a3 a4 a5 a6 a7 a8 a9 a10 a11 v_savedCount v_scriptLength v_code v_lineParts v_pulseMany v_left v_dropped v_merged v_drops v_contributions v_packet v_peelResult v_peelTime v_peelSum v_at v_commands v_hash v_m v_saved v_script v_lengths v_fractions v_times v_energies v_far v_near v_echoes v_draft x4 r2 hcl) rfl 0 gC5 rfl rfl (lw_V q1545 q1547 qs37 q74 q1548) md_X6_upTo ⟨(Nat.le_of_ble_eq_true rfl), (Nat.le_of_ble_eq_true rfl)⟩ rfl dX6_faultOf_117 120 rfl 0 0 rfl rfl (Nat.le_of_ble_eq_true rfl) (Nat.le_of_ble_eq_true rfl) (st := [.long 2, .long x3.toInt64]) rfl (Nat.le_of_ble_eq_true rfl) (fun _ => rfl) (fun _ => ?_)
      refine g_i2l X dX6_faultOf_120 121 rfl ?_
      refine g_aload_n X rfl dX6_faultOf_121 122 rfl ?_
      refine g_get X gC5 0 rfl 0 (by decide) q1342 (fun _ h9 => h9) rfl dX6_faultOf_122 125 rfl ?_
      refine g_iconst X 1 dX6_faultOf_125 126 rfl kI_1 ?_
      refine g_iload X rfl dX6_faultOf_126 128 rfl ?_
      refine g_iadd X dX6_faultOf_128 129 rfl ?_
      obtain ⟨hi, h⟩ := gin_e h
      refine g_lald X 1 rfl hi dX6_faultOf_129 130 rfl ?_
      refine g_lsub X dX6_faultOf_130 131 rfl ?_
      refine g_lmul X dX6_faultOf_131 132 rfl ?_
      refine g_lcmp_le X dX6_faultOf_132 133 rfl dX6_faultOf_133 151 (by decide) 136 rfl (fun hc => ?_) (fun hc => ?_)
      · replace h := if_t hc h
        exact w_X6_faultOf_151 a0 a1 a2 a3 a4 a5 a6 a7 a8 a9 a10 a11  X  r _ hK100  v_savedCount v_scriptLength v_code v_lineParts v_pulseMany v_left v_dropped v_merged v_drops v_contributions v_packet v_peelResult v_peelTime v_peelSum v_at v_commands v_hash v_m v_saved v_script v_lengths v_fractions v_times v_energies v_far v_near v_echoes v_draft x3 x4 h
      · replace h := if_f hc h
        refine g_iload_n X rfl dX6_faultOf_136 137 rfl ?_
        refine g_iconst X 2 dX6_faultOf_137 138 rfl kI_2 ?_
        refine g_aload_n X rfl dX6_faultOf_138 139 rfl ?_
        refine g_iload X rfl dX6_faultOf_139 141 rfl ?_
        obtain ⟨r3, hcl, h⟩ := bd1_e h
        refine g_callV1W X (met_X6_upTo l Z a0 a1 a2 a3 a4 a5 a6 a7 a8 a9 a10 a11 v_savedCount v_scriptLength v_code v_lineParts v_pulseMany v_left v_dropped v_merged v_drops v_contributions v_packet v_peelResult v_peelTime v_peelSum v_at v_commands v_hash v_m v_saved v_script v_lengths v_fractions v_times v_energies v_far v_near v_echoes v_draft x4 r3 hcl) rfl 0 gC5 rfl rfl (lw_V q1545 q1547 qs37 q74 q1548) md_X6_upTo ⟨(Nat.le_of_ble_eq_true rfl), (Nat.le_of_ble_eq_true rfl)⟩ rfl dX6_faultOf_141 144 rfl 0 0 rfl rfl (Nat.le_of_ble_eq_true rfl) (Nat.le_of_ble_eq_true rfl) (st := [.int 2, .int x3]) rfl (Nat.le_of_ble_eq_true rfl) (fun _ => rfl) (fun _ => ?_)
        refine g_imul X dX6_faultOf_144 145 rfl ?_
        refine g_icmp_gt X dX6_faultOf_145 151 (by decide) 148 rfl (fun hc => ?_) (fun hc => ?_)
        · replace h := if_t hc h
          exact w_X6_faultOf_151 a0 a1 a2 a3 a4 a5 a6 a7 a8 a9 a10 a11  X  r _ hK100  v_savedCount v_scriptLength v_code v_lineParts v_pulseMany v_left v_dropped v_merged v_drops v_contributions v_packet v_peelResult v_peelTime v_peelSum v_at v_commands v_hash v_m v_saved v_script v_lengths v_fractions v_times v_energies v_far v_near v_echoes v_draft x3 x4 h
        · replace h := if_f hc h
          refine g_iload X rfl dX6_faultOf_148 150 rfl ?_
          cases h
          exact g_iret X dX6_faultOf_150 () rfl rfl (Nat.le_of_ble_eq_true rfl) (Nat.le_of_ble_eq_true rfl)
theorem w_X6_faultOf_35 {p : Program} {l : Launch} {e : Env} {s : State} {m : MethodId} {args : Array Value} {below : List Frame} {meth : Method} {c : Code} {Z : gZt} {A : Nat → Prop} (a0 : Nat) (a1 : Nat) (a2 : Nat) (a3 : Nat) (a4 : Nat) (a5 : Nat) (a6 : Nat) (a7 : Nat) (a8 : Nat) (a9 : Nat) (a10 : Nat) (a11 : Nat) (X : gX p s m args meth c Z A cX6_faultOf "LineEchoesModel" 5 (some .int) []) (r : Int32)  (v_savedCount : Int32) (v_scriptLength : Int32) (v_code : Int32) (v_lineParts : Int32) (v_pulseMany : Int32) (v_left : Int64) (v_dropped : Int64) (v_merged : Int32) (v_drops : Int32) (v_contributions : Int32) (v_packet : Int64) (v_peelResult : Int32) (v_peelTime : Int32) (v_peelSum : Int32) (v_at : Int32) (v_commands : Int32) (v_hash : Int64) (v_m : Nat → Int64) (v_saved : Nat → Int64) (v_script : Nat → Int32) (v_lengths : Nat → Int32) (v_fractions : Nat → Int32) (v_times : Nat → Int32) (v_energies : Nat → Int64) (v_far : Nat → Int64) (v_near : Nat → Int64) (v_echoes : Nat → Int64) (v_draft : Nat → Int32) (x1 : Int32) (x2 : Int32) (h : F_X6_faultOf_35 v_pulseMany v_m v_times v_echoes x1 x2 = some r) : G p l e rm_X6_faultOf s m args below meth c Z A 5 (MQ below (gPost Z A (fun _ : Unit => (some (.int r) : Option Value)) (fun _ : Unit => ([(a0, .inr (5, [.ref a1, .ref a2, .int v_savedCount, .ref a3, .int v_scriptLength, .int v_code, .int v_lineParts, .ref a4, .ref a5, .int v_pulseMany, .ref a6, .ref a7, .ref a8, .ref a9, .ref a10, .long v_left, .long v_dropped, .int v_merged, .int v_drops, .int v_contributions, .long v_packet, .int v_peelResult, .int v_peelTime, .int v_peelSum, .int v_at, .int v_commands, .ref a11, .long v_hash])), (a1, .inl (Z.2 1, 431, .inr (.inl v_m))), (a2, .inl (Z.2 1, 1293, .inr (.inl v_saved))), (a3, .inl (Z.2 0, 120, .inl v_script)), (a4, .inl (Z.2 0, 8, .inl v_lengths)), (a5, .inl (Z.2 0, 9, .inl v_fractions)), (a6, .inl (Z.2 0, 4, .inl v_times)), (a7, .inl (Z.2 1, 4, .inr (.inl v_energies))), (a8, .inl (Z.2 1, 1809, .inr (.inl v_far))), (a9, .inl (Z.2 1, 1809, .inr (.inl v_near))), (a10, .inl (Z.2 1, 201, .inr (.inl v_echoes))), (a11, .inl (Z.2 0, 120, .inl v_draft))] : va_W))) args s 0 0 A) [(a0, .inr (5, [.ref a1, .ref a2, .int v_savedCount, .ref a3, .int v_scriptLength, .int v_code, .int v_lineParts, .ref a4, .ref a5, .int v_pulseMany, .ref a6, .ref a7, .ref a8, .ref a9, .ref a10, .long v_left, .long v_dropped, .int v_merged, .int v_drops, .int v_contributions, .long v_packet, .int v_peelResult, .int v_peelTime, .int v_peelSum, .int v_at, .int v_commands, .ref a11, .long v_hash])), (a1, .inl (Z.2 1, 431, .inr (.inl v_m))), (a2, .inl (Z.2 1, 1293, .inr (.inl v_saved))), (a3, .inl (Z.2 0, 120, .inl v_script)), (a4, .inl (Z.2 0, 8, .inl v_lengths)), (a5, .inl (Z.2 0, 9, .inl v_fractions)), (a6, .inl (Z.2 0, 4, .inl v_times)), (a7, .inl (Z.2 1, 4, .inr (.inl v_energies))), (a8, .inl (Z.2 1, 1809, .inr (.inl v_far))), (a9, .inl (Z.2 1, 1809, .inr (.inl v_near))), (a10, .inl (Z.2 1, 201, .inr (.inl v_echoes))), (a11, .inl (Z.2 0, 120, .inl v_draft))] 0 0 35 [some (.ref a0), some (.int x1), some (.int x2), none, none] [] := by
  unfold F_X6_faultOf_35 at h
  refine g_iload_n X rfl dX6_faultOf_35 36 rfl ?_
  refine g_aload_n X rfl dX6_faultOf_36 37 rfl ?_
  obtain ⟨r1, hcl, h⟩ := bd1_e h
  refine g_callV1W X (met_X6_window l Z a0 a1 a2 a3 a4 a5 a6 a7 a8 a9 a10 a11 v_savedCount v_scriptLength v_code v_lineParts v_pulseMany v_left v_dropped v_merged v_drops v_contributions v_packet v_peelResult v_peelTime v_peelSum v_at v_commands v_hash v_m v_saved v_script v_lengths v_fractions v_times v_energies v_far v_near v_echoes v_draft  r1 hcl) rfl 0 gC5 rfl rfl (lw_V q1517 q1519 qs34 q74 q1520) md_X6_window ⟨(Nat.le_of_ble_eq_true rfl), (Nat.le_of_ble_eq_true rfl)⟩ rfl dX6_faultOf_37 40 rfl 0 0 rfl rfl (Nat.le_of_ble_eq_true rfl) (Nat.le_of_ble_eq_true rfl) (st := [.int x2]) rfl (Nat.le_of_ble_eq_true rfl) (fun _ => rfl) (fun _ => ?_)
  refine g_icmp_le X dX6_faultOf_40 45 (by decide) 43 rfl (fun hc => ?_) (fun hc => ?_)
  · replace h := if_t hc h
    refine g_iload_n X rfl dX6_faultOf_45 46 rfl ?_
    refine g_aload_n X rfl dX6_faultOf_46 47 rfl ?_
    obtain ⟨r2, hcl, h⟩ := bd1_e h
    refine g_callV1W X (met_X6_earliest l Z a0 a1 a2 a3 a4 a5 a6 a7 a8 a9 a10 a11 v_savedCount v_scriptLength v_code v_lineParts v_pulseMany v_left v_dropped v_merged v_drops v_contributions v_packet v_peelResult v_peelTime v_peelSum v_at v_commands v_hash v_m v_saved v_script v_lengths v_fractions v_times v_energies v_far v_near v_echoes v_draft  r2 hcl) rfl 0 gC5 rfl rfl (lw_V q1651 q1653 qs52 q74 q1654) md_X6_earliest ⟨(Nat.le_of_ble_eq_true rfl), (Nat.le_of_ble_eq_true rfl)⟩ rfl dX6_faultOf_47 50 rfl 0 0 rfl rfl (Nat.le_of_ble_eq_true rfl) (Nat.le_of_ble_eq_true rfl) (st := [.int x2]) rfl (Nat.le_of_ble_eq_true rfl) (fun _ => rfl) (fun _ => ?_)
    refine g_isub X dX6_faultOf_50 51 rfl ?_
    refine g_istore_n X dX6_faultOf_51 52 rfl (Nat.le_of_ble_eq_true rfl) rfl [some (.ref a0), some (.int x1), some (.int x2), some (.int (x2 - r2)), none] rfl ?_
    refine g_iload_n X rfl dX6_faultOf_52 53 rfl ?_
    refine g_iconst X 2 dX6_faultOf_53 54 rfl kI_2 ?_
    refine g_icmp_ge X dX6_faultOf_54 67 (by decide) 57 rfl (fun hc => ?_) (fun hc => ?_)
    · replace h := if_t hc h
      refine g_iload_n X rfl dX6_faultOf_67 68 rfl ?_
      refine g_iconst X 3 dX6_faultOf_68 69 rfl kI_3 ?_
      refine g_icmp_ne X dX6_faultOf_69 97 (by decide) 72 rfl (fun hc => ?_) (fun hc => ?_)
      · replace h := if_f hc h
        refine g_iconst X 0 dX6_faultOf_97 98 rfl kI_0 ?_
        refine g_istore X dX6_faultOf_98 100 rfl (Nat.le_of_ble_eq_true rfl) rfl [some (.ref a0), some (.int x1), some (.int x2), some (.int (x2 - r2)), some (.int 0)] rfl ?_
        refine g_kill (j := 1) [some (.ref a0), none, some (.int x2), some (.int (x2 - r2)), some (.int 0)] rfl ?_
        refine g_kill (j := 2) [some (.ref a0), none, none, some (.int (x2 - r2)), some (.int 0)] rfl ?_
        exact w_X6_faultOf_100 a0 a1 a2 a3 a4 a5 a6 a7 a8 a9 a10 a11  X  r    gFU v_savedCount v_scriptLength v_code v_lineParts v_pulseMany v_left v_dropped v_merged v_drops v_contributions v_packet v_peelResult v_peelTime v_peelSum v_at v_commands v_hash v_m v_saved v_script v_lengths v_fractions v_times v_energies v_far v_near v_echoes v_draft (x2 - r2) 0 h
      · replace h := if_t hc h
        refine g_aload_n X rfl dX6_faultOf_72 73 rfl ?_
        refine g_get X gC5 0 rfl 14 (by decide) q1356 (fun _ h9 => h9) rfl dX6_faultOf_73 76 rfl ?_
        refine g_iload_n X rfl dX6_faultOf_76 77 rfl ?_
        obtain ⟨hi, h⟩ := gin_e h
        refine g_lald X 10 rfl hi dX6_faultOf_77 78 rfl ?_
        refine g_aload_n X rfl dX6_faultOf_78 79 rfl ?_
        refine g_get X gC5 0 rfl 0 (by decide) q1342 (fun _ h9 => h9) rfl dX6_faultOf_79 82 rfl ?_
        refine g_bipush X 29 dX6_faultOf_82 84 rfl kB_29 ?_
        refine g_iload_n X rfl dX6_faultOf_84 85 rfl ?_
        refine g_iadd X dX6_faultOf_85 86 rfl ?_
        obtain ⟨hi, h⟩ := gin_e h
        refine g_lald X 1 rfl hi dX6_faultOf_86 87 rfl ?_
        refine g_seli 96 [] (b := (v_echoes x2.toNatClampNeg) ≤ (v_m (29 + x2).toNatClampNeg)) (-1) 1 ?_ (fun hc K => ?_) (fun hc K => ?_)
        · cases h
          exact g_iret X dX6_faultOf_96 () rfl rfl (Nat.le_of_ble_eq_true rfl) (Nat.le_of_ble_eq_true rfl)
        · refine g_lcmp_le X dX6_faultOf_87 88 rfl dX6_faultOf_88 95 (by decide) 91 rfl (fun _ => ?_) (fun hn => absurd hc hn)
          refine g_iconst X (-1) dX6_faultOf_95 96 rfl kI_m1 ?_
          exact K
        · refine g_lcmp_le X dX6_faultOf_87 88 rfl dX6_faultOf_88 95 (by decide) 91 rfl (fun hn => absurd hn hc) (fun _ => ?_)
          refine g_iconst X 1 dX6_faultOf_91 92 rfl kI_1 ?_
          refine g_goto X dX6_faultOf_92 96 (by decide) ?_
          exact K
    · replace h := if_f hc h
      refine g_iload_n X rfl dX6_faultOf_57 58 rfl ?_
      refine g_seli 66 [] (b := x1 = 0) x2 (x2 - r2) ?_ (fun hc K => ?_) (fun hc K => ?_)
      · cases h
        exact g_iret X dX6_faultOf_66 () rfl rfl (Nat.le_of_ble_eq_true rfl) (Nat.le_of_ble_eq_true rfl)
      · refine g_if_ne X dX6_faultOf_58 65 (by decide) 61 rfl (fun hn => absurd hc hn) (fun _ => ?_)
        refine g_iload_n X rfl dX6_faultOf_61 62 rfl ?_
        refine g_goto X dX6_faultOf_62 66 (by decide) ?_
        exact K
      · refine g_if_ne X dX6_faultOf_58 65 (by decide) 61 rfl (fun _ => ?_) (fun hn => absurd hn hc)
        refine g_iload_n X rfl dX6_faultOf_65 66 rfl ?_
        exact K
  · replace h := if_f hc h
    refine g_iconst X (-1) dX6_faultOf_43 44 rfl kI_m1 ?_
    cases h
    exact g_iret X dX6_faultOf_44 () rfl rfl (Nat.le_of_ble_eq_true rfl) (Nat.le_of_ble_eq_true rfl)
theorem w_X6_faultOf_2 {p : Program} {l : Launch} {e : Env} {s : State} {m : MethodId} {args : Array Value} {below : List Frame} {meth : Method} {c : Code} {Z : gZt} {A : Nat → Prop} (a0 : Nat) (a1 : Nat) (a2 : Nat) (a3 : Nat) (a4 : Nat) (a5 : Nat) (a6 : Nat) (a7 : Nat) (a8 : Nat) (a9 : Nat) (a10 : Nat) (a11 : Nat) (X : gX p s m args meth c Z A cX6_faultOf "LineEchoesModel" 5 (some .int) []) (r : Int32)  : ∀ (n : Nat) (v_savedCount : Int32) (v_scriptLength : Int32) (v_code : Int32) (v_lineParts : Int32) (v_pulseMany : Int32) (v_left : Int64) (v_dropped : Int64) (v_merged : Int32) (v_drops : Int32) (v_contributions : Int32) (v_packet : Int64) (v_peelResult : Int32) (v_peelTime : Int32) (v_peelSum : Int32) (v_at : Int32) (v_commands : Int32) (v_hash : Int64) (v_m : Nat → Int64) (v_saved : Nat → Int64) (v_script : Nat → Int32) (v_lengths : Nat → Int32) (v_fractions : Nat → Int32) (v_times : Nat → Int32) (v_energies : Nat → Int64) (v_far : Nat → Int64) (v_near : Nat → Int64) (v_echoes : Nat → Int64) (v_draft : Nat → Int32) (x1 : Int32) (x2 : Int32), F_X6_faultOf_2 n v_pulseMany v_m v_times v_echoes x1 x2 = some r → G p l e rm_X6_faultOf s m args below meth c Z A 5 (MQ below (gPost Z A (fun _ : Unit => (some (.int r) : Option Value)) (fun _ : Unit => ([(a0, .inr (5, [.ref a1, .ref a2, .int v_savedCount, .ref a3, .int v_scriptLength, .int v_code, .int v_lineParts, .ref a4, .ref a5, .int v_pulseMany, .ref a6, .ref a7, .ref a8, .ref a9, .ref a10, .long v_left, .long v_dropped, .int v_merged, .int v_drops, .int v_contributions, .long v_packet, .int v_peelResult, .int v_peelTime, .int v_peelSum, .int v_at, .int v_commands, .ref a11, .long v_hash])), (a1, .inl (Z.2 1, 431, .inr (.inl v_m))), (a2, .inl (Z.2 1, 1293, .inr (.inl v_saved))), (a3, .inl (Z.2 0, 120, .inl v_script)), (a4, .inl (Z.2 0, 8, .inl v_lengths)), (a5, .inl (Z.2 0, 9, .inl v_fractions)), (a6, .inl (Z.2 0, 4, .inl v_times)), (a7, .inl (Z.2 1, 4, .inr (.inl v_energies))), (a8, .inl (Z.2 1, 1809, .inr (.inl v_far))), (a9, .inl (Z.2 1, 1809, .inr (.inl v_near))), (a10, .inl (Z.2 1, 201, .inr (.inl v_echoes))), (a11, .inl (Z.2 0, 120, .inl v_draft))] : va_W))) args s 0 0 A) [(a0, .inr (5, [.ref a1, .ref a2, .int v_savedCount, .ref a3, .int v_scriptLength, .int v_code, .int v_lineParts, .ref a4, .ref a5, .int v_pulseMany, .ref a6, .ref a7, .ref a8, .ref a9, .ref a10, .long v_left, .long v_dropped, .int v_merged, .int v_drops, .int v_contributions, .long v_packet, .int v_peelResult, .int v_peelTime, .int v_peelSum, .int v_at, .int v_commands, .ref a11, .long v_hash])), (a1, .inl (Z.2 1, 431, .inr (.inl v_m))), (a2, .inl (Z.2 1, 1293, .inr (.inl v_saved))), (a3, .inl (Z.2 0, 120, .inl v_script)), (a4, .inl (Z.2 0, 8, .inl v_lengths)), (a5, .inl (Z.2 0, 9, .inl v_fractions)), (a6, .inl (Z.2 0, 4, .inl v_times)), (a7, .inl (Z.2 1, 4, .inr (.inl v_energies))), (a8, .inl (Z.2 1, 1809, .inr (.inl v_far))), (a9, .inl (Z.2 1, 1809, .inr (.inl v_near))), (a10, .inl (Z.2 1, 201, .inr (.inl v_echoes))), (a11, .inl (Z.2 0, 120, .inl v_draft))] 0 0 2 [some (.ref a0), some (.int x1), some (.int x2), none, none] [] := by
  intro n
  induction n with
  | zero =>
    intro v_savedCount v_scriptLength v_code v_lineParts v_pulseMany v_left v_dropped v_merged v_drops v_contributions v_packet v_peelResult v_peelTime v_peelSum v_at v_commands v_hash v_m v_saved v_script v_lengths v_fractions v_times v_energies v_far v_near v_echoes v_draft x1 x2 h
    cases h
  | succ n hK2 =>
    intro v_savedCount v_scriptLength v_code v_lineParts v_pulseMany v_left v_dropped v_merged v_drops v_contributions v_packet v_peelResult v_peelTime v_peelSum v_at v_commands v_hash v_m v_saved v_script v_lengths v_fractions v_times v_energies v_far v_near v_echoes v_draft x1 x2 h
    replace h : B_X6_faultOf_2 (F_X6_faultOf_2 n) v_pulseMany v_m v_times v_echoes x1 x2 = some r := h
    unfold B_X6_faultOf_2 at h
    refine g_iload_n X rfl dX6_faultOf_2 3 rfl ?_
    refine g_aload_n X rfl dX6_faultOf_3 4 rfl ?_
    obtain ⟨r1, hcl, h⟩ := bd1_e h
    refine g_callV1W X (met_X6_window l Z a0 a1 a2 a3 a4 a5 a6 a7 a8 a9 a10 a11 v_savedCount v_scriptLength v_code v_lineParts v_pulseMany v_left v_dropped v_merged v_drops v_contributions v_packet v_peelResult v_peelTime v_peelSum v_at v_commands v_hash v_m v_saved v_script v_lengths v_fractions v_times v_energies v_far v_near v_echoes v_draft  r1 hcl) rfl 0 gC5 rfl rfl (lw_V q1517 q1519 qs34 q74 q1520) md_X6_window ⟨(Nat.le_of_ble_eq_true rfl), (Nat.le_of_ble_eq_true rfl)⟩ rfl dX6_faultOf_4 7 rfl 0 0 rfl rfl (Nat.le_of_ble_eq_true rfl) (Nat.le_of_ble_eq_true rfl) (st := [.int x2]) rfl (Nat.le_of_ble_eq_true rfl) (fun _ => rfl) (fun _ => ?_)
    refine g_icmp_gt X dX6_faultOf_7 35 (by decide) 10 rfl (fun hc => ?_) (fun hc => ?_)
    · replace h := if_t hc h
      exact w_X6_faultOf_35 a0 a1 a2 a3 a4 a5 a6 a7 a8 a9 a10 a11  X  r    v_savedCount v_scriptLength v_code v_lineParts v_pulseMany v_left v_dropped v_merged v_drops v_contributions v_packet v_peelResult v_peelTime v_peelSum v_at v_commands v_hash v_m v_saved v_script v_lengths v_fractions v_times v_energies v_far v_near v_echoes v_draft x1 x2 h
    · replace h := if_f hc h
      refine g_aload_n X rfl dX6_faultOf_10 11 rfl ?_
      refine g_get X gC5 0 rfl 14 (by decide) q1356 (fun _ h9 => h9) rfl dX6_faultOf_11 14 rfl ?_
      refine g_iload_n X rfl dX6_faultOf_14 15 rfl ?_
      obtain ⟨hi, h⟩ := gin_e h
      refine g_lald X 10 rfl hi dX6_faultOf_15 16 rfl ?_
      refine g_aload_n X rfl dX6_faultOf_16 17 rfl ?_
      refine g_get X gC5 0 rfl 0 (by decide) q1342 (fun _ h9 => h9) rfl dX6_faultOf_17 20 rfl ?_
      refine g_bipush X 29 dX6_faultOf_20 22 rfl kB_29 ?_
      refine g_iload_n X rfl dX6_faultOf_22 23 rfl ?_
      refine g_iadd X dX6_faultOf_23 24 rfl ?_
      obtain ⟨hi, h⟩ := gin_e h
      refine g_lald X 1 rfl hi dX6_faultOf_24 25 rfl ?_
      refine g_lcmp_ne X dX6_faultOf_25 26 rfl dX6_faultOf_26 35 (by decide) 29 rfl (fun hc => ?_) (fun hc => ?_)
      · replace h := if_f hc h
        exact w_X6_faultOf_35 a0 a1 a2 a3 a4 a5 a6 a7 a8 a9 a10 a11  X  r    v_savedCount v_scriptLength v_code v_lineParts v_pulseMany v_left v_dropped v_merged v_drops v_contributions v_packet v_peelResult v_peelTime v_peelSum v_at v_commands v_hash v_m v_saved v_script v_lengths v_fractions v_times v_energies v_far v_near v_echoes v_draft x1 x2 h
      · replace h := if_t hc h
        refine g_iinc X 1 rfl dX6_faultOf_29 32 rfl kI_1 (Nat.le_of_ble_eq_true rfl) rfl [some (.ref a0), some (.int x1), some (.int (x2 + 1)), none, none] rfl ?_
        refine g_goto X dX6_faultOf_32 2 (by decide) ?_
        exact hK2 v_savedCount v_scriptLength v_code v_lineParts v_pulseMany v_left v_dropped v_merged v_drops v_contributions v_packet v_peelResult v_peelTime v_peelSum v_at v_commands v_hash v_m v_saved v_script v_lengths v_fractions v_times v_energies v_far v_near v_echoes v_draft x1 (x2 + 1) h
theorem met_X6_faultOf (l : Launch) (Z : gZt) (a0 : Nat) (a1 : Nat) (a2 : Nat) (a3 : Nat) (a4 : Nat) (a5 : Nat) (a6 : Nat) (a7 : Nat) (a8 : Nat) (a9 : Nat) (a10 : Nat) (a11 : Nat) (v_savedCount : Int32) (v_scriptLength : Int32) (v_code : Int32) (v_lineParts : Int32) (v_pulseMany : Int32) (v_left : Int64) (v_dropped : Int64) (v_merged : Int32) (v_drops : Int32) (v_contributions : Int32) (v_packet : Int64) (v_peelResult : Int32) (v_peelTime : Int32) (v_peelSum : Int32) (v_at : Int32) (v_commands : Int32) (v_hash : Int64) (v_m : Nat → Int64) (v_saved : Nat → Int64) (v_script : Nat → Int32) (v_lengths : Nat → Int32) (v_fractions : Nat → Int32) (v_times : Nat → Int32) (v_energies : Nat → Int64) (v_far : Nat → Int64) (v_near : Nat → Int64) (v_echoes : Nat → Int64) (v_draft : Nat → Int32) (x1 : Int32) (r : Int32) (h : F_X6_faultOf v_pulseMany v_m v_times v_echoes x1 = some r) : Ct l yX6_faultOf (ws_ yX6_faultOf cX6_faultOf 5 (some .int)) rm_X6_faultOf Z [.ref a0, .int x1] [(a0, .inr (5, [.ref a1, .ref a2, .int v_savedCount, .ref a3, .int v_scriptLength, .int v_code, .int v_lineParts, .ref a4, .ref a5, .int v_pulseMany, .ref a6, .ref a7, .ref a8, .ref a9, .ref a10, .long v_left, .long v_dropped, .int v_merged, .int v_drops, .int v_contributions, .long v_packet, .int v_peelResult, .int v_peelTime, .int v_peelSum, .int v_at, .int v_commands, .ref a11, .long v_hash])), (a1, .inl (Z.2 1, 431, .inr (.inl v_m))), (a2, .inl (Z.2 1, 1293, .inr (.inl v_saved))), (a3, .inl (Z.2 0, 120, .inl v_script)), (a4, .inl (Z.2 0, 8, .inl v_lengths)), (a5, .inl (Z.2 0, 9, .inl v_fractions)), (a6, .inl (Z.2 0, 4, .inl v_times)), (a7, .inl (Z.2 1, 4, .inr (.inl v_energies))), (a8, .inl (Z.2 1, 1809, .inr (.inl v_far))), (a9, .inl (Z.2 1, 1809, .inr (.inl v_near))), (a10, .inl (Z.2 1, 201, .inr (.inl v_echoes))), (a11, .inl (Z.2 0, 120, .inl v_draft))] [] (fun _ : Unit => (some (.int r) : Option Value)) (fun _ : Unit => ([(a0, .inr (5, [.ref a1, .ref a2, .int v_savedCount, .ref a3, .int v_scriptLength, .int v_code, .int v_lineParts, .ref a4, .ref a5, .int v_pulseMany, .ref a6, .ref a7, .ref a8, .ref a9, .ref a10, .long v_left, .long v_dropped, .int v_merged, .int v_drops, .int v_contributions, .long v_packet, .int v_peelResult, .int v_peelTime, .int v_peelSum, .int v_at, .int v_commands, .ref a11, .long v_hash])), (a1, .inl (Z.2 1, 431, .inr (.inl v_m))), (a2, .inl (Z.2 1, 1293, .inr (.inl v_saved))), (a3, .inl (Z.2 0, 120, .inl v_script)), (a4, .inl (Z.2 0, 8, .inl v_lengths)), (a5, .inl (Z.2 0, 9, .inl v_fractions)), (a6, .inl (Z.2 0, 4, .inl v_times)), (a7, .inl (Z.2 1, 4, .inr (.inl v_energies))), (a8, .inl (Z.2 1, 1809, .inr (.inl v_far))), (a9, .inl (Z.2 1, 1809, .inr (.inl v_near))), (a10, .inl (Z.2 1, 201, .inr (.inl v_echoes))), (a11, .inl (Z.2 0, 120, .inl v_draft))] : va_W)) := by
  refine Ct.of cX6_faultOf 5 (some .int) "LineEchoesModel" [some (.ref a0), some (.int x1), none, none, none] 3 (by decide) rfl (Nat.le_of_ble_eq_true rfl) rfl (fun p e s m args below meth c A X hin => ?_)
  unfold F_X6_faultOf at h
  refine g_iconst X 0 dX6_faultOf_0 1 rfl kI_0 ?_
  refine g_istore_n X dX6_faultOf_1 2 rfl (Nat.le_of_ble_eq_true rfl) rfl [some (.ref a0), some (.int x1), some (.int 0), none, none] rfl ?_
  exact w_X6_faultOf_2 a0 a1 a2 a3 a4 a5 a6 a7 a8 a9 a10 a11  X  r    gFU v_savedCount v_scriptLength v_code v_lineParts v_pulseMany v_left v_dropped v_merged v_drops v_contributions v_packet v_peelResult v_peelTime v_peelSum v_at v_commands v_hash v_m v_saved v_script v_lengths v_fractions v_times v_energies v_far v_near v_echoes v_draft x1 0 h
/-! LineEchoesModel.fault(I)I -/
abbrev rm_X6_fault : Room := { frames := 5, cells := 0, slots := 0, locals := 117 }
def F_X6_fault (v_lineParts : Int32) (v_pulseMany : Int32) (v_left : Int64) (v_dropped : Int64) (v_merged : Int32) (v_drops : Int32) (v_contributions : Int32) (v_packet : Int64) (v_m : Nat → Int64) (v_lengths : Nat → Int32) (v_fractions : Nat → Int32) (v_times : Nat → Int32) (v_energies : Nat → Int64) (v_far : Nat → Int64) (v_near : Nat → Int64) (v_echoes : Nat → Int64) (x1 : Int32) : Option (Int32 × Int32 × Int32 × Int32 × Int64 × Int64 × Int32 × Int32 × Int32 × Int64 × (Nat → Int32) × (Nat → Int32) × (Nat → Int32) × (Nat → Int64) × (Nat → Int64) × (Nat → Int64) × (Nat → Int64)) :=
  bd1 (F_X6_in x1.toInt64 0 3) fun r1 =>
  if (if r1 = 0 then (1 : Int32) else 0) = 0 then
    (bd15 (F_X6_runPresent v_m v_lengths v_fractions v_times v_energies v_far v_near v_echoes) fun w2_lineParts w3_pulseMany w4_left w5_dropped w6_merged w7_drops w8_contributions w9_packet w10_lengths w11_fractions w12_times w13_energies w14_far w15_near w16_echoes =>
    bd1 (F_X6_faultOf w3_pulseMany v_m w12_times w16_echoes x1) fun r17 =>
    some (r17, (if r1 = 0 then (1 : Int32) else 0), w2_lineParts, w3_pulseMany, w4_left, w5_dropped, w6_merged, w7_drops, w8_contributions, w9_packet, w10_lengths, w11_fractions, w12_times, w13_energies, w14_far, w15_near, w16_echoes))
  else
    (some (0, (if r1 = 0 then (1 : Int32) else 0), v_lineParts, v_pulseMany, v_left, v_dropped, v_merged, v_drops, v_contributions, v_packet, v_lengths, v_fractions, v_times, v_energies, v_far, v_near, v_echoes))
theorem met_X6_fault (l : Launch) (Z : gZt) (a0 : Nat) (a1 : Nat) (a2 : Nat) (a3 : Nat) (a4 : Nat) (a5 : Nat) (a6 : Nat) (a7 : Nat) (a8 : Nat) (a9 : Nat) (a10 : Nat) (a11 : Nat) (v_savedCount : Int32) (v_scriptLength : Int32) (v_code : Int32) (v_lineParts : Int32) (v_pulseMany : Int32) (v_left : Int64) (v_dropped : Int64) (v_merged : Int32) (v_drops : Int32) (v_contributions : Int32) (v_packet : Int64) (v_peelResult : Int32) (v_peelTime : Int32) (v_peelSum : Int32) (v_at : Int32) (v_commands : Int32) (v_hash : Int64) (v_m : Nat → Int64) (v_saved : Nat → Int64) (v_script : Nat → Int32) (v_lengths : Nat → Int32) (v_fractions : Nat → Int32) (v_times : Nat → Int32) (v_energies : Nat → Int64) (v_far : Nat → Int64) (v_near : Nat → Int64) (v_echoes : Nat → Int64) (v_draft : Nat → Int32) (x1 : Int32) (r : Int32) (r_code : Int32) (r_lineParts : Int32) (r_pulseMany : Int32) (r_left : Int64) (r_dropped : Int64) (r_merged : Int32) (r_drops : Int32) (r_contributions : Int32) (r_packet : Int64) (r_lengths : Nat → Int32) (r_fractions : Nat → Int32) (r_times : Nat → Int32) (r_energies : Nat → Int64) (r_far : Nat → Int64) (r_near : Nat → Int64) (r_echoes : Nat → Int64) (h : F_X6_fault v_lineParts v_pulseMany v_left v_dropped v_merged v_drops v_contributions v_packet v_m v_lengths v_fractions v_times v_energies v_far v_near v_echoes x1 = some (r, r_code, r_lineParts, r_pulseMany, r_left, r_dropped, r_merged, r_drops, r_contributions, r_packet, r_lengths, r_fractions, r_times, r_energies, r_far, r_near, r_echoes)) : Ct l yX6_fault (ws_ yX6_fault cX6_fault 2 (some .int)) rm_X6_fault Z [.ref a0, .int x1] [(a0, .inr (5, [.ref a1, .ref a2, .int v_savedCount, .ref a3, .int v_scriptLength, .int v_code, .int v_lineParts, .ref a4, .ref a5, .int v_pulseMany, .ref a6, .ref a7, .ref a8, .ref a9, .ref a10, .long v_left, .long v_dropped, .int v_merged, .int v_drops, .int v_contributions, .long v_packet, .int v_peelResult, .int v_peelTime, .int v_peelSum, .int v_at, .int v_commands, .ref a11, .long v_hash])), (a1, .inl (Z.2 1, 431, .inr (.inl v_m))), (a2, .inl (Z.2 1, 1293, .inr (.inl v_saved))), (a3, .inl (Z.2 0, 120, .inl v_script)), (a4, .inl (Z.2 0, 8, .inl v_lengths)), (a5, .inl (Z.2 0, 9, .inl v_fractions)), (a6, .inl (Z.2 0, 4, .inl v_times)), (a7, .inl (Z.2 1, 4, .inr (.inl v_energies))), (a8, .inl (Z.2 1, 1809, .inr (.inl v_far))), (a9, .inl (Z.2 1, 1809, .inr (.inl v_near))), (a10, .inl (Z.2 1, 201, .inr (.inl v_echoes))), (a11, .inl (Z.2 0, 120, .inl v_draft))] [] (fun _ : Unit => (some (.int r) : Option Value)) (fun _ : Unit => ([(a0, .inr (5, [.ref a1, .ref a2, .int v_savedCount, .ref a3, .int v_scriptLength, .int r_code, .int r_lineParts, .ref a4, .ref a5, .int r_pulseMany, .ref a6, .ref a7, .ref a8, .ref a9, .ref a10, .long r_left, .long r_dropped, .int r_merged, .int r_drops, .int r_contributions, .long r_packet, .int v_peelResult, .int v_peelTime, .int v_peelSum, .int v_at, .int v_commands, .ref a11, .long v_hash])), (a1, .inl (Z.2 1, 431, .inr (.inl v_m))), (a2, .inl (Z.2 1, 1293, .inr (.inl v_saved))), (a3, .inl (Z.2 0, 120, .inl v_script)), (a4, .inl (Z.2 0, 8, .inl r_lengths)), (a5, .inl (Z.2 0, 9, .inl r_fractions)), (a6, .inl (Z.2 0, 4, .inl r_times)), (a7, .inl (Z.2 1, 4, .inr (.inl r_energies))), (a8, .inl (Z.2 1, 1809, .inr (.inl r_far))), (a9, .inl (Z.2 1, 1809, .inr (.inl r_near))), (a10, .inl (Z.2 1, 201, .inr (.inl r_echoes))), (a11, .inl (Z.2 0, 120, .inl v_draft))] : va_W)) := by
  refine Ct.of cX6_fault 2 (some .int) "LineEchoesModel" [some (.ref a0), some (.int x1)] 0 (by decide) rfl (Nat.le_of_ble_eq_true rfl) rfl (fun p e s m args below meth c A X hin => ?_)
  unfold F_X6_fault at h
  refine g_aload_n X rfl dX6_fault_0 1 rfl ?_
  refine g_iload_n X rfl dX6_fault_1 2 rfl ?_
  refine g_i2l X dX6_fault_2 3 rfl ?_
  refine g_lconst X 0 dX6_fault_3 4 rfl rfl ?_
  refine g_ldc2 X q1646 dX6_fault_4 7 rfl ?_
  obtain ⟨r1, hcl, h⟩ := bd1_e h
  refine g_callS1Z X (met_X6_in l Z   x1.toInt64 0 3 r1 hcl) (lw_S q1443 q1444 q74 q1445) md_X6_in ⟨(Nat.le_of_ble_eq_true rfl), (Nat.le_of_ble_eq_true rfl)⟩ rfl dX6_fault_7 10 rfl 0 0 rfl rfl (Nat.le_of_ble_eq_true rfl) (Nat.le_of_ble_eq_true rfl) (st := [.ref a0]) rfl (Nat.le_of_ble_eq_true rfl) (fun _ => rfl) (fun _ => ?_)
  refine g_seli 18 [.ref a0] (b := r1 = 0) 1 0 ?_ (fun hc K => ?_) (fun hc K => ?_)
  · refine g_put X gC5 0 rfl 5 (by decide) q1347 (fun _ h9 => h9) rfl rfl rfl (Nat.le_of_ble_eq_true rfl) dX6_fault_18 21 rfl ?_
    refine g_aload_n X rfl dX6_fault_21 22 rfl ?_
    refine g_get X gC5 0 rfl 5 (by decide) q1347 (fun _ h9 => h9) rfl dX6_fault_22 25 rfl ?_
    refine g_if_eq X dX6_fault_25 30 (by decide) 28 rfl (fun hc => ?_) (fun hc => ?_)
    · replace h := if_t hc h
      refine g_aload_n X rfl dX6_fault_30 31 rfl ?_
      obtain ⟨w2_lineParts, w3_pulseMany, w4_left, w5_dropped, w6_merged, w7_drops, w8_contributions, w9_packet, w10_lengths, w11_fractions, w12_times, w13_energies, w14_far, w15_near, w16_echoes, hcl, h⟩ := bd15_e h
      refine g_callV0W X (met_X6_runPresent l Z a0 a1 a2 a3 a4 a5 a6 a7 a8 a9 a10 a11 v_savedCount v_scriptLength (if r1 = 0 then (1 : Int32) else 0) v_lineParts v_pulseMany v_left v_dropped v_merged v_drops v_contributions v_packet v_peelResult v_peelTime v_peelSum v_at v_commands v_hash v_m v_saved v_script v_lengths v_fractions v_times v_energies v_far v_near v_echoes v_draft  w2_lineParts w3_pulseMany w4_left w5_dropped w6_merged w7_drops w8_contributions w9_packet w10_lengths w11_fractions w12_times w13_energies w14_far w15_near w16_echoes hcl) rfl 0 gC5 rfl rfl (lw_V q1562 q1564 qs39 q74 q1565) md_X6_runPresent ⟨(Nat.le_of_ble_eq_true rfl), (Nat.le_of_ble_eq_true rfl)⟩ rfl dX6_fault_31 34 rfl 0 0 rfl rfl (Nat.le_of_ble_eq_true rfl) (Nat.le_of_ble_eq_true rfl) (st := []) rfl (Nat.le_of_ble_eq_true rfl) (fun _ => rfl) (fun _ => ?_)
      refine g_aload_n X rfl dX6_fault_34 35 rfl ?_
      refine g_iload_n X rfl dX6_fault_35 36 rfl ?_
      obtain ⟨r17, hcl, h⟩ := bd1_e h
      refine g_callV1W X (met_X6_faultOf l Z a0 a1 a2 a3 a4 a5 a6 a7 a8 a9 a10 a11 v_savedCount v_scriptLength (if r1 = 0 then (1 : Int32) else 0) w2_lineParts w3_pulseMany w4_left w5_dropped w6_merged w7_drops w8_contributions w9_packet v_peelResult v_peelTime v_peelSum v_at v_commands v_hash v_m v_saved v_script w10_lengths w11_fractions w12_times w13_energies w14_far w15_near w16_echoes v_draft x1 r17 hcl) rfl 0 gC5 rfl rfl (lw_V q1647 q1649 qs51 q74 q1650) md_X6_faultOf ⟨(Nat.le_of_ble_eq_true rfl), (Nat.le_of_ble_eq_true rfl)⟩ rfl dX6_fault_36 39 rfl 0 0 rfl rfl (Nat.le_of_ble_eq_true rfl) (Nat.le_of_ble_eq_true rfl) (st := []) rfl (Nat.le_of_ble_eq_true rfl) (fun _ => rfl) (fun _ => ?_)
      obtain ⟨rfl, rfl, rfl, rfl, rfl, rfl, rfl, rfl, rfl, rfl, rfl, rfl, rfl, rfl, rfl, rfl, rfl⟩ := rt17 h
      exact g_iret X dX6_fault_39 () rfl rfl (Nat.le_of_ble_eq_true rfl) (Nat.le_of_ble_eq_true rfl)
    · replace h := if_f hc h
      refine g_iconst X 0 dX6_fault_28 29 rfl kI_0 ?_
      obtain ⟨rfl, rfl, rfl, rfl, rfl, rfl, rfl, rfl, rfl, rfl, rfl, rfl, rfl, rfl, rfl, rfl, rfl⟩ := rt17 h
      exact g_iret X dX6_fault_29 () rfl rfl (Nat.le_of_ble_eq_true rfl) (Nat.le_of_ble_eq_true rfl)
  · refine g_if_eq X dX6_fault_10 17 (by decide) 13 rfl (fun _ => ?_) (fun hn => absurd hc hn)
    refine g_iconst X 1 dX6_fault_17 18 rfl kI_1 ?_
    exact K
  · refine g_if_eq X dX6_fault_10 17 (by decide) 13 rfl (fun hn => absurd hn hc) (fun _ => ?_)
    refine g_iconst X 0 dX6_fault_13 14 rfl kI_0 ?_
    refine g_goto X dX6_fault_14 18 (by decide) ?_
    exact K
/-! LineEchoesModel.observe()I -/
abbrev rm_X6_observe : Room := { frames := 6, cells := 0, slots := 0, locals := 140 }
def F_X6_observe (v_savedCount : Int32) (v_m : Nat → Int64) (v_saved : Nat → Int64) (v_lengths : Nat → Int32) (v_fractions : Nat → Int32) (v_times : Nat → Int32) (v_energies : Nat → Int64) (v_far : Nat → Int64) (v_near : Nat → Int64) (v_echoes : Nat → Int64) : Option (Int32 × Int32 × Int32 × Int32 × Int32 × Int64 × Int64 × Int32 × Int32 × Int32 × Int64 × (Nat → Int64) × (Nat → Int64) × (Nat → Int32) × (Nat → Int32) × (Nat → Int32) × (Nat → Int64) × (Nat → Int64) × (Nat → Int64) × (Nat → Int64)) :=
  bd2 (F_X6_keep v_savedCount v_m v_saved) fun w1_savedCount w2_saved =>
  bd17 (F_X6_copies v_m v_lengths v_fractions v_times v_energies v_far v_near v_echoes 230) fun r3 w4_lineParts w5_pulseMany w6_left w7_dropped w8_merged w9_drops w10_contributions w11_packet w12_m w13_lengths w14_fractions w15_times w16_energies w17_far w18_near w19_echoes =>
  some (r3, w1_savedCount, 0, w4_lineParts, w5_pulseMany, w6_left, w7_dropped, w8_merged, w9_drops, w10_contributions, w11_packet, w12_m, w2_saved, w13_lengths, w14_fractions, w15_times, w16_energies, w17_far, w18_near, w19_echoes)
theorem met_X6_observe (l : Launch) (Z : gZt) (a0 : Nat) (a1 : Nat) (a2 : Nat) (a3 : Nat) (a4 : Nat) (a5 : Nat) (a6 : Nat) (a7 : Nat) (a8 : Nat) (a9 : Nat) (a10 : Nat) (a11 : Nat) (v_savedCount : Int32) (v_scriptLength : Int32) (v_code : Int32) (v_lineParts : Int32) (v_pulseMany : Int32) (v_left : Int64) (v_dropped : Int64) (v_merged : Int32) (v_drops : Int32) (v_contributions : Int32) (v_packet : Int64) (v_peelResult : Int32) (v_peelTime : Int32) (v_peelSum : Int32) (v_at : Int32) (v_commands : Int32) (v_hash : Int64) (v_m : Nat → Int64) (v_saved : Nat → Int64) (v_script : Nat → Int32) (v_lengths : Nat → Int32) (v_fractions : Nat → Int32) (v_times : Nat → Int32) (v_energies : Nat → Int64) (v_far : Nat → Int64) (v_near : Nat → Int64) (v_echoes : Nat → Int64) (v_draft : Nat → Int32) (r : Int32) (r_savedCount : Int32) (r_code : Int32) (r_lineParts : Int32) (r_pulseMany : Int32) (r_left : Int64) (r_dropped : Int64) (r_merged : Int32) (r_drops : Int32) (r_contributions : Int32) (r_packet : Int64) (r_m : Nat → Int64) (r_saved : Nat → Int64) (r_lengths : Nat → Int32) (r_fractions : Nat → Int32) (r_times : Nat → Int32) (r_energies : Nat → Int64) (r_far : Nat → Int64) (r_near : Nat → Int64) (r_echoes : Nat → Int64) (h : F_X6_observe v_savedCount v_m v_saved v_lengths v_fractions v_times v_energies v_far v_near v_echoes = some (r, r_savedCount, r_code, r_lineParts, r_pulseMany, r_left, r_dropped, r_merged, r_drops, r_contributions, r_packet, r_m, r_saved, r_lengths, r_fractions, r_times, r_energies, r_far, r_near, r_echoes)) : Ct l yX6_observe (ws_ yX6_observe cX6_observe 1 (some .int)) rm_X6_observe Z [.ref a0] [(a0, .inr (5, [.ref a1, .ref a2, .int v_savedCount, .ref a3, .int v_scriptLength, .int v_code, .int v_lineParts, .ref a4, .ref a5, .int v_pulseMany, .ref a6, .ref a7, .ref a8, .ref a9, .ref a10, .long v_left, .long v_dropped, .int v_merged, .int v_drops, .int v_contributions, .long v_packet, .int v_peelResult, .int v_peelTime, .int v_peelSum, .int v_at, .int v_commands, .ref a11, .long v_hash])), (a1, .inl (Z.2 1, 431, .inr (.inl v_m))), (a2, .inl (Z.2 1, 1293, .inr (.inl v_saved))), (a3, .inl (Z.2 0, 120, .inl v_script)), (a4, .inl (Z.2 0, 8, .inl v_lengths)), (a5, .inl (Z.2 0, 9, .inl v_fractions)), (a6, .inl (Z.2 0, 4, .inl v_times)), (a7, .inl (Z.2 1, 4, .inr (.inl v_energies))), (a8, .inl (Z.2 1, 1809, .inr (.inl v_far))), (a9, .inl (Z.2 1, 1809, .inr (.inl v_near))), (a10, .inl (Z.2 1, 201, .inr (.inl v_echoes))), (a11, .inl (Z.2 0, 120, .inl v_draft))] [] (fun _ : Unit => (some (.int r) : Option Value)) (fun _ : Unit => ([(a0, .inr (5, [.ref a1, .ref a2, .int r_savedCount, .ref a3, .int v_scriptLength, .int r_code, .int r_lineParts, .ref a4, .ref a5, .int r_pulseMany, .ref a6, .ref a7, .ref a8, .ref a9, .ref a10, .long r_left, .long r_dropped, .int r_merged, .int r_drops, .int r_contributions, .long r_packet, .int v_peelResult, .int v_peelTime, .int v_peelSum, .int v_at, .int v_commands, .ref a11, .long v_hash])), (a1, .inl (Z.2 1, 431, .inr (.inl r_m))), (a2, .inl (Z.2 1, 1293, .inr (.inl r_saved))), (a3, .inl (Z.2 0, 120, .inl v_script)), (a4, .inl (Z.2 0, 8, .inl r_lengths)), (a5, .inl (Z.2 0, 9, .inl r_fractions)), (a6, .inl (Z.2 0, 4, .inl r_times)), (a7, .inl (Z.2 1, 4, .inr (.inl r_energies))), (a8, .inl (Z.2 1, 1809, .inr (.inl r_far))), (a9, .inl (Z.2 1, 1809, .inr (.inl r_near))), (a10, .inl (Z.2 1, 201, .inr (.inl r_echoes))), (a11, .inl (Z.2 0, 120, .inl v_draft))] : va_W)) := by
  refine Ct.of cX6_observe 1 (some .int) "LineEchoesModel" [some (.ref a0)] 0 (by decide) rfl (Nat.le_of_ble_eq_true rfl) rfl (fun p e s m args below meth c A X hin => ?_)
  unfold F_X6_observe at h
  refine g_aload_n X rfl dX6_observe_0 1 rfl ?_
  refine g_iconst X 0 dX6_observe_1 2 rfl kI_0 ?_
  refine g_put X gC5 0 rfl 5 (by decide) q1347 (fun _ h9 => h9) rfl rfl rfl (Nat.le_of_ble_eq_true rfl) dX6_observe_2 5 rfl ?_
  refine g_aload_n X rfl dX6_observe_5 6 rfl ?_
  obtain ⟨w1_savedCount, w2_saved, hcl, h⟩ := bd2_e h
  refine g_callV0W X (met_X6_keep l Z a0 a1 a2 a3 a4 a5 a6 a7 a8 a9 a10 a11 v_savedCount v_scriptLength 0 v_lineParts v_pulseMany v_left v_dropped v_merged v_drops v_contributions v_packet v_peelResult v_peelTime v_peelSum v_at v_commands v_hash v_m v_saved v_script v_lengths v_fractions v_times v_energies v_far v_near v_echoes v_draft  w1_savedCount w2_saved hcl) rfl 0 gC5 rfl rfl (lw_V q1451 q1453 qs23 q74 q1454) md_X6_keep ⟨(Nat.le_of_ble_eq_true rfl), (Nat.le_of_ble_eq_true rfl)⟩ rfl dX6_observe_6 9 rfl 0 0 rfl rfl (Nat.le_of_ble_eq_true rfl) (Nat.le_of_ble_eq_true rfl) (st := []) rfl (Nat.le_of_ble_eq_true rfl) (fun _ => rfl) (fun _ => ?_)
  refine g_aload_n X rfl dX6_observe_9 10 rfl ?_
  refine g_sipush X 230 dX6_observe_10 13 rfl kS_230 ?_
  obtain ⟨r3, w4_lineParts, w5_pulseMany, w6_left, w7_dropped, w8_merged, w9_drops, w10_contributions, w11_packet, w12_m, w13_lengths, w14_fractions, w15_times, w16_energies, w17_far, w18_near, w19_echoes, hcl, h⟩ := bd17_e h
  refine g_callV1W X (met_X6_copies l Z a0 a1 a2 a3 a4 a5 a6 a7 a8 a9 a10 a11 w1_savedCount v_scriptLength 0 v_lineParts v_pulseMany v_left v_dropped v_merged v_drops v_contributions v_packet v_peelResult v_peelTime v_peelSum v_at v_commands v_hash v_m w2_saved v_script v_lengths v_fractions v_times v_energies v_far v_near v_echoes v_draft 230 r3 w4_lineParts w5_pulseMany w6_left w7_dropped w8_merged w9_drops w10_contributions w11_packet w12_m w13_lengths w14_fractions w15_times w16_energies w17_far w18_near w19_echoes hcl) rfl 0 gC5 rfl rfl (lw_V q1630 q1632 qs49 q74 q1633) md_X6_copies ⟨(Nat.le_of_ble_eq_true rfl), (Nat.le_of_ble_eq_true rfl)⟩ rfl dX6_observe_13 16 rfl 0 0 rfl rfl (Nat.le_of_ble_eq_true rfl) (Nat.le_of_ble_eq_true rfl) (st := []) rfl (Nat.le_of_ble_eq_true rfl) (fun _ => rfl) (fun _ => ?_)
  obtain ⟨rfl, rfl, rfl, rfl, rfl, rfl, rfl, rfl, rfl, rfl, rfl, rfl, rfl, rfl, rfl, rfl, rfl, rfl, rfl, rfl⟩ := rt20 h
  exact g_iret X dX6_observe_16 () rfl rfl (Nat.le_of_ble_eq_true rfl) (Nat.le_of_ble_eq_true rfl)
/-! LineEchoesModel.setObserved(IJ)J -/
abbrev rm_X6_setObserved : Room := { frames := 1, cells := 0, slots := 0, locals := 25 }
def F_X6_setObserved_29 (v_savedCount : Int32) (v_m : Nat → Int64) (v_saved : Nat → Int64) (x1 : Int32) (x2 : Int64) (s1 : Int32) : Option (Int64 × Int32 × Int32 × (Nat → Int64) × (Nat → Int64)) :=
  if s1 = 0 then
    (bd2 (F_X6_keep v_savedCount v_m v_saved) fun w1_savedCount w2_saved =>
    gin (230 + x1) 431 <|
    gin (230 + x1) 431 <|
    some (v_m (230 + x1).toNatClampNeg, w1_savedCount, s1, vp_updL v_m (230 + x1).toNatClampNeg x2, w2_saved))
  else
    (some (0, v_savedCount, s1, v_m, v_saved))
def F_X6_setObserved_28 (v_savedCount : Int32) (v_m : Nat → Int64) (v_saved : Nat → Int64) (x1 : Int32) (x2 : Int64) : Option (Int64 × Int32 × Int32 × (Nat → Int64) × (Nat → Int64)) :=
  F_X6_setObserved_29 v_savedCount v_m v_saved x1 x2 1
def F_X6_setObserved (v_savedCount : Int32) (v_m : Nat → Int64) (v_saved : Nat → Int64) (x1 : Int32) (x2 : Int64) : Option (Int64 × Int32 × Int32 × (Nat → Int64) × (Nat → Int64)) :=
  bd1 (F_X6_in x1.toInt64 0 200) fun r1 =>
  if r1 = 0 then
    (F_X6_setObserved_28 v_savedCount v_m v_saved x1 x2)
  else
    (bd1 (F_X6_in x2 0 4000000) fun r2 =>
    if r2 = 0 then
      (F_X6_setObserved_28 v_savedCount v_m v_saved x1 x2)
    else
      (F_X6_setObserved_29 v_savedCount v_m v_saved x1 x2 0))
theorem w_X6_setObserved_29 {p : Program} {l : Launch} {e : Env} {s : State} {m : MethodId} {args : Array Value} {below : List Frame} {meth : Method} {c : Code} {Z : gZt} {A : Nat → Prop} (a0 : Nat) (a1 : Nat) (a2 : Nat) (a3 : Nat) (a4 : Nat) (a5 : Nat) (a6 : Nat) (a7 : Nat) (a8 : Nat) (a9 : Nat) (a10 : Nat) (a11 : Nat) (X : gX p s m args meth c Z A cX6_setObserved "LineEchoesModel" 6 (some .long) []) (r : Int64) (r_savedCount : Int32) (r_code : Int32) (r_m : Nat → Int64) (r_saved : Nat → Int64)  (v_savedCount : Int32) (v_scriptLength : Int32) (v_code : Int32) (v_lineParts : Int32) (v_pulseMany : Int32) (v_left : Int64) (v_dropped : Int64) (v_merged : Int32) (v_drops : Int32) (v_contributions : Int32) (v_packet : Int64) (v_peelResult : Int32) (v_peelTime : Int32) (v_peelSum : Int32) (v_at : Int32) (v_commands : Int32) (v_hash : Int64) (v_m : Nat → Int64) (v_saved : Nat → Int64) (v_script : Nat → Int32) (v_lengths : Nat → Int32) (v_fractions : Nat → Int32) (v_times : Nat → Int32) (v_energies : Nat → Int64) (v_far : Nat → Int64) (v_near : Nat → Int64) (v_echoes : Nat → Int64) (v_draft : Nat → Int32) (x1 : Int32) (x2 : Int64) (s1 : Int32) (h : F_X6_setObserved_29 v_savedCount v_m v_saved x1 x2 s1 = some (r, r_savedCount, r_code, r_m, r_saved)) : G p l e rm_X6_setObserved s m args below meth c Z A 6 (MQ below (gPost Z A (fun _ : Unit => (some (.long r) : Option Value)) (fun _ : Unit => ([(a0, .inr (5, [.ref a1, .ref a2, .int r_savedCount, .ref a3, .int v_scriptLength, .int r_code, .int v_lineParts, .ref a4, .ref a5, .int v_pulseMany, .ref a6, .ref a7, .ref a8, .ref a9, .ref a10, .long v_left, .long v_dropped, .int v_merged, .int v_drops, .int v_contributions, .long v_packet, .int v_peelResult, .int v_peelTime, .int v_peelSum, .int v_at, .int v_commands, .ref a11, .long v_hash])), (a1, .inl (Z.2 1, 431, .inr (.inl r_m))), (a2, .inl (Z.2 1, 1293, .inr (.inl r_saved))), (a3, .inl (Z.2 0, 120, .inl v_script)), (a4, .inl (Z.2 0, 8, .inl v_lengths)), (a5, .inl (Z.2 0, 9, .inl v_fractions)), (a6, .inl (Z.2 0, 4, .inl v_times)), (a7, .inl (Z.2 1, 4, .inr (.inl v_energies))), (a8, .inl (Z.2 1, 1809, .inr (.inl v_far))), (a9, .inl (Z.2 1, 1809, .inr (.inl v_near))), (a10, .inl (Z.2 1, 201, .inr (.inl v_echoes))), (a11, .inl (Z.2 0, 120, .inl v_draft))] : va_W))) args s 0 0 A) [(a0, .inr (5, [.ref a1, .ref a2, .int v_savedCount, .ref a3, .int v_scriptLength, .int v_code, .int v_lineParts, .ref a4, .ref a5, .int v_pulseMany, .ref a6, .ref a7, .ref a8, .ref a9, .ref a10, .long v_left, .long v_dropped, .int v_merged, .int v_drops, .int v_contributions, .long v_packet, .int v_peelResult, .int v_peelTime, .int v_peelSum, .int v_at, .int v_commands, .ref a11, .long v_hash])), (a1, .inl (Z.2 1, 431, .inr (.inl v_m))), (a2, .inl (Z.2 1, 1293, .inr (.inl v_saved))), (a3, .inl (Z.2 0, 120, .inl v_script)), (a4, .inl (Z.2 0, 8, .inl v_lengths)), (a5, .inl (Z.2 0, 9, .inl v_fractions)), (a6, .inl (Z.2 0, 4, .inl v_times)), (a7, .inl (Z.2 1, 4, .inr (.inl v_energies))), (a8, .inl (Z.2 1, 1809, .inr (.inl v_far))), (a9, .inl (Z.2 1, 1809, .inr (.inl v_near))), (a10, .inl (Z.2 1, 201, .inr (.inl v_echoes))), (a11, .inl (Z.2 0, 120, .inl v_draft))] 0 0 29 [some (.ref a0), some (.int x1), some (.long x2), none, none, none] [.int s1, .ref a0] := by
  unfold F_X6_setObserved_29 at h
  refine g_put X gC5 0 rfl 5 (by decide) q1347 (fun _ h9 => h9) rfl rfl rfl (Nat.le_of_ble_eq_true rfl) dX6_setObserved_29 32 rfl ?_
  refine g_aload_n X rfl dX6_setObserved_32 33 rfl ?_
  refine g_get X gC5 0 rfl 5 (by decide) q1347 (fun _ h9 => h9) rfl dX6_setObserved_33 36 rfl ?_
  refine g_if_eq X dX6_setObserved_36 41 (by decide) 39 rfl (fun hc => ?_) (fun hc => ?_)
  · replace h := if_t hc h
    refine g_aload_n X rfl dX6_setObserved_41 42 rfl ?_
    obtain ⟨w1_savedCount, w2_saved, hcl, h⟩ := bd2_e h
    refine g_callV0W X (met_X6_keep l Z a0 a1 a2 a3 a4 a5 a6 a7 a8 a9 a10 a11 v_savedCount v_scriptLength s1 v_lineParts v_pulseMany v_left v_dropped v_merged v_drops v_contributions v_packet v_peelResult v_peelTime v_peelSum v_at v_commands v_hash v_m v_saved v_script v_lengths v_fractions v_times v_energies v_far v_near v_echoes v_draft  w1_savedCount w2_saved hcl) rfl 0 gC5 rfl rfl (lw_V q1451 q1453 qs23 q74 q1454) md_X6_keep ⟨(Nat.le_of_ble_eq_true rfl), (Nat.le_of_ble_eq_true rfl)⟩ rfl dX6_setObserved_42 45 rfl 0 0 rfl rfl (Nat.le_of_ble_eq_true rfl) (Nat.le_of_ble_eq_true rfl) (st := []) rfl (Nat.le_of_ble_eq_true rfl) (fun _ => rfl) (fun _ => ?_)
    refine g_aload_n X rfl dX6_setObserved_45 46 rfl ?_
    refine g_get X gC5 0 rfl 0 (by decide) q1342 (fun _ h9 => h9) rfl dX6_setObserved_46 49 rfl ?_
    refine g_sipush X 230 dX6_setObserved_49 52 rfl kS_230 ?_
    refine g_iload_n X rfl dX6_setObserved_52 53 rfl ?_
    refine g_iadd X dX6_setObserved_53 54 rfl ?_
    obtain ⟨hi, h⟩ := gin_e h
    refine g_lald X 1 rfl hi dX6_setObserved_54 55 rfl ?_
    refine g_lstore X dX6_setObserved_55 57 rfl (Nat.le_of_ble_eq_true rfl) rfl [some (.ref a0), some (.int x1), some (.long x2), none, some (.long (v_m (230 + x1).toNatClampNeg)), none] rfl ?_
    refine g_aload_n X rfl dX6_setObserved_57 58 rfl ?_
    refine g_get X gC5 0 rfl 0 (by decide) q1342 (fun _ h9 => h9) rfl dX6_setObserved_58 61 rfl ?_
    refine g_sipush X 230 dX6_setObserved_61 64 rfl kS_230 ?_
    refine g_iload_n X rfl dX6_setObserved_64 65 rfl ?_
    refine g_iadd X dX6_setObserved_65 66 rfl ?_
    refine g_lload_n X rfl dX6_setObserved_66 67 rfl ?_
    obtain ⟨hi, h⟩ := gin_e h
    refine g_last X 1 rfl hi dX6_setObserved_67 68 rfl ?_
    refine g_lload X rfl dX6_setObserved_68 70 rfl ?_
    cases h
    exact g_lret X dX6_setObserved_70 () rfl rfl (Nat.le_of_ble_eq_true rfl) (Nat.le_of_ble_eq_true rfl)
  · replace h := if_f hc h
    refine g_lconst X 0 dX6_setObserved_39 40 rfl rfl ?_
    cases h
    exact g_lret X dX6_setObserved_40 () rfl rfl (Nat.le_of_ble_eq_true rfl) (Nat.le_of_ble_eq_true rfl)
theorem w_X6_setObserved_28 {p : Program} {l : Launch} {e : Env} {s : State} {m : MethodId} {args : Array Value} {below : List Frame} {meth : Method} {c : Code} {Z : gZt} {A : Nat → Prop} (a0 : Nat) (a1 : Nat) (a2 : Nat) (a3 : Nat) (a4 : Nat) (a5 : Nat) (a6 : Nat) (a7 : Nat) (a8 : Nat) (a9 : Nat) (a10 : Nat) (a11 : Nat) (X : gX p s m args meth c Z A cX6_setObserved "LineEchoesModel" 6 (some .long) []) (r : Int64) (r_savedCount : Int32) (r_code : Int32) (r_m : Nat → Int64) (r_saved : Nat → Int64)  (v_savedCount : Int32) (v_scriptLength : Int32) (v_code : Int32) (v_lineParts : Int32) (v_pulseMany : Int32) (v_left : Int64) (v_dropped : Int64) (v_merged : Int32) (v_drops : Int32) (v_contributions : Int32) (v_packet : Int64) (v_peelResult : Int32) (v_peelTime : Int32) (v_peelSum : Int32) (v_at : Int32) (v_commands : Int32) (v_hash : Int64) (v_m : Nat → Int64) (v_saved : Nat → Int64) (v_script : Nat → Int32) (v_lengths : Nat → Int32) (v_fractions : Nat → Int32) (v_times : Nat → Int32) (v_energies : Nat → Int64) (v_far : Nat → Int64) (v_near : Nat → Int64) (v_echoes : Nat → Int64) (v_draft : Nat → Int32) (x1 : Int32) (x2 : Int64) (h : F_X6_setObserved_28 v_savedCount v_m v_saved x1 x2 = some (r, r_savedCount, r_code, r_m, r_saved)) : G p l e rm_X6_setObserved s m args below meth c Z A 6 (MQ below (gPost Z A (fun _ : Unit => (some (.long r) : Option Value)) (fun _ : Unit => ([(a0, .inr (5, [.ref a1, .ref a2, .int r_savedCount, .ref a3, .int v_scriptLength, .int r_code, .int v_lineParts, .ref a4, .ref a5, .int v_pulseMany, .ref a6, .ref a7, .ref a8, .ref a9, .ref a10, .long v_left, .long v_dropped, .int v_merged, .int v_drops, .int v_contributions, .long v_packet, .int v_peelResult, .int v_peelTime, .int v_peelSum, .int v_at, .int v_commands, .ref a11, .long v_hash])), (a1, .inl (Z.2 1, 431, .inr (.inl r_m))), (a2, .inl (Z.2 1, 1293, .inr (.inl r_saved))), (a3, .inl (Z.2 0, 120, .inl v_script)), (a4, .inl (Z.2 0, 8, .inl v_lengths)), (a5, .inl (Z.2 0, 9, .inl v_fractions)), (a6, .inl (Z.2 0, 4, .inl v_times)), (a7, .inl (Z.2 1, 4, .inr (.inl v_energies))), (a8, .inl (Z.2 1, 1809, .inr (.inl v_far))), (a9, .inl (Z.2 1, 1809, .inr (.inl v_near))), (a10, .inl (Z.2 1, 201, .inr (.inl v_echoes))), (a11, .inl (Z.2 0, 120, .inl v_draft))] : va_W))) args s 0 0 A) [(a0, .inr (5, [.ref a1, .ref a2, .int v_savedCount, .ref a3, .int v_scriptLength, .int v_code, .int v_lineParts, .ref a4, .ref a5, .int v_pulseMany, .ref a6, .ref a7, .ref a8, .ref a9, .ref a10, .long v_left, .long v_dropped, .int v_merged, .int v_drops, .int v_contributions, .long v_packet, .int v_peelResult, .int v_peelTime, .int v_peelSum, .int v_at, .int v_commands, .ref a11, .long v_hash])), (a1, .inl (Z.2 1, 431, .inr (.inl v_m))), (a2, .inl (Z.2 1, 1293, .inr (.inl v_saved))), (a3, .inl (Z.2 0, 120, .inl v_script)), (a4, .inl (Z.2 0, 8, .inl v_lengths)), (a5, .inl (Z.2 0, 9, .inl v_fractions)), (a6, .inl (Z.2 0, 4, .inl v_times)), (a7, .inl (Z.2 1, 4, .inr (.inl v_energies))), (a8, .inl (Z.2 1, 1809, .inr (.inl v_far))), (a9, .inl (Z.2 1, 1809, .inr (.inl v_near))), (a10, .inl (Z.2 1, 201, .inr (.inl v_echoes))), (a11, .inl (Z.2 0, 120, .inl v_draft))] 0 0 28 [some (.ref a0), some (.int x1), some (.long x2), none, none, none] [.ref a0] := by
  unfold F_X6_setObserved_28 at h
  refine g_iconst X 1 dX6_setObserved_28 29 rfl kI_1 ?_
  exact w_X6_setObserved_29 a0 a1 a2 a3 a4 a5 a6 a7 a8 a9 a10 a11  X  r r_savedCount r_code r_m r_saved    v_savedCount v_scriptLength v_code v_lineParts v_pulseMany v_left v_dropped v_merged v_drops v_contributions v_packet v_peelResult v_peelTime v_peelSum v_at v_commands v_hash v_m v_saved v_script v_lengths v_fractions v_times v_energies v_far v_near v_echoes v_draft x1 x2 1 h
theorem met_X6_setObserved (l : Launch) (Z : gZt) (a0 : Nat) (a1 : Nat) (a2 : Nat) (a3 : Nat) (a4 : Nat) (a5 : Nat) (a6 : Nat) (a7 : Nat) (a8 : Nat) (a9 : Nat) (a10 : Nat) (a11 : Nat) (v_savedCount : Int32) (v_scriptLength : Int32) (v_code : Int32) (v_lineParts : Int32) (v_pulseMany : Int32) (v_left : Int64) (v_dropped : Int64) (v_merged : Int32) (v_drops : Int32) (v_contributions : Int32) (v_packet : Int64) (v_peelResult : Int32) (v_peelTime : Int32) (v_peelSum : Int32) (v_at : Int32) (v_commands : Int32) (v_hash : Int64) (v_m : Nat → Int64) (v_saved : Nat → Int64) (v_script : Nat → Int32) (v_lengths : Nat → Int32) (v_fractions : Nat → Int32) (v_times : Nat → Int32) (v_energies : Nat → Int64) (v_far : Nat → Int64) (v_near : Nat → Int64) (v_echoes : Nat → Int64) (v_draft : Nat → Int32) (x1 : Int32) (x2 : Int64) (r : Int64) (r_savedCount : Int32) (r_code : Int32) (r_m : Nat → Int64) (r_saved : Nat → Int64) (h : F_X6_setObserved v_savedCount v_m v_saved x1 x2 = some (r, r_savedCount, r_code, r_m, r_saved)) : Ct l yX6_setObserved (ws_ yX6_setObserved cX6_setObserved 6 (some .long)) rm_X6_setObserved Z [.ref a0, .int x1, .long x2] [(a0, .inr (5, [.ref a1, .ref a2, .int v_savedCount, .ref a3, .int v_scriptLength, .int v_code, .int v_lineParts, .ref a4, .ref a5, .int v_pulseMany, .ref a6, .ref a7, .ref a8, .ref a9, .ref a10, .long v_left, .long v_dropped, .int v_merged, .int v_drops, .int v_contributions, .long v_packet, .int v_peelResult, .int v_peelTime, .int v_peelSum, .int v_at, .int v_commands, .ref a11, .long v_hash])), (a1, .inl (Z.2 1, 431, .inr (.inl v_m))), (a2, .inl (Z.2 1, 1293, .inr (.inl v_saved))), (a3, .inl (Z.2 0, 120, .inl v_script)), (a4, .inl (Z.2 0, 8, .inl v_lengths)), (a5, .inl (Z.2 0, 9, .inl v_fractions)), (a6, .inl (Z.2 0, 4, .inl v_times)), (a7, .inl (Z.2 1, 4, .inr (.inl v_energies))), (a8, .inl (Z.2 1, 1809, .inr (.inl v_far))), (a9, .inl (Z.2 1, 1809, .inr (.inl v_near))), (a10, .inl (Z.2 1, 201, .inr (.inl v_echoes))), (a11, .inl (Z.2 0, 120, .inl v_draft))] [] (fun _ : Unit => (some (.long r) : Option Value)) (fun _ : Unit => ([(a0, .inr (5, [.ref a1, .ref a2, .int r_savedCount, .ref a3, .int v_scriptLength, .int r_code, .int v_lineParts, .ref a4, .ref a5, .int v_pulseMany, .ref a6, .ref a7, .ref a8, .ref a9, .ref a10, .long v_left, .long v_dropped, .int v_merged, .int v_drops, .int v_contributions, .long v_packet, .int v_peelResult, .int v_peelTime, .int v_peelSum, .int v_at, .int v_commands, .ref a11, .long v_hash])), (a1, .inl (Z.2 1, 431, .inr (.inl r_m))), (a2, .inl (Z.2 1, 1293, .inr (.inl r_saved))), (a3, .inl (Z.2 0, 120, .inl v_script)), (a4, .inl (Z.2 0, 8, .inl v_lengths)), (a5, .inl (Z.2 0, 9, .inl v_fractions)), (a6, .inl (Z.2 0, 4, .inl v_times)), (a7, .inl (Z.2 1, 4, .inr (.inl v_energies))), (a8, .inl (Z.2 1, 1809, .inr (.inl v_far))), (a9, .inl (Z.2 1, 1809, .inr (.inl v_near))), (a10, .inl (Z.2 1, 201, .inr (.inl v_echoes))), (a11, .inl (Z.2 0, 120, .inl v_draft))] : va_W)) := by
  refine Ct.of cX6_setObserved 6 (some .long) "LineEchoesModel" [some (.ref a0), some (.int x1), some (.long x2), none, none, none] 2 (by decide) rfl (Nat.le_of_ble_eq_true rfl) rfl (fun p e s m args below meth c A X hin => ?_)
  unfold F_X6_setObserved at h
  refine g_aload_n X rfl dX6_setObserved_0 1 rfl ?_
  refine g_iload_n X rfl dX6_setObserved_1 2 rfl ?_
  refine g_i2l X dX6_setObserved_2 3 rfl ?_
  refine g_lconst X 0 dX6_setObserved_3 4 rfl rfl ?_
  refine g_ldc2 X q1516 dX6_setObserved_4 7 rfl ?_
  obtain ⟨r1, hcl, h⟩ := bd1_e h
  refine g_callS1Z X (met_X6_in l Z   x1.toInt64 0 200 r1 hcl) (lw_S q1443 q1444 q74 q1445) md_X6_in ⟨(Nat.le_of_ble_eq_true rfl), (Nat.le_of_ble_eq_true rfl)⟩ rfl dX6_setObserved_7 10 rfl 0 0 rfl rfl (Nat.le_of_ble_eq_true rfl) (Nat.le_of_ble_eq_true rfl) (st := [.ref a0]) rfl (Nat.le_of_ble_eq_true rfl) (fun _ => rfl) (fun _ => ?_)
  refine g_if_eq X dX6_setObserved_10 28 (by decide) 13 rfl (fun hc => ?_) (fun hc => ?_)
  · replace h := if_t hc h
    exact w_X6_setObserved_28 a0 a1 a2 a3 a4 a5 a6 a7 a8 a9 a10 a11  X  r r_savedCount r_code r_m r_saved    v_savedCount v_scriptLength v_code v_lineParts v_pulseMany v_left v_dropped v_merged v_drops v_contributions v_packet v_peelResult v_peelTime v_peelSum v_at v_commands v_hash v_m v_saved v_script v_lengths v_fractions v_times v_energies v_far v_near v_echoes v_draft x1 x2 h
  · replace h := if_f hc h
    refine g_lload_n X rfl dX6_setObserved_13 14 rfl ?_
    refine g_lconst X 0 dX6_setObserved_14 15 rfl rfl ?_
    refine g_ldc2 X q1663 dX6_setObserved_15 18 rfl ?_
    obtain ⟨r2, hcl, h⟩ := bd1_e h
    refine g_callS1Z X (met_X6_in l Z   x2 0 4000000 r2 hcl) (lw_S q1443 q1444 q74 q1445) md_X6_in ⟨(Nat.le_of_ble_eq_true rfl), (Nat.le_of_ble_eq_true rfl)⟩ rfl dX6_setObserved_18 21 rfl 0 0 rfl rfl (Nat.le_of_ble_eq_true rfl) (Nat.le_of_ble_eq_true rfl) (st := [.ref a0]) rfl (Nat.le_of_ble_eq_true rfl) (fun _ => rfl) (fun _ => ?_)
    refine g_if_eq X dX6_setObserved_21 28 (by decide) 24 rfl (fun hc => ?_) (fun hc => ?_)
    · replace h := if_t hc h
      exact w_X6_setObserved_28 a0 a1 a2 a3 a4 a5 a6 a7 a8 a9 a10 a11  X  r r_savedCount r_code r_m r_saved    v_savedCount v_scriptLength v_code v_lineParts v_pulseMany v_left v_dropped v_merged v_drops v_contributions v_packet v_peelResult v_peelTime v_peelSum v_at v_commands v_hash v_m v_saved v_script v_lengths v_fractions v_times v_energies v_far v_near v_echoes v_draft x1 x2 h
    · replace h := if_f hc h
      refine g_iconst X 0 dX6_setObserved_24 25 rfl kI_0 ?_
      refine g_goto X dX6_setObserved_25 29 (by decide) ?_
      exact w_X6_setObserved_29 a0 a1 a2 a3 a4 a5 a6 a7 a8 a9 a10 a11  X  r r_savedCount r_code r_m r_saved    v_savedCount v_scriptLength v_code v_lineParts v_pulseMany v_left v_dropped v_merged v_drops v_contributions v_packet v_peelResult v_peelTime v_peelSum v_at v_commands v_hash v_m v_saved v_script v_lengths v_fractions v_times v_energies v_far v_near v_echoes v_draft x1 x2 0 h
/-! LineEchoesModel.observed(I)J -/
abbrev rm_X6_observed : Room := { frames := 1, cells := 0, slots := 0, locals := 25 }
def F_X6_observed_42 (v_code : Int32) (s0 : Int64) : Option (Int64 × Int32) :=
  some (s0, v_code)
def F_X6_observed (v_m : Nat → Int64) (x1 : Int32) : Option (Int64 × Int32) :=
  bd1 (F_X6_in x1.toInt64 0 200) fun r1 =>
  if (if r1 = 0 then (1 : Int32) else 0) = 0 then
    (gin (230 + x1) 431 <|
    F_X6_observed_42 (if r1 = 0 then (1 : Int32) else 0) (v_m (230 + x1).toNatClampNeg))
  else
    (F_X6_observed_42 (if r1 = 0 then (1 : Int32) else 0) 0)
theorem w_X6_observed_42 {p : Program} {l : Launch} {e : Env} {s : State} {m : MethodId} {args : Array Value} {below : List Frame} {meth : Method} {c : Code} {Z : gZt} {A : Nat → Prop} (a0 : Nat) (a1 : Nat) (a2 : Nat) (a3 : Nat) (a4 : Nat) (a5 : Nat) (a6 : Nat) (a7 : Nat) (a8 : Nat) (a9 : Nat) (a10 : Nat) (a11 : Nat) (X : gX p s m args meth c Z A cX6_observed "LineEchoesModel" 2 (some .long) []) (r : Int64) (r_code : Int32)  (v_savedCount : Int32) (v_scriptLength : Int32) (v_code : Int32) (v_lineParts : Int32) (v_pulseMany : Int32) (v_left : Int64) (v_dropped : Int64) (v_merged : Int32) (v_drops : Int32) (v_contributions : Int32) (v_packet : Int64) (v_peelResult : Int32) (v_peelTime : Int32) (v_peelSum : Int32) (v_at : Int32) (v_commands : Int32) (v_hash : Int64) (v_m : Nat → Int64) (v_saved : Nat → Int64) (v_script : Nat → Int32) (v_lengths : Nat → Int32) (v_fractions : Nat → Int32) (v_times : Nat → Int32) (v_energies : Nat → Int64) (v_far : Nat → Int64) (v_near : Nat → Int64) (v_echoes : Nat → Int64) (v_draft : Nat → Int32) (s0 : Int64) (h : F_X6_observed_42 v_code s0 = some (r, r_code)) : G p l e rm_X6_observed s m args below meth c Z A 2 (MQ below (gPost Z A (fun _ : Unit => (some (.long r) : Option Value)) (fun _ : Unit => ([(a0, .inr (5, [.ref a1, .ref a2, .int v_savedCount, .ref a3, .int v_scriptLength, .int r_code, .int v_lineParts, .ref a4, .ref a5, .int v_pulseMany, .ref a6, .ref a7, .ref a8, .ref a9, .ref a10, .long v_left, .long v_dropped, .int v_merged, .int v_drops, .int v_contributions, .long v_packet, .int v_peelResult, .int v_peelTime, .int v_peelSum, .int v_at, .int v_commands, .ref a11, .long v_hash])), (a1, .inl (Z.2 1, 431, .inr (.inl v_m))), (a2, .inl (Z.2 1, 1293, .inr (.inl v_saved))), (a3, .inl (Z.2 0, 120, .inl v_script)), (a4, .inl (Z.2 0, 8, .inl v_lengths)), (a5, .inl (Z.2 0, 9, .inl v_fractions)), (a6, .inl (Z.2 0, 4, .inl v_times)), (a7, .inl (Z.2 1, 4, .inr (.inl v_energies))), (a8, .inl (Z.2 1, 1809, .inr (.inl v_far))), (a9, .inl (Z.2 1, 1809, .inr (.inl v_near))), (a10, .inl (Z.2 1, 201, .inr (.inl v_echoes))), (a11, .inl (Z.2 0, 120, .inl v_draft))] : va_W))) args s 0 0 A) [(a0, .inr (5, [.ref a1, .ref a2, .int v_savedCount, .ref a3, .int v_scriptLength, .int v_code, .int v_lineParts, .ref a4, .ref a5, .int v_pulseMany, .ref a6, .ref a7, .ref a8, .ref a9, .ref a10, .long v_left, .long v_dropped, .int v_merged, .int v_drops, .int v_contributions, .long v_packet, .int v_peelResult, .int v_peelTime, .int v_peelSum, .int v_at, .int v_commands, .ref a11, .long v_hash])), (a1, .inl (Z.2 1, 431, .inr (.inl v_m))), (a2, .inl (Z.2 1, 1293, .inr (.inl v_saved))), (a3, .inl (Z.2 0, 120, .inl v_script)), (a4, .inl (Z.2 0, 8, .inl v_lengths)), (a5, .inl (Z.2 0, 9, .inl v_fractions)), (a6, .inl (Z.2 0, 4, .inl v_times)), (a7, .inl (Z.2 1, 4, .inr (.inl v_energies))), (a8, .inl (Z.2 1, 1809, .inr (.inl v_far))), (a9, .inl (Z.2 1, 1809, .inr (.inl v_near))), (a10, .inl (Z.2 1, 201, .inr (.inl v_echoes))), (a11, .inl (Z.2 0, 120, .inl v_draft))] 0 0 42 [none, none] [.long s0] := by
  unfold F_X6_observed_42 at h
  cases h
  exact g_lret X dX6_observed_42 () rfl rfl (Nat.le_of_ble_eq_true rfl) (Nat.le_of_ble_eq_true rfl)
theorem met_X6_observed (l : Launch) (Z : gZt) (a0 : Nat) (a1 : Nat) (a2 : Nat) (a3 : Nat) (a4 : Nat) (a5 : Nat) (a6 : Nat) (a7 : Nat) (a8 : Nat) (a9 : Nat) (a10 : Nat) (a11 : Nat) (v_savedCount : Int32) (v_scriptLength : Int32) (v_code : Int32) (v_lineParts : Int32) (v_pulseMany : Int32) (v_left : Int64) (v_dropped : Int64) (v_merged : Int32) (v_drops : Int32) (v_contributions : Int32) (v_packet : Int64) (v_peelResult : Int32) (v_peelTime : Int32) (v_peelSum : Int32) (v_at : Int32) (v_commands : Int32) (v_hash : Int64) (v_m : Nat → Int64) (v_saved : Nat → Int64) (v_script : Nat → Int32) (v_lengths : Nat → Int32) (v_fractions : Nat → Int32) (v_times : Nat → Int32) (v_energies : Nat → Int64) (v_far : Nat → Int64) (v_near : Nat → Int64) (v_echoes : Nat → Int64) (v_draft : Nat → Int32) (x1 : Int32) (r : Int64) (r_code : Int32) (h : F_X6_observed v_m x1 = some (r, r_code)) : Ct l yX6_observed (ws_ yX6_observed cX6_observed 2 (some .long)) rm_X6_observed Z [.ref a0, .int x1] [(a0, .inr (5, [.ref a1, .ref a2, .int v_savedCount, .ref a3, .int v_scriptLength, .int v_code, .int v_lineParts, .ref a4, .ref a5, .int v_pulseMany, .ref a6, .ref a7, .ref a8, .ref a9, .ref a10, .long v_left, .long v_dropped, .int v_merged, .int v_drops, .int v_contributions, .long v_packet, .int v_peelResult, .int v_peelTime, .int v_peelSum, .int v_at, .int v_commands, .ref a11, .long v_hash])), (a1, .inl (Z.2 1, 431, .inr (.inl v_m))), (a2, .inl (Z.2 1, 1293, .inr (.inl v_saved))), (a3, .inl (Z.2 0, 120, .inl v_script)), (a4, .inl (Z.2 0, 8, .inl v_lengths)), (a5, .inl (Z.2 0, 9, .inl v_fractions)), (a6, .inl (Z.2 0, 4, .inl v_times)), (a7, .inl (Z.2 1, 4, .inr (.inl v_energies))), (a8, .inl (Z.2 1, 1809, .inr (.inl v_far))), (a9, .inl (Z.2 1, 1809, .inr (.inl v_near))), (a10, .inl (Z.2 1, 201, .inr (.inl v_echoes))), (a11, .inl (Z.2 0, 120, .inl v_draft))] [] (fun _ : Unit => (some (.long r) : Option Value)) (fun _ : Unit => ([(a0, .inr (5, [.ref a1, .ref a2, .int v_savedCount, .ref a3, .int v_scriptLength, .int r_code, .int v_lineParts, .ref a4, .ref a5, .int v_pulseMany, .ref a6, .ref a7, .ref a8, .ref a9, .ref a10, .long v_left, .long v_dropped, .int v_merged, .int v_drops, .int v_contributions, .long v_packet, .int v_peelResult, .int v_peelTime, .int v_peelSum, .int v_at, .int v_commands, .ref a11, .long v_hash])), (a1, .inl (Z.2 1, 431, .inr (.inl v_m))), (a2, .inl (Z.2 1, 1293, .inr (.inl v_saved))), (a3, .inl (Z.2 0, 120, .inl v_script)), (a4, .inl (Z.2 0, 8, .inl v_lengths)), (a5, .inl (Z.2 0, 9, .inl v_fractions)), (a6, .inl (Z.2 0, 4, .inl v_times)), (a7, .inl (Z.2 1, 4, .inr (.inl v_energies))), (a8, .inl (Z.2 1, 1809, .inr (.inl v_far))), (a9, .inl (Z.2 1, 1809, .inr (.inl v_near))), (a10, .inl (Z.2 1, 201, .inr (.inl v_echoes))), (a11, .inl (Z.2 0, 120, .inl v_draft))] : va_W)) := by
  refine Ct.of cX6_observed 2 (some .long) "LineEchoesModel" [some (.ref a0), some (.int x1)] 0 (by decide) rfl (Nat.le_of_ble_eq_true rfl) rfl (fun p e s m args below meth c A X hin => ?_)
  unfold F_X6_observed at h
  refine g_aload_n X rfl dX6_observed_0 1 rfl ?_
  refine g_iload_n X rfl dX6_observed_1 2 rfl ?_
  refine g_i2l X dX6_observed_2 3 rfl ?_
  refine g_lconst X 0 dX6_observed_3 4 rfl rfl ?_
  refine g_ldc2 X q1516 dX6_observed_4 7 rfl ?_
  obtain ⟨r1, hcl, h⟩ := bd1_e h
  refine g_callS1Z X (met_X6_in l Z   x1.toInt64 0 200 r1 hcl) (lw_S q1443 q1444 q74 q1445) md_X6_in ⟨(Nat.le_of_ble_eq_true rfl), (Nat.le_of_ble_eq_true rfl)⟩ rfl dX6_observed_7 10 rfl 0 0 rfl rfl (Nat.le_of_ble_eq_true rfl) (Nat.le_of_ble_eq_true rfl) (st := [.ref a0]) rfl (Nat.le_of_ble_eq_true rfl) (fun _ => rfl) (fun _ => ?_)
  refine g_seli 18 [.ref a0] (b := r1 = 0) 1 0 ?_ (fun hc K => ?_) (fun hc K => ?_)
  · refine g_put X gC5 0 rfl 5 (by decide) q1347 (fun _ h9 => h9) rfl rfl rfl (Nat.le_of_ble_eq_true rfl) dX6_observed_18 21 rfl ?_
    refine g_aload_n X rfl dX6_observed_21 22 rfl ?_
    refine g_get X gC5 0 rfl 5 (by decide) q1347 (fun _ h9 => h9) rfl dX6_observed_22 25 rfl ?_
    refine g_if_eq X dX6_observed_25 32 (by decide) 28 rfl (fun hc => ?_) (fun hc => ?_)
    · replace h := if_t hc h
      refine g_aload_n X rfl dX6_observed_32 33 rfl ?_
      refine g_get X gC5 0 rfl 0 (by decide) q1342 (fun _ h9 => h9) rfl dX6_observed_33 36 rfl ?_
      refine g_sipush X 230 dX6_observed_36 39 rfl kS_230 ?_
      refine g_iload_n X rfl dX6_observed_39 40 rfl ?_
      refine g_iadd X dX6_observed_40 41 rfl ?_
      obtain ⟨hi, h⟩ := gin_e h
      refine g_lald X 1 rfl hi dX6_observed_41 42 rfl ?_
      refine g_kill (j := 0) [none, some (.int x1)] rfl ?_
      refine g_kill (j := 1) [none, none] rfl ?_
      exact w_X6_observed_42 a0 a1 a2 a3 a4 a5 a6 a7 a8 a9 a10 a11  X  r r_code    v_savedCount v_scriptLength (if r1 = 0 then (1 : Int32) else 0) v_lineParts v_pulseMany v_left v_dropped v_merged v_drops v_contributions v_packet v_peelResult v_peelTime v_peelSum v_at v_commands v_hash v_m v_saved v_script v_lengths v_fractions v_times v_energies v_far v_near v_echoes v_draft (v_m (230 + x1).toNatClampNeg) h
    · replace h := if_f hc h
      refine g_lconst X 0 dX6_observed_28 29 rfl rfl ?_
      refine g_goto X dX6_observed_29 42 (by decide) ?_
      refine g_kill (j := 0) [none, some (.int x1)] rfl ?_
      refine g_kill (j := 1) [none, none] rfl ?_
      exact w_X6_observed_42 a0 a1 a2 a3 a4 a5 a6 a7 a8 a9 a10 a11  X  r r_code    v_savedCount v_scriptLength (if r1 = 0 then (1 : Int32) else 0) v_lineParts v_pulseMany v_left v_dropped v_merged v_drops v_contributions v_packet v_peelResult v_peelTime v_peelSum v_at v_commands v_hash v_m v_saved v_script v_lengths v_fractions v_times v_energies v_far v_near v_echoes v_draft 0 h
  · refine g_if_eq X dX6_observed_10 17 (by decide) 13 rfl (fun _ => ?_) (fun hn => absurd hc hn)
    refine g_iconst X 1 dX6_observed_17 18 rfl kI_1 ?_
    exact K
  · refine g_if_eq X dX6_observed_10 17 (by decide) 13 rfl (fun hn => absurd hn hc) (fun _ => ?_)
    refine g_iconst X 0 dX6_observed_13 14 rfl kI_0 ?_
    refine g_goto X dX6_observed_14 18 (by decide) ?_
    exact K
/-! LineEchoesModel.firstUnlike()I -/
abbrev rm_X6_firstUnlike : Room := { frames := 1, cells := 0, slots := 0, locals := 20 }
def B_X6_firstUnlike_2 (K2 : (Nat → Int64) → (Nat → Int64) → (Int32) → Option (Int32)) (v_m : Nat → Int64) (v_echoes : Nat → Int64) (x1 : Int32) : Option (Int32) :=
  bd1 (F_X6_window v_m) fun r1 =>
  if r1 < x1 then
    (some (-1))
  else
    (gin (230 + x1) 431 <|
    gin x1 201 <|
    if (v_m (230 + x1).toNatClampNeg) = (v_echoes x1.toNatClampNeg) then
      (K2 v_m v_echoes (x1 + 1))
    else
      (some x1))
def F_X6_firstUnlike_2 : Nat → (Nat → Int64) → (Nat → Int64) → (Int32) → Option (Int32)
  | 0 => fun _ _ _ => none
  | n + 1 => B_X6_firstUnlike_2 (F_X6_firstUnlike_2 n)
def F_X6_firstUnlike (v_m : Nat → Int64) (v_echoes : Nat → Int64) : Option (Int32) :=
  F_X6_firstUnlike_2 gFU v_m v_echoes 0
theorem w_X6_firstUnlike_2 {p : Program} {l : Launch} {e : Env} {s : State} {m : MethodId} {args : Array Value} {below : List Frame} {meth : Method} {c : Code} {Z : gZt} {A : Nat → Prop} (a0 : Nat) (a1 : Nat) (a2 : Nat) (a3 : Nat) (a4 : Nat) (a5 : Nat) (a6 : Nat) (a7 : Nat) (a8 : Nat) (a9 : Nat) (a10 : Nat) (a11 : Nat) (X : gX p s m args meth c Z A cX6_firstUnlike "LineEchoesModel" 2 (some .int) []) (r : Int32)  : ∀ (n : Nat) (v_savedCount : Int32) (v_scriptLength : Int32) (v_code : Int32) (v_lineParts : Int32) (v_pulseMany : Int32) (v_left : Int64) (v_dropped : Int64) (v_merged : Int32) (v_drops : Int32) (v_contributions : Int32) (v_packet : Int64) (v_peelResult : Int32) (v_peelTime : Int32) (v_peelSum : Int32) (v_at : Int32) (v_commands : Int32) (v_hash : Int64) (v_m : Nat → Int64) (v_saved : Nat → Int64) (v_script : Nat → Int32) (v_lengths : Nat → Int32) (v_fractions : Nat → Int32) (v_times : Nat → Int32) (v_energies : Nat → Int64) (v_far : Nat → Int64) (v_near : Nat → Int64) (v_echoes : Nat → Int64) (v_draft : Nat → Int32) (x1 : Int32), F_X6_firstUnlike_2 n v_m v_echoes x1 = some r → G p l e rm_X6_firstUnlike s m args below meth c Z A 2 (MQ below (gPost Z A (fun _ : Unit => (some (.int r) : Option Value)) (fun _ : Unit => ([(a0, .inr (5, [.ref a1, .ref a2, .int v_savedCount, .ref a3, .int v_scriptLength, .int v_code, .int v_lineParts, .ref a4, .ref a5, .int v_pulseMany, .ref a6, .ref a7, .ref a8, .ref a9, .ref a10, .long v_left, .long v_dropped, .int v_merged, .int v_drops, .int v_contributions, .long v_packet, .int v_peelResult, .int v_peelTime, .int v_peelSum, .int v_at, .int v_commands, .ref a11, .long v_hash])), (a1, .inl (Z.2 1, 431, .inr (.inl v_m))), (a2, .inl (Z.2 1, 1293, .inr (.inl v_saved))), (a3, .inl (Z.2 0, 120, .inl v_script)), (a4, .inl (Z.2 0, 8, .inl v_lengths)), (a5, .inl (Z.2 0, 9, .inl v_fractions)), (a6, .inl (Z.2 0, 4, .inl v_times)), (a7, .inl (Z.2 1, 4, .inr (.inl v_energies))), (a8, .inl (Z.2 1, 1809, .inr (.inl v_far))), (a9, .inl (Z.2 1, 1809, .inr (.inl v_near))), (a10, .inl (Z.2 1, 201, .inr (.inl v_echoes))), (a11, .inl (Z.2 0, 120, .inl v_draft))] : va_W))) args s 0 0 A) [(a0, .inr (5, [.ref a1, .ref a2, .int v_savedCount, .ref a3, .int v_scriptLength, .int v_code, .int v_lineParts, .ref a4, .ref a5, .int v_pulseMany, .ref a6, .ref a7, .ref a8, .ref a9, .ref a10, .long v_left, .long v_dropped, .int v_merged, .int v_drops, .int v_contributions, .long v_packet, .int v_peelResult, .int v_peelTime, .int v_peelSum, .int v_at, .int v_commands, .ref a11, .long v_hash])), (a1, .inl (Z.2 1, 431, .inr (.inl v_m))), (a2, .inl (Z.2 1, 1293, .inr (.inl v_saved))), (a3, .inl (Z.2 0, 120, .inl v_script)), (a4, .inl (Z.2 0, 8, .inl v_lengths)), (a5, .inl (Z.2 0, 9, .inl v_fractions)), (a6, .inl (Z.2 0, 4, .inl v_times)), (a7, .inl (Z.2 1, 4, .inr (.inl v_energies))), (a8, .inl (Z.2 1, 1809, .inr (.inl v_far))), (a9, .inl (Z.2 1, 1809, .inr (.inl v_near))), (a10, .inl (Z.2 1, 201, .inr (.inl v_echoes))), (a11, .inl (Z.2 0, 120, .inl v_draft))] 0 0 2 [some (.ref a0), some (.int x1)] [] := by
  intro n
  induction n with
  | zero =>
    intro v_savedCount v_scriptLength v_code v_lineParts v_pulseMany v_left v_dropped v_merged v_drops v_contributions v_packet v_peelResult v_peelTime v_peelSum v_at v_commands v_hash v_m v_saved v_script v_lengths v_fractions v_times v_energies v_far v_near v_echoes v_draft x1 h
    cases h
  | succ n hK2 =>
    intro v_savedCount v_scriptLength v_code v_lineParts v_pulseMany v_left v_dropped v_merged v_drops v_contributions v_packet v_peelResult v_peelTime v_peelSum v_at v_commands v_hash v_m v_saved v_script v_lengths v_fractions v_times v_energies v_far v_near v_echoes v_draft x1 h
    replace h : B_X6_firstUnlike_2 (F_X6_firstUnlike_2 n) v_m v_echoes x1 = some r := h
    unfold B_X6_firstUnlike_2 at h
    refine g_iload_n X rfl dX6_firstUnlike_2 3 rfl ?_
    refine g_aload_n X rfl dX6_firstUnlike_3 4 rfl ?_
    obtain ⟨r1, hcl, h⟩ := bd1_e h
    refine g_callV1W X (met_X6_window l Z a0 a1 a2 a3 a4 a5 a6 a7 a8 a9 a10 a11 v_savedCount v_scriptLength v_code v_lineParts v_pulseMany v_left v_dropped v_merged v_drops v_contributions v_packet v_peelResult v_peelTime v_peelSum v_at v_commands v_hash v_m v_saved v_script v_lengths v_fractions v_times v_energies v_far v_near v_echoes v_draft  r1 hcl) rfl 0 gC5 rfl rfl (lw_V q1517 q1519 qs34 q74 q1520) md_X6_window ⟨(Nat.le_of_ble_eq_true rfl), (Nat.le_of_ble_eq_true rfl)⟩ rfl dX6_firstUnlike_4 7 rfl 0 0 rfl rfl (Nat.le_of_ble_eq_true rfl) (Nat.le_of_ble_eq_true rfl) (st := [.int x1]) rfl (Nat.le_of_ble_eq_true rfl) (fun _ => rfl) (fun _ => ?_)
    refine g_icmp_gt X dX6_firstUnlike_7 38 (by decide) 10 rfl (fun hc => ?_) (fun hc => ?_)
    · replace h := if_t hc h
      refine g_iconst X (-1) dX6_firstUnlike_38 39 rfl kI_m1 ?_
      cases h
      exact g_iret X dX6_firstUnlike_39 () rfl rfl (Nat.le_of_ble_eq_true rfl) (Nat.le_of_ble_eq_true rfl)
    · replace h := if_f hc h
      refine g_aload_n X rfl dX6_firstUnlike_10 11 rfl ?_
      refine g_get X gC5 0 rfl 0 (by decide) q1342 (fun _ h9 => h9) rfl dX6_firstUnlike_11 14 rfl ?_
      refine g_sipush X 230 dX6_firstUnlike_14 17 rfl kS_230 ?_
      refine g_iload_n X rfl dX6_firstUnlike_17 18 rfl ?_
      refine g_iadd X dX6_firstUnlike_18 19 rfl ?_
      obtain ⟨hi, h⟩ := gin_e h
      refine g_lald X 1 rfl hi dX6_firstUnlike_19 20 rfl ?_
      refine g_aload_n X rfl dX6_firstUnlike_20 21 rfl ?_
      refine g_get X gC5 0 rfl 14 (by decide) q1356 (fun _ h9 => h9) rfl dX6_firstUnlike_21 24 rfl ?_
      refine g_iload_n X rfl dX6_firstUnlike_24 25 rfl ?_
      obtain ⟨hi, h⟩ := gin_e h
      refine g_lald X 10 rfl hi dX6_firstUnlike_25 26 rfl ?_
      refine g_lcmp_eq X dX6_firstUnlike_26 27 rfl dX6_firstUnlike_27 32 (by decide) 30 rfl (fun hc => ?_) (fun hc => ?_)
      · replace h := if_t hc h
        refine g_iinc X 1 rfl dX6_firstUnlike_32 35 rfl kI_1 (Nat.le_of_ble_eq_true rfl) rfl [some (.ref a0), some (.int (x1 + 1))] rfl ?_
        refine g_goto X dX6_firstUnlike_35 2 (by decide) ?_
        exact hK2 v_savedCount v_scriptLength v_code v_lineParts v_pulseMany v_left v_dropped v_merged v_drops v_contributions v_packet v_peelResult v_peelTime v_peelSum v_at v_commands v_hash v_m v_saved v_script v_lengths v_fractions v_times v_energies v_far v_near v_echoes v_draft (x1 + 1) h
      · replace h := if_f hc h
        refine g_iload_n X rfl dX6_firstUnlike_30 31 rfl ?_
        cases h
        exact g_iret X dX6_firstUnlike_31 () rfl rfl (Nat.le_of_ble_eq_true rfl) (Nat.le_of_ble_eq_true rfl)
theorem met_X6_firstUnlike (l : Launch) (Z : gZt) (a0 : Nat) (a1 : Nat) (a2 : Nat) (a3 : Nat) (a4 : Nat) (a5 : Nat) (a6 : Nat) (a7 : Nat) (a8 : Nat) (a9 : Nat) (a10 : Nat) (a11 : Nat) (v_savedCount : Int32) (v_scriptLength : Int32) (v_code : Int32) (v_lineParts : Int32) (v_pulseMany : Int32) (v_left : Int64) (v_dropped : Int64) (v_merged : Int32) (v_drops : Int32) (v_contributions : Int32) (v_packet : Int64) (v_peelResult : Int32) (v_peelTime : Int32) (v_peelSum : Int32) (v_at : Int32) (v_commands : Int32) (v_hash : Int64) (v_m : Nat → Int64) (v_saved : Nat → Int64) (v_script : Nat → Int32) (v_lengths : Nat → Int32) (v_fractions : Nat → Int32) (v_times : Nat → Int32) (v_energies : Nat → Int64) (v_far : Nat → Int64) (v_near : Nat → Int64) (v_echoes : Nat → Int64) (v_draft : Nat → Int32) (r : Int32) (h : F_X6_firstUnlike v_m v_echoes = some r) : Ct l yX6_firstUnlike (ws_ yX6_firstUnlike cX6_firstUnlike 2 (some .int)) rm_X6_firstUnlike Z [.ref a0] [(a0, .inr (5, [.ref a1, .ref a2, .int v_savedCount, .ref a3, .int v_scriptLength, .int v_code, .int v_lineParts, .ref a4, .ref a5, .int v_pulseMany, .ref a6, .ref a7, .ref a8, .ref a9, .ref a10, .long v_left, .long v_dropped, .int v_merged, .int v_drops, .int v_contributions, .long v_packet, .int v_peelResult, .int v_peelTime, .int v_peelSum, .int v_at, .int v_commands, .ref a11, .long v_hash])), (a1, .inl (Z.2 1, 431, .inr (.inl v_m))), (a2, .inl (Z.2 1, 1293, .inr (.inl v_saved))), (a3, .inl (Z.2 0, 120, .inl v_script)), (a4, .inl (Z.2 0, 8, .inl v_lengths)), (a5, .inl (Z.2 0, 9, .inl v_fractions)), (a6, .inl (Z.2 0, 4, .inl v_times)), (a7, .inl (Z.2 1, 4, .inr (.inl v_energies))), (a8, .inl (Z.2 1, 1809, .inr (.inl v_far))), (a9, .inl (Z.2 1, 1809, .inr (.inl v_near))), (a10, .inl (Z.2 1, 201, .inr (.inl v_echoes))), (a11, .inl (Z.2 0, 120, .inl v_draft))] [] (fun _ : Unit => (some (.int r) : Option Value)) (fun _ : Unit => ([(a0, .inr (5, [.ref a1, .ref a2, .int v_savedCount, .ref a3, .int v_scriptLength, .int v_code, .int v_lineParts, .ref a4, .ref a5, .int v_pulseMany, .ref a6, .ref a7, .ref a8, .ref a9, .ref a10, .long v_left, .long v_dropped, .int v_merged, .int v_drops, .int v_contributions, .long v_packet, .int v_peelResult, .int v_peelTime, .int v_peelSum, .int v_at, .int v_commands, .ref a11, .long v_hash])), (a1, .inl (Z.2 1, 431, .inr (.inl v_m))), (a2, .inl (Z.2 1, 1293, .inr (.inl v_saved))), (a3, .inl (Z.2 0, 120, .inl v_script)), (a4, .inl (Z.2 0, 8, .inl v_lengths)), (a5, .inl (Z.2 0, 9, .inl v_fractions)), (a6, .inl (Z.2 0, 4, .inl v_times)), (a7, .inl (Z.2 1, 4, .inr (.inl v_energies))), (a8, .inl (Z.2 1, 1809, .inr (.inl v_far))), (a9, .inl (Z.2 1, 1809, .inr (.inl v_near))), (a10, .inl (Z.2 1, 201, .inr (.inl v_echoes))), (a11, .inl (Z.2 0, 120, .inl v_draft))] : va_W)) := by
  refine Ct.of cX6_firstUnlike 2 (some .int) "LineEchoesModel" [some (.ref a0), none] 1 (by decide) rfl (Nat.le_of_ble_eq_true rfl) rfl (fun p e s m args below meth c A X hin => ?_)
  unfold F_X6_firstUnlike at h
  refine g_iconst X 0 dX6_firstUnlike_0 1 rfl kI_0 ?_
  refine g_istore_n X dX6_firstUnlike_1 2 rfl (Nat.le_of_ble_eq_true rfl) rfl [some (.ref a0), some (.int 0)] rfl ?_
  exact w_X6_firstUnlike_2 a0 a1 a2 a3 a4 a5 a6 a7 a8 a9 a10 a11  X  r    gFU v_savedCount v_scriptLength v_code v_lineParts v_pulseMany v_left v_dropped v_merged v_drops v_contributions v_packet v_peelResult v_peelTime v_peelSum v_at v_commands v_hash v_m v_saved v_script v_lengths v_fractions v_times v_energies v_far v_near v_echoes v_draft 0 h
/-! LineEchoesModel.puts(I)Z -/
abbrev rm_X6_puts : Room := { frames := 4, cells := 0, slots := 0, locals := 96 }
def B_X6_puts_36 (K36 : (Int32) → (Int32) → (Int32) → (Nat → Int64) → (Nat → Int32) → (Nat → Int32) → (Nat → Int32) → (Nat → Int64) → (Nat → Int64) → (Nat → Int64) → (Nat → Int64) → (Int32) → (Int32) → (Int32) → (Int32) → Option (Int32 × Int32 × Int64 × Int64 × Int32 × Int32 × Int32 × Int64 × Int32 × (Nat → Int32) × (Nat → Int32) × (Nat → Int64) × (Nat → Int64) × (Nat → Int64))) (v_lineParts : Int32) (v_pulseMany : Int32) (v_peelSum : Int32) (v_m : Nat → Int64) (v_lengths : Nat → Int32) (v_fractions : Nat → Int32) (v_times : Nat → Int32) (v_energies : Nat → Int64) (v_far : Nat → Int64) (v_near : Nat → Int64) (v_echoes : Nat → Int64) (x1 : Int32) (x2 : Int32) (x3 : Int32) (x4 : Int32) : Option (Int32 × Int32 × Int64 × Int64 × Int32 × Int32 × Int32 × Int64 × Int32 × (Nat → Int32) × (Nat → Int32) × (Nat → Int64) × (Nat → Int64) × (Nat → Int64)) :=
  if x4 ≤ x3 then
    (gin v_lineParts 9 <|
    bd9 (F_X6_runLine v_lineParts v_pulseMany v_m v_lengths (upd v_fractions v_lineParts.toNatClampNeg x3) v_times v_energies v_far v_near v_echoes) fun w1_left w2_dropped w3_merged w4_drops w5_contributions w6_packet w7_far w8_near w9_echoes =>
    gin x1 201 <|
    gin (230 + x1) 431 <|
    nm (v_lineParts - (if (if (w9_echoes x1.toNatClampNeg) = (v_m (230 + x1).toNatClampNeg) then (1 : Int32) else 0) = 0 then (1 : Int32) else 0)) fun t10 =>
    nm (v_peelSum + (if (if (w9_echoes x1.toNatClampNeg) = (v_m (230 + x1).toNatClampNeg) then (1 : Int32) else 0) = 0 then (0 : Int32) else x2)) fun t11 =>
    some ((if (w9_echoes x1.toNatClampNeg) = (v_m (230 + x1).toNatClampNeg) then (1 : Int32) else 0), t10, w1_left, w2_dropped, w3_merged, w4_drops, w5_contributions, w6_packet, t11, v_lengths, upd v_fractions v_lineParts.toNatClampNeg x3, w7_far, w8_near, w9_echoes))
  else
    (gin v_lineParts 9 <|
    bd9 (F_X6_runLine v_lineParts v_pulseMany v_m v_lengths (upd v_fractions v_lineParts.toNatClampNeg ((x3 + x4) / 2)) v_times v_energies v_far v_near v_echoes) fun w12_left w13_dropped w14_merged w15_drops w16_contributions w17_packet w18_far w19_near w20_echoes =>
    gin x1 201 <|
    gin (230 + x1) 431 <|
    gin x1 201 <|
    gin (230 + x1) 431 <|
    K36 v_lineParts v_pulseMany v_peelSum v_m v_lengths (upd v_fractions v_lineParts.toNatClampNeg ((x3 + x4) / 2)) v_times v_energies w18_far w19_near w20_echoes x1 x2 (if (v_m (230 + x1).toNatClampNeg) ≤ (w20_echoes x1.toNatClampNeg) then x3 else ((x3 + x4) / 2) + 1) (if (v_m (230 + x1).toNatClampNeg) ≤ (w20_echoes x1.toNatClampNeg) then (x3 + x4) / 2 else x4))
def F_X6_puts_36 : Nat → (Int32) → (Int32) → (Int32) → (Nat → Int64) → (Nat → Int32) → (Nat → Int32) → (Nat → Int32) → (Nat → Int64) → (Nat → Int64) → (Nat → Int64) → (Nat → Int64) → (Int32) → (Int32) → (Int32) → (Int32) → Option (Int32 × Int32 × Int64 × Int64 × Int32 × Int32 × Int32 × Int64 × Int32 × (Nat → Int32) × (Nat → Int32) × (Nat → Int64) × (Nat → Int64) × (Nat → Int64))
  | 0 => fun _ _ _ _ _ _ _ _ _ _ _ _ _ _ _ => none
  | n + 1 => B_X6_puts_36 (F_X6_puts_36 n)
def F_X6_puts (v_lineParts : Int32) (v_pulseMany : Int32) (v_peelSum : Int32) (v_m : Nat → Int64) (v_lengths : Nat → Int32) (v_fractions : Nat → Int32) (v_times : Nat → Int32) (v_energies : Nat → Int64) (v_far : Nat → Int64) (v_near : Nat → Int64) (v_echoes : Nat → Int64) (x1 : Int32) : Option (Int32 × Int32 × Int64 × Int64 × Int32 × Int32 × Int32 × Int64 × Int32 × (Nat → Int32) × (Nat → Int32) × (Nat → Int64) × (Nat → Int64) × (Nat → Int64)) :=
  gin v_lineParts 8 <|
  F_X6_puts_36 gFU (v_lineParts + 1) v_pulseMany v_peelSum v_m (upd v_lengths v_lineParts.toNatClampNeg ((x1 / 2) - v_peelSum)) v_fractions v_times v_energies v_far v_near v_echoes x1 ((x1 / 2) - v_peelSum) 1 1000
theorem w_X6_puts_36 {p : Program} {l : Launch} {e : Env} {s : State} {m : MethodId} {args : Array Value} {below : List Frame} {meth : Method} {c : Code} {Z : gZt} {A : Nat → Prop} (a0 : Nat) (a1 : Nat) (a2 : Nat) (a3 : Nat) (a4 : Nat) (a5 : Nat) (a6 : Nat) (a7 : Nat) (a8 : Nat) (a9 : Nat) (a10 : Nat) (a11 : Nat) (X : gX p s m args meth c Z A cX6_puts "LineEchoesModel" 6 (some .boolean) []) (r : Int32) (r_lineParts : Int32) (r_left : Int64) (r_dropped : Int64) (r_merged : Int32) (r_drops : Int32) (r_contributions : Int32) (r_packet : Int64) (r_peelSum : Int32) (r_lengths : Nat → Int32) (r_fractions : Nat → Int32) (r_far : Nat → Int64) (r_near : Nat → Int64) (r_echoes : Nat → Int64)  : ∀ (n : Nat) (v_savedCount : Int32) (v_scriptLength : Int32) (v_code : Int32) (v_lineParts : Int32) (v_pulseMany : Int32) (v_left : Int64) (v_dropped : Int64) (v_merged : Int32) (v_drops : Int32) (v_contributions : Int32) (v_packet : Int64) (v_peelResult : Int32) (v_peelTime : Int32) (v_peelSum : Int32) (v_at : Int32) (v_commands : Int32) (v_hash : Int64) (v_m : Nat → Int64) (v_saved : Nat → Int64) (v_script : Nat → Int32) (v_lengths : Nat → Int32) (v_fractions : Nat → Int32) (v_times : Nat → Int32) (v_energies : Nat → Int64) (v_far : Nat → Int64) (v_near : Nat → Int64) (v_echoes : Nat → Int64) (v_draft : Nat → Int32) (x1 : Int32) (x2 : Int32) (x3 : Int32) (x4 : Int32), F_X6_puts_36 n v_lineParts v_pulseMany v_peelSum v_m v_lengths v_fractions v_times v_energies v_far v_near v_echoes x1 x2 x3 x4 = some (r, r_lineParts, r_left, r_dropped, r_merged, r_drops, r_contributions, r_packet, r_peelSum, r_lengths, r_fractions, r_far, r_near, r_echoes) → G p l e rm_X6_puts s m args below meth c Z A 6 (MQ below (gPost Z A (fun _ : Unit => (some (.int r) : Option Value)) (fun _ : Unit => ([(a0, .inr (5, [.ref a1, .ref a2, .int v_savedCount, .ref a3, .int v_scriptLength, .int v_code, .int r_lineParts, .ref a4, .ref a5, .int v_pulseMany, .ref a6, .ref a7, .ref a8, .ref a9, .ref a10, .long r_left, .long r_dropped, .int r_merged, .int r_drops, .int r_contributions, .long r_packet, .int v_peelResult, .int v_peelTime, .int r_peelSum, .int v_at, .int v_commands, .ref a11, .long v_hash])), (a1, .inl (Z.2 1, 431, .inr (.inl v_m))), (a2, .inl (Z.2 1, 1293, .inr (.inl v_saved))), (a3, .inl (Z.2 0, 120, .inl v_script)), (a4, .inl (Z.2 0, 8, .inl r_lengths)), (a5, .inl (Z.2 0, 9, .inl r_fractions)), (a6, .inl (Z.2 0, 4, .inl v_times)), (a7, .inl (Z.2 1, 4, .inr (.inl v_energies))), (a8, .inl (Z.2 1, 1809, .inr (.inl r_far))), (a9, .inl (Z.2 1, 1809, .inr (.inl r_near))), (a10, .inl (Z.2 1, 201, .inr (.inl r_echoes))), (a11, .inl (Z.2 0, 120, .inl v_draft))] : va_W))) args s 0 0 A) [(a0, .inr (5, [.ref a1, .ref a2, .int v_savedCount, .ref a3, .int v_scriptLength, .int v_code, .int v_lineParts, .ref a4, .ref a5, .int v_pulseMany, .ref a6, .ref a7, .ref a8, .ref a9, .ref a10, .long v_left, .long v_dropped, .int v_merged, .int v_drops, .int v_contributions, .long v_packet, .int v_peelResult, .int v_peelTime, .int v_peelSum, .int v_at, .int v_commands, .ref a11, .long v_hash])), (a1, .inl (Z.2 1, 431, .inr (.inl v_m))), (a2, .inl (Z.2 1, 1293, .inr (.inl v_saved))), (a3, .inl (Z.2 0, 120, .inl v_script)), (a4, .inl (Z.2 0, 8, .inl v_lengths)), (a5, .inl (Z.2 0, 9, .inl v_fractions)), (a6, .inl (Z.2 0, 4, .inl v_times)), (a7, .inl (Z.2 1, 4, .inr (.inl v_energies))), (a8, .inl (Z.2 1, 1809, .inr (.inl v_far))), (a9, .inl (Z.2 1, 1809, .inr (.inl v_near))), (a10, .inl (Z.2 1, 201, .inr (.inl v_echoes))), (a11, .inl (Z.2 0, 120, .inl v_draft))] 0 0 36 [some (.ref a0), some (.int x1), some (.int x2), some (.int x3), some (.int x4), none] [] := by
  intro n
  induction n with
  | zero =>
    intro v_savedCount v_scriptLength v_code v_lineParts v_pulseMany v_left v_dropped v_merged v_drops v_contributions v_packet v_peelResult v_peelTime v_peelSum v_at v_commands v_hash v_m v_saved v_script v_lengths v_fractions v_times v_energies v_far v_near v_echoes v_draft x1 x2 x3 x4 h
    cases h
  | succ n hK36 =>
    intro v_savedCount v_scriptLength v_code v_lineParts v_pulseMany v_left v_dropped v_merged v_drops v_contributions v_packet v_peelResult v_peelTime v_peelSum v_at v_commands v_hash v_m v_saved v_script v_lengths v_fractions v_times v_energies v_far v_near v_echoes v_draft x1 x2 x3 x4 h
    replace h : B_X6_puts_36 (F_X6_puts_36 n) v_lineParts v_pulseMany v_peelSum v_m v_lengths v_fractions v_times v_energies v_far v_near v_echoes x1 x2 x3 x4 = some (r, r_lineParts, r_left, r_dropped, r_merged, r_drops, r_contributions, r_packet, r_peelSum, r_lengths, r_fractions, r_far, r_near, r_echoes) := h
    unfold B_X6_puts_36 at h
    refine g_iload_n X rfl dX6_puts_36 37 rfl ?_
    refine g_iload X rfl dX6_puts_37 39 rfl ?_
    refine g_icmp_ge X dX6_puts_39 126 (by decide) 42 rfl (fun hc => ?_) (fun hc => ?_)
    · replace h := if_t hc h
      refine g_aload_n X rfl dX6_puts_126 127 rfl ?_
      refine g_get X gC5 0 rfl 8 (by decide) q1350 (fun _ h9 => h9) rfl dX6_puts_127 130 rfl ?_
      refine g_aload_n X rfl dX6_puts_130 131 rfl ?_
      refine g_get X gC5 0 rfl 6 (by decide) q1348 (fun _ h9 => h9) rfl dX6_puts_131 134 rfl ?_
      refine g_iload_n X rfl dX6_puts_134 135 rfl ?_
      obtain ⟨hi, h⟩ := gin_e h
      refine g_iast X 5 rfl hi dX6_puts_135 136 rfl ?_
      refine g_aload_n X rfl dX6_puts_136 137 rfl ?_
      obtain ⟨w1_left, w2_dropped, w3_merged, w4_drops, w5_contributions, w6_packet, w7_far, w8_near, w9_echoes, hcl, h⟩ := bd9_e h
      refine g_callV0W X (met_X6_runLine l Z a0 a1 a2 a3 a4 a5 a6 a7 a8 a9 a10 a11 v_savedCount v_scriptLength v_code v_lineParts v_pulseMany v_left v_dropped v_merged v_drops v_contributions v_packet v_peelResult v_peelTime v_peelSum v_at v_commands v_hash v_m v_saved v_script v_lengths (upd v_fractions v_lineParts.toNatClampNeg x3) v_times v_energies v_far v_near v_echoes v_draft  w1_left w2_dropped w3_merged w4_drops w5_contributions w6_packet w7_far w8_near w9_echoes hcl) rfl 0 gC5 rfl rfl (lw_V q1566 q1568 qs40 q74 q1569) md_X6_runLine ⟨(Nat.le_of_ble_eq_true rfl), (Nat.le_of_ble_eq_true rfl)⟩ rfl dX6_puts_137 140 rfl 0 0 rfl rfl (Nat.le_of_ble_eq_true rfl) (Nat.le_of_ble_eq_true rfl) (st := []) rfl (Nat.le_of_ble_eq_true rfl) (fun _ => rfl) (fun _ => ?_)
      refine g_aload_n X rfl dX6_puts_140 141 rfl ?_
      refine g_get X gC5 0 rfl 14 (by decide) q1356 (fun _ h9 => h9) rfl dX6_puts_141 144 rfl ?_
      refine g_iload_n X rfl dX6_puts_144 145 rfl ?_
      obtain ⟨hi, h⟩ := gin_e h
      refine g_lald X 10 rfl hi dX6_puts_145 146 rfl ?_
      refine g_aload_n X rfl dX6_puts_146 147 rfl ?_
      refine g_get X gC5 0 rfl 0 (by decide) q1342 (fun _ h9 => h9) rfl dX6_puts_147 150 rfl ?_
      refine g_sipush X 230 dX6_puts_150 153 rfl kS_230 ?_
      refine g_iload_n X rfl dX6_puts_153 154 rfl ?_
      refine g_iadd X dX6_puts_154 155 rfl ?_
      obtain ⟨hi, h⟩ := gin_e h
      refine g_lald X 1 rfl hi dX6_puts_155 156 rfl ?_
      refine g_seli 165 [] (b := (w9_echoes x1.toNatClampNeg) = (v_m (230 + x1).toNatClampNeg)) 1 0 ?_ (fun hc K => ?_) (fun hc K => ?_)
      · refine g_istore X dX6_puts_165 167 rfl (Nat.le_of_ble_eq_true rfl) rfl [some (.ref a0), some (.int x1), some (.int x2), some (.int x3), some (.int x4), some (.int (if (w9_echoes x1.toNatClampNeg) = (v_m (230 + x1).toNatClampNeg) then (1 : Int32) else 0))] rfl ?_
        refine g_aload_n X rfl dX6_puts_167 168 rfl ?_
        refine g_dup X dX6_puts_168 169 rfl rfl ?_
        refine g_get X gC5 0 rfl 6 (by decide) q1348 (fun _ h9 => h9) rfl dX6_puts_169 172 rfl ?_
        refine g_iload X rfl dX6_puts_172 174 rfl ?_
        refine g_seli 182 [.int v_lineParts, .ref a0] (b := (if (w9_echoes x1.toNatClampNeg) = (v_m (230 + x1).toNatClampNeg) then (1 : Int32) else 0) = 0) 1 0 ?_ (fun hc K => ?_) (fun hc K => ?_)
        · refine g_isub X dX6_puts_182 183 rfl ?_
          refine g_topi (fun t10 et10 => ?_)
          replace h := nm_at et10 h
          refine g_put X gC5 0 rfl 6 (by decide) q1348 (fun _ h9 => h9) rfl rfl rfl (Nat.le_of_ble_eq_true rfl) dX6_puts_183 186 rfl ?_
          refine g_aload_n X rfl dX6_puts_186 187 rfl ?_
          refine g_dup X dX6_puts_187 188 rfl rfl ?_
          refine g_get X gC5 0 rfl 23 (by decide) q1365 (fun _ h9 => h9) rfl dX6_puts_188 191 rfl ?_
          refine g_iload X rfl dX6_puts_191 193 rfl ?_
          refine g_seli 201 [.int v_peelSum, .ref a0] (b := (if (w9_echoes x1.toNatClampNeg) = (v_m (230 + x1).toNatClampNeg) then (1 : Int32) else 0) = 0) 0 x2 ?_ (fun hc K => ?_) (fun hc K => ?_)
          · refine g_iadd X dX6_puts_201 202 rfl ?_
            refine g_topi (fun t11 et11 => ?_)
            replace h := nm_at et11 h
            refine g_put X gC5 0 rfl 23 (by decide) q1365 (fun _ h9 => h9) rfl rfl rfl (Nat.le_of_ble_eq_true rfl) dX6_puts_202 205 rfl ?_
            refine g_iload X rfl dX6_puts_205 207 rfl ?_
            obtain ⟨rfl, rfl, rfl, rfl, rfl, rfl, rfl, rfl, rfl, rfl, rfl, rfl, rfl, rfl⟩ := rt14 h
            exact g_zret X dX6_puts_207 (gb_if gb_1 gb_0) () rfl rfl (Nat.le_of_ble_eq_true rfl) (Nat.le_of_ble_eq_true rfl)
          · refine g_if_eq X dX6_puts_193 200 (by decide) 196 rfl (fun _ => ?_) (fun hn => absurd hc hn)
            refine g_iconst X 0 dX6_puts_200 201 rfl kI_0 ?_
            exact K
          · refine g_if_eq X dX6_puts_193 200 (by decide) 196 rfl (fun hn => absurd hn hc) (fun _ => ?_)
            refine g_iload_n X rfl dX6_puts_196 197 rfl ?_
            refine g_goto X dX6_puts_197 201 (by decide) ?_
            exact K
        · refine g_if_eq X dX6_puts_174 181 (by decide) 177 rfl (fun _ => ?_) (fun hn => absurd hc hn)
          refine g_iconst X 1 dX6_puts_181 182 rfl kI_1 ?_
          exact K
        · refine g_if_eq X dX6_puts_174 181 (by decide) 177 rfl (fun hn => absurd hn hc) (fun _ => ?_)
          refine g_iconst X 0 dX6_puts_177 178 rfl kI_0 ?_
          refine g_goto X dX6_puts_178 182 (by decide) ?_
          exact K
      · refine g_lcmp_ne X dX6_puts_156 157 rfl dX6_puts_157 164 (by decide) 160 rfl (fun hn => absurd hc hn) (fun _ => ?_)
        refine g_iconst X 1 dX6_puts_160 161 rfl kI_1 ?_
        refine g_goto X dX6_puts_161 165 (by decide) ?_
        exact K
      · refine g_lcmp_ne X dX6_puts_156 157 rfl dX6_puts_157 164 (by decide) 160 rfl (fun _ => ?_) (fun hn => absurd hn hc)
        refine g_iconst X 0 dX6_puts_164 165 rfl kI_0 ?_
        exact K
    · replace h := if_f hc h
      refine g_iload_n X rfl dX6_puts_42 43 rfl ?_
      refine g_iload X rfl dX6_puts_43 45 rfl ?_
      refine g_iadd X dX6_puts_45 46 rfl ?_
      refine g_iconst X 2 dX6_puts_46 47 rfl kI_2 ?_
      refine g_idiv X (by decide) dX6_puts_47 48 rfl ?_
      refine g_istore X dX6_puts_48 50 rfl (Nat.le_of_ble_eq_true rfl) rfl [some (.ref a0), some (.int x1), some (.int x2), some (.int x3), some (.int x4), some (.int ((x3 + x4) / 2))] rfl ?_
      refine g_aload_n X rfl dX6_puts_50 51 rfl ?_
      refine g_get X gC5 0 rfl 8 (by decide) q1350 (fun _ h9 => h9) rfl dX6_puts_51 54 rfl ?_
      refine g_aload_n X rfl dX6_puts_54 55 rfl ?_
      refine g_get X gC5 0 rfl 6 (by decide) q1348 (fun _ h9 => h9) rfl dX6_puts_55 58 rfl ?_
      refine g_iload X rfl dX6_puts_58 60 rfl ?_
      obtain ⟨hi, h⟩ := gin_e h
      refine g_iast X 5 rfl hi dX6_puts_60 61 rfl ?_
      refine g_aload_n X rfl dX6_puts_61 62 rfl ?_
      obtain ⟨w12_left, w13_dropped, w14_merged, w15_drops, w16_contributions, w17_packet, w18_far, w19_near, w20_echoes, hcl, h⟩ := bd9_e h
      refine g_callV0W X (met_X6_runLine l Z a0 a1 a2 a3 a4 a5 a6 a7 a8 a9 a10 a11 v_savedCount v_scriptLength v_code v_lineParts v_pulseMany v_left v_dropped v_merged v_drops v_contributions v_packet v_peelResult v_peelTime v_peelSum v_at v_commands v_hash v_m v_saved v_script v_lengths (upd v_fractions v_lineParts.toNatClampNeg ((x3 + x4) / 2)) v_times v_energies v_far v_near v_echoes v_draft  w12_left w13_dropped w14_merged w15_drops w16_contributions w17_packet w18_far w19_near w20_echoes hcl) rfl 0 gC5 rfl rfl (lw_V q1566 q1568 qs40 q74 q1569) md_X6_runLine ⟨(Nat.le_of_ble_eq_true rfl), (Nat.le_of_ble_eq_true rfl)⟩ rfl dX6_puts_62 65 rfl 0 0 rfl rfl (Nat.le_of_ble_eq_true rfl) (Nat.le_of_ble_eq_true rfl) (st := []) rfl (Nat.le_of_ble_eq_true rfl) (fun _ => rfl) (fun _ => ?_)
      refine g_aload_n X rfl dX6_puts_65 66 rfl ?_
      refine g_get X gC5 0 rfl 14 (by decide) q1356 (fun _ h9 => h9) rfl dX6_puts_66 69 rfl ?_
      refine g_iload_n X rfl dX6_puts_69 70 rfl ?_
      obtain ⟨hi, h⟩ := gin_e h
      refine g_lald X 10 rfl hi dX6_puts_70 71 rfl ?_
      refine g_aload_n X rfl dX6_puts_71 72 rfl ?_
      refine g_get X gC5 0 rfl 0 (by decide) q1342 (fun _ h9 => h9) rfl dX6_puts_72 75 rfl ?_
      refine g_sipush X 230 dX6_puts_75 78 rfl kS_230 ?_
      refine g_iload_n X rfl dX6_puts_78 79 rfl ?_
      refine g_iadd X dX6_puts_79 80 rfl ?_
      obtain ⟨hi, h⟩ := gin_e h
      refine g_lald X 1 rfl hi dX6_puts_80 81 rfl ?_
      refine g_seli 93 [] (b := (v_m (230 + x1).toNatClampNeg) ≤ (w20_echoes x1.toNatClampNeg)) x3 (((x3 + x4) / 2) + 1) ?_ (fun hc K => ?_) (fun hc K => ?_)
      · refine g_istore_n X dX6_puts_93 94 rfl (Nat.le_of_ble_eq_true rfl) rfl [some (.ref a0), some (.int x1), some (.int x2), some (.int (if (v_m (230 + x1).toNatClampNeg) ≤ (w20_echoes x1.toNatClampNeg) then x3 else ((x3 + x4) / 2) + 1)), some (.int x4), some (.int ((x3 + x4) / 2))] rfl ?_
        refine g_aload_n X rfl dX6_puts_94 95 rfl ?_
        refine g_get X gC5 0 rfl 14 (by decide) q1356 (fun _ h9 => h9) rfl dX6_puts_95 98 rfl ?_
        refine g_iload_n X rfl dX6_puts_98 99 rfl ?_
        obtain ⟨hi, h⟩ := gin_e h
        refine g_lald X 10 rfl hi dX6_puts_99 100 rfl ?_
        refine g_aload_n X rfl dX6_puts_100 101 rfl ?_
        refine g_get X gC5 0 rfl 0 (by decide) q1342 (fun _ h9 => h9) rfl dX6_puts_101 104 rfl ?_
        refine g_sipush X 230 dX6_puts_104 107 rfl kS_230 ?_
        refine g_iload_n X rfl dX6_puts_107 108 rfl ?_
        refine g_iadd X dX6_puts_108 109 rfl ?_
        obtain ⟨hi, h⟩ := gin_e h
        refine g_lald X 1 rfl hi dX6_puts_109 110 rfl ?_
        refine g_seli 121 [] (b := (v_m (230 + x1).toNatClampNeg) ≤ (w20_echoes x1.toNatClampNeg)) ((x3 + x4) / 2) x4 ?_ (fun hc K => ?_) (fun hc K => ?_)
        · refine g_istore X dX6_puts_121 123 rfl (Nat.le_of_ble_eq_true rfl) rfl [some (.ref a0), some (.int x1), some (.int x2), some (.int (if (v_m (230 + x1).toNatClampNeg) ≤ (w20_echoes x1.toNatClampNeg) then x3 else ((x3 + x4) / 2) + 1)), some (.int (if (v_m (230 + x1).toNatClampNeg) ≤ (w20_echoes x1.toNatClampNeg) then (x3 + x4) / 2 else x4)), some (.int ((x3 + x4) / 2))] rfl ?_
          refine g_goto X dX6_puts_123 36 (by decide) ?_
          refine g_kill (j := 5) [some (.ref a0), some (.int x1), some (.int x2), some (.int (if (v_m (230 + x1).toNatClampNeg) ≤ (w20_echoes x1.toNatClampNeg) then x3 else ((x3 + x4) / 2) + 1)), some (.int (if (v_m (230 + x1).toNatClampNeg) ≤ (w20_echoes x1.toNatClampNeg) then (x3 + x4) / 2 else x4)), none] rfl ?_
          exact hK36 v_savedCount v_scriptLength v_code v_lineParts v_pulseMany w12_left w13_dropped w14_merged w15_drops w16_contributions w17_packet v_peelResult v_peelTime v_peelSum v_at v_commands v_hash v_m v_saved v_script v_lengths (upd v_fractions v_lineParts.toNatClampNeg ((x3 + x4) / 2)) v_times v_energies w18_far w19_near w20_echoes v_draft x1 x2 (if (v_m (230 + x1).toNatClampNeg) ≤ (w20_echoes x1.toNatClampNeg) then x3 else ((x3 + x4) / 2) + 1) (if (v_m (230 + x1).toNatClampNeg) ≤ (w20_echoes x1.toNatClampNeg) then (x3 + x4) / 2 else x4) h
        · refine g_lcmp_ge X dX6_puts_110 111 rfl dX6_puts_111 119 (by decide) 114 rfl (fun _ => ?_) (fun hn => absurd hc hn)
          refine g_iload X rfl dX6_puts_119 121 rfl ?_
          exact K
        · refine g_lcmp_ge X dX6_puts_110 111 rfl dX6_puts_111 119 (by decide) 114 rfl (fun hn => absurd hn hc) (fun _ => ?_)
          refine g_iload X rfl dX6_puts_114 116 rfl ?_
          refine g_goto X dX6_puts_116 121 (by decide) ?_
          exact K
      · refine g_lcmp_ge X dX6_puts_81 82 rfl dX6_puts_82 92 (by decide) 85 rfl (fun _ => ?_) (fun hn => absurd hc hn)
        refine g_iload_n X rfl dX6_puts_92 93 rfl ?_
        exact K
      · refine g_lcmp_ge X dX6_puts_81 82 rfl dX6_puts_82 92 (by decide) 85 rfl (fun hn => absurd hn hc) (fun _ => ?_)
        refine g_iload X rfl dX6_puts_85 87 rfl ?_
        refine g_iconst X 1 dX6_puts_87 88 rfl kI_1 ?_
        refine g_iadd X dX6_puts_88 89 rfl ?_
        refine g_goto X dX6_puts_89 93 (by decide) ?_
        exact K
theorem met_X6_puts (l : Launch) (Z : gZt) (a0 : Nat) (a1 : Nat) (a2 : Nat) (a3 : Nat) (a4 : Nat) (a5 : Nat) (a6 : Nat) (a7 : Nat) (a8 : Nat) (a9 : Nat) (a10 : Nat) (a11 : Nat) (v_savedCount : Int32) (v_scriptLength : Int32) (v_code : Int32) (v_lineParts : Int32) (v_pulseMany : Int32) (v_left : Int64) (v_dropped : Int64) (v_merged : Int32) (v_drops : Int32) (v_contributions : Int32) (v_packet : Int64) (v_peelResult : Int32) (v_peelTime : Int32) (v_peelSum : Int32) (v_at : Int32) (v_commands : Int32) (v_hash : Int64) (v_m : Nat → Int64) (v_saved : Nat → Int64) (v_script : Nat → Int32) (v_lengths : Nat → Int32) (v_fractions : Nat → Int32) (v_times : Nat → Int32) (v_energies : Nat → Int64) (v_far : Nat → Int64) (v_near : Nat → Int64) (v_echoes : Nat → Int64) (v_draft : Nat → Int32) (x1 : Int32) (r : Int32) (r_lineParts : Int32) (r_left : Int64) (r_dropped : Int64) (r_merged : Int32) (r_drops : Int32) (r_contributions : Int32) (r_packet : Int64) (r_peelSum : Int32) (r_lengths : Nat → Int32) (r_fractions : Nat → Int32) (r_far : Nat → Int64) (r_near : Nat → Int64) (r_echoes : Nat → Int64) (h : F_X6_puts v_lineParts v_pulseMany v_peelSum v_m v_lengths v_fractions v_times v_energies v_far v_near v_echoes x1 = some (r, r_lineParts, r_left, r_dropped, r_merged, r_drops, r_contributions, r_packet, r_peelSum, r_lengths, r_fractions, r_far, r_near, r_echoes)) : Ct l yX6_puts (ws_ yX6_puts cX6_puts 6 (some .boolean)) rm_X6_puts Z [.ref a0, .int x1] [(a0, .inr (5, [.ref a1, .ref a2, .int v_savedCount, .ref a3, .int v_scriptLength, .int v_code, .int v_lineParts, .ref a4, .ref a5, .int v_pulseMany, .ref a6, .ref a7, .ref a8, .ref a9, .ref a10, .long v_left, .long v_dropped, .int v_merged, .int v_drops, .int v_contributions, .long v_packet, .int v_peelResult, .int v_peelTime, .int v_peelSum, .int v_at, .int v_commands, .ref a11, .long v_hash])), (a1, .inl (Z.2 1, 431, .inr (.inl v_m))), (a2, .inl (Z.2 1, 1293, .inr (.inl v_saved))), (a3, .inl (Z.2 0, 120, .inl v_script)), (a4, .inl (Z.2 0, 8, .inl v_lengths)), (a5, .inl (Z.2 0, 9, .inl v_fractions)), (a6, .inl (Z.2 0, 4, .inl v_times)), (a7, .inl (Z.2 1, 4, .inr (.inl v_energies))), (a8, .inl (Z.2 1, 1809, .inr (.inl v_far))), (a9, .inl (Z.2 1, 1809, .inr (.inl v_near))), (a10, .inl (Z.2 1, 201, .inr (.inl v_echoes))), (a11, .inl (Z.2 0, 120, .inl v_draft))] [] (fun _ : Unit => (some (.int r) : Option Value)) (fun _ : Unit => ([(a0, .inr (5, [.ref a1, .ref a2, .int v_savedCount, .ref a3, .int v_scriptLength, .int v_code, .int r_lineParts, .ref a4, .ref a5, .int v_pulseMany, .ref a6, .ref a7, .ref a8, .ref a9, .ref a10, .long r_left, .long r_dropped, .int r_merged, .int r_drops, .int r_contributions, .long r_packet, .int v_peelResult, .int v_peelTime, .int r_peelSum, .int v_at, .int v_commands, .ref a11, .long v_hash])), (a1, .inl (Z.2 1, 431, .inr (.inl v_m))), (a2, .inl (Z.2 1, 1293, .inr (.inl v_saved))), (a3, .inl (Z.2 0, 120, .inl v_script)), (a4, .inl (Z.2 0, 8, .inl r_lengths)), (a5, .inl (Z.2 0, 9, .inl r_fractions)), (a6, .inl (Z.2 0, 4, .inl v_times)), (a7, .inl (Z.2 1, 4, .inr (.inl v_energies))), (a8, .inl (Z.2 1, 1809, .inr (.inl r_far))), (a9, .inl (Z.2 1, 1809, .inr (.inl r_near))), (a10, .inl (Z.2 1, 201, .inr (.inl r_echoes))), (a11, .inl (Z.2 0, 120, .inl v_draft))] : va_W)) := by
  refine Ct.of cX6_puts 6 (some .boolean) "LineEchoesModel" [some (.ref a0), some (.int x1), none, none, none, none] 4 (by decide) rfl (Nat.le_of_ble_eq_true rfl) rfl (fun p e s m args below meth c A X hin => ?_)
  unfold F_X6_puts at h
  refine g_iload_n X rfl dX6_puts_0 1 rfl ?_
  refine g_iconst X 2 dX6_puts_1 2 rfl kI_2 ?_
  refine g_idiv X (by decide) dX6_puts_2 3 rfl ?_
  refine g_aload_n X rfl dX6_puts_3 4 rfl ?_
  refine g_get X gC5 0 rfl 23 (by decide) q1365 (fun _ h9 => h9) rfl dX6_puts_4 7 rfl ?_
  refine g_isub X dX6_puts_7 8 rfl ?_
  refine g_istore_n X dX6_puts_8 9 rfl (Nat.le_of_ble_eq_true rfl) rfl [some (.ref a0), some (.int x1), some (.int ((x1 / 2) - v_peelSum)), none, none, none] rfl ?_
  refine g_iconst X 1 dX6_puts_9 10 rfl kI_1 ?_
  refine g_istore_n X dX6_puts_10 11 rfl (Nat.le_of_ble_eq_true rfl) rfl [some (.ref a0), some (.int x1), some (.int ((x1 / 2) - v_peelSum)), some (.int 1), none, none] rfl ?_
  refine g_sipush X 1000 dX6_puts_11 14 rfl kS_1000 ?_
  refine g_istore X dX6_puts_14 16 rfl (Nat.le_of_ble_eq_true rfl) rfl [some (.ref a0), some (.int x1), some (.int ((x1 / 2) - v_peelSum)), some (.int 1), some (.int 1000), none] rfl ?_
  refine g_aload_n X rfl dX6_puts_16 17 rfl ?_
  refine g_get X gC5 0 rfl 7 (by decide) q1349 (fun _ h9 => h9) rfl dX6_puts_17 20 rfl ?_
  refine g_aload_n X rfl dX6_puts_20 21 rfl ?_
  refine g_get X gC5 0 rfl 6 (by decide) q1348 (fun _ h9 => h9) rfl dX6_puts_21 24 rfl ?_
  refine g_iload_n X rfl dX6_puts_24 25 rfl ?_
  obtain ⟨hi, h⟩ := gin_e h
  refine g_iast X 4 rfl hi dX6_puts_25 26 rfl ?_
  refine g_aload_n X rfl dX6_puts_26 27 rfl ?_
  refine g_dup X dX6_puts_27 28 rfl rfl ?_
  refine g_get X gC5 0 rfl 6 (by decide) q1348 (fun _ h9 => h9) rfl dX6_puts_28 31 rfl ?_
  refine g_iconst X 1 dX6_puts_31 32 rfl kI_1 ?_
  refine g_iadd X dX6_puts_32 33 rfl ?_
  refine g_put X gC5 0 rfl 6 (by decide) q1348 (fun _ h9 => h9) rfl rfl rfl (Nat.le_of_ble_eq_true rfl) dX6_puts_33 36 rfl ?_
  exact w_X6_puts_36 a0 a1 a2 a3 a4 a5 a6 a7 a8 a9 a10 a11  X  r r_lineParts r_left r_dropped r_merged r_drops r_contributions r_packet r_peelSum r_lengths r_fractions r_far r_near r_echoes    gFU v_savedCount v_scriptLength v_code (v_lineParts + 1) v_pulseMany v_left v_dropped v_merged v_drops v_contributions v_packet v_peelResult v_peelTime v_peelSum v_at v_commands v_hash v_m v_saved v_script (upd v_lengths v_lineParts.toNatClampNeg ((x1 / 2) - v_peelSum)) v_fractions v_times v_energies v_far v_near v_echoes v_draft x1 ((x1 / 2) - v_peelSum) 1 1000 h
/-! LineEchoesModel.peels()Z -/
abbrev rm_X6_peels : Room := { frames := 5, cells := 0, slots := 0, locals := 121 }
def F_X6_peels_59 (v_lineParts : Int32) (v_left : Int64) (v_dropped : Int64) (v_merged : Int32) (v_drops : Int32) (v_contributions : Int32) (v_packet : Int64) (v_peelTime : Int32) (v_peelSum : Int32) (v_lengths : Nat → Int32) (v_fractions : Nat → Int32) (v_far : Nat → Int64) (v_near : Nat → Int64) (v_echoes : Nat → Int64) : Option (Int32 × Int32 × Int64 × Int64 × Int32 × Int32 × Int32 × Int64 × Int32 × Int32 × Int32 × (Nat → Int32) × (Nat → Int32) × (Nat → Int64) × (Nat → Int64) × (Nat → Int64)) :=
  some (0, v_lineParts, v_left, v_dropped, v_merged, v_drops, v_contributions, v_packet, 1, v_peelTime, v_peelSum, v_lengths, v_fractions, v_far, v_near, v_echoes)
def F_X6_peels_88 (v_lineParts : Int32) (v_left : Int64) (v_dropped : Int64) (v_merged : Int32) (v_drops : Int32) (v_contributions : Int32) (v_packet : Int64) (v_peelTime : Int32) (v_peelSum : Int32) (v_lengths : Nat → Int32) (v_fractions : Nat → Int32) (v_far : Nat → Int64) (v_near : Nat → Int64) (v_echoes : Nat → Int64) : Option (Int32 × Int32 × Int64 × Int64 × Int32 × Int32 × Int32 × Int64 × Int32 × Int32 × Int32 × (Nat → Int32) × (Nat → Int32) × (Nat → Int64) × (Nat → Int64) × (Nat → Int64)) :=
  some (0, v_lineParts, v_left, v_dropped, v_merged, v_drops, v_contributions, v_packet, 2, v_peelTime, v_peelSum, v_lengths, v_fractions, v_far, v_near, v_echoes)
def F_X6_peels (v_lineParts : Int32) (v_pulseMany : Int32) (v_left : Int64) (v_dropped : Int64) (v_merged : Int32) (v_drops : Int32) (v_contributions : Int32) (v_packet : Int64) (v_peelSum : Int32) (v_m : Nat → Int64) (v_lengths : Nat → Int32) (v_fractions : Nat → Int32) (v_times : Nat → Int32) (v_energies : Nat → Int64) (v_far : Nat → Int64) (v_near : Nat → Int64) (v_echoes : Nat → Int64) : Option (Int32 × Int32 × Int64 × Int64 × Int32 × Int32 × Int32 × Int64 × Int32 × Int32 × Int32 × (Nat → Int32) × (Nat → Int32) × (Nat → Int64) × (Nat → Int64) × (Nat → Int64)) :=
  bd1 (F_X6_firstUnlike v_m v_echoes) fun r1 =>
  if r1 = (-1) then
    (some (0, v_lineParts, v_left, v_dropped, v_merged, v_drops, v_contributions, v_packet, 0, r1, v_peelSum, v_lengths, v_fractions, v_far, v_near, v_echoes))
  else
    (gin (230 + r1) 431 <|
    gin r1 201 <|
    if (v_m (230 + r1).toNatClampNeg) < (v_echoes r1.toNatClampNeg) then
      (F_X6_peels_59 v_lineParts v_left v_dropped v_merged v_drops v_contributions v_packet r1 v_peelSum v_lengths v_fractions v_far v_near v_echoes)
    else
      (if (r1 - r1 / 2 * 2) = 1 then
        (F_X6_peels_59 v_lineParts v_left v_dropped v_merged v_drops v_contributions v_packet r1 v_peelSum v_lengths v_fractions v_far v_near v_echoes)
      else
        (if (2 * v_peelSum) < r1 then
          (if 20 < ((r1 / 2) - v_peelSum) then
            (F_X6_peels_88 v_lineParts v_left v_dropped v_merged v_drops v_contributions v_packet r1 v_peelSum v_lengths v_fractions v_far v_near v_echoes)
          else
            (if v_lineParts = 8 then
              (F_X6_peels_88 v_lineParts v_left v_dropped v_merged v_drops v_contributions v_packet r1 v_peelSum v_lengths v_fractions v_far v_near v_echoes)
            else
              (bd14 (F_X6_puts v_lineParts v_pulseMany v_peelSum v_m v_lengths v_fractions v_times v_energies v_far v_near v_echoes r1) fun r2 w3_lineParts w4_left w5_dropped w6_merged w7_drops w8_contributions w9_packet w10_peelSum w11_lengths w12_fractions w13_far w14_near w15_echoes =>
              gch (r2 = 0 ∨ r2 = 1) <|
              some (r2, w3_lineParts, w4_left, w5_dropped, w6_merged, w7_drops, w8_contributions, w9_packet, 1, r1, w10_peelSum, w11_lengths, w12_fractions, w13_far, w14_near, w15_echoes))))
        else
          (F_X6_peels_59 v_lineParts v_left v_dropped v_merged v_drops v_contributions v_packet r1 v_peelSum v_lengths v_fractions v_far v_near v_echoes))))
theorem w_X6_peels_59 {p : Program} {l : Launch} {e : Env} {s : State} {m : MethodId} {args : Array Value} {below : List Frame} {meth : Method} {c : Code} {Z : gZt} {A : Nat → Prop} (a0 : Nat) (a1 : Nat) (a2 : Nat) (a3 : Nat) (a4 : Nat) (a5 : Nat) (a6 : Nat) (a7 : Nat) (a8 : Nat) (a9 : Nat) (a10 : Nat) (a11 : Nat) (X : gX p s m args meth c Z A cX6_peels "LineEchoesModel" 2 (some .boolean) []) (r : Int32) (r_lineParts : Int32) (r_left : Int64) (r_dropped : Int64) (r_merged : Int32) (r_drops : Int32) (r_contributions : Int32) (r_packet : Int64) (r_peelResult : Int32) (r_peelTime : Int32) (r_peelSum : Int32) (r_lengths : Nat → Int32) (r_fractions : Nat → Int32) (r_far : Nat → Int64) (r_near : Nat → Int64) (r_echoes : Nat → Int64)  (v_savedCount : Int32) (v_scriptLength : Int32) (v_code : Int32) (v_lineParts : Int32) (v_pulseMany : Int32) (v_left : Int64) (v_dropped : Int64) (v_merged : Int32) (v_drops : Int32) (v_contributions : Int32) (v_packet : Int64) (v_peelResult : Int32) (v_peelTime : Int32) (v_peelSum : Int32) (v_at : Int32) (v_commands : Int32) (v_hash : Int64) (v_m : Nat → Int64) (v_saved : Nat → Int64) (v_script : Nat → Int32) (v_lengths : Nat → Int32) (v_fractions : Nat → Int32) (v_times : Nat → Int32) (v_energies : Nat → Int64) (v_far : Nat → Int64) (v_near : Nat → Int64) (v_echoes : Nat → Int64) (v_draft : Nat → Int32) (h : F_X6_peels_59 v_lineParts v_left v_dropped v_merged v_drops v_contributions v_packet v_peelTime v_peelSum v_lengths v_fractions v_far v_near v_echoes = some (r, r_lineParts, r_left, r_dropped, r_merged, r_drops, r_contributions, r_packet, r_peelResult, r_peelTime, r_peelSum, r_lengths, r_fractions, r_far, r_near, r_echoes)) : G p l e rm_X6_peels s m args below meth c Z A 2 (MQ below (gPost Z A (fun _ : Unit => (some (.int r) : Option Value)) (fun _ : Unit => ([(a0, .inr (5, [.ref a1, .ref a2, .int v_savedCount, .ref a3, .int v_scriptLength, .int v_code, .int r_lineParts, .ref a4, .ref a5, .int v_pulseMany, .ref a6, .ref a7, .ref a8, .ref a9, .ref a10, .long r_left, .long r_dropped, .int r_merged, .int r_drops, .int r_contributions, .long r_packet, .int r_peelResult, .int r_peelTime, .int r_peelSum, .int v_at, .int v_commands, .ref a11, .long v_hash])), (a1, .inl (Z.2 1, 431, .inr (.inl v_m))), (a2, .inl (Z.2 1, 1293, .inr (.inl v_saved))), (a3, .inl (Z.2 0, 120, .inl v_script)), (a4, .inl (Z.2 0, 8, .inl r_lengths)), (a5, .inl (Z.2 0, 9, .inl r_fractions)), (a6, .inl (Z.2 0, 4, .inl v_times)), (a7, .inl (Z.2 1, 4, .inr (.inl v_energies))), (a8, .inl (Z.2 1, 1809, .inr (.inl r_far))), (a9, .inl (Z.2 1, 1809, .inr (.inl r_near))), (a10, .inl (Z.2 1, 201, .inr (.inl r_echoes))), (a11, .inl (Z.2 0, 120, .inl v_draft))] : va_W))) args s 0 0 A) [(a0, .inr (5, [.ref a1, .ref a2, .int v_savedCount, .ref a3, .int v_scriptLength, .int v_code, .int v_lineParts, .ref a4, .ref a5, .int v_pulseMany, .ref a6, .ref a7, .ref a8, .ref a9, .ref a10, .long v_left, .long v_dropped, .int v_merged, .int v_drops, .int v_contributions, .long v_packet, .int v_peelResult, .int v_peelTime, .int v_peelSum, .int v_at, .int v_commands, .ref a11, .long v_hash])), (a1, .inl (Z.2 1, 431, .inr (.inl v_m))), (a2, .inl (Z.2 1, 1293, .inr (.inl v_saved))), (a3, .inl (Z.2 0, 120, .inl v_script)), (a4, .inl (Z.2 0, 8, .inl v_lengths)), (a5, .inl (Z.2 0, 9, .inl v_fractions)), (a6, .inl (Z.2 0, 4, .inl v_times)), (a7, .inl (Z.2 1, 4, .inr (.inl v_energies))), (a8, .inl (Z.2 1, 1809, .inr (.inl v_far))), (a9, .inl (Z.2 1, 1809, .inr (.inl v_near))), (a10, .inl (Z.2 1, 201, .inr (.inl v_echoes))), (a11, .inl (Z.2 0, 120, .inl v_draft))] 0 0 59 [some (.ref a0), none] [] := by
  unfold F_X6_peels_59 at h
  refine g_aload_n X rfl dX6_peels_59 60 rfl ?_
  refine g_iconst X 1 dX6_peels_60 61 rfl kI_1 ?_
  refine g_put X gC5 0 rfl 21 (by decide) q1363 (fun _ h9 => h9) rfl rfl rfl (Nat.le_of_ble_eq_true rfl) dX6_peels_61 64 rfl ?_
  refine g_iconst X 0 dX6_peels_64 65 rfl kI_0 ?_
  obtain ⟨rfl, rfl, rfl, rfl, rfl, rfl, rfl, rfl, rfl, rfl, rfl, rfl, rfl, rfl, rfl, rfl⟩ := rt16 h
  exact g_zret X dX6_peels_65 (by decide) () rfl rfl (Nat.le_of_ble_eq_true rfl) (Nat.le_of_ble_eq_true rfl)
theorem w_X6_peels_88 {p : Program} {l : Launch} {e : Env} {s : State} {m : MethodId} {args : Array Value} {below : List Frame} {meth : Method} {c : Code} {Z : gZt} {A : Nat → Prop} (a0 : Nat) (a1 : Nat) (a2 : Nat) (a3 : Nat) (a4 : Nat) (a5 : Nat) (a6 : Nat) (a7 : Nat) (a8 : Nat) (a9 : Nat) (a10 : Nat) (a11 : Nat) (X : gX p s m args meth c Z A cX6_peels "LineEchoesModel" 2 (some .boolean) []) (r : Int32) (r_lineParts : Int32) (r_left : Int64) (r_dropped : Int64) (r_merged : Int32) (r_drops : Int32) (r_contributions : Int32) (r_packet : Int64) (r_peelResult : Int32) (r_peelTime : Int32) (r_peelSum : Int32) (r_lengths : Nat → Int32) (r_fractions : Nat → Int32) (r_far : Nat → Int64) (r_near : Nat → Int64) (r_echoes : Nat → Int64)  (v_savedCount : Int32) (v_scriptLength : Int32) (v_code : Int32) (v_lineParts : Int32) (v_pulseMany : Int32) (v_left : Int64) (v_dropped : Int64) (v_merged : Int32) (v_drops : Int32) (v_contributions : Int32) (v_packet : Int64) (v_peelResult : Int32) (v_peelTime : Int32) (v_peelSum : Int32) (v_at : Int32) (v_commands : Int32) (v_hash : Int64) (v_m : Nat → Int64) (v_saved : Nat → Int64) (v_script : Nat → Int32) (v_lengths : Nat → Int32) (v_fractions : Nat → Int32) (v_times : Nat → Int32) (v_energies : Nat → Int64) (v_far : Nat → Int64) (v_near : Nat → Int64) (v_echoes : Nat → Int64) (v_draft : Nat → Int32) (h : F_X6_peels_88 v_lineParts v_left v_dropped v_merged v_drops v_contributions v_packet v_peelTime v_peelSum v_lengths v_fractions v_far v_near v_echoes = some (r, r_lineParts, r_left, r_dropped, r_merged, r_drops, r_contributions, r_packet, r_peelResult, r_peelTime, r_peelSum, r_lengths, r_fractions, r_far, r_near, r_echoes)) : G p l e rm_X6_peels s m args below meth c Z A 2 (MQ below (gPost Z A (fun _ : Unit => (some (.int r) : Option Value)) (fun _ : Unit => ([(a0, .inr (5, [.ref a1, .ref a2, .int v_savedCount, .ref a3, .int v_scriptLength, .int v_code, .int r_lineParts, .ref a4, .ref a5, .int v_pulseMany, .ref a6, .ref a7, .ref a8, .ref a9, .ref a10, .long r_left, .long r_dropped, .int r_merged, .int r_drops, .int r_contributions, .long r_packet, .int r_peelResult, .int r_peelTime, .int r_peelSum, .int v_at, .int v_commands, .ref a11, .long v_hash])), (a1, .inl (Z.2 1, 431, .inr (.inl v_m))), (a2, .inl (Z.2 1, 1293, .inr (.inl v_saved))), (a3, .inl (Z.2 0, 120, .inl v_script)), (a4, .inl (Z.2 0, 8, .inl r_lengths)), (a5, .inl (Z.2 0, 9, .inl r_fractions)), (a6, .inl (Z.2 0, 4, .inl v_times)), (a7, .inl (Z.2 1, 4, .inr (.inl v_energies))), (a8, .inl (Z.2 1, 1809, .inr (.inl r_far))), (a9, .inl (Z.2 1, 1809, .inr (.inl r_near))), (a10, .inl (Z.2 1, 201, .inr (.inl r_echoes))), (a11, .inl (Z.2 0, 120, .inl v_draft))] : va_W))) args s 0 0 A) [(a0, .inr (5, [.ref a1, .ref a2, .int v_savedCount, .ref a3, .int v_scriptLength, .int v_code, .int v_lineParts, .ref a4, .ref a5, .int v_pulseMany, .ref a6, .ref a7, .ref a8, .ref a9, .ref a10, .long v_left, .long v_dropped, .int v_merged, .int v_drops, .int v_contributions, .long v_packet, .int v_peelResult, .int v_peelTime, .int v_peelSum, .int v_at, .int v_commands, .ref a11, .long v_hash])), (a1, .inl (Z.2 1, 431, .inr (.inl v_m))), (a2, .inl (Z.2 1, 1293, .inr (.inl v_saved))), (a3, .inl (Z.2 0, 120, .inl v_script)), (a4, .inl (Z.2 0, 8, .inl v_lengths)), (a5, .inl (Z.2 0, 9, .inl v_fractions)), (a6, .inl (Z.2 0, 4, .inl v_times)), (a7, .inl (Z.2 1, 4, .inr (.inl v_energies))), (a8, .inl (Z.2 1, 1809, .inr (.inl v_far))), (a9, .inl (Z.2 1, 1809, .inr (.inl v_near))), (a10, .inl (Z.2 1, 201, .inr (.inl v_echoes))), (a11, .inl (Z.2 0, 120, .inl v_draft))] 0 0 88 [some (.ref a0), none] [] := by
  unfold F_X6_peels_88 at h
  refine g_aload_n X rfl dX6_peels_88 89 rfl ?_
  refine g_iconst X 2 dX6_peels_89 90 rfl kI_2 ?_
  refine g_put X gC5 0 rfl 21 (by decide) q1363 (fun _ h9 => h9) rfl rfl rfl (Nat.le_of_ble_eq_true rfl) dX6_peels_90 93 rfl ?_
  refine g_iconst X 0 dX6_peels_93 94 rfl kI_0 ?_
  obtain ⟨rfl, rfl, rfl, rfl, rfl, rfl, rfl, rfl, rfl, rfl, rfl, rfl, rfl, rfl, rfl, rfl⟩ := rt16 h
  exact g_zret X dX6_peels_94 (by decide) () rfl rfl (Nat.le_of_ble_eq_true rfl) (Nat.le_of_ble_eq_true rfl)
theorem met_X6_peels (l : Launch) (Z : gZt) (a0 : Nat) (a1 : Nat) (a2 : Nat) (a3 : Nat) (a4 : Nat) (a5 : Nat) (a6 : Nat) (a7 : Nat) (a8 : Nat) (a9 : Nat) (a10 : Nat) (a11 : Nat) (v_savedCount : Int32) (v_scriptLength : Int32) (v_code : Int32) (v_lineParts : Int32) (v_pulseMany : Int32) (v_left : Int64) (v_dropped : Int64) (v_merged : Int32) (v_drops : Int32) (v_contributions : Int32) (v_packet : Int64) (v_peelResult : Int32) (v_peelTime : Int32) (v_peelSum : Int32) (v_at : Int32) (v_commands : Int32) (v_hash : Int64) (v_m : Nat → Int64) (v_saved : Nat → Int64) (v_script : Nat → Int32) (v_lengths : Nat → Int32) (v_fractions : Nat → Int32) (v_times : Nat → Int32) (v_energies : Nat → Int64) (v_far : Nat → Int64) (v_near : Nat → Int64) (v_echoes : Nat → Int64) (v_draft : Nat → Int32) (r : Int32) (r_lineParts : Int32) (r_left : Int64) (r_dropped : Int64) (r_merged : Int32) (r_drops : Int32) (r_contributions : Int32) (r_packet : Int64) (r_peelResult : Int32) (r_peelTime : Int32) (r_peelSum : Int32) (r_lengths : Nat → Int32) (r_fractions : Nat → Int32) (r_far : Nat → Int64) (r_near : Nat → Int64) (r_echoes : Nat → Int64) (h : F_X6_peels v_lineParts v_pulseMany v_left v_dropped v_merged v_drops v_contributions v_packet v_peelSum v_m v_lengths v_fractions v_times v_energies v_far v_near v_echoes = some (r, r_lineParts, r_left, r_dropped, r_merged, r_drops, r_contributions, r_packet, r_peelResult, r_peelTime, r_peelSum, r_lengths, r_fractions, r_far, r_near, r_echoes)) : Ct l yX6_peels (ws_ yX6_peels cX6_peels 2 (some .boolean)) rm_X6_peels Z [.ref a0] [(a0, .inr (5, [.ref a1, .ref a2, .int v_savedCount, .ref a3, .int v_scriptLength, .int v_code, .int v_lineParts, .ref a4, .ref a5, .int v_pulseMany, .ref a6, .ref a7, .ref a8, .ref a9, .ref a10, .long v_left, .long v_dropped, .int v_merged, .int v_drops, .int v_contributions, .long v_packet, .int v_peelResult, .int v_peelTime, .int v_peelSum, .int v_at, .int v_commands, .ref a11, .long v_hash])), (a1, .inl (Z.2 1, 431, .inr (.inl v_m))), (a2, .inl (Z.2 1, 1293, .inr (.inl v_saved))), (a3, .inl (Z.2 0, 120, .inl v_script)), (a4, .inl (Z.2 0, 8, .inl v_lengths)), (a5, .inl (Z.2 0, 9, .inl v_fractions)), (a6, .inl (Z.2 0, 4, .inl v_times)), (a7, .inl (Z.2 1, 4, .inr (.inl v_energies))), (a8, .inl (Z.2 1, 1809, .inr (.inl v_far))), (a9, .inl (Z.2 1, 1809, .inr (.inl v_near))), (a10, .inl (Z.2 1, 201, .inr (.inl v_echoes))), (a11, .inl (Z.2 0, 120, .inl v_draft))] [] (fun _ : Unit => (some (.int r) : Option Value)) (fun _ : Unit => ([(a0, .inr (5, [.ref a1, .ref a2, .int v_savedCount, .ref a3, .int v_scriptLength, .int v_code, .int r_lineParts, .ref a4, .ref a5, .int v_pulseMany, .ref a6, .ref a7, .ref a8, .ref a9, .ref a10, .long r_left, .long r_dropped, .int r_merged, .int r_drops, .int r_contributions, .long r_packet, .int r_peelResult, .int r_peelTime, .int r_peelSum, .int v_at, .int v_commands, .ref a11, .long v_hash])), (a1, .inl (Z.2 1, 431, .inr (.inl v_m))), (a2, .inl (Z.2 1, 1293, .inr (.inl v_saved))), (a3, .inl (Z.2 0, 120, .inl v_script)), (a4, .inl (Z.2 0, 8, .inl r_lengths)), (a5, .inl (Z.2 0, 9, .inl r_fractions)), (a6, .inl (Z.2 0, 4, .inl v_times)), (a7, .inl (Z.2 1, 4, .inr (.inl v_energies))), (a8, .inl (Z.2 1, 1809, .inr (.inl r_far))), (a9, .inl (Z.2 1, 1809, .inr (.inl r_near))), (a10, .inl (Z.2 1, 201, .inr (.inl r_echoes))), (a11, .inl (Z.2 0, 120, .inl v_draft))] : va_W)) := by
  refine Ct.of cX6_peels 2 (some .boolean) "LineEchoesModel" [some (.ref a0), none] 1 (by decide) rfl (Nat.le_of_ble_eq_true rfl) rfl (fun p e s m args below meth c A X hin => ?_)
  unfold F_X6_peels at h
  refine g_aload_n X rfl dX6_peels_0 1 rfl ?_
  obtain ⟨r1, hcl, h⟩ := bd1_e h
  refine g_callV1W X (met_X6_firstUnlike l Z a0 a1 a2 a3 a4 a5 a6 a7 a8 a9 a10 a11 v_savedCount v_scriptLength v_code v_lineParts v_pulseMany v_left v_dropped v_merged v_drops v_contributions v_packet v_peelResult v_peelTime v_peelSum v_at v_commands v_hash v_m v_saved v_script v_lengths v_fractions v_times v_energies v_far v_near v_echoes v_draft  r1 hcl) rfl 0 gC5 rfl rfl (lw_V q1680 q1682 qs55 q74 q1683) md_X6_firstUnlike ⟨(Nat.le_of_ble_eq_true rfl), (Nat.le_of_ble_eq_true rfl)⟩ rfl dX6_peels_1 4 rfl 0 0 rfl rfl (Nat.le_of_ble_eq_true rfl) (Nat.le_of_ble_eq_true rfl) (st := []) rfl (Nat.le_of_ble_eq_true rfl) (fun _ => rfl) (fun _ => ?_)
  refine g_istore_n X dX6_peels_4 5 rfl (Nat.le_of_ble_eq_true rfl) rfl [some (.ref a0), some (.int r1)] rfl ?_
  refine g_aload_n X rfl dX6_peels_5 6 rfl ?_
  refine g_iload_n X rfl dX6_peels_6 7 rfl ?_
  refine g_put X gC5 0 rfl 22 (by decide) q1364 (fun _ h9 => h9) rfl rfl rfl (Nat.le_of_ble_eq_true rfl) dX6_peels_7 10 rfl ?_
  refine g_iload_n X rfl dX6_peels_10 11 rfl ?_
  refine g_iconst X (-1) dX6_peels_11 12 rfl kI_m1 ?_
  refine g_icmp_ne X dX6_peels_12 22 (by decide) 15 rfl (fun hc => ?_) (fun hc => ?_)
  · replace h := if_f hc h
    refine g_aload_n X rfl dX6_peels_22 23 rfl ?_
    refine g_get X gC5 0 rfl 0 (by decide) q1342 (fun _ h9 => h9) rfl dX6_peels_23 26 rfl ?_
    refine g_sipush X 230 dX6_peels_26 29 rfl kS_230 ?_
    refine g_iload_n X rfl dX6_peels_29 30 rfl ?_
    refine g_iadd X dX6_peels_30 31 rfl ?_
    obtain ⟨hi, h⟩ := gin_e h
    refine g_lald X 1 rfl hi dX6_peels_31 32 rfl ?_
    refine g_aload_n X rfl dX6_peels_32 33 rfl ?_
    refine g_get X gC5 0 rfl 14 (by decide) q1356 (fun _ h9 => h9) rfl dX6_peels_33 36 rfl ?_
    refine g_iload_n X rfl dX6_peels_36 37 rfl ?_
    obtain ⟨hi, h⟩ := gin_e h
    refine g_lald X 10 rfl hi dX6_peels_37 38 rfl ?_
    refine g_lcmp_lt X dX6_peels_38 39 rfl dX6_peels_39 59 (by decide) 42 rfl (fun hc => ?_) (fun hc => ?_)
    · replace h := if_t hc h
      refine g_kill (j := 1) [some (.ref a0), none] rfl ?_
      exact w_X6_peels_59 a0 a1 a2 a3 a4 a5 a6 a7 a8 a9 a10 a11  X  r r_lineParts r_left r_dropped r_merged r_drops r_contributions r_packet r_peelResult r_peelTime r_peelSum r_lengths r_fractions r_far r_near r_echoes    v_savedCount v_scriptLength v_code v_lineParts v_pulseMany v_left v_dropped v_merged v_drops v_contributions v_packet v_peelResult r1 v_peelSum v_at v_commands v_hash v_m v_saved v_script v_lengths v_fractions v_times v_energies v_far v_near v_echoes v_draft h
    · replace h := if_f hc h
      refine g_iload_n X rfl dX6_peels_42 43 rfl ?_
      refine g_iconst X 2 dX6_peels_43 44 rfl kI_2 ?_
      refine g_irem X (by decide) dX6_peels_44 45 rfl ?_
      refine g_iconst X 1 dX6_peels_45 46 rfl kI_1 ?_
      refine g_icmp_eq X dX6_peels_46 59 (by decide) 49 rfl (fun hc => ?_) (fun hc => ?_)
      · replace h := if_t hc h
        refine g_kill (j := 1) [some (.ref a0), none] rfl ?_
        exact w_X6_peels_59 a0 a1 a2 a3 a4 a5 a6 a7 a8 a9 a10 a11  X  r r_lineParts r_left r_dropped r_merged r_drops r_contributions r_packet r_peelResult r_peelTime r_peelSum r_lengths r_fractions r_far r_near r_echoes    v_savedCount v_scriptLength v_code v_lineParts v_pulseMany v_left v_dropped v_merged v_drops v_contributions v_packet v_peelResult r1 v_peelSum v_at v_commands v_hash v_m v_saved v_script v_lengths v_fractions v_times v_energies v_far v_near v_echoes v_draft h
      · replace h := if_f hc h
        refine g_iload_n X rfl dX6_peels_49 50 rfl ?_
        refine g_iconst X 2 dX6_peels_50 51 rfl kI_2 ?_
        refine g_aload_n X rfl dX6_peels_51 52 rfl ?_
        refine g_get X gC5 0 rfl 23 (by decide) q1365 (fun _ h9 => h9) rfl dX6_peels_52 55 rfl ?_
        refine g_imul X dX6_peels_55 56 rfl ?_
        refine g_icmp_gt X dX6_peels_56 66 (by decide) 59 rfl (fun hc => ?_) (fun hc => ?_)
        · replace h := if_t hc h
          refine g_iload_n X rfl dX6_peels_66 67 rfl ?_
          refine g_iconst X 2 dX6_peels_67 68 rfl kI_2 ?_
          refine g_idiv X (by decide) dX6_peels_68 69 rfl ?_
          refine g_aload_n X rfl dX6_peels_69 70 rfl ?_
          refine g_get X gC5 0 rfl 23 (by decide) q1365 (fun _ h9 => h9) rfl dX6_peels_70 73 rfl ?_
          refine g_isub X dX6_peels_73 74 rfl ?_
          refine g_bipush X 20 dX6_peels_74 76 rfl kB_20 ?_
          refine g_icmp_gt X dX6_peels_76 88 (by decide) 79 rfl (fun hc => ?_) (fun hc => ?_)
          · replace h := if_t hc h
            refine g_kill (j := 1) [some (.ref a0), none] rfl ?_
            exact w_X6_peels_88 a0 a1 a2 a3 a4 a5 a6 a7 a8 a9 a10 a11  X  r r_lineParts r_left r_dropped r_merged r_drops r_contributions r_packet r_peelResult r_peelTime r_peelSum r_lengths r_fractions r_far r_near r_echoes    v_savedCount v_scriptLength v_code v_lineParts v_pulseMany v_left v_dropped v_merged v_drops v_contributions v_packet v_peelResult r1 v_peelSum v_at v_commands v_hash v_m v_saved v_script v_lengths v_fractions v_times v_energies v_far v_near v_echoes v_draft h
          · replace h := if_f hc h
            refine g_aload_n X rfl dX6_peels_79 80 rfl ?_
            refine g_get X gC5 0 rfl 6 (by decide) q1348 (fun _ h9 => h9) rfl dX6_peels_80 83 rfl ?_
            refine g_bipush X 8 dX6_peels_83 85 rfl kB_8 ?_
            refine g_icmp_ne X dX6_peels_85 95 (by decide) 88 rfl (fun hc => ?_) (fun hc => ?_)
            · replace h := if_f hc h
              refine g_aload_n X rfl dX6_peels_95 96 rfl ?_
              refine g_iconst X 1 dX6_peels_96 97 rfl kI_1 ?_
              refine g_put X gC5 0 rfl 21 (by decide) q1363 (fun _ h9 => h9) rfl rfl rfl (Nat.le_of_ble_eq_true rfl) dX6_peels_97 100 rfl ?_
              refine g_aload_n X rfl dX6_peels_100 101 rfl ?_
              refine g_iload_n X rfl dX6_peels_101 102 rfl ?_
              obtain ⟨r2, w3_lineParts, w4_left, w5_dropped, w6_merged, w7_drops, w8_contributions, w9_packet, w10_peelSum, w11_lengths, w12_fractions, w13_far, w14_near, w15_echoes, hcl, h⟩ := bd14_e h
              refine g_callV1W X (met_X6_puts l Z a0 a1 a2 a3 a4 a5 a6 a7 a8 a9 a10 a11 v_savedCount v_scriptLength v_code v_lineParts v_pulseMany v_left v_dropped v_merged v_drops v_contributions v_packet 1 r1 v_peelSum v_at v_commands v_hash v_m v_saved v_script v_lengths v_fractions v_times v_energies v_far v_near v_echoes v_draft r1 r2 w3_lineParts w4_left w5_dropped w6_merged w7_drops w8_contributions w9_packet w10_peelSum w11_lengths w12_fractions w13_far w14_near w15_echoes hcl) rfl 0 gC5 rfl rfl (lw_V q1684 q1686 qs56 q74 q1687) md_X6_puts ⟨(Nat.le_of_ble_eq_true rfl), (Nat.le_of_ble_eq_true rfl)⟩ rfl dX6_peels_102 105 rfl 0 0 rfl rfl (Nat.le_of_ble_eq_true rfl) (Nat.le_of_ble_eq_true rfl) (st := []) rfl (Nat.le_of_ble_eq_true rfl) (fun _ => rfl) (fun _ => ?_)
              obtain ⟨hz, h⟩ := gch_e h
              obtain ⟨rfl, rfl, rfl, rfl, rfl, rfl, rfl, rfl, rfl, rfl, rfl, rfl, rfl, rfl, rfl, rfl⟩ := rt16 h
              exact g_zret X dX6_peels_105 (gb_01 hz) () rfl rfl (Nat.le_of_ble_eq_true rfl) (Nat.le_of_ble_eq_true rfl)
            · replace h := if_t hc h
              refine g_kill (j := 1) [some (.ref a0), none] rfl ?_
              exact w_X6_peels_88 a0 a1 a2 a3 a4 a5 a6 a7 a8 a9 a10 a11  X  r r_lineParts r_left r_dropped r_merged r_drops r_contributions r_packet r_peelResult r_peelTime r_peelSum r_lengths r_fractions r_far r_near r_echoes    v_savedCount v_scriptLength v_code v_lineParts v_pulseMany v_left v_dropped v_merged v_drops v_contributions v_packet v_peelResult r1 v_peelSum v_at v_commands v_hash v_m v_saved v_script v_lengths v_fractions v_times v_energies v_far v_near v_echoes v_draft h
        · replace h := if_f hc h
          refine g_kill (j := 1) [some (.ref a0), none] rfl ?_
          exact w_X6_peels_59 a0 a1 a2 a3 a4 a5 a6 a7 a8 a9 a10 a11  X  r r_lineParts r_left r_dropped r_merged r_drops r_contributions r_packet r_peelResult r_peelTime r_peelSum r_lengths r_fractions r_far r_near r_echoes    v_savedCount v_scriptLength v_code v_lineParts v_pulseMany v_left v_dropped v_merged v_drops v_contributions v_packet v_peelResult r1 v_peelSum v_at v_commands v_hash v_m v_saved v_script v_lengths v_fractions v_times v_energies v_far v_near v_echoes v_draft h
  · replace h := if_t hc h
    refine g_aload_n X rfl dX6_peels_15 16 rfl ?_
    refine g_iconst X 0 dX6_peels_16 17 rfl kI_0 ?_
    refine g_put X gC5 0 rfl 21 (by decide) q1363 (fun _ h9 => h9) rfl rfl rfl (Nat.le_of_ble_eq_true rfl) dX6_peels_17 20 rfl ?_
    refine g_iconst X 0 dX6_peels_20 21 rfl kI_0 ?_
    obtain ⟨rfl, rfl, rfl, rfl, rfl, rfl, rfl, rfl, rfl, rfl, rfl, rfl, rfl, rfl, rfl, rfl⟩ := rt16 h
    exact g_zret X dX6_peels_21 (by decide) () rfl rfl (Nat.le_of_ble_eq_true rfl) (Nat.le_of_ble_eq_true rfl)
/-! LineEchoesModel.peelAll()V -/
abbrev rm_X6_peelAll : Room := { frames := 6, cells := 0, slots := 0, locals := 142 }
def B_X6_peelAll_55 (K55 : (Int32) → (Int32) → (Int64) → (Int64) → (Int32) → (Int32) → (Int32) → (Int64) → (Int32) → (Int32) → (Int32) → (Nat → Int64) → (Nat → Int32) → (Nat → Int32) → (Nat → Int32) → (Nat → Int64) → (Nat → Int64) → (Nat → Int64) → (Nat → Int64) → (Int32) → Option (Int32 × Int32 × Int64 × Int64 × Int32 × Int32 × Int32 × Int64 × Int32 × Int32 × Int32 × (Nat → Int32) × (Nat → Int32) × (Nat → Int32) × (Nat → Int64) × (Nat → Int64) × (Nat → Int64) × (Nat → Int64))) (v_lineParts : Int32) (v_pulseMany : Int32) (v_left : Int64) (v_dropped : Int64) (v_merged : Int32) (v_drops : Int32) (v_contributions : Int32) (v_packet : Int64) (v_peelResult : Int32) (v_peelTime : Int32) (v_peelSum : Int32) (v_m : Nat → Int64) (v_lengths : Nat → Int32) (v_fractions : Nat → Int32) (v_times : Nat → Int32) (v_energies : Nat → Int64) (v_far : Nat → Int64) (v_near : Nat → Int64) (v_echoes : Nat → Int64) (x1 : Int32) : Option (Int32 × Int32 × Int64 × Int64 × Int32 × Int32 × Int32 × Int64 × Int32 × Int32 × Int32 × (Nat → Int32) × (Nat → Int32) × (Nat → Int32) × (Nat → Int64) × (Nat → Int64) × (Nat → Int64) × (Nat → Int64)) :=
  if x1 = 0 then
    (some (v_lineParts, v_pulseMany, v_left, v_dropped, v_merged, v_drops, v_contributions, v_packet, v_peelResult, v_peelTime, v_peelSum, v_lengths, v_fractions, v_times, v_energies, v_far, v_near, v_echoes))
  else
    (bd16 (F_X6_peels v_lineParts v_pulseMany v_left v_dropped v_merged v_drops v_contributions v_packet v_peelSum v_m v_lengths v_fractions v_times v_energies v_far v_near v_echoes) fun r1 w2_lineParts w3_left w4_dropped w5_merged w6_drops w7_contributions w8_packet w9_peelResult w10_peelTime w11_peelSum w12_lengths w13_fractions w14_far w15_near w16_echoes =>
    K55 w2_lineParts v_pulseMany w3_left w4_dropped w5_merged w6_drops w7_contributions w8_packet w9_peelResult w10_peelTime w11_peelSum v_m w12_lengths w13_fractions v_times v_energies w14_far w15_near w16_echoes r1)
def F_X6_peelAll_55 : Nat → (Int32) → (Int32) → (Int64) → (Int64) → (Int32) → (Int32) → (Int32) → (Int64) → (Int32) → (Int32) → (Int32) → (Nat → Int64) → (Nat → Int32) → (Nat → Int32) → (Nat → Int32) → (Nat → Int64) → (Nat → Int64) → (Nat → Int64) → (Nat → Int64) → (Int32) → Option (Int32 × Int32 × Int64 × Int64 × Int32 × Int32 × Int32 × Int64 × Int32 × Int32 × Int32 × (Nat → Int32) × (Nat → Int32) × (Nat → Int32) × (Nat → Int64) × (Nat → Int64) × (Nat → Int64) × (Nat → Int64))
  | 0 => fun _ _ _ _ _ _ _ _ _ _ _ _ _ _ _ _ _ _ _ _ => none
  | n + 1 => B_X6_peelAll_55 (F_X6_peelAll_55 n)
def F_X6_peelAll (v_peelResult : Int32) (v_peelTime : Int32) (v_m : Nat → Int64) (v_lengths : Nat → Int32) (v_fractions : Nat → Int32) (v_times : Nat → Int32) (v_energies : Nat → Int64) (v_far : Nat → Int64) (v_near : Nat → Int64) (v_echoes : Nat → Int64) : Option (Int32 × Int32 × Int64 × Int64 × Int32 × Int32 × Int32 × Int64 × Int32 × Int32 × Int32 × (Nat → Int32) × (Nat → Int32) × (Nat → Int32) × (Nat → Int64) × (Nat → Int64) × (Nat → Int64) × (Nat → Int64)) :=
  gin 17 431 <|
  nm ((v_m (Int32.toNatClampNeg 17)).toInt32) fun t1 =>
  gin 0 9 <|
  gin 0 4 <|
  gin 22 431 <|
  gin 0 4 <|
  bd9 (F_X6_runLine 0 1 v_m v_lengths (upd v_fractions (Int32.toNatClampNeg 0) t1) (upd v_times (Int32.toNatClampNeg 0) 0) (vp_updL v_energies (Int32.toNatClampNeg 0) (v_m (Int32.toNatClampNeg 22))) v_far v_near v_echoes) fun w2_left w3_dropped w4_merged w5_drops w6_contributions w7_packet w8_far w9_near w10_echoes =>
  F_X6_peelAll_55 gFU 0 1 w2_left w3_dropped w4_merged w5_drops w6_contributions w7_packet v_peelResult v_peelTime 0 v_m v_lengths (upd v_fractions (Int32.toNatClampNeg 0) t1) (upd v_times (Int32.toNatClampNeg 0) 0) (vp_updL v_energies (Int32.toNatClampNeg 0) (v_m (Int32.toNatClampNeg 22))) w8_far w9_near w10_echoes 1
theorem w_X6_peelAll_55 {p : Program} {l : Launch} {e : Env} {s : State} {m : MethodId} {args : Array Value} {below : List Frame} {meth : Method} {c : Code} {Z : gZt} {A : Nat → Prop} (a0 : Nat) (a1 : Nat) (a2 : Nat) (a3 : Nat) (a4 : Nat) (a5 : Nat) (a6 : Nat) (a7 : Nat) (a8 : Nat) (a9 : Nat) (a10 : Nat) (a11 : Nat) (X : gX p s m args meth c Z A cX6_peelAll "LineEchoesModel" 2 none []) (r_lineParts : Int32) (r_pulseMany : Int32) (r_left : Int64) (r_dropped : Int64) (r_merged : Int32) (r_drops : Int32) (r_contributions : Int32) (r_packet : Int64) (r_peelResult : Int32) (r_peelTime : Int32) (r_peelSum : Int32) (r_lengths : Nat → Int32) (r_fractions : Nat → Int32) (r_times : Nat → Int32) (r_energies : Nat → Int64) (r_far : Nat → Int64) (r_near : Nat → Int64) (r_echoes : Nat → Int64)  : ∀ (n : Nat) (v_savedCount : Int32) (v_scriptLength : Int32) (v_code : Int32) (v_lineParts : Int32) (v_pulseMany : Int32) (v_left : Int64) (v_dropped : Int64) (v_merged : Int32) (v_drops : Int32) (v_contributions : Int32) (v_packet : Int64) (v_peelResult : Int32) (v_peelTime : Int32) (v_peelSum : Int32) (v_at : Int32) (v_commands : Int32) (v_hash : Int64) (v_m : Nat → Int64) (v_saved : Nat → Int64) (v_script : Nat → Int32) (v_lengths : Nat → Int32) (v_fractions : Nat → Int32) (v_times : Nat → Int32) (v_energies : Nat → Int64) (v_far : Nat → Int64) (v_near : Nat → Int64) (v_echoes : Nat → Int64) (v_draft : Nat → Int32) (x1 : Int32), F_X6_peelAll_55 n v_lineParts v_pulseMany v_left v_dropped v_merged v_drops v_contributions v_packet v_peelResult v_peelTime v_peelSum v_m v_lengths v_fractions v_times v_energies v_far v_near v_echoes x1 = some (r_lineParts, r_pulseMany, r_left, r_dropped, r_merged, r_drops, r_contributions, r_packet, r_peelResult, r_peelTime, r_peelSum, r_lengths, r_fractions, r_times, r_energies, r_far, r_near, r_echoes) → G p l e rm_X6_peelAll s m args below meth c Z A 2 (MQ below (gPost Z A (fun _ : Unit => (none : Option Value)) (fun _ : Unit => ([(a0, .inr (5, [.ref a1, .ref a2, .int v_savedCount, .ref a3, .int v_scriptLength, .int v_code, .int r_lineParts, .ref a4, .ref a5, .int r_pulseMany, .ref a6, .ref a7, .ref a8, .ref a9, .ref a10, .long r_left, .long r_dropped, .int r_merged, .int r_drops, .int r_contributions, .long r_packet, .int r_peelResult, .int r_peelTime, .int r_peelSum, .int v_at, .int v_commands, .ref a11, .long v_hash])), (a1, .inl (Z.2 1, 431, .inr (.inl v_m))), (a2, .inl (Z.2 1, 1293, .inr (.inl v_saved))), (a3, .inl (Z.2 0, 120, .inl v_script)), (a4, .inl (Z.2 0, 8, .inl r_lengths)), (a5, .inl (Z.2 0, 9, .inl r_fractions)), (a6, .inl (Z.2 0, 4, .inl r_times)), (a7, .inl (Z.2 1, 4, .inr (.inl r_energies))), (a8, .inl (Z.2 1, 1809, .inr (.inl r_far))), (a9, .inl (Z.2 1, 1809, .inr (.inl r_near))), (a10, .inl (Z.2 1, 201, .inr (.inl r_echoes))), (a11, .inl (Z.2 0, 120, .inl v_draft))] : va_W))) args s 0 0 A) [(a0, .inr (5, [.ref a1, .ref a2, .int v_savedCount, .ref a3, .int v_scriptLength, .int v_code, .int v_lineParts, .ref a4, .ref a5, .int v_pulseMany, .ref a6, .ref a7, .ref a8, .ref a9, .ref a10, .long v_left, .long v_dropped, .int v_merged, .int v_drops, .int v_contributions, .long v_packet, .int v_peelResult, .int v_peelTime, .int v_peelSum, .int v_at, .int v_commands, .ref a11, .long v_hash])), (a1, .inl (Z.2 1, 431, .inr (.inl v_m))), (a2, .inl (Z.2 1, 1293, .inr (.inl v_saved))), (a3, .inl (Z.2 0, 120, .inl v_script)), (a4, .inl (Z.2 0, 8, .inl v_lengths)), (a5, .inl (Z.2 0, 9, .inl v_fractions)), (a6, .inl (Z.2 0, 4, .inl v_times)), (a7, .inl (Z.2 1, 4, .inr (.inl v_energies))), (a8, .inl (Z.2 1, 1809, .inr (.inl v_far))), (a9, .inl (Z.2 1, 1809, .inr (.inl v_near))), (a10, .inl (Z.2 1, 201, .inr (.inl v_echoes))), (a11, .inl (Z.2 0, 120, .inl v_draft))] 0 0 55 [some (.ref a0), some (.int x1)] [] := by
  intro n
  induction n with
  | zero =>
    intro v_savedCount v_scriptLength v_code v_lineParts v_pulseMany v_left v_dropped v_merged v_drops v_contributions v_packet v_peelResult v_peelTime v_peelSum v_at v_commands v_hash v_m v_saved v_script v_lengths v_fractions v_times v_energies v_far v_near v_echoes v_draft x1 h
    cases h
  | succ n hK55 =>
    intro v_savedCount v_scriptLength v_code v_lineParts v_pulseMany v_left v_dropped v_merged v_drops v_contributions v_packet v_peelResult v_peelTime v_peelSum v_at v_commands v_hash v_m v_saved v_script v_lengths v_fractions v_times v_energies v_far v_near v_echoes v_draft x1 h
    replace h : B_X6_peelAll_55 (F_X6_peelAll_55 n) v_lineParts v_pulseMany v_left v_dropped v_merged v_drops v_contributions v_packet v_peelResult v_peelTime v_peelSum v_m v_lengths v_fractions v_times v_energies v_far v_near v_echoes x1 = some (r_lineParts, r_pulseMany, r_left, r_dropped, r_merged, r_drops, r_contributions, r_packet, r_peelResult, r_peelTime, r_peelSum, r_lengths, r_fractions, r_times, r_energies, r_far, r_near, r_echoes) := h
    unfold B_X6_peelAll_55 at h
    refine g_iload_n X rfl dX6_peelAll_55 56 rfl ?_
    refine g_if_eq X dX6_peelAll_56 67 (by decide) 59 rfl (fun hc => ?_) (fun hc => ?_)
    · replace h := if_t hc h
      obtain ⟨rfl, rfl, rfl, rfl, rfl, rfl, rfl, rfl, rfl, rfl, rfl, rfl, rfl, rfl, rfl, rfl, rfl, rfl⟩ := rt18 h
      exact g_vret X dX6_peelAll_67 () rfl rfl (Nat.le_of_ble_eq_true rfl) (Nat.le_of_ble_eq_true rfl)
    · replace h := if_f hc h
      refine g_aload_n X rfl dX6_peelAll_59 60 rfl ?_
      obtain ⟨r1, w2_lineParts, w3_left, w4_dropped, w5_merged, w6_drops, w7_contributions, w8_packet, w9_peelResult, w10_peelTime, w11_peelSum, w12_lengths, w13_fractions, w14_far, w15_near, w16_echoes, hcl, h⟩ := bd16_e h
      refine g_callV1W X (met_X6_peels l Z a0 a1 a2 a3 a4 a5 a6 a7 a8 a9 a10 a11 v_savedCount v_scriptLength v_code v_lineParts v_pulseMany v_left v_dropped v_merged v_drops v_contributions v_packet v_peelResult v_peelTime v_peelSum v_at v_commands v_hash v_m v_saved v_script v_lengths v_fractions v_times v_energies v_far v_near v_echoes v_draft  r1 w2_lineParts w3_left w4_dropped w5_merged w6_drops w7_contributions w8_packet w9_peelResult w10_peelTime w11_peelSum w12_lengths w13_fractions w14_far w15_near w16_echoes hcl) rfl 0 gC5 rfl rfl (lw_V q1676 q1678 qs54 q74 q1679) md_X6_peels ⟨(Nat.le_of_ble_eq_true rfl), (Nat.le_of_ble_eq_true rfl)⟩ rfl dX6_peelAll_60 63 rfl 0 0 rfl rfl (Nat.le_of_ble_eq_true rfl) (Nat.le_of_ble_eq_true rfl) (st := []) rfl (Nat.le_of_ble_eq_true rfl) (fun _ => rfl) (fun _ => ?_)
      refine g_istore_n X dX6_peelAll_63 64 rfl (Nat.le_of_ble_eq_true rfl) rfl [some (.ref a0), some (.int r1)] rfl ?_
      refine g_goto X dX6_peelAll_64 55 (by decide) ?_
      exact hK55 v_savedCount v_scriptLength v_code w2_lineParts v_pulseMany w3_left w4_dropped w5_merged w6_drops w7_contributions w8_packet w9_peelResult w10_peelTime w11_peelSum v_at v_commands v_hash v_m v_saved v_script w12_lengths w13_fractions v_times v_energies w14_far w15_near w16_echoes v_draft r1 h
theorem met_X6_peelAll (l : Launch) (Z : gZt) (a0 : Nat) (a1 : Nat) (a2 : Nat) (a3 : Nat) (a4 : Nat) (a5 : Nat) (a6 : Nat) (a7 : Nat) (a8 : Nat) (a9 : Nat) (a10 : Nat) (a11 : Nat) (v_savedCount : Int32) (v_scriptLength : Int32) (v_code : Int32) (v_lineParts : Int32) (v_pulseMany : Int32) (v_left : Int64) (v_dropped : Int64) (v_merged : Int32) (v_drops : Int32) (v_contributions : Int32) (v_packet : Int64) (v_peelResult : Int32) (v_peelTime : Int32) (v_peelSum : Int32) (v_at : Int32) (v_commands : Int32) (v_hash : Int64) (v_m : Nat → Int64) (v_saved : Nat → Int64) (v_script : Nat → Int32) (v_lengths : Nat → Int32) (v_fractions : Nat → Int32) (v_times : Nat → Int32) (v_energies : Nat → Int64) (v_far : Nat → Int64) (v_near : Nat → Int64) (v_echoes : Nat → Int64) (v_draft : Nat → Int32) (r_lineParts : Int32) (r_pulseMany : Int32) (r_left : Int64) (r_dropped : Int64) (r_merged : Int32) (r_drops : Int32) (r_contributions : Int32) (r_packet : Int64) (r_peelResult : Int32) (r_peelTime : Int32) (r_peelSum : Int32) (r_lengths : Nat → Int32) (r_fractions : Nat → Int32) (r_times : Nat → Int32) (r_energies : Nat → Int64) (r_far : Nat → Int64) (r_near : Nat → Int64) (r_echoes : Nat → Int64) (h : F_X6_peelAll v_peelResult v_peelTime v_m v_lengths v_fractions v_times v_energies v_far v_near v_echoes = some (r_lineParts, r_pulseMany, r_left, r_dropped, r_merged, r_drops, r_contributions, r_packet, r_peelResult, r_peelTime, r_peelSum, r_lengths, r_fractions, r_times, r_energies, r_far, r_near, r_echoes)) : Ct l yX6_peelAll (ws_ yX6_peelAll cX6_peelAll 2 none) rm_X6_peelAll Z [.ref a0] [(a0, .inr (5, [.ref a1, .ref a2, .int v_savedCount, .ref a3, .int v_scriptLength, .int v_code, .int v_lineParts, .ref a4, .ref a5, .int v_pulseMany, .ref a6, .ref a7, .ref a8, .ref a9, .ref a10, .long v_left, .long v_dropped, .int v_merged, .int v_drops, .int v_contributions, .long v_packet, .int v_peelResult, .int v_peelTime, .int v_peelSum, .int v_at, .int v_commands, .ref a11, .long v_hash])), (a1, .inl (Z.2 1, 431, .inr (.inl v_m))), (a2, .inl (Z.2 1, 1293, .inr (.inl v_saved))), (a3, .inl (Z.2 0, 120, .inl v_script)), (a4, .inl (Z.2 0, 8, .inl v_lengths)), (a5, .inl (Z.2 0, 9, .inl v_fractions)), (a6, .inl (Z.2 0, 4, .inl v_times)), (a7, .inl (Z.2 1, 4, .inr (.inl v_energies))), (a8, .inl (Z.2 1, 1809, .inr (.inl v_far))), (a9, .inl (Z.2 1, 1809, .inr (.inl v_near))), (a10, .inl (Z.2 1, 201, .inr (.inl v_echoes))), (a11, .inl (Z.2 0, 120, .inl v_draft))] [] (fun _ : Unit => (none : Option Value)) (fun _ : Unit => ([(a0, .inr (5, [.ref a1, .ref a2, .int v_savedCount, .ref a3, .int v_scriptLength, .int v_code, .int r_lineParts, .ref a4, .ref a5, .int r_pulseMany, .ref a6, .ref a7, .ref a8, .ref a9, .ref a10, .long r_left, .long r_dropped, .int r_merged, .int r_drops, .int r_contributions, .long r_packet, .int r_peelResult, .int r_peelTime, .int r_peelSum, .int v_at, .int v_commands, .ref a11, .long v_hash])), (a1, .inl (Z.2 1, 431, .inr (.inl v_m))), (a2, .inl (Z.2 1, 1293, .inr (.inl v_saved))), (a3, .inl (Z.2 0, 120, .inl v_script)), (a4, .inl (Z.2 0, 8, .inl r_lengths)), (a5, .inl (Z.2 0, 9, .inl r_fractions)), (a6, .inl (Z.2 0, 4, .inl r_times)), (a7, .inl (Z.2 1, 4, .inr (.inl r_energies))), (a8, .inl (Z.2 1, 1809, .inr (.inl r_far))), (a9, .inl (Z.2 1, 1809, .inr (.inl r_near))), (a10, .inl (Z.2 1, 201, .inr (.inl r_echoes))), (a11, .inl (Z.2 0, 120, .inl v_draft))] : va_W)) := by
  refine Ct.of cX6_peelAll 2 none "LineEchoesModel" [some (.ref a0), none] 1 (by decide) rfl (Nat.le_of_ble_eq_true rfl) rfl (fun p e s m args below meth c A X hin => ?_)
  unfold F_X6_peelAll at h
  refine g_aload_n X rfl dX6_peelAll_0 1 rfl ?_
  refine g_iconst X 0 dX6_peelAll_1 2 rfl kI_0 ?_
  refine g_put X gC5 0 rfl 6 (by decide) q1348 (fun _ h9 => h9) rfl rfl rfl (Nat.le_of_ble_eq_true rfl) dX6_peelAll_2 5 rfl ?_
  refine g_aload_n X rfl dX6_peelAll_5 6 rfl ?_
  refine g_get X gC5 0 rfl 8 (by decide) q1350 (fun _ h9 => h9) rfl dX6_peelAll_6 9 rfl ?_
  refine g_iconst X 0 dX6_peelAll_9 10 rfl kI_0 ?_
  refine g_aload_n X rfl dX6_peelAll_10 11 rfl ?_
  refine g_get X gC5 0 rfl 0 (by decide) q1342 (fun _ h9 => h9) rfl dX6_peelAll_11 14 rfl ?_
  refine g_bipush X 17 dX6_peelAll_14 16 rfl kB_17 ?_
  obtain ⟨hi, h⟩ := gin_e h
  refine g_lald X 1 rfl hi dX6_peelAll_16 17 rfl ?_
  refine g_l2i X dX6_peelAll_17 18 rfl ?_
  refine g_topi (fun t1 et1 => ?_)
  replace h := nm_at et1 h
  obtain ⟨hi, h⟩ := gin_e h
  refine g_iast X 5 rfl hi dX6_peelAll_18 19 rfl ?_
  refine g_aload_n X rfl dX6_peelAll_19 20 rfl ?_
  refine g_iconst X 1 dX6_peelAll_20 21 rfl kI_1 ?_
  refine g_put X gC5 0 rfl 9 (by decide) q1351 (fun _ h9 => h9) rfl rfl rfl (Nat.le_of_ble_eq_true rfl) dX6_peelAll_21 24 rfl ?_
  refine g_aload_n X rfl dX6_peelAll_24 25 rfl ?_
  refine g_get X gC5 0 rfl 10 (by decide) q1352 (fun _ h9 => h9) rfl dX6_peelAll_25 28 rfl ?_
  refine g_iconst X 0 dX6_peelAll_28 29 rfl kI_0 ?_
  refine g_iconst X 0 dX6_peelAll_29 30 rfl kI_0 ?_
  obtain ⟨hi, h⟩ := gin_e h
  refine g_iast X 6 rfl hi dX6_peelAll_30 31 rfl ?_
  refine g_aload_n X rfl dX6_peelAll_31 32 rfl ?_
  refine g_get X gC5 0 rfl 11 (by decide) q1353 (fun _ h9 => h9) rfl dX6_peelAll_32 35 rfl ?_
  refine g_iconst X 0 dX6_peelAll_35 36 rfl kI_0 ?_
  refine g_aload_n X rfl dX6_peelAll_36 37 rfl ?_
  refine g_get X gC5 0 rfl 0 (by decide) q1342 (fun _ h9 => h9) rfl dX6_peelAll_37 40 rfl ?_
  refine g_bipush X 22 dX6_peelAll_40 42 rfl kB_22 ?_
  obtain ⟨hi, h⟩ := gin_e h
  refine g_lald X 1 rfl hi dX6_peelAll_42 43 rfl ?_
  obtain ⟨hi, h⟩ := gin_e h
  refine g_last X 7 rfl hi dX6_peelAll_43 44 rfl ?_
  refine g_wd [(a0, .inr (5, [.ref a1, .ref a2, .int v_savedCount, .ref a3, .int v_scriptLength, .int v_code, .int 0, .ref a4, .ref a5, .int 1, .ref a6, .ref a7, .ref a8, .ref a9, .ref a10, .long v_left, .long v_dropped, .int v_merged, .int v_drops, .int v_contributions, .long v_packet, .int v_peelResult, .int v_peelTime, .int v_peelSum, .int v_at, .int v_commands, .ref a11, .long v_hash])), (a1, .inl (Z.2 1, 431, .inr (.inl v_m))), (a2, .inl (Z.2 1, 1293, .inr (.inl v_saved))), (a3, .inl (Z.2 0, 120, .inl v_script)), (a4, .inl (Z.2 0, 8, .inl v_lengths)), (a5, .inl (Z.2 0, 9, .inl (upd v_fractions (Int32.toNatClampNeg 0) t1))), (a6, .inl (Z.2 0, 4, .inl (upd v_times (Int32.toNatClampNeg 0) 0))), (a7, .inl (Z.2 1, 4, .inr (.inl (vp_updL v_energies (Int32.toNatClampNeg 0) (v_m (Int32.toNatClampNeg 22)))))), (a8, .inl (Z.2 1, 1809, .inr (.inl v_far))), (a9, .inl (Z.2 1, 1809, .inr (.inl v_near))), (a10, .inl (Z.2 1, 201, .inr (.inl v_echoes))), (a11, .inl (Z.2 0, 120, .inl v_draft))] rfl ?_
  refine g_aload_n X rfl dX6_peelAll_44 45 rfl ?_
  refine g_iconst X 0 dX6_peelAll_45 46 rfl kI_0 ?_
  refine g_put X gC5 0 rfl 23 (by decide) q1365 (fun _ h9 => h9) rfl rfl rfl (Nat.le_of_ble_eq_true rfl) dX6_peelAll_46 49 rfl ?_
  refine g_aload_n X rfl dX6_peelAll_49 50 rfl ?_
  obtain ⟨w2_left, w3_dropped, w4_merged, w5_drops, w6_contributions, w7_packet, w8_far, w9_near, w10_echoes, hcl, h⟩ := bd9_e h
  refine g_callV0W X (met_X6_runLine l Z a0 a1 a2 a3 a4 a5 a6 a7 a8 a9 a10 a11 v_savedCount v_scriptLength v_code 0 1 v_left v_dropped v_merged v_drops v_contributions v_packet v_peelResult v_peelTime 0 v_at v_commands v_hash v_m v_saved v_script v_lengths (upd v_fractions (Int32.toNatClampNeg 0) t1) (upd v_times (Int32.toNatClampNeg 0) 0) (vp_updL v_energies (Int32.toNatClampNeg 0) (v_m (Int32.toNatClampNeg 22))) v_far v_near v_echoes v_draft  w2_left w3_dropped w4_merged w5_drops w6_contributions w7_packet w8_far w9_near w10_echoes hcl) rfl 0 gC5 rfl rfl (lw_V q1566 q1568 qs40 q74 q1569) md_X6_runLine ⟨(Nat.le_of_ble_eq_true rfl), (Nat.le_of_ble_eq_true rfl)⟩ rfl dX6_peelAll_50 53 rfl 0 0 rfl rfl (Nat.le_of_ble_eq_true rfl) (Nat.le_of_ble_eq_true rfl) (st := []) rfl (Nat.le_of_ble_eq_true rfl) (fun _ => rfl) (fun _ => ?_)
  refine g_iconst X 1 dX6_peelAll_53 54 rfl kI_1 ?_
  refine g_istore_n X dX6_peelAll_54 55 rfl (Nat.le_of_ble_eq_true rfl) rfl [some (.ref a0), some (.int 1)] rfl ?_
  exact w_X6_peelAll_55 a0 a1 a2 a3 a4 a5 a6 a7 a8 a9 a10 a11  X  r_lineParts r_pulseMany r_left r_dropped r_merged r_drops r_contributions r_packet r_peelResult r_peelTime r_peelSum r_lengths r_fractions r_times r_energies r_far r_near r_echoes    gFU v_savedCount v_scriptLength v_code 0 1 w2_left w3_dropped w4_merged w5_drops w6_contributions w7_packet v_peelResult v_peelTime 0 v_at v_commands v_hash v_m v_saved v_script v_lengths (upd v_fractions (Int32.toNatClampNeg 0) t1) (upd v_times (Int32.toNatClampNeg 0) 0) (vp_updL v_energies (Int32.toNatClampNeg 0) (v_m (Int32.toNatClampNeg 22))) w8_far w9_near w10_echoes v_draft 1 h
/-! LineEchoesModel.peelOf(I)I -/
abbrev rm_X6_peelOf : Room := { frames := 0, cells := 0, slots := 0, locals := 0 }
def F_X6_peelOf_39 (s0 : Int32) : Option (Int32) :=
  some s0
def F_X6_peelOf (v_lineParts : Int32) (v_peelResult : Int32) (v_peelTime : Int32) (v_peelSum : Int32) (x1 : Int32) : Option (Int32) :=
  if x1 = 0 then
    (F_X6_peelOf_39 v_peelResult)
  else
    (if x1 = 1 then
      (F_X6_peelOf_39 v_peelTime)
    else
      (if x1 = 2 then
        (F_X6_peelOf_39 v_lineParts)
      else
        (F_X6_peelOf_39 v_peelSum)))
theorem w_X6_peelOf_39 {p : Program} {l : Launch} {e : Env} {s : State} {m : MethodId} {args : Array Value} {below : List Frame} {meth : Method} {c : Code} {Z : gZt} {A : Nat → Prop} (a0 : Nat) (a1 : Nat) (a2 : Nat) (a3 : Nat) (a4 : Nat) (a5 : Nat) (a6 : Nat) (a7 : Nat) (a8 : Nat) (a9 : Nat) (a10 : Nat) (a11 : Nat) (X : gX p s m args meth c Z A cX6_peelOf "LineEchoesModel" 2 (some .int) []) (r : Int32)  (v_savedCount : Int32) (v_scriptLength : Int32) (v_code : Int32) (v_lineParts : Int32) (v_pulseMany : Int32) (v_left : Int64) (v_dropped : Int64) (v_merged : Int32) (v_drops : Int32) (v_contributions : Int32) (v_packet : Int64) (v_peelResult : Int32) (v_peelTime : Int32) (v_peelSum : Int32) (v_at : Int32) (v_commands : Int32) (v_hash : Int64) (v_m : Nat → Int64) (v_saved : Nat → Int64) (v_script : Nat → Int32) (v_lengths : Nat → Int32) (v_fractions : Nat → Int32) (v_times : Nat → Int32) (v_energies : Nat → Int64) (v_far : Nat → Int64) (v_near : Nat → Int64) (v_echoes : Nat → Int64) (v_draft : Nat → Int32) (s0 : Int32) (h : F_X6_peelOf_39 s0 = some r) : G p l e rm_X6_peelOf s m args below meth c Z A 2 (MQ below (gPost Z A (fun _ : Unit => (some (.int r) : Option Value)) (fun _ : Unit => ([(a0, .inr (5, [.ref a1, .ref a2, .int v_savedCount, .ref a3, .int v_scriptLength, .int v_code, .int v_lineParts, .ref a4, .ref a5, .int v_pulseMany, .ref a6, .ref a7, .ref a8, .ref a9, .ref a10, .long v_left, .long v_dropped, .int v_merged, .int v_drops, .int v_contributions, .long v_packet, .int v_peelResult, .int v_peelTime, .int v_peelSum, .int v_at, .int v_commands, .ref a11, .long v_hash])), (a1, .inl (Z.2 1, 431, .inr (.inl v_m))), (a2, .inl (Z.2 1, 1293, .inr (.inl v_saved))), (a3, .inl (Z.2 0, 120, .inl v_script)), (a4, .inl (Z.2 0, 8, .inl v_lengths)), (a5, .inl (Z.2 0, 9, .inl v_fractions)), (a6, .inl (Z.2 0, 4, .inl v_times)), (a7, .inl (Z.2 1, 4, .inr (.inl v_energies))), (a8, .inl (Z.2 1, 1809, .inr (.inl v_far))), (a9, .inl (Z.2 1, 1809, .inr (.inl v_near))), (a10, .inl (Z.2 1, 201, .inr (.inl v_echoes))), (a11, .inl (Z.2 0, 120, .inl v_draft))] : va_W))) args s 0 0 A) [(a0, .inr (5, [.ref a1, .ref a2, .int v_savedCount, .ref a3, .int v_scriptLength, .int v_code, .int v_lineParts, .ref a4, .ref a5, .int v_pulseMany, .ref a6, .ref a7, .ref a8, .ref a9, .ref a10, .long v_left, .long v_dropped, .int v_merged, .int v_drops, .int v_contributions, .long v_packet, .int v_peelResult, .int v_peelTime, .int v_peelSum, .int v_at, .int v_commands, .ref a11, .long v_hash])), (a1, .inl (Z.2 1, 431, .inr (.inl v_m))), (a2, .inl (Z.2 1, 1293, .inr (.inl v_saved))), (a3, .inl (Z.2 0, 120, .inl v_script)), (a4, .inl (Z.2 0, 8, .inl v_lengths)), (a5, .inl (Z.2 0, 9, .inl v_fractions)), (a6, .inl (Z.2 0, 4, .inl v_times)), (a7, .inl (Z.2 1, 4, .inr (.inl v_energies))), (a8, .inl (Z.2 1, 1809, .inr (.inl v_far))), (a9, .inl (Z.2 1, 1809, .inr (.inl v_near))), (a10, .inl (Z.2 1, 201, .inr (.inl v_echoes))), (a11, .inl (Z.2 0, 120, .inl v_draft))] 0 0 39 [none, none] [.int s0] := by
  unfold F_X6_peelOf_39 at h
  cases h
  exact g_iret X dX6_peelOf_39 () rfl rfl (Nat.le_of_ble_eq_true rfl) (Nat.le_of_ble_eq_true rfl)
theorem met_X6_peelOf (l : Launch) (Z : gZt) (a0 : Nat) (a1 : Nat) (a2 : Nat) (a3 : Nat) (a4 : Nat) (a5 : Nat) (a6 : Nat) (a7 : Nat) (a8 : Nat) (a9 : Nat) (a10 : Nat) (a11 : Nat) (v_savedCount : Int32) (v_scriptLength : Int32) (v_code : Int32) (v_lineParts : Int32) (v_pulseMany : Int32) (v_left : Int64) (v_dropped : Int64) (v_merged : Int32) (v_drops : Int32) (v_contributions : Int32) (v_packet : Int64) (v_peelResult : Int32) (v_peelTime : Int32) (v_peelSum : Int32) (v_at : Int32) (v_commands : Int32) (v_hash : Int64) (v_m : Nat → Int64) (v_saved : Nat → Int64) (v_script : Nat → Int32) (v_lengths : Nat → Int32) (v_fractions : Nat → Int32) (v_times : Nat → Int32) (v_energies : Nat → Int64) (v_far : Nat → Int64) (v_near : Nat → Int64) (v_echoes : Nat → Int64) (v_draft : Nat → Int32) (x1 : Int32) (r : Int32) (h : F_X6_peelOf v_lineParts v_peelResult v_peelTime v_peelSum x1 = some r) : Ct l yX6_peelOf (ws_ yX6_peelOf cX6_peelOf 2 (some .int)) rm_X6_peelOf Z [.ref a0, .int x1] [(a0, .inr (5, [.ref a1, .ref a2, .int v_savedCount, .ref a3, .int v_scriptLength, .int v_code, .int v_lineParts, .ref a4, .ref a5, .int v_pulseMany, .ref a6, .ref a7, .ref a8, .ref a9, .ref a10, .long v_left, .long v_dropped, .int v_merged, .int v_drops, .int v_contributions, .long v_packet, .int v_peelResult, .int v_peelTime, .int v_peelSum, .int v_at, .int v_commands, .ref a11, .long v_hash])), (a1, .inl (Z.2 1, 431, .inr (.inl v_m))), (a2, .inl (Z.2 1, 1293, .inr (.inl v_saved))), (a3, .inl (Z.2 0, 120, .inl v_script)), (a4, .inl (Z.2 0, 8, .inl v_lengths)), (a5, .inl (Z.2 0, 9, .inl v_fractions)), (a6, .inl (Z.2 0, 4, .inl v_times)), (a7, .inl (Z.2 1, 4, .inr (.inl v_energies))), (a8, .inl (Z.2 1, 1809, .inr (.inl v_far))), (a9, .inl (Z.2 1, 1809, .inr (.inl v_near))), (a10, .inl (Z.2 1, 201, .inr (.inl v_echoes))), (a11, .inl (Z.2 0, 120, .inl v_draft))] [] (fun _ : Unit => (some (.int r) : Option Value)) (fun _ : Unit => ([(a0, .inr (5, [.ref a1, .ref a2, .int v_savedCount, .ref a3, .int v_scriptLength, .int v_code, .int v_lineParts, .ref a4, .ref a5, .int v_pulseMany, .ref a6, .ref a7, .ref a8, .ref a9, .ref a10, .long v_left, .long v_dropped, .int v_merged, .int v_drops, .int v_contributions, .long v_packet, .int v_peelResult, .int v_peelTime, .int v_peelSum, .int v_at, .int v_commands, .ref a11, .long v_hash])), (a1, .inl (Z.2 1, 431, .inr (.inl v_m))), (a2, .inl (Z.2 1, 1293, .inr (.inl v_saved))), (a3, .inl (Z.2 0, 120, .inl v_script)), (a4, .inl (Z.2 0, 8, .inl v_lengths)), (a5, .inl (Z.2 0, 9, .inl v_fractions)), (a6, .inl (Z.2 0, 4, .inl v_times)), (a7, .inl (Z.2 1, 4, .inr (.inl v_energies))), (a8, .inl (Z.2 1, 1809, .inr (.inl v_far))), (a9, .inl (Z.2 1, 1809, .inr (.inl v_near))), (a10, .inl (Z.2 1, 201, .inr (.inl v_echoes))), (a11, .inl (Z.2 0, 120, .inl v_draft))] : va_W)) := by
  refine Ct.of cX6_peelOf 2 (some .int) "LineEchoesModel" [some (.ref a0), some (.int x1)] 0 (by decide) rfl (Nat.le_of_ble_eq_true rfl) rfl (fun p e s m args below meth c A X hin => ?_)
  unfold F_X6_peelOf at h
  refine g_iload_n X rfl dX6_peelOf_0 1 rfl ?_
  refine g_if_ne X dX6_peelOf_1 11 (by decide) 4 rfl (fun hc => ?_) (fun hc => ?_)
  · replace h := if_f hc h
    refine g_iload_n X rfl dX6_peelOf_11 12 rfl ?_
    refine g_iconst X 1 dX6_peelOf_12 13 rfl kI_1 ?_
    refine g_icmp_ne X dX6_peelOf_13 23 (by decide) 16 rfl (fun hc => ?_) (fun hc => ?_)
    · replace h := if_f hc h
      refine g_iload_n X rfl dX6_peelOf_23 24 rfl ?_
      refine g_iconst X 2 dX6_peelOf_24 25 rfl kI_2 ?_
      refine g_icmp_ne X dX6_peelOf_25 35 (by decide) 28 rfl (fun hc => ?_) (fun hc => ?_)
      · replace h := if_f hc h
        refine g_aload_n X rfl dX6_peelOf_35 36 rfl ?_
        refine g_get X gC5 0 rfl 23 (by decide) q1365 (fun _ h9 => h9) rfl dX6_peelOf_36 39 rfl ?_
        refine g_kill (j := 0) [none, some (.int x1)] rfl ?_
        refine g_kill (j := 1) [none, none] rfl ?_
        exact w_X6_peelOf_39 a0 a1 a2 a3 a4 a5 a6 a7 a8 a9 a10 a11  X  r    v_savedCount v_scriptLength v_code v_lineParts v_pulseMany v_left v_dropped v_merged v_drops v_contributions v_packet v_peelResult v_peelTime v_peelSum v_at v_commands v_hash v_m v_saved v_script v_lengths v_fractions v_times v_energies v_far v_near v_echoes v_draft v_peelSum h
      · replace h := if_t hc h
        refine g_aload_n X rfl dX6_peelOf_28 29 rfl ?_
        refine g_get X gC5 0 rfl 6 (by decide) q1348 (fun _ h9 => h9) rfl dX6_peelOf_29 32 rfl ?_
        refine g_goto X dX6_peelOf_32 39 (by decide) ?_
        refine g_kill (j := 0) [none, some (.int x1)] rfl ?_
        refine g_kill (j := 1) [none, none] rfl ?_
        exact w_X6_peelOf_39 a0 a1 a2 a3 a4 a5 a6 a7 a8 a9 a10 a11  X  r    v_savedCount v_scriptLength v_code v_lineParts v_pulseMany v_left v_dropped v_merged v_drops v_contributions v_packet v_peelResult v_peelTime v_peelSum v_at v_commands v_hash v_m v_saved v_script v_lengths v_fractions v_times v_energies v_far v_near v_echoes v_draft v_lineParts h
    · replace h := if_t hc h
      refine g_aload_n X rfl dX6_peelOf_16 17 rfl ?_
      refine g_get X gC5 0 rfl 22 (by decide) q1364 (fun _ h9 => h9) rfl dX6_peelOf_17 20 rfl ?_
      refine g_goto X dX6_peelOf_20 39 (by decide) ?_
      refine g_kill (j := 0) [none, some (.int x1)] rfl ?_
      refine g_kill (j := 1) [none, none] rfl ?_
      exact w_X6_peelOf_39 a0 a1 a2 a3 a4 a5 a6 a7 a8 a9 a10 a11  X  r    v_savedCount v_scriptLength v_code v_lineParts v_pulseMany v_left v_dropped v_merged v_drops v_contributions v_packet v_peelResult v_peelTime v_peelSum v_at v_commands v_hash v_m v_saved v_script v_lengths v_fractions v_times v_energies v_far v_near v_echoes v_draft v_peelTime h
  · replace h := if_t hc h
    refine g_aload_n X rfl dX6_peelOf_4 5 rfl ?_
    refine g_get X gC5 0 rfl 21 (by decide) q1363 (fun _ h9 => h9) rfl dX6_peelOf_5 8 rfl ?_
    refine g_goto X dX6_peelOf_8 39 (by decide) ?_
    refine g_kill (j := 0) [none, some (.int x1)] rfl ?_
    refine g_kill (j := 1) [none, none] rfl ?_
    exact w_X6_peelOf_39 a0 a1 a2 a3 a4 a5 a6 a7 a8 a9 a10 a11  X  r    v_savedCount v_scriptLength v_code v_lineParts v_pulseMany v_left v_dropped v_merged v_drops v_contributions v_packet v_peelResult v_peelTime v_peelSum v_at v_commands v_hash v_m v_saved v_script v_lengths v_fractions v_times v_energies v_far v_near v_echoes v_draft v_peelResult h
/-! LineEchoesModel.peel(I)I -/
abbrev rm_X6_peel : Room := { frames := 7, cells := 0, slots := 0, locals := 163 }
def F_X6_peel (v_lineParts : Int32) (v_pulseMany : Int32) (v_left : Int64) (v_dropped : Int64) (v_merged : Int32) (v_drops : Int32) (v_contributions : Int32) (v_packet : Int64) (v_peelResult : Int32) (v_peelTime : Int32) (v_peelSum : Int32) (v_m : Nat → Int64) (v_lengths : Nat → Int32) (v_fractions : Nat → Int32) (v_times : Nat → Int32) (v_energies : Nat → Int64) (v_far : Nat → Int64) (v_near : Nat → Int64) (v_echoes : Nat → Int64) (x1 : Int32) : Option (Int32 × Int32 × Int32 × Int32 × Int64 × Int64 × Int32 × Int32 × Int32 × Int64 × Int32 × Int32 × Int32 × (Nat → Int32) × (Nat → Int32) × (Nat → Int32) × (Nat → Int64) × (Nat → Int64) × (Nat → Int64) × (Nat → Int64)) :=
  bd1 (F_X6_in x1.toInt64 0 3) fun r1 =>
  if (if r1 = 0 then (1 : Int32) else 0) = 0 then
    (bd18 (F_X6_peelAll v_peelResult v_peelTime v_m v_lengths v_fractions v_times v_energies v_far v_near v_echoes) fun w2_lineParts w3_pulseMany w4_left w5_dropped w6_merged w7_drops w8_contributions w9_packet w10_peelResult w11_peelTime w12_peelSum w13_lengths w14_fractions w15_times w16_energies w17_far w18_near w19_echoes =>
    bd1 (F_X6_peelOf w2_lineParts w10_peelResult w11_peelTime w12_peelSum x1) fun r20 =>
    some (r20, (if r1 = 0 then (1 : Int32) else 0), w2_lineParts, w3_pulseMany, w4_left, w5_dropped, w6_merged, w7_drops, w8_contributions, w9_packet, w10_peelResult, w11_peelTime, w12_peelSum, w13_lengths, w14_fractions, w15_times, w16_energies, w17_far, w18_near, w19_echoes))
  else
    (some (0, (if r1 = 0 then (1 : Int32) else 0), v_lineParts, v_pulseMany, v_left, v_dropped, v_merged, v_drops, v_contributions, v_packet, v_peelResult, v_peelTime, v_peelSum, v_lengths, v_fractions, v_times, v_energies, v_far, v_near, v_echoes))
theorem met_X6_peel (l : Launch) (Z : gZt) (a0 : Nat) (a1 : Nat) (a2 : Nat) (a3 : Nat) (a4 : Nat) (a5 : Nat) (a6 : Nat) (a7 : Nat) (a8 : Nat) (a9 : Nat) (a10 : Nat) (a11 : Nat) (v_savedCount : Int32) (v_scriptLength : Int32) (v_code : Int32) (v_lineParts : Int32) (v_pulseMany : Int32) (v_left : Int64) (v_dropped : Int64) (v_merged : Int32) (v_drops : Int32) (v_contributions : Int32) (v_packet : Int64) (v_peelResult : Int32) (v_peelTime : Int32) (v_peelSum : Int32) (v_at : Int32) (v_commands : Int32) (v_hash : Int64) (v_m : Nat → Int64) (v_saved : Nat → Int64) (v_script : Nat → Int32) (v_lengths : Nat → Int32) (v_fractions : Nat → Int32) (v_times : Nat → Int32) (v_energies : Nat → Int64) (v_far : Nat → Int64) (v_near : Nat → Int64) (v_echoes : Nat → Int64) (v_draft : Nat → Int32) (x1 : Int32) (r : Int32) (r_code : Int32) (r_lineParts : Int32) (r_pulseMany : Int32) (r_left : Int64) (r_dropped : Int64) (r_merged : Int32) (r_drops : Int32) (r_contributions : Int32) (r_packet : Int64) (r_peelResult : Int32) (r_peelTime : Int32) (r_peelSum : Int32) (r_lengths : Nat → Int32) (r_fractions : Nat → Int32) (r_times : Nat → Int32) (r_energies : Nat → Int64) (r_far : Nat → Int64) (r_near : Nat → Int64) (r_echoes : Nat → Int64) (h : F_X6_peel v_lineParts v_pulseMany v_left v_dropped v_merged v_drops v_contributions v_packet v_peelResult v_peelTime v_peelSum v_m v_lengths v_fractions v_times v_energies v_far v_near v_echoes x1 = some (r, r_code, r_lineParts, r_pulseMany, r_left, r_dropped, r_merged, r_drops, r_contributions, r_packet, r_peelResult, r_peelTime, r_peelSum, r_lengths, r_fractions, r_times, r_energies, r_far, r_near, r_echoes)) : Ct l yX6_peel (ws_ yX6_peel cX6_peel 2 (some .int)) rm_X6_peel Z [.ref a0, .int x1] [(a0, .inr (5, [.ref a1, .ref a2, .int v_savedCount, .ref a3, .int v_scriptLength, .int v_code, .int v_lineParts, .ref a4, .ref a5, .int v_pulseMany, .ref a6, .ref a7, .ref a8, .ref a9, .ref a10, .long v_left, .long v_dropped, .int v_merged, .int v_drops, .int v_contributions, .long v_packet, .int v_peelResult, .int v_peelTime, .int v_peelSum, .int v_at, .int v_commands, .ref a11, .long v_hash])), (a1, .inl (Z.2 1, 431, .inr (.inl v_m))), (a2, .inl (Z.2 1, 1293, .inr (.inl v_saved))), (a3, .inl (Z.2 0, 120, .inl v_script)), (a4, .inl (Z.2 0, 8, .inl v_lengths)), (a5, .inl (Z.2 0, 9, .inl v_fractions)), (a6, .inl (Z.2 0, 4, .inl v_times)), (a7, .inl (Z.2 1, 4, .inr (.inl v_energies))), (a8, .inl (Z.2 1, 1809, .inr (.inl v_far))), (a9, .inl (Z.2 1, 1809, .inr (.inl v_near))), (a10, .inl (Z.2 1, 201, .inr (.inl v_echoes))), (a11, .inl (Z.2 0, 120, .inl v_draft))] [] (fun _ : Unit => (some (.int r) : Option Value)) (fun _ : Unit => ([(a0, .inr (5, [.ref a1, .ref a2, .int v_savedCount, .ref a3, .int v_scriptLength, .int r_code, .int r_lineParts, .ref a4, .ref a5, .int r_pulseMany, .ref a6, .ref a7, .ref a8, .ref a9, .ref a10, .long r_left, .long r_dropped, .int r_merged, .int r_drops, .int r_contributions, .long r_packet, .int r_peelResult, .int r_peelTime, .int r_peelSum, .int v_at, .int v_commands, .ref a11, .long v_hash])), (a1, .inl (Z.2 1, 431, .inr (.inl v_m))), (a2, .inl (Z.2 1, 1293, .inr (.inl v_saved))), (a3, .inl (Z.2 0, 120, .inl v_script)), (a4, .inl (Z.2 0, 8, .inl r_lengths)), (a5, .inl (Z.2 0, 9, .inl r_fractions)), (a6, .inl (Z.2 0, 4, .inl r_times)), (a7, .inl (Z.2 1, 4, .inr (.inl r_energies))), (a8, .inl (Z.2 1, 1809, .inr (.inl r_far))), (a9, .inl (Z.2 1, 1809, .inr (.inl r_near))), (a10, .inl (Z.2 1, 201, .inr (.inl r_echoes))), (a11, .inl (Z.2 0, 120, .inl v_draft))] : va_W)) := by
  refine Ct.of cX6_peel 2 (some .int) "LineEchoesModel" [some (.ref a0), some (.int x1)] 0 (by decide) rfl (Nat.le_of_ble_eq_true rfl) rfl (fun p e s m args below meth c A X hin => ?_)
  unfold F_X6_peel at h
  refine g_aload_n X rfl dX6_peel_0 1 rfl ?_
  refine g_iload_n X rfl dX6_peel_1 2 rfl ?_
  refine g_i2l X dX6_peel_2 3 rfl ?_
  refine g_lconst X 0 dX6_peel_3 4 rfl rfl ?_
  refine g_ldc2 X q1646 dX6_peel_4 7 rfl ?_
  obtain ⟨r1, hcl, h⟩ := bd1_e h
  refine g_callS1Z X (met_X6_in l Z   x1.toInt64 0 3 r1 hcl) (lw_S q1443 q1444 q74 q1445) md_X6_in ⟨(Nat.le_of_ble_eq_true rfl), (Nat.le_of_ble_eq_true rfl)⟩ rfl dX6_peel_7 10 rfl 0 0 rfl rfl (Nat.le_of_ble_eq_true rfl) (Nat.le_of_ble_eq_true rfl) (st := [.ref a0]) rfl (Nat.le_of_ble_eq_true rfl) (fun _ => rfl) (fun _ => ?_)
  refine g_seli 18 [.ref a0] (b := r1 = 0) 1 0 ?_ (fun hc K => ?_) (fun hc K => ?_)
  · refine g_put X gC5 0 rfl 5 (by decide) q1347 (fun _ h9 => h9) rfl rfl rfl (Nat.le_of_ble_eq_true rfl) dX6_peel_18 21 rfl ?_
    refine g_aload_n X rfl dX6_peel_21 22 rfl ?_
    refine g_get X gC5 0 rfl 5 (by decide) q1347 (fun _ h9 => h9) rfl dX6_peel_22 25 rfl ?_
    refine g_if_eq X dX6_peel_25 30 (by decide) 28 rfl (fun hc => ?_) (fun hc => ?_)
    · replace h := if_t hc h
      refine g_aload_n X rfl dX6_peel_30 31 rfl ?_
      obtain ⟨w2_lineParts, w3_pulseMany, w4_left, w5_dropped, w6_merged, w7_drops, w8_contributions, w9_packet, w10_peelResult, w11_peelTime, w12_peelSum, w13_lengths, w14_fractions, w15_times, w16_energies, w17_far, w18_near, w19_echoes, hcl, h⟩ := bd18_e h
      refine g_callV0W X (met_X6_peelAll l Z a0 a1 a2 a3 a4 a5 a6 a7 a8 a9 a10 a11 v_savedCount v_scriptLength (if r1 = 0 then (1 : Int32) else 0) v_lineParts v_pulseMany v_left v_dropped v_merged v_drops v_contributions v_packet v_peelResult v_peelTime v_peelSum v_at v_commands v_hash v_m v_saved v_script v_lengths v_fractions v_times v_energies v_far v_near v_echoes v_draft  w2_lineParts w3_pulseMany w4_left w5_dropped w6_merged w7_drops w8_contributions w9_packet w10_peelResult w11_peelTime w12_peelSum w13_lengths w14_fractions w15_times w16_energies w17_far w18_near w19_echoes hcl) rfl 0 gC5 rfl rfl (lw_V q1672 q1674 qs53 q74 q1675) md_X6_peelAll ⟨(Nat.le_of_ble_eq_true rfl), (Nat.le_of_ble_eq_true rfl)⟩ rfl dX6_peel_31 34 rfl 0 0 rfl rfl (Nat.le_of_ble_eq_true rfl) (Nat.le_of_ble_eq_true rfl) (st := []) rfl (Nat.le_of_ble_eq_true rfl) (fun _ => rfl) (fun _ => ?_)
      refine g_aload_n X rfl dX6_peel_34 35 rfl ?_
      refine g_iload_n X rfl dX6_peel_35 36 rfl ?_
      obtain ⟨r20, hcl, h⟩ := bd1_e h
      refine g_callV1W X (met_X6_peelOf l Z a0 a1 a2 a3 a4 a5 a6 a7 a8 a9 a10 a11 v_savedCount v_scriptLength (if r1 = 0 then (1 : Int32) else 0) w2_lineParts w3_pulseMany w4_left w5_dropped w6_merged w7_drops w8_contributions w9_packet w10_peelResult w11_peelTime w12_peelSum v_at v_commands v_hash v_m v_saved v_script w13_lengths w14_fractions w15_times w16_energies w17_far w18_near w19_echoes v_draft x1 r20 hcl) rfl 0 gC5 rfl rfl (lw_V q1688 q1690 qs57 q74 q1691) md_X6_peelOf ⟨(Nat.le_of_ble_eq_true rfl), (Nat.le_of_ble_eq_true rfl)⟩ rfl dX6_peel_36 39 rfl 0 0 rfl rfl (Nat.le_of_ble_eq_true rfl) (Nat.le_of_ble_eq_true rfl) (st := []) rfl (Nat.le_of_ble_eq_true rfl) (fun _ => rfl) (fun _ => ?_)
      obtain ⟨rfl, rfl, rfl, rfl, rfl, rfl, rfl, rfl, rfl, rfl, rfl, rfl, rfl, rfl, rfl, rfl, rfl, rfl, rfl, rfl⟩ := rt20 h
      exact g_iret X dX6_peel_39 () rfl rfl (Nat.le_of_ble_eq_true rfl) (Nat.le_of_ble_eq_true rfl)
    · replace h := if_f hc h
      refine g_iconst X 0 dX6_peel_28 29 rfl kI_0 ?_
      obtain ⟨rfl, rfl, rfl, rfl, rfl, rfl, rfl, rfl, rfl, rfl, rfl, rfl, rfl, rfl, rfl, rfl, rfl, rfl, rfl, rfl⟩ := rt20 h
      exact g_iret X dX6_peel_29 () rfl rfl (Nat.le_of_ble_eq_true rfl) (Nat.le_of_ble_eq_true rfl)
  · refine g_if_eq X dX6_peel_10 17 (by decide) 13 rfl (fun _ => ?_) (fun hn => absurd hc hn)
    refine g_iconst X 1 dX6_peel_17 18 rfl kI_1 ?_
    exact K
  · refine g_if_eq X dX6_peel_10 17 (by decide) 13 rfl (fun hn => absurd hn hc) (fun _ => ?_)
    refine g_iconst X 0 dX6_peel_13 14 rfl kI_0 ?_
    refine g_goto X dX6_peel_14 18 (by decide) ?_
    exact K
/-! LineEchoesModel.found(II)I -/
abbrev rm_X6_found : Room := { frames := 7, cells := 0, slots := 0, locals := 163 }
def F_X6_found_67 (v_code : Int32) (v_lineParts : Int32) (v_pulseMany : Int32) (v_left : Int64) (v_dropped : Int64) (v_merged : Int32) (v_drops : Int32) (v_contributions : Int32) (v_packet : Int64) (v_peelResult : Int32) (v_peelTime : Int32) (v_peelSum : Int32) (v_lengths : Nat → Int32) (v_fractions : Nat → Int32) (v_times : Nat → Int32) (v_energies : Nat → Int64) (v_far : Nat → Int64) (v_near : Nat → Int64) (v_echoes : Nat → Int64) (s0 : Int32) : Option (Int32 × Int32 × Int32 × Int32 × Int64 × Int64 × Int32 × Int32 × Int32 × Int64 × Int32 × Int32 × Int32 × (Nat → Int32) × (Nat → Int32) × (Nat → Int32) × (Nat → Int64) × (Nat → Int64) × (Nat → Int64) × (Nat → Int64)) :=
  some (s0, v_code, v_lineParts, v_pulseMany, v_left, v_dropped, v_merged, v_drops, v_contributions, v_packet, v_peelResult, v_peelTime, v_peelSum, v_lengths, v_fractions, v_times, v_energies, v_far, v_near, v_echoes)
def F_X6_found_20 (v_lineParts : Int32) (v_pulseMany : Int32) (v_left : Int64) (v_dropped : Int64) (v_merged : Int32) (v_drops : Int32) (v_contributions : Int32) (v_packet : Int64) (v_peelResult : Int32) (v_peelTime : Int32) (v_peelSum : Int32) (v_m : Nat → Int64) (v_lengths : Nat → Int32) (v_fractions : Nat → Int32) (v_times : Nat → Int32) (v_energies : Nat → Int64) (v_far : Nat → Int64) (v_near : Nat → Int64) (v_echoes : Nat → Int64) (x1 : Int32) (x2 : Int32) (s1 : Int32) : Option (Int32 × Int32 × Int32 × Int32 × Int64 × Int64 × Int32 × Int32 × Int32 × Int64 × Int32 × Int32 × Int32 × (Nat → Int32) × (Nat → Int32) × (Nat → Int32) × (Nat → Int64) × (Nat → Int64) × (Nat → Int64) × (Nat → Int64)) :=
  if s1 = 0 then
    (bd18 (F_X6_peelAll v_peelResult v_peelTime v_m v_lengths v_fractions v_times v_energies v_far v_near v_echoes) fun w1_lineParts w2_pulseMany w3_left w4_dropped w5_merged w6_drops w7_contributions w8_packet w9_peelResult w10_peelTime w11_peelSum w12_lengths w13_fractions w14_times w15_energies w16_far w17_near w18_echoes =>
    if x1 < w1_lineParts then
      (if x2 = 0 then
        (gin x1 8 <|
        F_X6_found_67 s1 w1_lineParts w2_pulseMany w3_left w4_dropped w5_merged w6_drops w7_contributions w8_packet w9_peelResult w10_peelTime w11_peelSum w12_lengths w13_fractions w14_times w15_energies w16_far w17_near w18_echoes (w12_lengths x1.toNatClampNeg))
      else
        (gin (x1 + 1) 9 <|
        F_X6_found_67 s1 w1_lineParts w2_pulseMany w3_left w4_dropped w5_merged w6_drops w7_contributions w8_packet w9_peelResult w10_peelTime w11_peelSum w12_lengths w13_fractions w14_times w15_energies w16_far w17_near w18_echoes (w13_fractions (x1 + 1).toNatClampNeg)))
    else
      (some ((-1), s1, w1_lineParts, w2_pulseMany, w3_left, w4_dropped, w5_merged, w6_drops, w7_contributions, w8_packet, w9_peelResult, w10_peelTime, w11_peelSum, w12_lengths, w13_fractions, w14_times, w15_energies, w16_far, w17_near, w18_echoes)))
  else
    (some (0, s1, v_lineParts, v_pulseMany, v_left, v_dropped, v_merged, v_drops, v_contributions, v_packet, v_peelResult, v_peelTime, v_peelSum, v_lengths, v_fractions, v_times, v_energies, v_far, v_near, v_echoes))
def F_X6_found_19 (v_lineParts : Int32) (v_pulseMany : Int32) (v_left : Int64) (v_dropped : Int64) (v_merged : Int32) (v_drops : Int32) (v_contributions : Int32) (v_packet : Int64) (v_peelResult : Int32) (v_peelTime : Int32) (v_peelSum : Int32) (v_m : Nat → Int64) (v_lengths : Nat → Int32) (v_fractions : Nat → Int32) (v_times : Nat → Int32) (v_energies : Nat → Int64) (v_far : Nat → Int64) (v_near : Nat → Int64) (v_echoes : Nat → Int64) (x1 : Int32) (x2 : Int32) : Option (Int32 × Int32 × Int32 × Int32 × Int64 × Int64 × Int32 × Int32 × Int32 × Int64 × Int32 × Int32 × Int32 × (Nat → Int32) × (Nat → Int32) × (Nat → Int32) × (Nat → Int64) × (Nat → Int64) × (Nat → Int64) × (Nat → Int64)) :=
  F_X6_found_20 v_lineParts v_pulseMany v_left v_dropped v_merged v_drops v_contributions v_packet v_peelResult v_peelTime v_peelSum v_m v_lengths v_fractions v_times v_energies v_far v_near v_echoes x1 x2 1
def F_X6_found (v_lineParts : Int32) (v_pulseMany : Int32) (v_left : Int64) (v_dropped : Int64) (v_merged : Int32) (v_drops : Int32) (v_contributions : Int32) (v_packet : Int64) (v_peelResult : Int32) (v_peelTime : Int32) (v_peelSum : Int32) (v_m : Nat → Int64) (v_lengths : Nat → Int32) (v_fractions : Nat → Int32) (v_times : Nat → Int32) (v_energies : Nat → Int64) (v_far : Nat → Int64) (v_near : Nat → Int64) (v_echoes : Nat → Int64) (x1 : Int32) (x2 : Int32) : Option (Int32 × Int32 × Int32 × Int32 × Int64 × Int64 × Int32 × Int32 × Int32 × Int64 × Int32 × Int32 × Int32 × (Nat → Int32) × (Nat → Int32) × (Nat → Int32) × (Nat → Int64) × (Nat → Int64) × (Nat → Int64) × (Nat → Int64)) :=
  if x1 < 0 then
    (F_X6_found_19 v_lineParts v_pulseMany v_left v_dropped v_merged v_drops v_contributions v_packet v_peelResult v_peelTime v_peelSum v_m v_lengths v_fractions v_times v_energies v_far v_near v_echoes x1 x2)
  else
    (bd1 (F_X6_in x2.toInt64 0 1) fun r1 =>
    if r1 = 0 then
      (F_X6_found_19 v_lineParts v_pulseMany v_left v_dropped v_merged v_drops v_contributions v_packet v_peelResult v_peelTime v_peelSum v_m v_lengths v_fractions v_times v_energies v_far v_near v_echoes x1 x2)
    else
      (F_X6_found_20 v_lineParts v_pulseMany v_left v_dropped v_merged v_drops v_contributions v_packet v_peelResult v_peelTime v_peelSum v_m v_lengths v_fractions v_times v_energies v_far v_near v_echoes x1 x2 0))
theorem w_X6_found_67 {p : Program} {l : Launch} {e : Env} {s : State} {m : MethodId} {args : Array Value} {below : List Frame} {meth : Method} {c : Code} {Z : gZt} {A : Nat → Prop} (a0 : Nat) (a1 : Nat) (a2 : Nat) (a3 : Nat) (a4 : Nat) (a5 : Nat) (a6 : Nat) (a7 : Nat) (a8 : Nat) (a9 : Nat) (a10 : Nat) (a11 : Nat) (X : gX p s m args meth c Z A cX6_found "LineEchoesModel" 3 (some .int) []) (r : Int32) (r_code : Int32) (r_lineParts : Int32) (r_pulseMany : Int32) (r_left : Int64) (r_dropped : Int64) (r_merged : Int32) (r_drops : Int32) (r_contributions : Int32) (r_packet : Int64) (r_peelResult : Int32) (r_peelTime : Int32) (r_peelSum : Int32) (r_lengths : Nat → Int32) (r_fractions : Nat → Int32) (r_times : Nat → Int32) (r_energies : Nat → Int64) (r_far : Nat → Int64) (r_near : Nat → Int64) (r_echoes : Nat → Int64)  (v_savedCount : Int32) (v_scriptLength : Int32) (v_code : Int32) (v_lineParts : Int32) (v_pulseMany : Int32) (v_left : Int64) (v_dropped : Int64) (v_merged : Int32) (v_drops : Int32) (v_contributions : Int32) (v_packet : Int64) (v_peelResult : Int32) (v_peelTime : Int32) (v_peelSum : Int32) (v_at : Int32) (v_commands : Int32) (v_hash : Int64) (v_m : Nat → Int64) (v_saved : Nat → Int64) (v_script : Nat → Int32) (v_lengths : Nat → Int32) (v_fractions : Nat → Int32) (v_times : Nat → Int32) (v_energies : Nat → Int64) (v_far : Nat → Int64) (v_near : Nat → Int64) (v_echoes : Nat → Int64) (v_draft : Nat → Int32) (s0 : Int32) (h : F_X6_found_67 v_code v_lineParts v_pulseMany v_left v_dropped v_merged v_drops v_contributions v_packet v_peelResult v_peelTime v_peelSum v_lengths v_fractions v_times v_energies v_far v_near v_echoes s0 = some (r, r_code, r_lineParts, r_pulseMany, r_left, r_dropped, r_merged, r_drops, r_contributions, r_packet, r_peelResult, r_peelTime, r_peelSum, r_lengths, r_fractions, r_times, r_energies, r_far, r_near, r_echoes)) : G p l e rm_X6_found s m args below meth c Z A 3 (MQ below (gPost Z A (fun _ : Unit => (some (.int r) : Option Value)) (fun _ : Unit => ([(a0, .inr (5, [.ref a1, .ref a2, .int v_savedCount, .ref a3, .int v_scriptLength, .int r_code, .int r_lineParts, .ref a4, .ref a5, .int r_pulseMany, .ref a6, .ref a7, .ref a8, .ref a9, .ref a10, .long r_left, .long r_dropped, .int r_merged, .int r_drops, .int r_contributions, .long r_packet, .int r_peelResult, .int r_peelTime, .int r_peelSum, .int v_at, .int v_commands, .ref a11, .long v_hash])), (a1, .inl (Z.2 1, 431, .inr (.inl v_m))), (a2, .inl (Z.2 1, 1293, .inr (.inl v_saved))), (a3, .inl (Z.2 0, 120, .inl v_script)), (a4, .inl (Z.2 0, 8, .inl r_lengths)), (a5, .inl (Z.2 0, 9, .inl r_fractions)), (a6, .inl (Z.2 0, 4, .inl r_times)), (a7, .inl (Z.2 1, 4, .inr (.inl r_energies))), (a8, .inl (Z.2 1, 1809, .inr (.inl r_far))), (a9, .inl (Z.2 1, 1809, .inr (.inl r_near))), (a10, .inl (Z.2 1, 201, .inr (.inl r_echoes))), (a11, .inl (Z.2 0, 120, .inl v_draft))] : va_W))) args s 0 0 A) [(a0, .inr (5, [.ref a1, .ref a2, .int v_savedCount, .ref a3, .int v_scriptLength, .int v_code, .int v_lineParts, .ref a4, .ref a5, .int v_pulseMany, .ref a6, .ref a7, .ref a8, .ref a9, .ref a10, .long v_left, .long v_dropped, .int v_merged, .int v_drops, .int v_contributions, .long v_packet, .int v_peelResult, .int v_peelTime, .int v_peelSum, .int v_at, .int v_commands, .ref a11, .long v_hash])), (a1, .inl (Z.2 1, 431, .inr (.inl v_m))), (a2, .inl (Z.2 1, 1293, .inr (.inl v_saved))), (a3, .inl (Z.2 0, 120, .inl v_script)), (a4, .inl (Z.2 0, 8, .inl v_lengths)), (a5, .inl (Z.2 0, 9, .inl v_fractions)), (a6, .inl (Z.2 0, 4, .inl v_times)), (a7, .inl (Z.2 1, 4, .inr (.inl v_energies))), (a8, .inl (Z.2 1, 1809, .inr (.inl v_far))), (a9, .inl (Z.2 1, 1809, .inr (.inl v_near))), (a10, .inl (Z.2 1, 201, .inr (.inl v_echoes))), (a11, .inl (Z.2 0, 120, .inl v_draft))] 0 0 67 [none, none, none] [.int s0] := by
  unfold F_X6_found_67 at h
  obtain ⟨rfl, rfl, rfl, rfl, rfl, rfl, rfl, rfl, rfl, rfl, rfl, rfl, rfl, rfl, rfl, rfl, rfl, rfl, rfl, rfl⟩ := rt20 h
  exact g_iret X dX6_found_67 () rfl rfl (Nat.le_of_ble_eq_true rfl) (Nat.le_of_ble_eq_true rfl)
theorem w_X6_found_20 {p : Program} {l : Launch} {e : Env} {s : State} {m : MethodId} {args : Array Value} {below : List Frame} {meth : Method} {c : Code} {Z : gZt} {A : Nat → Prop} (a0 : Nat) (a1 : Nat) (a2 : Nat) (a3 : Nat) (a4 : Nat) (a5 : Nat) (a6 : Nat) (a7 : Nat) (a8 : Nat) (a9 : Nat) (a10 : Nat) (a11 : Nat) (X : gX p s m args meth c Z A cX6_found "LineEchoesModel" 3 (some .int) []) (r : Int32) (r_code : Int32) (r_lineParts : Int32) (r_pulseMany : Int32) (r_left : Int64) (r_dropped : Int64) (r_merged : Int32) (r_drops : Int32) (r_contributions : Int32) (r_packet : Int64) (r_peelResult : Int32) (r_peelTime : Int32) (r_peelSum : Int32) (r_lengths : Nat → Int32) (r_fractions : Nat → Int32) (r_times : Nat → Int32) (r_energies : Nat → Int64) (r_far : Nat → Int64) (r_near : Nat → Int64) (r_echoes : Nat → Int64)  (v_savedCount : Int32) (v_scriptLength : Int32) (v_code : Int32) (v_lineParts : Int32) (v_pulseMany : Int32) (v_left : Int64) (v_dropped : Int64) (v_merged : Int32) (v_drops : Int32) (v_contributions : Int32) (v_packet : Int64) (v_peelResult : Int32) (v_peelTime : Int32) (v_peelSum : Int32) (v_at : Int32) (v_commands : Int32) (v_hash : Int64) (v_m : Nat → Int64) (v_saved : Nat → Int64) (v_script : Nat → Int32) (v_lengths : Nat → Int32) (v_fractions : Nat → Int32) (v_times : Nat → Int32) (v_energies : Nat → Int64) (v_far : Nat → Int64) (v_near : Nat → Int64) (v_echoes : Nat → Int64) (v_draft : Nat → Int32) (x1 : Int32) (x2 : Int32) (s1 : Int32) (h : F_X6_found_20 v_lineParts v_pulseMany v_left v_dropped v_merged v_drops v_contributions v_packet v_peelResult v_peelTime v_peelSum v_m v_lengths v_fractions v_times v_energies v_far v_near v_echoes x1 x2 s1 = some (r, r_code, r_lineParts, r_pulseMany, r_left, r_dropped, r_merged, r_drops, r_contributions, r_packet, r_peelResult, r_peelTime, r_peelSum, r_lengths, r_fractions, r_times, r_energies, r_far, r_near, r_echoes)) : G p l e rm_X6_found s m args below meth c Z A 3 (MQ below (gPost Z A (fun _ : Unit => (some (.int r) : Option Value)) (fun _ : Unit => ([(a0, .inr (5, [.ref a1, .ref a2, .int v_savedCount, .ref a3, .int v_scriptLength, .int r_code, .int r_lineParts, .ref a4, .ref a5, .int r_pulseMany, .ref a6, .ref a7, .ref a8, .ref a9, .ref a10, .long r_left, .long r_dropped, .int r_merged, .int r_drops, .int r_contributions, .long r_packet, .int r_peelResult, .int r_peelTime, .int r_peelSum, .int v_at, .int v_commands, .ref a11, .long v_hash])), (a1, .inl (Z.2 1, 431, .inr (.inl v_m))), (a2, .inl (Z.2 1, 1293, .inr (.inl v_saved))), (a3, .inl (Z.2 0, 120, .inl v_script)), (a4, .inl (Z.2 0, 8, .inl r_lengths)), (a5, .inl (Z.2 0, 9, .inl r_fractions)), (a6, .inl (Z.2 0, 4, .inl r_times)), (a7, .inl (Z.2 1, 4, .inr (.inl r_energies))), (a8, .inl (Z.2 1, 1809, .inr (.inl r_far))), (a9, .inl (Z.2 1, 1809, .inr (.inl r_near))), (a10, .inl (Z.2 1, 201, .inr (.inl r_echoes))), (a11, .inl (Z.2 0, 120, .inl v_draft))] : va_W))) args s 0 0 A) [(a0, .inr (5, [.ref a1, .ref a2, .int v_savedCount, .ref a3, .int v_scriptLength, .int v_code, .int v_lineParts, .ref a4, .ref a5, .int v_pulseMany, .ref a6, .ref a7, .ref a8, .ref a9, .ref a10, .long v_left, .long v_dropped, .int v_merged, .int v_drops, .int v_contributions, .long v_packet, .int v_peelResult, .int v_peelTime, .int v_peelSum, .int v_at, .int v_commands, .ref a11, .long v_hash])), (a1, .inl (Z.2 1, 431, .inr (.inl v_m))), (a2, .inl (Z.2 1, 1293, .inr (.inl v_saved))), (a3, .inl (Z.2 0, 120, .inl v_script)), (a4, .inl (Z.2 0, 8, .inl v_lengths)), (a5, .inl (Z.2 0, 9, .inl v_fractions)), (a6, .inl (Z.2 0, 4, .inl v_times)), (a7, .inl (Z.2 1, 4, .inr (.inl v_energies))), (a8, .inl (Z.2 1, 1809, .inr (.inl v_far))), (a9, .inl (Z.2 1, 1809, .inr (.inl v_near))), (a10, .inl (Z.2 1, 201, .inr (.inl v_echoes))), (a11, .inl (Z.2 0, 120, .inl v_draft))] 0 0 20 [some (.ref a0), some (.int x1), some (.int x2)] [.int s1, .ref a0] := by
  unfold F_X6_found_20 at h
  refine g_put X gC5 0 rfl 5 (by decide) q1347 (fun _ h9 => h9) rfl rfl rfl (Nat.le_of_ble_eq_true rfl) dX6_found_20 23 rfl ?_
  refine g_aload_n X rfl dX6_found_23 24 rfl ?_
  refine g_get X gC5 0 rfl 5 (by decide) q1347 (fun _ h9 => h9) rfl dX6_found_24 27 rfl ?_
  refine g_if_eq X dX6_found_27 32 (by decide) 30 rfl (fun hc => ?_) (fun hc => ?_)
  · replace h := if_t hc h
    refine g_aload_n X rfl dX6_found_32 33 rfl ?_
    obtain ⟨w1_lineParts, w2_pulseMany, w3_left, w4_dropped, w5_merged, w6_drops, w7_contributions, w8_packet, w9_peelResult, w10_peelTime, w11_peelSum, w12_lengths, w13_fractions, w14_times, w15_energies, w16_far, w17_near, w18_echoes, hcl, h⟩ := bd18_e h
    refine g_callV0W X (met_X6_peelAll l Z a0 a1 a2 a3 a4 a5 a6 a7 a8 a9 a10 a11 v_savedCount v_scriptLength s1 v_lineParts v_pulseMany v_left v_dropped v_merged v_drops v_contributions v_packet v_peelResult v_peelTime v_peelSum v_at v_commands v_hash v_m v_saved v_script v_lengths v_fractions v_times v_energies v_far v_near v_echoes v_draft  w1_lineParts w2_pulseMany w3_left w4_dropped w5_merged w6_drops w7_contributions w8_packet w9_peelResult w10_peelTime w11_peelSum w12_lengths w13_fractions w14_times w15_energies w16_far w17_near w18_echoes hcl) rfl 0 gC5 rfl rfl (lw_V q1672 q1674 qs53 q74 q1675) md_X6_peelAll ⟨(Nat.le_of_ble_eq_true rfl), (Nat.le_of_ble_eq_true rfl)⟩ rfl dX6_found_33 36 rfl 0 0 rfl rfl (Nat.le_of_ble_eq_true rfl) (Nat.le_of_ble_eq_true rfl) (st := []) rfl (Nat.le_of_ble_eq_true rfl) (fun _ => rfl) (fun _ => ?_)
    refine g_iload_n X rfl dX6_found_36 37 rfl ?_
    refine g_aload_n X rfl dX6_found_37 38 rfl ?_
    refine g_get X gC5 0 rfl 6 (by decide) q1348 (fun _ h9 => h9) rfl dX6_found_38 41 rfl ?_
    refine g_icmp_lt X dX6_found_41 46 (by decide) 44 rfl (fun hc => ?_) (fun hc => ?_)
    · replace h := if_t hc h
      refine g_iload_n X rfl dX6_found_46 47 rfl ?_
      refine g_if_ne X dX6_found_47 59 (by decide) 50 rfl (fun hc => ?_) (fun hc => ?_)
      · replace h := if_f hc h
        refine g_aload_n X rfl dX6_found_59 60 rfl ?_
        refine g_get X gC5 0 rfl 8 (by decide) q1350 (fun _ h9 => h9) rfl dX6_found_60 63 rfl ?_
        refine g_iload_n X rfl dX6_found_63 64 rfl ?_
        refine g_iconst X 1 dX6_found_64 65 rfl kI_1 ?_
        refine g_iadd X dX6_found_65 66 rfl ?_
        obtain ⟨hi, h⟩ := gin_e h
        refine g_iald X 5 rfl hi dX6_found_66 67 rfl ?_
        refine g_kill (j := 0) [none, some (.int x1), some (.int x2)] rfl ?_
        refine g_kill (j := 1) [none, none, some (.int x2)] rfl ?_
        refine g_kill (j := 2) [none, none, none] rfl ?_
        exact w_X6_found_67 a0 a1 a2 a3 a4 a5 a6 a7 a8 a9 a10 a11  X  r r_code r_lineParts r_pulseMany r_left r_dropped r_merged r_drops r_contributions r_packet r_peelResult r_peelTime r_peelSum r_lengths r_fractions r_times r_energies r_far r_near r_echoes    v_savedCount v_scriptLength s1 w1_lineParts w2_pulseMany w3_left w4_dropped w5_merged w6_drops w7_contributions w8_packet w9_peelResult w10_peelTime w11_peelSum v_at v_commands v_hash v_m v_saved v_script w12_lengths w13_fractions w14_times w15_energies w16_far w17_near w18_echoes v_draft (w13_fractions (x1 + 1).toNatClampNeg) h
      · replace h := if_t hc h
        refine g_aload_n X rfl dX6_found_50 51 rfl ?_
        refine g_get X gC5 0 rfl 7 (by decide) q1349 (fun _ h9 => h9) rfl dX6_found_51 54 rfl ?_
        refine g_iload_n X rfl dX6_found_54 55 rfl ?_
        obtain ⟨hi, h⟩ := gin_e h
        refine g_iald X 4 rfl hi dX6_found_55 56 rfl ?_
        refine g_goto X dX6_found_56 67 (by decide) ?_
        refine g_kill (j := 0) [none, some (.int x1), some (.int x2)] rfl ?_
        refine g_kill (j := 1) [none, none, some (.int x2)] rfl ?_
        refine g_kill (j := 2) [none, none, none] rfl ?_
        exact w_X6_found_67 a0 a1 a2 a3 a4 a5 a6 a7 a8 a9 a10 a11  X  r r_code r_lineParts r_pulseMany r_left r_dropped r_merged r_drops r_contributions r_packet r_peelResult r_peelTime r_peelSum r_lengths r_fractions r_times r_energies r_far r_near r_echoes    v_savedCount v_scriptLength s1 w1_lineParts w2_pulseMany w3_left w4_dropped w5_merged w6_drops w7_contributions w8_packet w9_peelResult w10_peelTime w11_peelSum v_at v_commands v_hash v_m v_saved v_script w12_lengths w13_fractions w14_times w15_energies w16_far w17_near w18_echoes v_draft (w12_lengths x1.toNatClampNeg) h
    · replace h := if_f hc h
      refine g_iconst X (-1) dX6_found_44 45 rfl kI_m1 ?_
      obtain ⟨rfl, rfl, rfl, rfl, rfl, rfl, rfl, rfl, rfl, rfl, rfl, rfl, rfl, rfl, rfl, rfl, rfl, rfl, rfl, rfl⟩ := rt20 h
      exact g_iret X dX6_found_45 () rfl rfl (Nat.le_of_ble_eq_true rfl) (Nat.le_of_ble_eq_true rfl)
  · replace h := if_f hc h
    refine g_iconst X 0 dX6_found_30 31 rfl kI_0 ?_
    obtain ⟨rfl, rfl, rfl, rfl, rfl, rfl, rfl, rfl, rfl, rfl, rfl, rfl, rfl, rfl, rfl, rfl, rfl, rfl, rfl, rfl⟩ := rt20 h
    exact g_iret X dX6_found_31 () rfl rfl (Nat.le_of_ble_eq_true rfl) (Nat.le_of_ble_eq_true rfl)
theorem w_X6_found_19 {p : Program} {l : Launch} {e : Env} {s : State} {m : MethodId} {args : Array Value} {below : List Frame} {meth : Method} {c : Code} {Z : gZt} {A : Nat → Prop} (a0 : Nat) (a1 : Nat) (a2 : Nat) (a3 : Nat) (a4 : Nat) (a5 : Nat) (a6 : Nat) (a7 : Nat) (a8 : Nat) (a9 : Nat) (a10 : Nat) (a11 : Nat) (X : gX p s m args meth c Z A cX6_found "LineEchoesModel" 3 (some .int) []) (r : Int32) (r_code : Int32) (r_lineParts : Int32) (r_pulseMany : Int32) (r_left : Int64) (r_dropped : Int64) (r_merged : Int32) (r_drops : Int32) (r_contributions : Int32) (r_packet : Int64) (r_peelResult : Int32) (r_peelTime : Int32) (r_peelSum : Int32) (r_lengths : Nat → Int32) (r_fractions : Nat → Int32) (r_times : Nat → Int32) (r_energies : Nat → Int64) (r_far : Nat → Int64) (r_near : Nat → Int64) (r_echoes : Nat → Int64)  (v_savedCount : Int32) (v_scriptLength : Int32) (v_code : Int32) (v_lineParts : Int32) (v_pulseMany : Int32) (v_left : Int64) (v_dropped : Int64) (v_merged : Int32) (v_drops : Int32) (v_contributions : Int32) (v_packet : Int64) (v_peelResult : Int32) (v_peelTime : Int32) (v_peelSum : Int32) (v_at : Int32) (v_commands : Int32) (v_hash : Int64) (v_m : Nat → Int64) (v_saved : Nat → Int64) (v_script : Nat → Int32) (v_lengths : Nat → Int32) (v_fractions : Nat → Int32) (v_times : Nat → Int32) (v_energies : Nat → Int64) (v_far : Nat → Int64) (v_near : Nat → Int64) (v_echoes : Nat → Int64) (v_draft : Nat → Int32) (x1 : Int32) (x2 : Int32) (h : F_X6_found_19 v_lineParts v_pulseMany v_left v_dropped v_merged v_drops v_contributions v_packet v_peelResult v_peelTime v_peelSum v_m v_lengths v_fractions v_times v_energies v_far v_near v_echoes x1 x2 = some (r, r_code, r_lineParts, r_pulseMany, r_left, r_dropped, r_merged, r_drops, r_contributions, r_packet, r_peelResult, r_peelTime, r_peelSum, r_lengths, r_fractions, r_times, r_energies, r_far, r_near, r_echoes)) : G p l e rm_X6_found s m args below meth c Z A 3 (MQ below (gPost Z A (fun _ : Unit => (some (.int r) : Option Value)) (fun _ : Unit => ([(a0, .inr (5, [.ref a1, .ref a2, .int v_savedCount, .ref a3, .int v_scriptLength, .int r_code, .int r_lineParts, .ref a4, .ref a5, .int r_pulseMany, .ref a6, .ref a7, .ref a8, .ref a9, .ref a10, .long r_left, .long r_dropped, .int r_merged, .int r_drops, .int r_contributions, .long r_packet, .int r_peelResult, .int r_peelTime, .int r_peelSum, .int v_at, .int v_commands, .ref a11, .long v_hash])), (a1, .inl (Z.2 1, 431, .inr (.inl v_m))), (a2, .inl (Z.2 1, 1293, .inr (.inl v_saved))), (a3, .inl (Z.2 0, 120, .inl v_script)), (a4, .inl (Z.2 0, 8, .inl r_lengths)), (a5, .inl (Z.2 0, 9, .inl r_fractions)), (a6, .inl (Z.2 0, 4, .inl r_times)), (a7, .inl (Z.2 1, 4, .inr (.inl r_energies))), (a8, .inl (Z.2 1, 1809, .inr (.inl r_far))), (a9, .inl (Z.2 1, 1809, .inr (.inl r_near))), (a10, .inl (Z.2 1, 201, .inr (.inl r_echoes))), (a11, .inl (Z.2 0, 120, .inl v_draft))] : va_W))) args s 0 0 A) [(a0, .inr (5, [.ref a1, .ref a2, .int v_savedCount, .ref a3, .int v_scriptLength, .int v_code, .int v_lineParts, .ref a4, .ref a5, .int v_pulseMany, .ref a6, .ref a7, .ref a8, .ref a9, .ref a10, .long v_left, .long v_dropped, .int v_merged, .int v_drops, .int v_contributions, .long v_packet, .int v_peelResult, .int v_peelTime, .int v_peelSum, .int v_at, .int v_commands, .ref a11, .long v_hash])), (a1, .inl (Z.2 1, 431, .inr (.inl v_m))), (a2, .inl (Z.2 1, 1293, .inr (.inl v_saved))), (a3, .inl (Z.2 0, 120, .inl v_script)), (a4, .inl (Z.2 0, 8, .inl v_lengths)), (a5, .inl (Z.2 0, 9, .inl v_fractions)), (a6, .inl (Z.2 0, 4, .inl v_times)), (a7, .inl (Z.2 1, 4, .inr (.inl v_energies))), (a8, .inl (Z.2 1, 1809, .inr (.inl v_far))), (a9, .inl (Z.2 1, 1809, .inr (.inl v_near))), (a10, .inl (Z.2 1, 201, .inr (.inl v_echoes))), (a11, .inl (Z.2 0, 120, .inl v_draft))] 0 0 19 [some (.ref a0), some (.int x1), some (.int x2)] [.ref a0] := by
  unfold F_X6_found_19 at h
  refine g_iconst X 1 dX6_found_19 20 rfl kI_1 ?_
  exact w_X6_found_20 a0 a1 a2 a3 a4 a5 a6 a7 a8 a9 a10 a11  X  r r_code r_lineParts r_pulseMany r_left r_dropped r_merged r_drops r_contributions r_packet r_peelResult r_peelTime r_peelSum r_lengths r_fractions r_times r_energies r_far r_near r_echoes    v_savedCount v_scriptLength v_code v_lineParts v_pulseMany v_left v_dropped v_merged v_drops v_contributions v_packet v_peelResult v_peelTime v_peelSum v_at v_commands v_hash v_m v_saved v_script v_lengths v_fractions v_times v_energies v_far v_near v_echoes v_draft x1 x2 1 h
theorem met_X6_found (l : Launch) (Z : gZt) (a0 : Nat) (a1 : Nat) (a2 : Nat) (a3 : Nat) (a4 : Nat) (a5 : Nat) (a6 : Nat) (a7 : Nat) (a8 : Nat) (a9 : Nat) (a10 : Nat) (a11 : Nat) (v_savedCount : Int32) (v_scriptLength : Int32) (v_code : Int32) (v_lineParts : Int32) (v_pulseMany : Int32) (v_left : Int64) (v_dropped : Int64) (v_merged : Int32) (v_drops : Int32) (v_contributions : Int32) (v_packet : Int64) (v_peelResult : Int32) (v_peelTime : Int32) (v_peelSum : Int32) (v_at : Int32) (v_commands : Int32) (v_hash : Int64) (v_m : Nat → Int64) (v_saved : Nat → Int64) (v_script : Nat → Int32) (v_lengths : Nat → Int32) (v_fractions : Nat → Int32) (v_times : Nat → Int32) (v_energies : Nat → Int64) (v_far : Nat → Int64) (v_near : Nat → Int64) (v_echoes : Nat → Int64) (v_draft : Nat → Int32) (x1 : Int32) (x2 : Int32) (r : Int32) (r_code : Int32) (r_lineParts : Int32) (r_pulseMany : Int32) (r_left : Int64) (r_dropped : Int64) (r_merged : Int32) (r_drops : Int32) (r_contributions : Int32) (r_packet : Int64) (r_peelResult : Int32) (r_peelTime : Int32) (r_peelSum : Int32) (r_lengths : Nat → Int32) (r_fractions : Nat → Int32) (r_times : Nat → Int32) (r_energies : Nat → Int64) (r_far : Nat → Int64) (r_near : Nat → Int64) (r_echoes : Nat → Int64) (h : F_X6_found v_lineParts v_pulseMany v_left v_dropped v_merged v_drops v_contributions v_packet v_peelResult v_peelTime v_peelSum v_m v_lengths v_fractions v_times v_energies v_far v_near v_echoes x1 x2 = some (r, r_code, r_lineParts, r_pulseMany, r_left, r_dropped, r_merged, r_drops, r_contributions, r_packet, r_peelResult, r_peelTime, r_peelSum, r_lengths, r_fractions, r_times, r_energies, r_far, r_near, r_echoes)) : Ct l yX6_found (ws_ yX6_found cX6_found 3 (some .int)) rm_X6_found Z [.ref a0, .int x1, .int x2] [(a0, .inr (5, [.ref a1, .ref a2, .int v_savedCount, .ref a3, .int v_scriptLength, .int v_code, .int v_lineParts, .ref a4, .ref a5, .int v_pulseMany, .ref a6, .ref a7, .ref a8, .ref a9, .ref a10, .long v_left, .long v_dropped, .int v_merged, .int v_drops, .int v_contributions, .long v_packet, .int v_peelResult, .int v_peelTime, .int v_peelSum, .int v_at, .int v_commands, .ref a11, .long v_hash])), (a1, .inl (Z.2 1, 431, .inr (.inl v_m))), (a2, .inl (Z.2 1, 1293, .inr (.inl v_saved))), (a3, .inl (Z.2 0, 120, .inl v_script)), (a4, .inl (Z.2 0, 8, .inl v_lengths)), (a5, .inl (Z.2 0, 9, .inl v_fractions)), (a6, .inl (Z.2 0, 4, .inl v_times)), (a7, .inl (Z.2 1, 4, .inr (.inl v_energies))), (a8, .inl (Z.2 1, 1809, .inr (.inl v_far))), (a9, .inl (Z.2 1, 1809, .inr (.inl v_near))), (a10, .inl (Z.2 1, 201, .inr (.inl v_echoes))), (a11, .inl (Z.2 0, 120, .inl v_draft))] [] (fun _ : Unit => (some (.int r) : Option Value)) (fun _ : Unit => ([(a0, .inr (5, [.ref a1, .ref a2, .int v_savedCount, .ref a3, .int v_scriptLength, .int r_code, .int r_lineParts, .ref a4, .ref a5, .int r_pulseMany, .ref a6, .ref a7, .ref a8, .ref a9, .ref a10, .long r_left, .long r_dropped, .int r_merged, .int r_drops, .int r_contributions, .long r_packet, .int r_peelResult, .int r_peelTime, .int r_peelSum, .int v_at, .int v_commands, .ref a11, .long v_hash])), (a1, .inl (Z.2 1, 431, .inr (.inl v_m))), (a2, .inl (Z.2 1, 1293, .inr (.inl v_saved))), (a3, .inl (Z.2 0, 120, .inl v_script)), (a4, .inl (Z.2 0, 8, .inl r_lengths)), (a5, .inl (Z.2 0, 9, .inl r_fractions)), (a6, .inl (Z.2 0, 4, .inl r_times)), (a7, .inl (Z.2 1, 4, .inr (.inl r_energies))), (a8, .inl (Z.2 1, 1809, .inr (.inl r_far))), (a9, .inl (Z.2 1, 1809, .inr (.inl r_near))), (a10, .inl (Z.2 1, 201, .inr (.inl r_echoes))), (a11, .inl (Z.2 0, 120, .inl v_draft))] : va_W)) := by
  refine Ct.of cX6_found 3 (some .int) "LineEchoesModel" [some (.ref a0), some (.int x1), some (.int x2)] 0 (by decide) rfl (Nat.le_of_ble_eq_true rfl) rfl (fun p e s m args below meth c A X hin => ?_)
  unfold F_X6_found at h
  refine g_aload_n X rfl dX6_found_0 1 rfl ?_
  refine g_iload_n X rfl dX6_found_1 2 rfl ?_
  refine g_if_lt X dX6_found_2 19 (by decide) 5 rfl (fun hc => ?_) (fun hc => ?_)
  · replace h := if_t hc h
    exact w_X6_found_19 a0 a1 a2 a3 a4 a5 a6 a7 a8 a9 a10 a11  X  r r_code r_lineParts r_pulseMany r_left r_dropped r_merged r_drops r_contributions r_packet r_peelResult r_peelTime r_peelSum r_lengths r_fractions r_times r_energies r_far r_near r_echoes    v_savedCount v_scriptLength v_code v_lineParts v_pulseMany v_left v_dropped v_merged v_drops v_contributions v_packet v_peelResult v_peelTime v_peelSum v_at v_commands v_hash v_m v_saved v_script v_lengths v_fractions v_times v_energies v_far v_near v_echoes v_draft x1 x2 h
  · replace h := if_f hc h
    refine g_iload_n X rfl dX6_found_5 6 rfl ?_
    refine g_i2l X dX6_found_6 7 rfl ?_
    refine g_lconst X 0 dX6_found_7 8 rfl rfl ?_
    refine g_lconst X 1 dX6_found_8 9 rfl rfl ?_
    obtain ⟨r1, hcl, h⟩ := bd1_e h
    refine g_callS1Z X (met_X6_in l Z   x2.toInt64 0 1 r1 hcl) (lw_S q1443 q1444 q74 q1445) md_X6_in ⟨(Nat.le_of_ble_eq_true rfl), (Nat.le_of_ble_eq_true rfl)⟩ rfl dX6_found_9 12 rfl 0 0 rfl rfl (Nat.le_of_ble_eq_true rfl) (Nat.le_of_ble_eq_true rfl) (st := [.ref a0]) rfl (Nat.le_of_ble_eq_true rfl) (fun _ => rfl) (fun _ => ?_)
    refine g_if_eq X dX6_found_12 19 (by decide) 15 rfl (fun hc => ?_) (fun hc => ?_)
    · replace h := if_t hc h
      exact w_X6_found_19 a0 a1 a2 a3 a4 a5 a6 a7 a8 a9 a10 a11  X  r r_code r_lineParts r_pulseMany r_left r_dropped r_merged r_drops r_contributions r_packet r_peelResult r_peelTime r_peelSum r_lengths r_fractions r_times r_energies r_far r_near r_echoes    v_savedCount v_scriptLength v_code v_lineParts v_pulseMany v_left v_dropped v_merged v_drops v_contributions v_packet v_peelResult v_peelTime v_peelSum v_at v_commands v_hash v_m v_saved v_script v_lengths v_fractions v_times v_energies v_far v_near v_echoes v_draft x1 x2 h
    · replace h := if_f hc h
      refine g_iconst X 0 dX6_found_15 16 rfl kI_0 ?_
      refine g_goto X dX6_found_16 20 (by decide) ?_
      exact w_X6_found_20 a0 a1 a2 a3 a4 a5 a6 a7 a8 a9 a10 a11  X  r r_code r_lineParts r_pulseMany r_left r_dropped r_merged r_drops r_contributions r_packet r_peelResult r_peelTime r_peelSum r_lengths r_fractions r_times r_energies r_far r_near r_echoes    v_savedCount v_scriptLength v_code v_lineParts v_pulseMany v_left v_dropped v_merged v_drops v_contributions v_packet v_peelResult v_peelTime v_peelSum v_at v_commands v_hash v_m v_saved v_script v_lengths v_fractions v_times v_energies v_far v_near v_echoes v_draft x1 x2 0 h
