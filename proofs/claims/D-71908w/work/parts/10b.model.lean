/-! THE REFERENCE, walked (printed by gen/model.py) -/
set_option maxRecDepth 100000
/-! LineEchoesModel.addPulse(II)I -/
abbrev rm_X6_addPulse : Room := { frames := 2, cells := 0, slots := 0, locals := 47 }
def F_X6_addPulse (v_savedCount : Int32) (v_m : Nat → Int64) (v_saved : Nat → Int64) (x1 : Int32) (x2 : Int32) : Option (Int32 × Int32 × Int32 × (Nat → Int64) × (Nat → Int64)) :=
  bd1 (F_X6_whyNoPulse v_m x1 x2) fun r1 =>
  if r1 = 0 then
    (bd2 (F_X6_keep v_savedCount v_m v_saved) fun w2_savedCount w3_saved =>
    bd2 (F_X6_addsPulse v_m x1 x2) fun r4 w5_m =>
    some (r4, w2_savedCount, r1, w5_m, w3_saved))
  else
    (some (0, v_savedCount, r1, v_m, v_saved))
theorem met_X6_addPulse (l : Launch) (Z : gZt) (a0 : Nat) (a1 : Nat) (a2 : Nat) (a3 : Nat) (a4 : Nat) (a5 : Nat) (a6 : Nat) (a7 : Nat) (a8 : Nat) (a9 : Nat) (a10 : Nat) (a11 : Nat) (v_savedCount : Int32) (v_scriptLength : Int32) (v_code : Int32) (v_lineParts : Int32) (v_pulseMany : Int32) (v_left : Int64) (v_dropped : Int64) (v_merged : Int32) (v_drops : Int32) (v_contributions : Int32) (v_packet : Int64) (v_peelResult : Int32) (v_peelTime : Int32) (v_peelSum : Int32) (v_at : Int32) (v_commands : Int32) (v_hash : Int64) (v_m : Nat → Int64) (v_saved : Nat → Int64) (v_script : Nat → Int32) (v_lengths : Nat → Int32) (v_fractions : Nat → Int32) (v_times : Nat → Int32) (v_energies : Nat → Int64) (v_far : Nat → Int64) (v_near : Nat → Int64) (v_echoes : Nat → Int64) (v_draft : Nat → Int32) (x1 : Int32) (x2 : Int32) (r : Int32) (r_savedCount : Int32) (r_code : Int32) (r_m : Nat → Int64) (r_saved : Nat → Int64) (h : F_X6_addPulse v_savedCount v_m v_saved x1 x2 = some (r, r_savedCount, r_code, r_m, r_saved)) : Ct l yX6_addPulse (ws_ yX6_addPulse cX6_addPulse 3 (some .int)) rm_X6_addPulse Z [.ref a0, .int x1, .int x2] [(a0, .inr (5, [.ref a1, .ref a2, .int v_savedCount, .ref a3, .int v_scriptLength, .int v_code, .int v_lineParts, .ref a4, .ref a5, .int v_pulseMany, .ref a6, .ref a7, .ref a8, .ref a9, .ref a10, .long v_left, .long v_dropped, .int v_merged, .int v_drops, .int v_contributions, .long v_packet, .int v_peelResult, .int v_peelTime, .int v_peelSum, .int v_at, .int v_commands, .ref a11, .long v_hash])), (a1, .inl (Z.2 1, 431, .inr (.inl v_m))), (a2, .inl (Z.2 1, 1293, .inr (.inl v_saved))), (a3, .inl (Z.2 0, 120, .inl v_script)), (a4, .inl (Z.2 0, 8, .inl v_lengths)), (a5, .inl (Z.2 0, 9, .inl v_fractions)), (a6, .inl (Z.2 0, 4, .inl v_times)), (a7, .inl (Z.2 1, 4, .inr (.inl v_energies))), (a8, .inl (Z.2 1, 1809, .inr (.inl v_far))), (a9, .inl (Z.2 1, 1809, .inr (.inl v_near))), (a10, .inl (Z.2 1, 201, .inr (.inl v_echoes))), (a11, .inl (Z.2 0, 120, .inl v_draft))] [] (fun _ : Unit => (some (.int r) : Option Value)) (fun _ : Unit => ([(a0, .inr (5, [.ref a1, .ref a2, .int r_savedCount, .ref a3, .int v_scriptLength, .int r_code, .int v_lineParts, .ref a4, .ref a5, .int v_pulseMany, .ref a6, .ref a7, .ref a8, .ref a9, .ref a10, .long v_left, .long v_dropped, .int v_merged, .int v_drops, .int v_contributions, .long v_packet, .int v_peelResult, .int v_peelTime, .int v_peelSum, .int v_at, .int v_commands, .ref a11, .long v_hash])), (a1, .inl (Z.2 1, 431, .inr (.inl r_m))), (a2, .inl (Z.2 1, 1293, .inr (.inl r_saved))), (a3, .inl (Z.2 0, 120, .inl v_script)), (a4, .inl (Z.2 0, 8, .inl v_lengths)), (a5, .inl (Z.2 0, 9, .inl v_fractions)), (a6, .inl (Z.2 0, 4, .inl v_times)), (a7, .inl (Z.2 1, 4, .inr (.inl v_energies))), (a8, .inl (Z.2 1, 1809, .inr (.inl v_far))), (a9, .inl (Z.2 1, 1809, .inr (.inl v_near))), (a10, .inl (Z.2 1, 201, .inr (.inl v_echoes))), (a11, .inl (Z.2 0, 120, .inl v_draft))] : va_W)) := by
  refine Ct.of cX6_addPulse 3 (some .int) "LineEchoesModel" [some (.ref a0), some (.int x1), some (.int x2)] 0 (by decide) rfl (Nat.le_of_ble_eq_true rfl) rfl (fun p e s m args below meth c A X hin => ?_)
  unfold F_X6_addPulse at h
  refine g_aload_n X rfl dX6_addPulse_0 1 rfl ?_
  refine g_aload_n X rfl dX6_addPulse_1 2 rfl ?_
  refine g_iload_n X rfl dX6_addPulse_2 3 rfl ?_
  refine g_iload_n X rfl dX6_addPulse_3 4 rfl ?_
  obtain ⟨r1, hcl, h⟩ := bd1_e h
  refine g_callV1W X (met_X6_whyNoPulse l Z a0 a1 a2 a3 a4 a5 a6 a7 a8 a9 a10 a11 v_savedCount v_scriptLength v_code v_lineParts v_pulseMany v_left v_dropped v_merged v_drops v_contributions v_packet v_peelResult v_peelTime v_peelSum v_at v_commands v_hash v_m v_saved v_script v_lengths v_fractions v_times v_energies v_far v_near v_echoes v_draft x1 x2 r1 hcl) rfl 0 gC5 rfl rfl (lw_V q1525 q1527 qs35 q74 q1528) md_X6_whyNoPulse ⟨(Nat.le_of_ble_eq_true rfl), (Nat.le_of_ble_eq_true rfl)⟩ rfl dX6_addPulse_4 7 rfl 0 0 rfl rfl (Nat.le_of_ble_eq_true rfl) (Nat.le_of_ble_eq_true rfl) (st := [.ref a0]) rfl (Nat.le_of_ble_eq_true rfl) (fun _ => rfl) (fun _ => ?_)
  refine g_put X gC5 0 rfl 5 (by decide) q1347 (fun _ h9 => h9) rfl rfl rfl (Nat.le_of_ble_eq_true rfl) dX6_addPulse_7 10 rfl ?_
  refine g_aload_n X rfl dX6_addPulse_10 11 rfl ?_
  refine g_get X gC5 0 rfl 5 (by decide) q1347 (fun _ h9 => h9) rfl dX6_addPulse_11 14 rfl ?_
  refine g_if_eq X dX6_addPulse_14 19 (by decide) 17 rfl (fun hc => ?_) (fun hc => ?_)
  · replace h := if_t hc h
    refine g_aload_n X rfl dX6_addPulse_19 20 rfl ?_
    obtain ⟨w2_savedCount, w3_saved, hcl, h⟩ := bd2_e h
    refine g_callV0W X (met_X6_keep l Z a0 a1 a2 a3 a4 a5 a6 a7 a8 a9 a10 a11 v_savedCount v_scriptLength r1 v_lineParts v_pulseMany v_left v_dropped v_merged v_drops v_contributions v_packet v_peelResult v_peelTime v_peelSum v_at v_commands v_hash v_m v_saved v_script v_lengths v_fractions v_times v_energies v_far v_near v_echoes v_draft  w2_savedCount w3_saved hcl) rfl 0 gC5 rfl rfl (lw_V q1451 q1453 qs23 q74 q1454) md_X6_keep ⟨(Nat.le_of_ble_eq_true rfl), (Nat.le_of_ble_eq_true rfl)⟩ rfl dX6_addPulse_20 23 rfl 0 0 rfl rfl (Nat.le_of_ble_eq_true rfl) (Nat.le_of_ble_eq_true rfl) (st := []) rfl (Nat.le_of_ble_eq_true rfl) (fun _ => rfl) (fun _ => ?_)
    refine g_aload_n X rfl dX6_addPulse_23 24 rfl ?_
    refine g_iload_n X rfl dX6_addPulse_24 25 rfl ?_
    refine g_iload_n X rfl dX6_addPulse_25 26 rfl ?_
    obtain ⟨r4, w5_m, hcl, h⟩ := bd2_e h
    refine g_callV1W X (met_X6_addsPulse l Z a0 a1 a2 a3 a4 a5 a6 a7 a8 a9 a10 a11 w2_savedCount v_scriptLength r1 v_lineParts v_pulseMany v_left v_dropped v_merged v_drops v_contributions v_packet v_peelResult v_peelTime v_peelSum v_at v_commands v_hash v_m w3_saved v_script v_lengths v_fractions v_times v_energies v_far v_near v_echoes v_draft x1 x2 r4 w5_m hcl) rfl 0 gC5 rfl rfl (lw_V q1531 q1533 qs36 q74 q1534) md_X6_addsPulse ⟨(Nat.le_of_ble_eq_true rfl), (Nat.le_of_ble_eq_true rfl)⟩ rfl dX6_addPulse_26 29 rfl 0 0 rfl rfl (Nat.le_of_ble_eq_true rfl) (Nat.le_of_ble_eq_true rfl) (st := []) rfl (Nat.le_of_ble_eq_true rfl) (fun _ => rfl) (fun _ => ?_)
    cases h
    exact g_iret X dX6_addPulse_29 () rfl rfl (Nat.le_of_ble_eq_true rfl) (Nat.le_of_ble_eq_true rfl)
  · replace h := if_f hc h
    refine g_iconst X 0 dX6_addPulse_17 18 rfl kI_0 ?_
    cases h
    exact g_iret X dX6_addPulse_18 () rfl rfl (Nat.le_of_ble_eq_true rfl) (Nat.le_of_ble_eq_true rfl)
/-! LineEchoesModel.removePulse(I)I -/
abbrev rm_X6_removePulse : Room := { frames := 1, cells := 0, slots := 0, locals := 25 }
def B_X6_removePulse_74 (K74 : (Int32) → (Int32) → (Nat → Int64) → (Nat → Int64) → (Int32) → Option (Int32 × Int32 × Int32 × (Nat → Int64) × (Nat → Int64))) (v_savedCount : Int32) (v_code : Int32) (v_m : Nat → Int64) (v_saved : Nat → Int64) (x2 : Int32) : Option (Int32 × Int32 × Int32 × (Nat → Int64) × (Nat → Int64)) :=
  gin 20 431 <|
  if (21 + (2 * (v_m (Int32.toNatClampNeg 20)))) ≤ x2.toInt64 then
    (gin 20 431 <|
    some ((v_m (Int32.toNatClampNeg 20)).toInt32, v_savedCount, v_code, v_m, v_saved))
  else
    (gin (x2 + 2) 431 <|
    gin x2 431 <|
    K74 v_savedCount v_code (vp_updL v_m x2.toNatClampNeg (v_m (x2 + 2).toNatClampNeg)) v_saved (x2 + 1))
def F_X6_removePulse_74 : Nat → (Int32) → (Int32) → (Nat → Int64) → (Nat → Int64) → (Int32) → Option (Int32 × Int32 × Int32 × (Nat → Int64) × (Nat → Int64))
  | 0 => fun _ _ _ _ _ => none
  | n + 1 => B_X6_removePulse_74 (F_X6_removePulse_74 n)
def F_X6_removePulse_40 (v_savedCount : Int32) (v_m : Nat → Int64) (v_saved : Nat → Int64) (x1 : Int32) (s1 : Int32) : Option (Int32 × Int32 × Int32 × (Nat → Int64) × (Nat → Int64)) :=
  if s1 = 0 then
    (bd2 (F_X6_keep v_savedCount v_m v_saved) fun w1_savedCount w2_saved =>
    gin 20 431 <|
    nm ((v_m (Int32.toNatClampNeg 20)) - 1) fun t3 =>
    gin 20 431 <|
    F_X6_removePulse_74 gFU w1_savedCount s1 (vp_updL v_m (Int32.toNatClampNeg 20) t3) w2_saved (21 + (2 * x1)))
  else
    (some (0, v_savedCount, s1, v_m, v_saved))
def F_X6_removePulse (v_savedCount : Int32) (v_m : Nat → Int64) (v_saved : Nat → Int64) (x1 : Int32) : Option (Int32 × Int32 × Int32 × (Nat → Int64) × (Nat → Int64)) :=
  gin 20 431 <|
  bd1 (F_X6_in x1.toInt64 0 ((v_m (Int32.toNatClampNeg 20)) - 1)) fun r1 =>
  if r1 = 0 then
    (F_X6_removePulse_40 v_savedCount v_m v_saved x1 1)
  else
    (gin 20 431 <|
    F_X6_removePulse_40 v_savedCount v_m v_saved x1 (if (v_m (Int32.toNatClampNeg 20)) = 1 then (2 : Int32) else 0))
theorem w_X6_removePulse_74 {p : Program} {l : Launch} {e : Env} {s : State} {m : MethodId} {args : Array Value} {below : List Frame} {meth : Method} {c : Code} {Z : gZt} {A : Nat → Prop} (a0 : Nat) (a1 : Nat) (a2 : Nat) (a3 : Nat) (a4 : Nat) (a5 : Nat) (a6 : Nat) (a7 : Nat) (a8 : Nat) (a9 : Nat) (a10 : Nat) (a11 : Nat) (X : gX p s m args meth c Z A cX6_removePulse "LineEchoesModel" 3 (some .int) []) (r : Int32) (r_savedCount : Int32) (r_code : Int32) (r_m : Nat → Int64) (r_saved : Nat → Int64)  : ∀ (n : Nat) (v_savedCount : Int32) (v_scriptLength : Int32) (v_code : Int32) (v_lineParts : Int32) (v_pulseMany : Int32) (v_left : Int64) (v_dropped : Int64) (v_merged : Int32) (v_drops : Int32) (v_contributions : Int32) (v_packet : Int64) (v_peelResult : Int32) (v_peelTime : Int32) (v_peelSum : Int32) (v_at : Int32) (v_commands : Int32) (v_hash : Int64) (v_m : Nat → Int64) (v_saved : Nat → Int64) (v_script : Nat → Int32) (v_lengths : Nat → Int32) (v_fractions : Nat → Int32) (v_times : Nat → Int32) (v_energies : Nat → Int64) (v_far : Nat → Int64) (v_near : Nat → Int64) (v_echoes : Nat → Int64) (v_draft : Nat → Int32) (x2 : Int32), F_X6_removePulse_74 n v_savedCount v_code v_m v_saved x2 = some (r, r_savedCount, r_code, r_m, r_saved) → G p l e rm_X6_removePulse s m args below meth c Z A 3 (MQ below (gPost Z A (fun _ : Unit => (some (.int r) : Option Value)) (fun _ : Unit => ([(a0, .inr (5, [.ref a1, .ref a2, .int r_savedCount, .ref a3, .int v_scriptLength, .int r_code, .int v_lineParts, .ref a4, .ref a5, .int v_pulseMany, .ref a6, .ref a7, .ref a8, .ref a9, .ref a10, .long v_left, .long v_dropped, .int v_merged, .int v_drops, .int v_contributions, .long v_packet, .int v_peelResult, .int v_peelTime, .int v_peelSum, .int v_at, .int v_commands, .ref a11, .long v_hash])), (a1, .inl (Z.2 1, 431, .inr (.inl r_m))), (a2, .inl (Z.2 1, 1293, .inr (.inl r_saved))), (a3, .inl (Z.2 0, 120, .inl v_script)), (a4, .inl (Z.2 0, 8, .inl v_lengths)), (a5, .inl (Z.2 0, 9, .inl v_fractions)), (a6, .inl (Z.2 0, 4, .inl v_times)), (a7, .inl (Z.2 1, 4, .inr (.inl v_energies))), (a8, .inl (Z.2 1, 1809, .inr (.inl v_far))), (a9, .inl (Z.2 1, 1809, .inr (.inl v_near))), (a10, .inl (Z.2 1, 201, .inr (.inl v_echoes))), (a11, .inl (Z.2 0, 120, .inl v_draft))] : va_W))) args s 0 0 A) [(a0, .inr (5, [.ref a1, .ref a2, .int v_savedCount, .ref a3, .int v_scriptLength, .int v_code, .int v_lineParts, .ref a4, .ref a5, .int v_pulseMany, .ref a6, .ref a7, .ref a8, .ref a9, .ref a10, .long v_left, .long v_dropped, .int v_merged, .int v_drops, .int v_contributions, .long v_packet, .int v_peelResult, .int v_peelTime, .int v_peelSum, .int v_at, .int v_commands, .ref a11, .long v_hash])), (a1, .inl (Z.2 1, 431, .inr (.inl v_m))), (a2, .inl (Z.2 1, 1293, .inr (.inl v_saved))), (a3, .inl (Z.2 0, 120, .inl v_script)), (a4, .inl (Z.2 0, 8, .inl v_lengths)), (a5, .inl (Z.2 0, 9, .inl v_fractions)), (a6, .inl (Z.2 0, 4, .inl v_times)), (a7, .inl (Z.2 1, 4, .inr (.inl v_energies))), (a8, .inl (Z.2 1, 1809, .inr (.inl v_far))), (a9, .inl (Z.2 1, 1809, .inr (.inl v_near))), (a10, .inl (Z.2 1, 201, .inr (.inl v_echoes))), (a11, .inl (Z.2 0, 120, .inl v_draft))] 0 0 74 [some (.ref a0), none, some (.int x2)] [] := by
  intro n
  induction n with
  | zero =>
    intro v_savedCount v_scriptLength v_code v_lineParts v_pulseMany v_left v_dropped v_merged v_drops v_contributions v_packet v_peelResult v_peelTime v_peelSum v_at v_commands v_hash v_m v_saved v_script v_lengths v_fractions v_times v_energies v_far v_near v_echoes v_draft x2 h
    cases h
  | succ n hK74 =>
    intro v_savedCount v_scriptLength v_code v_lineParts v_pulseMany v_left v_dropped v_merged v_drops v_contributions v_packet v_peelResult v_peelTime v_peelSum v_at v_commands v_hash v_m v_saved v_script v_lengths v_fractions v_times v_energies v_far v_near v_echoes v_draft x2 h
    replace h : B_X6_removePulse_74 (F_X6_removePulse_74 n) v_savedCount v_code v_m v_saved x2 = some (r, r_savedCount, r_code, r_m, r_saved) := h
    unfold B_X6_removePulse_74 at h
    refine g_iload_n X rfl dX6_removePulse_74 75 rfl ?_
    refine g_i2l X dX6_removePulse_75 76 rfl ?_
    refine g_ldc2 X q1539 dX6_removePulse_76 79 rfl ?_
    refine g_ldc2 X q1540 dX6_removePulse_79 82 rfl ?_
    refine g_aload_n X rfl dX6_removePulse_82 83 rfl ?_
    refine g_get X gC5 0 rfl 0 (by decide) q1342 (fun _ h9 => h9) rfl dX6_removePulse_83 86 rfl ?_
    refine g_bipush X 20 dX6_removePulse_86 88 rfl kB_20 ?_
    obtain ⟨hi, h⟩ := gin_e h
    refine g_lald X 1 rfl hi dX6_removePulse_88 89 rfl ?_
    refine g_lmul X dX6_removePulse_89 90 rfl ?_
    refine g_ladd X dX6_removePulse_90 91 rfl ?_
    refine g_lcmp_ge X dX6_removePulse_91 92 rfl dX6_removePulse_92 115 (by decide) 95 rfl (fun hc => ?_) (fun hc => ?_)
    · replace h := if_t hc h
      refine g_aload_n X rfl dX6_removePulse_115 116 rfl ?_
      refine g_get X gC5 0 rfl 0 (by decide) q1342 (fun _ h9 => h9) rfl dX6_removePulse_116 119 rfl ?_
      refine g_bipush X 20 dX6_removePulse_119 121 rfl kB_20 ?_
      obtain ⟨hi, h⟩ := gin_e h
      refine g_lald X 1 rfl hi dX6_removePulse_121 122 rfl ?_
      refine g_l2i X dX6_removePulse_122 123 rfl ?_
      cases h
      exact g_iret X dX6_removePulse_123 () rfl rfl (Nat.le_of_ble_eq_true rfl) (Nat.le_of_ble_eq_true rfl)
    · replace h := if_f hc h
      refine g_aload_n X rfl dX6_removePulse_95 96 rfl ?_
      refine g_get X gC5 0 rfl 0 (by decide) q1342 (fun _ h9 => h9) rfl dX6_removePulse_96 99 rfl ?_
      refine g_iload_n X rfl dX6_removePulse_99 100 rfl ?_
      refine g_aload_n X rfl dX6_removePulse_100 101 rfl ?_
      refine g_get X gC5 0 rfl 0 (by decide) q1342 (fun _ h9 => h9) rfl dX6_removePulse_101 104 rfl ?_
      refine g_iload_n X rfl dX6_removePulse_104 105 rfl ?_
      refine g_iconst X 2 dX6_removePulse_105 106 rfl kI_2 ?_
      refine g_iadd X dX6_removePulse_106 107 rfl ?_
      obtain ⟨hi, h⟩ := gin_e h
      refine g_lald X 1 rfl hi dX6_removePulse_107 108 rfl ?_
      obtain ⟨hi, h⟩ := gin_e h
      refine g_last X 1 rfl hi dX6_removePulse_108 109 rfl ?_
      refine g_iinc X 1 rfl dX6_removePulse_109 112 rfl kI_1 (Nat.le_of_ble_eq_true rfl) rfl [some (.ref a0), none, some (.int (x2 + 1))] rfl ?_
      refine g_goto X dX6_removePulse_112 74 (by decide) ?_
      exact hK74 v_savedCount v_scriptLength v_code v_lineParts v_pulseMany v_left v_dropped v_merged v_drops v_contributions v_packet v_peelResult v_peelTime v_peelSum v_at v_commands v_hash (vp_updL v_m x2.toNatClampNeg (v_m (x2 + 2).toNatClampNeg)) v_saved v_script v_lengths v_fractions v_times v_energies v_far v_near v_echoes v_draft (x2 + 1) h
theorem w_X6_removePulse_40 {p : Program} {l : Launch} {e : Env} {s : State} {m : MethodId} {args : Array Value} {below : List Frame} {meth : Method} {c : Code} {Z : gZt} {A : Nat → Prop} (a0 : Nat) (a1 : Nat) (a2 : Nat) (a3 : Nat) (a4 : Nat) (a5 : Nat) (a6 : Nat) (a7 : Nat) (a8 : Nat) (a9 : Nat) (a10 : Nat) (a11 : Nat) (X : gX p s m args meth c Z A cX6_removePulse "LineEchoesModel" 3 (some .int) []) (r : Int32) (r_savedCount : Int32) (r_code : Int32) (r_m : Nat → Int64) (r_saved : Nat → Int64)  (v_savedCount : Int32) (v_scriptLength : Int32) (v_code : Int32) (v_lineParts : Int32) (v_pulseMany : Int32) (v_left : Int64) (v_dropped : Int64) (v_merged : Int32) (v_drops : Int32) (v_contributions : Int32) (v_packet : Int64) (v_peelResult : Int32) (v_peelTime : Int32) (v_peelSum : Int32) (v_at : Int32) (v_commands : Int32) (v_hash : Int64) (v_m : Nat → Int64) (v_saved : Nat → Int64) (v_script : Nat → Int32) (v_lengths : Nat → Int32) (v_fractions : Nat → Int32) (v_times : Nat → Int32) (v_energies : Nat → Int64) (v_far : Nat → Int64) (v_near : Nat → Int64) (v_echoes : Nat → Int64) (v_draft : Nat → Int32) (x1 : Int32) (s1 : Int32) (h : F_X6_removePulse_40 v_savedCount v_m v_saved x1 s1 = some (r, r_savedCount, r_code, r_m, r_saved)) : G p l e rm_X6_removePulse s m args below meth c Z A 3 (MQ below (gPost Z A (fun _ : Unit => (some (.int r) : Option Value)) (fun _ : Unit => ([(a0, .inr (5, [.ref a1, .ref a2, .int r_savedCount, .ref a3, .int v_scriptLength, .int r_code, .int v_lineParts, .ref a4, .ref a5, .int v_pulseMany, .ref a6, .ref a7, .ref a8, .ref a9, .ref a10, .long v_left, .long v_dropped, .int v_merged, .int v_drops, .int v_contributions, .long v_packet, .int v_peelResult, .int v_peelTime, .int v_peelSum, .int v_at, .int v_commands, .ref a11, .long v_hash])), (a1, .inl (Z.2 1, 431, .inr (.inl r_m))), (a2, .inl (Z.2 1, 1293, .inr (.inl r_saved))), (a3, .inl (Z.2 0, 120, .inl v_script)), (a4, .inl (Z.2 0, 8, .inl v_lengths)), (a5, .inl (Z.2 0, 9, .inl v_fractions)), (a6, .inl (Z.2 0, 4, .inl v_times)), (a7, .inl (Z.2 1, 4, .inr (.inl v_energies))), (a8, .inl (Z.2 1, 1809, .inr (.inl v_far))), (a9, .inl (Z.2 1, 1809, .inr (.inl v_near))), (a10, .inl (Z.2 1, 201, .inr (.inl v_echoes))), (a11, .inl (Z.2 0, 120, .inl v_draft))] : va_W))) args s 0 0 A) [(a0, .inr (5, [.ref a1, .ref a2, .int v_savedCount, .ref a3, .int v_scriptLength, .int v_code, .int v_lineParts, .ref a4, .ref a5, .int v_pulseMany, .ref a6, .ref a7, .ref a8, .ref a9, .ref a10, .long v_left, .long v_dropped, .int v_merged, .int v_drops, .int v_contributions, .long v_packet, .int v_peelResult, .int v_peelTime, .int v_peelSum, .int v_at, .int v_commands, .ref a11, .long v_hash])), (a1, .inl (Z.2 1, 431, .inr (.inl v_m))), (a2, .inl (Z.2 1, 1293, .inr (.inl v_saved))), (a3, .inl (Z.2 0, 120, .inl v_script)), (a4, .inl (Z.2 0, 8, .inl v_lengths)), (a5, .inl (Z.2 0, 9, .inl v_fractions)), (a6, .inl (Z.2 0, 4, .inl v_times)), (a7, .inl (Z.2 1, 4, .inr (.inl v_energies))), (a8, .inl (Z.2 1, 1809, .inr (.inl v_far))), (a9, .inl (Z.2 1, 1809, .inr (.inl v_near))), (a10, .inl (Z.2 1, 201, .inr (.inl v_echoes))), (a11, .inl (Z.2 0, 120, .inl v_draft))] 0 0 40 [some (.ref a0), some (.int x1), none] [.int s1, .ref a0] := by
  unfold F_X6_removePulse_40 at h
  refine g_put X gC5 0 rfl 5 (by decide) q1347 (fun _ h9 => h9) rfl rfl rfl (Nat.le_of_ble_eq_true rfl) dX6_removePulse_40 43 rfl ?_
  refine g_aload_n X rfl dX6_removePulse_43 44 rfl ?_
  refine g_get X gC5 0 rfl 5 (by decide) q1347 (fun _ h9 => h9) rfl dX6_removePulse_44 47 rfl ?_
  refine g_if_eq X dX6_removePulse_47 52 (by decide) 50 rfl (fun hc => ?_) (fun hc => ?_)
  · replace h := if_t hc h
    refine g_aload_n X rfl dX6_removePulse_52 53 rfl ?_
    obtain ⟨w1_savedCount, w2_saved, hcl, h⟩ := bd2_e h
    refine g_callV0W X (met_X6_keep l Z a0 a1 a2 a3 a4 a5 a6 a7 a8 a9 a10 a11 v_savedCount v_scriptLength s1 v_lineParts v_pulseMany v_left v_dropped v_merged v_drops v_contributions v_packet v_peelResult v_peelTime v_peelSum v_at v_commands v_hash v_m v_saved v_script v_lengths v_fractions v_times v_energies v_far v_near v_echoes v_draft  w1_savedCount w2_saved hcl) rfl 0 gC5 rfl rfl (lw_V q1451 q1453 qs23 q74 q1454) md_X6_keep ⟨(Nat.le_of_ble_eq_true rfl), (Nat.le_of_ble_eq_true rfl)⟩ rfl dX6_removePulse_53 56 rfl 0 0 rfl rfl (Nat.le_of_ble_eq_true rfl) (Nat.le_of_ble_eq_true rfl) (st := []) rfl (Nat.le_of_ble_eq_true rfl) (fun _ => rfl) (fun _ => ?_)
    refine g_aload_n X rfl dX6_removePulse_56 57 rfl ?_
    refine g_get X gC5 0 rfl 0 (by decide) q1342 (fun _ h9 => h9) rfl dX6_removePulse_57 60 rfl ?_
    refine g_bipush X 20 dX6_removePulse_60 62 rfl kB_20 ?_
    refine g_dup2 X dX6_removePulse_62 63 rfl rfl rfl ?_
    obtain ⟨hi, h⟩ := gin_e h
    refine g_lald X 1 rfl hi dX6_removePulse_63 64 rfl ?_
    refine g_lconst X 1 dX6_removePulse_64 65 rfl rfl ?_
    refine g_lsub X dX6_removePulse_65 66 rfl ?_
    refine g_topl (fun t3 et3 => ?_)
    replace h := nm_at et3 h
    obtain ⟨hi, h⟩ := gin_e h
    refine g_last X 1 rfl hi dX6_removePulse_66 67 rfl ?_
    refine g_bipush X 21 dX6_removePulse_67 69 rfl kB_21 ?_
    refine g_iconst X 2 dX6_removePulse_69 70 rfl kI_2 ?_
    refine g_iload_n X rfl dX6_removePulse_70 71 rfl ?_
    refine g_imul X dX6_removePulse_71 72 rfl ?_
    refine g_iadd X dX6_removePulse_72 73 rfl ?_
    refine g_istore_n X dX6_removePulse_73 74 rfl (Nat.le_of_ble_eq_true rfl) rfl [some (.ref a0), some (.int x1), some (.int (21 + (2 * x1)))] rfl ?_
    refine g_kill (j := 1) [some (.ref a0), none, some (.int (21 + (2 * x1)))] rfl ?_
    exact w_X6_removePulse_74 a0 a1 a2 a3 a4 a5 a6 a7 a8 a9 a10 a11  X  r r_savedCount r_code r_m r_saved    gFU w1_savedCount v_scriptLength s1 v_lineParts v_pulseMany v_left v_dropped v_merged v_drops v_contributions v_packet v_peelResult v_peelTime v_peelSum v_at v_commands v_hash (vp_updL v_m (Int32.toNatClampNeg 20) t3) w2_saved v_script v_lengths v_fractions v_times v_energies v_far v_near v_echoes v_draft (21 + (2 * x1)) h
  · replace h := if_f hc h
    refine g_iconst X 0 dX6_removePulse_50 51 rfl kI_0 ?_
    cases h
    exact g_iret X dX6_removePulse_51 () rfl rfl (Nat.le_of_ble_eq_true rfl) (Nat.le_of_ble_eq_true rfl)
theorem met_X6_removePulse (l : Launch) (Z : gZt) (a0 : Nat) (a1 : Nat) (a2 : Nat) (a3 : Nat) (a4 : Nat) (a5 : Nat) (a6 : Nat) (a7 : Nat) (a8 : Nat) (a9 : Nat) (a10 : Nat) (a11 : Nat) (v_savedCount : Int32) (v_scriptLength : Int32) (v_code : Int32) (v_lineParts : Int32) (v_pulseMany : Int32) (v_left : Int64) (v_dropped : Int64) (v_merged : Int32) (v_drops : Int32) (v_contributions : Int32) (v_packet : Int64) (v_peelResult : Int32) (v_peelTime : Int32) (v_peelSum : Int32) (v_at : Int32) (v_commands : Int32) (v_hash : Int64) (v_m : Nat → Int64) (v_saved : Nat → Int64) (v_script : Nat → Int32) (v_lengths : Nat → Int32) (v_fractions : Nat → Int32) (v_times : Nat → Int32) (v_energies : Nat → Int64) (v_far : Nat → Int64) (v_near : Nat → Int64) (v_echoes : Nat → Int64) (v_draft : Nat → Int32) (x1 : Int32) (r : Int32) (r_savedCount : Int32) (r_code : Int32) (r_m : Nat → Int64) (r_saved : Nat → Int64) (h : F_X6_removePulse v_savedCount v_m v_saved x1 = some (r, r_savedCount, r_code, r_m, r_saved)) : Ct l yX6_removePulse (ws_ yX6_removePulse cX6_removePulse 3 (some .int)) rm_X6_removePulse Z [.ref a0, .int x1] [(a0, .inr (5, [.ref a1, .ref a2, .int v_savedCount, .ref a3, .int v_scriptLength, .int v_code, .int v_lineParts, .ref a4, .ref a5, .int v_pulseMany, .ref a6, .ref a7, .ref a8, .ref a9, .ref a10, .long v_left, .long v_dropped, .int v_merged, .int v_drops, .int v_contributions, .long v_packet, .int v_peelResult, .int v_peelTime, .int v_peelSum, .int v_at, .int v_commands, .ref a11, .long v_hash])), (a1, .inl (Z.2 1, 431, .inr (.inl v_m))), (a2, .inl (Z.2 1, 1293, .inr (.inl v_saved))), (a3, .inl (Z.2 0, 120, .inl v_script)), (a4, .inl (Z.2 0, 8, .inl v_lengths)), (a5, .inl (Z.2 0, 9, .inl v_fractions)), (a6, .inl (Z.2 0, 4, .inl v_times)), (a7, .inl (Z.2 1, 4, .inr (.inl v_energies))), (a8, .inl (Z.2 1, 1809, .inr (.inl v_far))), (a9, .inl (Z.2 1, 1809, .inr (.inl v_near))), (a10, .inl (Z.2 1, 201, .inr (.inl v_echoes))), (a11, .inl (Z.2 0, 120, .inl v_draft))] [] (fun _ : Unit => (some (.int r) : Option Value)) (fun _ : Unit => ([(a0, .inr (5, [.ref a1, .ref a2, .int r_savedCount, .ref a3, .int v_scriptLength, .int r_code, .int v_lineParts, .ref a4, .ref a5, .int v_pulseMany, .ref a6, .ref a7, .ref a8, .ref a9, .ref a10, .long v_left, .long v_dropped, .int v_merged, .int v_drops, .int v_contributions, .long v_packet, .int v_peelResult, .int v_peelTime, .int v_peelSum, .int v_at, .int v_commands, .ref a11, .long v_hash])), (a1, .inl (Z.2 1, 431, .inr (.inl r_m))), (a2, .inl (Z.2 1, 1293, .inr (.inl r_saved))), (a3, .inl (Z.2 0, 120, .inl v_script)), (a4, .inl (Z.2 0, 8, .inl v_lengths)), (a5, .inl (Z.2 0, 9, .inl v_fractions)), (a6, .inl (Z.2 0, 4, .inl v_times)), (a7, .inl (Z.2 1, 4, .inr (.inl v_energies))), (a8, .inl (Z.2 1, 1809, .inr (.inl v_far))), (a9, .inl (Z.2 1, 1809, .inr (.inl v_near))), (a10, .inl (Z.2 1, 201, .inr (.inl v_echoes))), (a11, .inl (Z.2 0, 120, .inl v_draft))] : va_W)) := by
  refine Ct.of cX6_removePulse 3 (some .int) "LineEchoesModel" [some (.ref a0), some (.int x1), none] 1 (by decide) rfl (Nat.le_of_ble_eq_true rfl) rfl (fun p e s m args below meth c A X hin => ?_)
  unfold F_X6_removePulse at h
  refine g_aload_n X rfl dX6_removePulse_0 1 rfl ?_
  refine g_iload_n X rfl dX6_removePulse_1 2 rfl ?_
  refine g_i2l X dX6_removePulse_2 3 rfl ?_
  refine g_lconst X 0 dX6_removePulse_3 4 rfl rfl ?_
  refine g_aload_n X rfl dX6_removePulse_4 5 rfl ?_
  refine g_get X gC5 0 rfl 0 (by decide) q1342 (fun _ h9 => h9) rfl dX6_removePulse_5 8 rfl ?_
  refine g_bipush X 20 dX6_removePulse_8 10 rfl kB_20 ?_
  obtain ⟨hi, h⟩ := gin_e h
  refine g_lald X 1 rfl hi dX6_removePulse_10 11 rfl ?_
  refine g_lconst X 1 dX6_removePulse_11 12 rfl rfl ?_
  refine g_lsub X dX6_removePulse_12 13 rfl ?_
  obtain ⟨r1, hcl, h⟩ := bd1_e h
  refine g_callS1Z X (met_X6_in l Z   x1.toInt64 0 ((v_m (Int32.toNatClampNeg 20)) - 1) r1 hcl) (lw_S q1443 q1444 q74 q1445) md_X6_in ⟨(Nat.le_of_ble_eq_true rfl), (Nat.le_of_ble_eq_true rfl)⟩ rfl dX6_removePulse_13 16 rfl 0 0 rfl rfl (Nat.le_of_ble_eq_true rfl) (Nat.le_of_ble_eq_true rfl) (st := [.ref a0]) rfl (Nat.le_of_ble_eq_true rfl) (fun _ => rfl) (fun _ => ?_)
  refine g_if_ne X dX6_removePulse_16 23 (by decide) 19 rfl (fun hc => ?_) (fun hc => ?_)
  · replace h := if_f hc h
    refine g_aload_n X rfl dX6_removePulse_23 24 rfl ?_
    refine g_get X gC5 0 rfl 0 (by decide) q1342 (fun _ h9 => h9) rfl dX6_removePulse_24 27 rfl ?_
    refine g_bipush X 20 dX6_removePulse_27 29 rfl kB_20 ?_
    obtain ⟨hi, h⟩ := gin_e h
    refine g_lald X 1 rfl hi dX6_removePulse_29 30 rfl ?_
    refine g_lconst X 1 dX6_removePulse_30 31 rfl rfl ?_
    refine g_seli 40 [.ref a0] (b := (v_m (Int32.toNatClampNeg 20)) = 1) 2 0 ?_ (fun hc K => ?_) (fun hc K => ?_)
    · exact w_X6_removePulse_40 a0 a1 a2 a3 a4 a5 a6 a7 a8 a9 a10 a11  X  r r_savedCount r_code r_m r_saved    v_savedCount v_scriptLength v_code v_lineParts v_pulseMany v_left v_dropped v_merged v_drops v_contributions v_packet v_peelResult v_peelTime v_peelSum v_at v_commands v_hash v_m v_saved v_script v_lengths v_fractions v_times v_energies v_far v_near v_echoes v_draft x1 (if (v_m (Int32.toNatClampNeg 20)) = 1 then (2 : Int32) else 0) h
    · refine g_lcmp_ne X dX6_removePulse_31 32 rfl dX6_removePulse_32 39 (by decide) 35 rfl (fun hn => absurd hc hn) (fun _ => ?_)
      refine g_iconst X 2 dX6_removePulse_35 36 rfl kI_2 ?_
      refine g_goto X dX6_removePulse_36 40 (by decide) ?_
      exact K
    · refine g_lcmp_ne X dX6_removePulse_31 32 rfl dX6_removePulse_32 39 (by decide) 35 rfl (fun _ => ?_) (fun hn => absurd hn hc)
      refine g_iconst X 0 dX6_removePulse_39 40 rfl kI_0 ?_
      exact K
  · replace h := if_t hc h
    refine g_iconst X 1 dX6_removePulse_19 20 rfl kI_1 ?_
    refine g_goto X dX6_removePulse_20 40 (by decide) ?_
    exact w_X6_removePulse_40 a0 a1 a2 a3 a4 a5 a6 a7 a8 a9 a10 a11  X  r r_savedCount r_code r_m r_saved    v_savedCount v_scriptLength v_code v_lineParts v_pulseMany v_left v_dropped v_merged v_drops v_contributions v_packet v_peelResult v_peelTime v_peelSum v_at v_commands v_hash v_m v_saved v_script v_lengths v_fractions v_times v_energies v_far v_near v_echoes v_draft x1 1 h
/-! LineEchoesModel.upTo(I)I -/
abbrev rm_X6_upTo : Room := { frames := 0, cells := 0, slots := 0, locals := 0 }
def B_X6_upTo_4 (K4 : (Nat → Int64) → (Int32) → (Int32) → (Int32) → Option (Int32)) (v_m : Nat → Int64) (x1 : Int32) (x2 : Int32) (x3 : Int32) : Option (Int32) :=
  if x1 < x3 then
    (some x2)
  else
    (gin (1 + x3) 431 <|
    nm (x2 + ((v_m (1 + x3).toNatClampNeg).toInt32)) fun t1 =>
    K4 v_m x1 t1 (x3 + 1))
def F_X6_upTo_4 : Nat → (Nat → Int64) → (Int32) → (Int32) → (Int32) → Option (Int32)
  | 0 => fun _ _ _ _ => none
  | n + 1 => B_X6_upTo_4 (F_X6_upTo_4 n)
def F_X6_upTo (v_m : Nat → Int64) (x1 : Int32) : Option (Int32) :=
  F_X6_upTo_4 gFU v_m x1 0 0
theorem w_X6_upTo_4 {p : Program} {l : Launch} {e : Env} {s : State} {m : MethodId} {args : Array Value} {below : List Frame} {meth : Method} {c : Code} {Z : gZt} {A : Nat → Prop} (a0 : Nat) (a1 : Nat) (a2 : Nat) (a3 : Nat) (a4 : Nat) (a5 : Nat) (a6 : Nat) (a7 : Nat) (a8 : Nat) (a9 : Nat) (a10 : Nat) (a11 : Nat) (X : gX p s m args meth c Z A cX6_upTo "LineEchoesModel" 4 (some .int) []) (r : Int32)  : ∀ (n : Nat) (v_savedCount : Int32) (v_scriptLength : Int32) (v_code : Int32) (v_lineParts : Int32) (v_pulseMany : Int32) (v_left : Int64) (v_dropped : Int64) (v_merged : Int32) (v_drops : Int32) (v_contributions : Int32) (v_packet : Int64) (v_peelResult : Int32) (v_peelTime : Int32) (v_peelSum : Int32) (v_at : Int32) (v_commands : Int32) (v_hash : Int64) (v_m : Nat → Int64) (v_saved : Nat → Int64) (v_script : Nat → Int32) (v_lengths : Nat → Int32) (v_fractions : Nat → Int32) (v_times : Nat → Int32) (v_energies : Nat → Int64) (v_far : Nat → Int64) (v_near : Nat → Int64) (v_echoes : Nat → Int64) (v_draft : Nat → Int32) (x1 : Int32) (x2 : Int32) (x3 : Int32), F_X6_upTo_4 n v_m x1 x2 x3 = some r → G p l e rm_X6_upTo s m args below meth c Z A 4 (MQ below (gPost Z A (fun _ : Unit => (some (.int r) : Option Value)) (fun _ : Unit => ([(a0, .inr (5, [.ref a1, .ref a2, .int v_savedCount, .ref a3, .int v_scriptLength, .int v_code, .int v_lineParts, .ref a4, .ref a5, .int v_pulseMany, .ref a6, .ref a7, .ref a8, .ref a9, .ref a10, .long v_left, .long v_dropped, .int v_merged, .int v_drops, .int v_contributions, .long v_packet, .int v_peelResult, .int v_peelTime, .int v_peelSum, .int v_at, .int v_commands, .ref a11, .long v_hash])), (a1, .inl (Z.2 1, 431, .inr (.inl v_m))), (a2, .inl (Z.2 1, 1293, .inr (.inl v_saved))), (a3, .inl (Z.2 0, 120, .inl v_script)), (a4, .inl (Z.2 0, 8, .inl v_lengths)), (a5, .inl (Z.2 0, 9, .inl v_fractions)), (a6, .inl (Z.2 0, 4, .inl v_times)), (a7, .inl (Z.2 1, 4, .inr (.inl v_energies))), (a8, .inl (Z.2 1, 1809, .inr (.inl v_far))), (a9, .inl (Z.2 1, 1809, .inr (.inl v_near))), (a10, .inl (Z.2 1, 201, .inr (.inl v_echoes))), (a11, .inl (Z.2 0, 120, .inl v_draft))] : va_W))) args s 0 0 A) [(a0, .inr (5, [.ref a1, .ref a2, .int v_savedCount, .ref a3, .int v_scriptLength, .int v_code, .int v_lineParts, .ref a4, .ref a5, .int v_pulseMany, .ref a6, .ref a7, .ref a8, .ref a9, .ref a10, .long v_left, .long v_dropped, .int v_merged, .int v_drops, .int v_contributions, .long v_packet, .int v_peelResult, .int v_peelTime, .int v_peelSum, .int v_at, .int v_commands, .ref a11, .long v_hash])), (a1, .inl (Z.2 1, 431, .inr (.inl v_m))), (a2, .inl (Z.2 1, 1293, .inr (.inl v_saved))), (a3, .inl (Z.2 0, 120, .inl v_script)), (a4, .inl (Z.2 0, 8, .inl v_lengths)), (a5, .inl (Z.2 0, 9, .inl v_fractions)), (a6, .inl (Z.2 0, 4, .inl v_times)), (a7, .inl (Z.2 1, 4, .inr (.inl v_energies))), (a8, .inl (Z.2 1, 1809, .inr (.inl v_far))), (a9, .inl (Z.2 1, 1809, .inr (.inl v_near))), (a10, .inl (Z.2 1, 201, .inr (.inl v_echoes))), (a11, .inl (Z.2 0, 120, .inl v_draft))] 0 0 4 [some (.ref a0), some (.int x1), some (.int x2), some (.int x3)] [] := by
  intro n
  induction n with
  | zero =>
    intro v_savedCount v_scriptLength v_code v_lineParts v_pulseMany v_left v_dropped v_merged v_drops v_contributions v_packet v_peelResult v_peelTime v_peelSum v_at v_commands v_hash v_m v_saved v_script v_lengths v_fractions v_times v_energies v_far v_near v_echoes v_draft x1 x2 x3 h
    cases h
  | succ n hK4 =>
    intro v_savedCount v_scriptLength v_code v_lineParts v_pulseMany v_left v_dropped v_merged v_drops v_contributions v_packet v_peelResult v_peelTime v_peelSum v_at v_commands v_hash v_m v_saved v_script v_lengths v_fractions v_times v_energies v_far v_near v_echoes v_draft x1 x2 x3 h
    replace h : B_X6_upTo_4 (F_X6_upTo_4 n) v_m x1 x2 x3 = some r := h
    unfold B_X6_upTo_4 at h
    refine g_iload_n X rfl dX6_upTo_4 5 rfl ?_
    refine g_iload_n X rfl dX6_upTo_5 6 rfl ?_
    refine g_icmp_gt X dX6_upTo_6 27 (by decide) 9 rfl (fun hc => ?_) (fun hc => ?_)
    · replace h := if_t hc h
      refine g_iload_n X rfl dX6_upTo_27 28 rfl ?_
      cases h
      exact g_iret X dX6_upTo_28 () rfl rfl (Nat.le_of_ble_eq_true rfl) (Nat.le_of_ble_eq_true rfl)
    · replace h := if_f hc h
      refine g_iload_n X rfl dX6_upTo_9 10 rfl ?_
      refine g_aload_n X rfl dX6_upTo_10 11 rfl ?_
      refine g_get X gC5 0 rfl 0 (by decide) q1342 (fun _ h9 => h9) rfl dX6_upTo_11 14 rfl ?_
      refine g_iconst X 1 dX6_upTo_14 15 rfl kI_1 ?_
      refine g_iload_n X rfl dX6_upTo_15 16 rfl ?_
      refine g_iadd X dX6_upTo_16 17 rfl ?_
      obtain ⟨hi, h⟩ := gin_e h
      refine g_lald X 1 rfl hi dX6_upTo_17 18 rfl ?_
      refine g_l2i X dX6_upTo_18 19 rfl ?_
      refine g_iadd X dX6_upTo_19 20 rfl ?_
      refine g_topi (fun t1 et1 => ?_)
      replace h := nm_at et1 h
      refine g_istore_n X dX6_upTo_20 21 rfl (Nat.le_of_ble_eq_true rfl) rfl [some (.ref a0), some (.int x1), some (.int t1), some (.int x3)] rfl ?_
      refine g_iinc X 1 rfl dX6_upTo_21 24 rfl kI_1 (Nat.le_of_ble_eq_true rfl) rfl [some (.ref a0), some (.int x1), some (.int t1), some (.int (x3 + 1))] rfl ?_
      refine g_goto X dX6_upTo_24 4 (by decide) ?_
      exact hK4 v_savedCount v_scriptLength v_code v_lineParts v_pulseMany v_left v_dropped v_merged v_drops v_contributions v_packet v_peelResult v_peelTime v_peelSum v_at v_commands v_hash v_m v_saved v_script v_lengths v_fractions v_times v_energies v_far v_near v_echoes v_draft x1 t1 (x3 + 1) h
theorem met_X6_upTo (l : Launch) (Z : gZt) (a0 : Nat) (a1 : Nat) (a2 : Nat) (a3 : Nat) (a4 : Nat) (a5 : Nat) (a6 : Nat) (a7 : Nat) (a8 : Nat) (a9 : Nat) (a10 : Nat) (a11 : Nat) (v_savedCount : Int32) (v_scriptLength : Int32) (v_code : Int32) (v_lineParts : Int32) (v_pulseMany : Int32) (v_left : Int64) (v_dropped : Int64) (v_merged : Int32) (v_drops : Int32) (v_contributions : Int32) (v_packet : Int64) (v_peelResult : Int32) (v_peelTime : Int32) (v_peelSum : Int32) (v_at : Int32) (v_commands : Int32) (v_hash : Int64) (v_m : Nat → Int64) (v_saved : Nat → Int64) (v_script : Nat → Int32) (v_lengths : Nat → Int32) (v_fractions : Nat → Int32) (v_times : Nat → Int32) (v_energies : Nat → Int64) (v_far : Nat → Int64) (v_near : Nat → Int64) (v_echoes : Nat → Int64) (v_draft : Nat → Int32) (x1 : Int32) (r : Int32) (h : F_X6_upTo v_m x1 = some r) : Ct l yX6_upTo (ws_ yX6_upTo cX6_upTo 4 (some .int)) rm_X6_upTo Z [.ref a0, .int x1] [(a0, .inr (5, [.ref a1, .ref a2, .int v_savedCount, .ref a3, .int v_scriptLength, .int v_code, .int v_lineParts, .ref a4, .ref a5, .int v_pulseMany, .ref a6, .ref a7, .ref a8, .ref a9, .ref a10, .long v_left, .long v_dropped, .int v_merged, .int v_drops, .int v_contributions, .long v_packet, .int v_peelResult, .int v_peelTime, .int v_peelSum, .int v_at, .int v_commands, .ref a11, .long v_hash])), (a1, .inl (Z.2 1, 431, .inr (.inl v_m))), (a2, .inl (Z.2 1, 1293, .inr (.inl v_saved))), (a3, .inl (Z.2 0, 120, .inl v_script)), (a4, .inl (Z.2 0, 8, .inl v_lengths)), (a5, .inl (Z.2 0, 9, .inl v_fractions)), (a6, .inl (Z.2 0, 4, .inl v_times)), (a7, .inl (Z.2 1, 4, .inr (.inl v_energies))), (a8, .inl (Z.2 1, 1809, .inr (.inl v_far))), (a9, .inl (Z.2 1, 1809, .inr (.inl v_near))), (a10, .inl (Z.2 1, 201, .inr (.inl v_echoes))), (a11, .inl (Z.2 0, 120, .inl v_draft))] [] (fun _ : Unit => (some (.int r) : Option Value)) (fun _ : Unit => ([(a0, .inr (5, [.ref a1, .ref a2, .int v_savedCount, .ref a3, .int v_scriptLength, .int v_code, .int v_lineParts, .ref a4, .ref a5, .int v_pulseMany, .ref a6, .ref a7, .ref a8, .ref a9, .ref a10, .long v_left, .long v_dropped, .int v_merged, .int v_drops, .int v_contributions, .long v_packet, .int v_peelResult, .int v_peelTime, .int v_peelSum, .int v_at, .int v_commands, .ref a11, .long v_hash])), (a1, .inl (Z.2 1, 431, .inr (.inl v_m))), (a2, .inl (Z.2 1, 1293, .inr (.inl v_saved))), (a3, .inl (Z.2 0, 120, .inl v_script)), (a4, .inl (Z.2 0, 8, .inl v_lengths)), (a5, .inl (Z.2 0, 9, .inl v_fractions)), (a6, .inl (Z.2 0, 4, .inl v_times)), (a7, .inl (Z.2 1, 4, .inr (.inl v_energies))), (a8, .inl (Z.2 1, 1809, .inr (.inl v_far))), (a9, .inl (Z.2 1, 1809, .inr (.inl v_near))), (a10, .inl (Z.2 1, 201, .inr (.inl v_echoes))), (a11, .inl (Z.2 0, 120, .inl v_draft))] : va_W)) := by
  refine Ct.of cX6_upTo 4 (some .int) "LineEchoesModel" [some (.ref a0), some (.int x1), none, none] 2 (by decide) rfl (Nat.le_of_ble_eq_true rfl) rfl (fun p e s m args below meth c A X hin => ?_)
  unfold F_X6_upTo at h
  refine g_iconst X 0 dX6_upTo_0 1 rfl kI_0 ?_
  refine g_istore_n X dX6_upTo_1 2 rfl (Nat.le_of_ble_eq_true rfl) rfl [some (.ref a0), some (.int x1), some (.int 0), none] rfl ?_
  refine g_iconst X 0 dX6_upTo_2 3 rfl kI_0 ?_
  refine g_istore_n X dX6_upTo_3 4 rfl (Nat.le_of_ble_eq_true rfl) rfl [some (.ref a0), some (.int x1), some (.int 0), some (.int 0)] rfl ?_
  exact w_X6_upTo_4 a0 a1 a2 a3 a4 a5 a6 a7 a8 a9 a10 a11  X  r    gFU v_savedCount v_scriptLength v_code v_lineParts v_pulseMany v_left v_dropped v_merged v_drops v_contributions v_packet v_peelResult v_peelTime v_peelSum v_at v_commands v_hash v_m v_saved v_script v_lengths v_fractions v_times v_energies v_far v_near v_echoes v_draft x1 0 0 h
/-! LineEchoesModel.part(II)I -/
abbrev rm_X6_part : Room := { frames := 2, cells := 0, slots := 0, locals := 46 }
def F_X6_part_73 (v_code : Int32) (s0 : Int32) : Option (Int32 × Int32) :=
  some (s0, v_code)
def F_X6_part_30 (v_m : Nat → Int64) (x1 : Int32) (x2 : Int32) (s1 : Int32) : Option (Int32 × Int32) :=
  if s1 = 0 then
    (if x2 = 2 then
      (bd1 (F_X6_upTo v_m x1) fun r1 =>
      F_X6_part_73 s1 r1)
    else
      (gin ((if x2 = 0 then (1 : Int32) else 9) + x1) 431 <|
      F_X6_part_73 s1 ((v_m ((if x2 = 0 then (1 : Int32) else 9) + x1).toNatClampNeg).toInt32)))
  else
    (some (0, s1))
def F_X6_part (v_m : Nat → Int64) (x1 : Int32) (x2 : Int32) : Option (Int32 × Int32) :=
  bd1 (F_X6_isPart v_m x1) fun r1 =>
  if r1 = 0 then
    (F_X6_part_30 v_m x1 x2 1)
  else
    (bd1 (F_X6_in x2.toInt64 0 2) fun r2 =>
    F_X6_part_30 v_m x1 x2 (if r2 = 0 then (2 : Int32) else 0))
theorem w_X6_part_73 {p : Program} {l : Launch} {e : Env} {s : State} {m : MethodId} {args : Array Value} {below : List Frame} {meth : Method} {c : Code} {Z : gZt} {A : Nat → Prop} (a0 : Nat) (a1 : Nat) (a2 : Nat) (a3 : Nat) (a4 : Nat) (a5 : Nat) (a6 : Nat) (a7 : Nat) (a8 : Nat) (a9 : Nat) (a10 : Nat) (a11 : Nat) (X : gX p s m args meth c Z A cX6_part "LineEchoesModel" 3 (some .int) []) (r : Int32) (r_code : Int32)  (v_savedCount : Int32) (v_scriptLength : Int32) (v_code : Int32) (v_lineParts : Int32) (v_pulseMany : Int32) (v_left : Int64) (v_dropped : Int64) (v_merged : Int32) (v_drops : Int32) (v_contributions : Int32) (v_packet : Int64) (v_peelResult : Int32) (v_peelTime : Int32) (v_peelSum : Int32) (v_at : Int32) (v_commands : Int32) (v_hash : Int64) (v_m : Nat → Int64) (v_saved : Nat → Int64) (v_script : Nat → Int32) (v_lengths : Nat → Int32) (v_fractions : Nat → Int32) (v_times : Nat → Int32) (v_energies : Nat → Int64) (v_far : Nat → Int64) (v_near : Nat → Int64) (v_echoes : Nat → Int64) (v_draft : Nat → Int32) (s0 : Int32) (h : F_X6_part_73 v_code s0 = some (r, r_code)) : G p l e rm_X6_part s m args below meth c Z A 3 (MQ below (gPost Z A (fun _ : Unit => (some (.int r) : Option Value)) (fun _ : Unit => ([(a0, .inr (5, [.ref a1, .ref a2, .int v_savedCount, .ref a3, .int v_scriptLength, .int r_code, .int v_lineParts, .ref a4, .ref a5, .int v_pulseMany, .ref a6, .ref a7, .ref a8, .ref a9, .ref a10, .long v_left, .long v_dropped, .int v_merged, .int v_drops, .int v_contributions, .long v_packet, .int v_peelResult, .int v_peelTime, .int v_peelSum, .int v_at, .int v_commands, .ref a11, .long v_hash])), (a1, .inl (Z.2 1, 431, .inr (.inl v_m))), (a2, .inl (Z.2 1, 1293, .inr (.inl v_saved))), (a3, .inl (Z.2 0, 120, .inl v_script)), (a4, .inl (Z.2 0, 8, .inl v_lengths)), (a5, .inl (Z.2 0, 9, .inl v_fractions)), (a6, .inl (Z.2 0, 4, .inl v_times)), (a7, .inl (Z.2 1, 4, .inr (.inl v_energies))), (a8, .inl (Z.2 1, 1809, .inr (.inl v_far))), (a9, .inl (Z.2 1, 1809, .inr (.inl v_near))), (a10, .inl (Z.2 1, 201, .inr (.inl v_echoes))), (a11, .inl (Z.2 0, 120, .inl v_draft))] : va_W))) args s 0 0 A) [(a0, .inr (5, [.ref a1, .ref a2, .int v_savedCount, .ref a3, .int v_scriptLength, .int v_code, .int v_lineParts, .ref a4, .ref a5, .int v_pulseMany, .ref a6, .ref a7, .ref a8, .ref a9, .ref a10, .long v_left, .long v_dropped, .int v_merged, .int v_drops, .int v_contributions, .long v_packet, .int v_peelResult, .int v_peelTime, .int v_peelSum, .int v_at, .int v_commands, .ref a11, .long v_hash])), (a1, .inl (Z.2 1, 431, .inr (.inl v_m))), (a2, .inl (Z.2 1, 1293, .inr (.inl v_saved))), (a3, .inl (Z.2 0, 120, .inl v_script)), (a4, .inl (Z.2 0, 8, .inl v_lengths)), (a5, .inl (Z.2 0, 9, .inl v_fractions)), (a6, .inl (Z.2 0, 4, .inl v_times)), (a7, .inl (Z.2 1, 4, .inr (.inl v_energies))), (a8, .inl (Z.2 1, 1809, .inr (.inl v_far))), (a9, .inl (Z.2 1, 1809, .inr (.inl v_near))), (a10, .inl (Z.2 1, 201, .inr (.inl v_echoes))), (a11, .inl (Z.2 0, 120, .inl v_draft))] 0 0 73 [none, none, none] [.int s0] := by
  unfold F_X6_part_73 at h
  cases h
  exact g_iret X dX6_part_73 () rfl rfl (Nat.le_of_ble_eq_true rfl) (Nat.le_of_ble_eq_true rfl)
theorem w_X6_part_30 {p : Program} {l : Launch} {e : Env} {s : State} {m : MethodId} {args : Array Value} {below : List Frame} {meth : Method} {c : Code} {Z : gZt} {A : Nat → Prop} (a0 : Nat) (a1 : Nat) (a2 : Nat) (a3 : Nat) (a4 : Nat) (a5 : Nat) (a6 : Nat) (a7 : Nat) (a8 : Nat) (a9 : Nat) (a10 : Nat) (a11 : Nat) (X : gX p s m args meth c Z A cX6_part "LineEchoesModel" 3 (some .int) []) (r : Int32) (r_code : Int32)  (v_savedCount : Int32) (v_scriptLength : Int32) (v_code : Int32) (v_lineParts : Int32) (v_pulseMany : Int32) (v_left : Int64) (v_dropped : Int64) (v_merged : Int32) (v_drops : Int32) (v_contributions : Int32) (v_packet : Int64) (v_peelResult : Int32) (v_peelTime : Int32) (v_peelSum : Int32) (v_at : Int32) (v_commands : Int32) (v_hash : Int64) (v_m : Nat → Int64) (v_saved : Nat → Int64) (v_script : Nat → Int32) (v_lengths : Nat → Int32) (v_fractions : Nat → Int32) (v_times : Nat → Int32) (v_energies : Nat → Int64) (v_far : Nat → Int64) (v_near : Nat → Int64) (v_echoes : Nat → Int64) (v_draft : Nat → Int32) (x1 : Int32) (x2 : Int32) (s1 : Int32) (h : F_X6_part_30 v_m x1 x2 s1 = some (r, r_code)) : G p l e rm_X6_part s m args below meth c Z A 3 (MQ below (gPost Z A (fun _ : Unit => (some (.int r) : Option Value)) (fun _ : Unit => ([(a0, .inr (5, [.ref a1, .ref a2, .int v_savedCount, .ref a3, .int v_scriptLength, .int r_code, .int v_lineParts, .ref a4, .ref a5, .int v_pulseMany, .ref a6, .ref a7, .ref a8, .ref a9, .ref a10, .long v_left, .long v_dropped, .int v_merged, .int v_drops, .int v_contributions, .long v_packet, .int v_peelResult, .int v_peelTime, .int v_peelSum, .int v_at, .int v_commands, .ref a11, .long v_hash])), (a1, .inl (Z.2 1, 431, .inr (.inl v_m))), (a2, .inl (Z.2 1, 1293, .inr (.inl v_saved))), (a3, .inl (Z.2 0, 120, .inl v_script)), (a4, .inl (Z.2 0, 8, .inl v_lengths)), (a5, .inl (Z.2 0, 9, .inl v_fractions)), (a6, .inl (Z.2 0, 4, .inl v_times)), (a7, .inl (Z.2 1, 4, .inr (.inl v_energies))), (a8, .inl (Z.2 1, 1809, .inr (.inl v_far))), (a9, .inl (Z.2 1, 1809, .inr (.inl v_near))), (a10, .inl (Z.2 1, 201, .inr (.inl v_echoes))), (a11, .inl (Z.2 0, 120, .inl v_draft))] : va_W))) args s 0 0 A) [(a0, .inr (5, [.ref a1, .ref a2, .int v_savedCount, .ref a3, .int v_scriptLength, .int v_code, .int v_lineParts, .ref a4, .ref a5, .int v_pulseMany, .ref a6, .ref a7, .ref a8, .ref a9, .ref a10, .long v_left, .long v_dropped, .int v_merged, .int v_drops, .int v_contributions, .long v_packet, .int v_peelResult, .int v_peelTime, .int v_peelSum, .int v_at, .int v_commands, .ref a11, .long v_hash])), (a1, .inl (Z.2 1, 431, .inr (.inl v_m))), (a2, .inl (Z.2 1, 1293, .inr (.inl v_saved))), (a3, .inl (Z.2 0, 120, .inl v_script)), (a4, .inl (Z.2 0, 8, .inl v_lengths)), (a5, .inl (Z.2 0, 9, .inl v_fractions)), (a6, .inl (Z.2 0, 4, .inl v_times)), (a7, .inl (Z.2 1, 4, .inr (.inl v_energies))), (a8, .inl (Z.2 1, 1809, .inr (.inl v_far))), (a9, .inl (Z.2 1, 1809, .inr (.inl v_near))), (a10, .inl (Z.2 1, 201, .inr (.inl v_echoes))), (a11, .inl (Z.2 0, 120, .inl v_draft))] 0 0 30 [some (.ref a0), some (.int x1), some (.int x2)] [.int s1, .ref a0] := by
  unfold F_X6_part_30 at h
  refine g_put X gC5 0 rfl 5 (by decide) q1347 (fun _ h9 => h9) rfl rfl rfl (Nat.le_of_ble_eq_true rfl) dX6_part_30 33 rfl ?_
  refine g_aload_n X rfl dX6_part_33 34 rfl ?_
  refine g_get X gC5 0 rfl 5 (by decide) q1347 (fun _ h9 => h9) rfl dX6_part_34 37 rfl ?_
  refine g_if_eq X dX6_part_37 42 (by decide) 40 rfl (fun hc => ?_) (fun hc => ?_)
  · replace h := if_t hc h
    refine g_iload_n X rfl dX6_part_42 43 rfl ?_
    refine g_iconst X 2 dX6_part_43 44 rfl kI_2 ?_
    refine g_icmp_ne X dX6_part_44 55 (by decide) 47 rfl (fun hc => ?_) (fun hc => ?_)
    · replace h := if_f hc h
      refine g_aload_n X rfl dX6_part_55 56 rfl ?_
      refine g_get X gC5 0 rfl 0 (by decide) q1342 (fun _ h9 => h9) rfl dX6_part_56 59 rfl ?_
      refine g_iload_n X rfl dX6_part_59 60 rfl ?_
      refine g_seli 69 [.ref a1] (b := x2 = 0) 1 9 ?_ (fun hc K => ?_) (fun hc K => ?_)
      · refine g_iload_n X rfl dX6_part_69 70 rfl ?_
        refine g_iadd X dX6_part_70 71 rfl ?_
        obtain ⟨hi, h⟩ := gin_e h
        refine g_lald X 1 rfl hi dX6_part_71 72 rfl ?_
        refine g_l2i X dX6_part_72 73 rfl ?_
        refine g_kill (j := 0) [none, some (.int x1), some (.int x2)] rfl ?_
        refine g_kill (j := 1) [none, none, some (.int x2)] rfl ?_
        refine g_kill (j := 2) [none, none, none] rfl ?_
        exact w_X6_part_73 a0 a1 a2 a3 a4 a5 a6 a7 a8 a9 a10 a11  X  r r_code    v_savedCount v_scriptLength s1 v_lineParts v_pulseMany v_left v_dropped v_merged v_drops v_contributions v_packet v_peelResult v_peelTime v_peelSum v_at v_commands v_hash v_m v_saved v_script v_lengths v_fractions v_times v_energies v_far v_near v_echoes v_draft ((v_m ((if x2 = 0 then (1 : Int32) else 9) + x1).toNatClampNeg).toInt32) h
      · refine g_if_ne X dX6_part_60 67 (by decide) 63 rfl (fun hn => absurd hc hn) (fun _ => ?_)
        refine g_iconst X 1 dX6_part_63 64 rfl kI_1 ?_
        refine g_goto X dX6_part_64 69 (by decide) ?_
        exact K
      · refine g_if_ne X dX6_part_60 67 (by decide) 63 rfl (fun _ => ?_) (fun hn => absurd hn hc)
        refine g_bipush X 9 dX6_part_67 69 rfl kB_9 ?_
        exact K
    · replace h := if_t hc h
      refine g_aload_n X rfl dX6_part_47 48 rfl ?_
      refine g_iload_n X rfl dX6_part_48 49 rfl ?_
      obtain ⟨r1, hcl, h⟩ := bd1_e h
      refine g_callV1W X (met_X6_upTo l Z a0 a1 a2 a3 a4 a5 a6 a7 a8 a9 a10 a11 v_savedCount v_scriptLength s1 v_lineParts v_pulseMany v_left v_dropped v_merged v_drops v_contributions v_packet v_peelResult v_peelTime v_peelSum v_at v_commands v_hash v_m v_saved v_script v_lengths v_fractions v_times v_energies v_far v_near v_echoes v_draft x1 r1 hcl) rfl 0 gC5 rfl rfl (lw_V q1545 q1547 qs37 q74 q1548) md_X6_upTo ⟨(Nat.le_of_ble_eq_true rfl), (Nat.le_of_ble_eq_true rfl)⟩ rfl dX6_part_49 52 rfl 0 0 rfl rfl (Nat.le_of_ble_eq_true rfl) (Nat.le_of_ble_eq_true rfl) (st := []) rfl (Nat.le_of_ble_eq_true rfl) (fun _ => rfl) (fun _ => ?_)
      refine g_goto X dX6_part_52 73 (by decide) ?_
      refine g_kill (j := 0) [none, some (.int x1), some (.int x2)] rfl ?_
      refine g_kill (j := 1) [none, none, some (.int x2)] rfl ?_
      refine g_kill (j := 2) [none, none, none] rfl ?_
      exact w_X6_part_73 a0 a1 a2 a3 a4 a5 a6 a7 a8 a9 a10 a11  X  r r_code    v_savedCount v_scriptLength s1 v_lineParts v_pulseMany v_left v_dropped v_merged v_drops v_contributions v_packet v_peelResult v_peelTime v_peelSum v_at v_commands v_hash v_m v_saved v_script v_lengths v_fractions v_times v_energies v_far v_near v_echoes v_draft r1 h
  · replace h := if_f hc h
    refine g_iconst X 0 dX6_part_40 41 rfl kI_0 ?_
    cases h
    exact g_iret X dX6_part_41 () rfl rfl (Nat.le_of_ble_eq_true rfl) (Nat.le_of_ble_eq_true rfl)
theorem met_X6_part (l : Launch) (Z : gZt) (a0 : Nat) (a1 : Nat) (a2 : Nat) (a3 : Nat) (a4 : Nat) (a5 : Nat) (a6 : Nat) (a7 : Nat) (a8 : Nat) (a9 : Nat) (a10 : Nat) (a11 : Nat) (v_savedCount : Int32) (v_scriptLength : Int32) (v_code : Int32) (v_lineParts : Int32) (v_pulseMany : Int32) (v_left : Int64) (v_dropped : Int64) (v_merged : Int32) (v_drops : Int32) (v_contributions : Int32) (v_packet : Int64) (v_peelResult : Int32) (v_peelTime : Int32) (v_peelSum : Int32) (v_at : Int32) (v_commands : Int32) (v_hash : Int64) (v_m : Nat → Int64) (v_saved : Nat → Int64) (v_script : Nat → Int32) (v_lengths : Nat → Int32) (v_fractions : Nat → Int32) (v_times : Nat → Int32) (v_energies : Nat → Int64) (v_far : Nat → Int64) (v_near : Nat → Int64) (v_echoes : Nat → Int64) (v_draft : Nat → Int32) (x1 : Int32) (x2 : Int32) (r : Int32) (r_code : Int32) (h : F_X6_part v_m x1 x2 = some (r, r_code)) : Ct l yX6_part (ws_ yX6_part cX6_part 3 (some .int)) rm_X6_part Z [.ref a0, .int x1, .int x2] [(a0, .inr (5, [.ref a1, .ref a2, .int v_savedCount, .ref a3, .int v_scriptLength, .int v_code, .int v_lineParts, .ref a4, .ref a5, .int v_pulseMany, .ref a6, .ref a7, .ref a8, .ref a9, .ref a10, .long v_left, .long v_dropped, .int v_merged, .int v_drops, .int v_contributions, .long v_packet, .int v_peelResult, .int v_peelTime, .int v_peelSum, .int v_at, .int v_commands, .ref a11, .long v_hash])), (a1, .inl (Z.2 1, 431, .inr (.inl v_m))), (a2, .inl (Z.2 1, 1293, .inr (.inl v_saved))), (a3, .inl (Z.2 0, 120, .inl v_script)), (a4, .inl (Z.2 0, 8, .inl v_lengths)), (a5, .inl (Z.2 0, 9, .inl v_fractions)), (a6, .inl (Z.2 0, 4, .inl v_times)), (a7, .inl (Z.2 1, 4, .inr (.inl v_energies))), (a8, .inl (Z.2 1, 1809, .inr (.inl v_far))), (a9, .inl (Z.2 1, 1809, .inr (.inl v_near))), (a10, .inl (Z.2 1, 201, .inr (.inl v_echoes))), (a11, .inl (Z.2 0, 120, .inl v_draft))] [] (fun _ : Unit => (some (.int r) : Option Value)) (fun _ : Unit => ([(a0, .inr (5, [.ref a1, .ref a2, .int v_savedCount, .ref a3, .int v_scriptLength, .int r_code, .int v_lineParts, .ref a4, .ref a5, .int v_pulseMany, .ref a6, .ref a7, .ref a8, .ref a9, .ref a10, .long v_left, .long v_dropped, .int v_merged, .int v_drops, .int v_contributions, .long v_packet, .int v_peelResult, .int v_peelTime, .int v_peelSum, .int v_at, .int v_commands, .ref a11, .long v_hash])), (a1, .inl (Z.2 1, 431, .inr (.inl v_m))), (a2, .inl (Z.2 1, 1293, .inr (.inl v_saved))), (a3, .inl (Z.2 0, 120, .inl v_script)), (a4, .inl (Z.2 0, 8, .inl v_lengths)), (a5, .inl (Z.2 0, 9, .inl v_fractions)), (a6, .inl (Z.2 0, 4, .inl v_times)), (a7, .inl (Z.2 1, 4, .inr (.inl v_energies))), (a8, .inl (Z.2 1, 1809, .inr (.inl v_far))), (a9, .inl (Z.2 1, 1809, .inr (.inl v_near))), (a10, .inl (Z.2 1, 201, .inr (.inl v_echoes))), (a11, .inl (Z.2 0, 120, .inl v_draft))] : va_W)) := by
  refine Ct.of cX6_part 3 (some .int) "LineEchoesModel" [some (.ref a0), some (.int x1), some (.int x2)] 0 (by decide) rfl (Nat.le_of_ble_eq_true rfl) rfl (fun p e s m args below meth c A X hin => ?_)
  unfold F_X6_part at h
  refine g_aload_n X rfl dX6_part_0 1 rfl ?_
  refine g_aload_n X rfl dX6_part_1 2 rfl ?_
  refine g_iload_n X rfl dX6_part_2 3 rfl ?_
  obtain ⟨r1, hcl, h⟩ := bd1_e h
  refine g_callV1W X (met_X6_isPart l Z a0 a1 a2 a3 a4 a5 a6 a7 a8 a9 a10 a11 v_savedCount v_scriptLength v_code v_lineParts v_pulseMany v_left v_dropped v_merged v_drops v_contributions v_packet v_peelResult v_peelTime v_peelSum v_at v_commands v_hash v_m v_saved v_script v_lengths v_fractions v_times v_energies v_far v_near v_echoes v_draft x1 r1 hcl) rfl 0 gC5 rfl rfl (lw_V q1471 q1473 qs27 q74 q1474) md_X6_isPart ⟨(Nat.le_of_ble_eq_true rfl), (Nat.le_of_ble_eq_true rfl)⟩ rfl dX6_part_3 6 rfl 0 0 rfl rfl (Nat.le_of_ble_eq_true rfl) (Nat.le_of_ble_eq_true rfl) (st := [.ref a0]) rfl (Nat.le_of_ble_eq_true rfl) (fun _ => rfl) (fun _ => ?_)
  refine g_if_ne X dX6_part_6 13 (by decide) 9 rfl (fun hc => ?_) (fun hc => ?_)
  · replace h := if_f hc h
    refine g_iload_n X rfl dX6_part_13 14 rfl ?_
    refine g_i2l X dX6_part_14 15 rfl ?_
    refine g_lconst X 0 dX6_part_15 16 rfl rfl ?_
    refine g_ldc2 X q1540 dX6_part_16 19 rfl ?_
    obtain ⟨r2, hcl, h⟩ := bd1_e h
    refine g_callS1Z X (met_X6_in l Z   x2.toInt64 0 2 r2 hcl) (lw_S q1443 q1444 q74 q1445) md_X6_in ⟨(Nat.le_of_ble_eq_true rfl), (Nat.le_of_ble_eq_true rfl)⟩ rfl dX6_part_19 22 rfl 0 0 rfl rfl (Nat.le_of_ble_eq_true rfl) (Nat.le_of_ble_eq_true rfl) (st := [.ref a0]) rfl (Nat.le_of_ble_eq_true rfl) (fun _ => rfl) (fun _ => ?_)
    refine g_seli 30 [.ref a0] (b := r2 = 0) 2 0 ?_ (fun hc K => ?_) (fun hc K => ?_)
    · exact w_X6_part_30 a0 a1 a2 a3 a4 a5 a6 a7 a8 a9 a10 a11  X  r r_code    v_savedCount v_scriptLength v_code v_lineParts v_pulseMany v_left v_dropped v_merged v_drops v_contributions v_packet v_peelResult v_peelTime v_peelSum v_at v_commands v_hash v_m v_saved v_script v_lengths v_fractions v_times v_energies v_far v_near v_echoes v_draft x1 x2 (if r2 = 0 then (2 : Int32) else 0) h
    · refine g_if_eq X dX6_part_22 29 (by decide) 25 rfl (fun _ => ?_) (fun hn => absurd hc hn)
      refine g_iconst X 2 dX6_part_29 30 rfl kI_2 ?_
      exact K
    · refine g_if_eq X dX6_part_22 29 (by decide) 25 rfl (fun hn => absurd hn hc) (fun _ => ?_)
      refine g_iconst X 0 dX6_part_25 26 rfl kI_0 ?_
      refine g_goto X dX6_part_26 30 (by decide) ?_
      exact K
  · replace h := if_t hc h
    refine g_iconst X 1 dX6_part_9 10 rfl kI_1 ?_
    refine g_goto X dX6_part_10 30 (by decide) ?_
    exact w_X6_part_30 a0 a1 a2 a3 a4 a5 a6 a7 a8 a9 a10 a11  X  r r_code    v_savedCount v_scriptLength v_code v_lineParts v_pulseMany v_left v_dropped v_merged v_drops v_contributions v_packet v_peelResult v_peelTime v_peelSum v_at v_commands v_hash v_m v_saved v_script v_lengths v_fractions v_times v_energies v_far v_near v_echoes v_draft x1 x2 1 h
/-! LineEchoesModel.benchOf(I)I -/
abbrev rm_X6_benchOf : Room := { frames := 2, cells := 0, slots := 0, locals := 42 }
def F_X6_benchOf (v_m : Nat → Int64) (x1 : Int32) : Option (Int32) :=
  if x1 = 0 then
    (bd1 (F_X6_parts v_m) fun r1 =>
    some r1)
  else
    (if x1 = 1 then
      (gin 20 431 <|
      some ((v_m (Int32.toNatClampNeg 20)).toInt32))
    else
      (if x1 = 5 then
        (bd1 (F_X6_sumOfLengths v_m) fun r2 =>
        some r2)
      else
        (gin ((17 + x1) - 2) 431 <|
        some ((v_m ((17 + x1) - 2).toNatClampNeg).toInt32))))
theorem met_X6_benchOf (l : Launch) (Z : gZt) (a0 : Nat) (a1 : Nat) (a2 : Nat) (a3 : Nat) (a4 : Nat) (a5 : Nat) (a6 : Nat) (a7 : Nat) (a8 : Nat) (a9 : Nat) (a10 : Nat) (a11 : Nat) (v_savedCount : Int32) (v_scriptLength : Int32) (v_code : Int32) (v_lineParts : Int32) (v_pulseMany : Int32) (v_left : Int64) (v_dropped : Int64) (v_merged : Int32) (v_drops : Int32) (v_contributions : Int32) (v_packet : Int64) (v_peelResult : Int32) (v_peelTime : Int32) (v_peelSum : Int32) (v_at : Int32) (v_commands : Int32) (v_hash : Int64) (v_m : Nat → Int64) (v_saved : Nat → Int64) (v_script : Nat → Int32) (v_lengths : Nat → Int32) (v_fractions : Nat → Int32) (v_times : Nat → Int32) (v_energies : Nat → Int64) (v_far : Nat → Int64) (v_near : Nat → Int64) (v_echoes : Nat → Int64) (v_draft : Nat → Int32) (x1 : Int32) (r : Int32) (h : F_X6_benchOf v_m x1 = some r) : Ct l yX6_benchOf (ws_ yX6_benchOf cX6_benchOf 2 (some .int)) rm_X6_benchOf Z [.ref a0, .int x1] [(a0, .inr (5, [.ref a1, .ref a2, .int v_savedCount, .ref a3, .int v_scriptLength, .int v_code, .int v_lineParts, .ref a4, .ref a5, .int v_pulseMany, .ref a6, .ref a7, .ref a8, .ref a9, .ref a10, .long v_left, .long v_dropped, .int v_merged, .int v_drops, .int v_contributions, .long v_packet, .int v_peelResult, .int v_peelTime, .int v_peelSum, .int v_at, .int v_commands, .ref a11, .long v_hash])), (a1, .inl (Z.2 1, 431, .inr (.inl v_m))), (a2, .inl (Z.2 1, 1293, .inr (.inl v_saved))), (a3, .inl (Z.2 0, 120, .inl v_script)), (a4, .inl (Z.2 0, 8, .inl v_lengths)), (a5, .inl (Z.2 0, 9, .inl v_fractions)), (a6, .inl (Z.2 0, 4, .inl v_times)), (a7, .inl (Z.2 1, 4, .inr (.inl v_energies))), (a8, .inl (Z.2 1, 1809, .inr (.inl v_far))), (a9, .inl (Z.2 1, 1809, .inr (.inl v_near))), (a10, .inl (Z.2 1, 201, .inr (.inl v_echoes))), (a11, .inl (Z.2 0, 120, .inl v_draft))] [] (fun _ : Unit => (some (.int r) : Option Value)) (fun _ : Unit => ([(a0, .inr (5, [.ref a1, .ref a2, .int v_savedCount, .ref a3, .int v_scriptLength, .int v_code, .int v_lineParts, .ref a4, .ref a5, .int v_pulseMany, .ref a6, .ref a7, .ref a8, .ref a9, .ref a10, .long v_left, .long v_dropped, .int v_merged, .int v_drops, .int v_contributions, .long v_packet, .int v_peelResult, .int v_peelTime, .int v_peelSum, .int v_at, .int v_commands, .ref a11, .long v_hash])), (a1, .inl (Z.2 1, 431, .inr (.inl v_m))), (a2, .inl (Z.2 1, 1293, .inr (.inl v_saved))), (a3, .inl (Z.2 0, 120, .inl v_script)), (a4, .inl (Z.2 0, 8, .inl v_lengths)), (a5, .inl (Z.2 0, 9, .inl v_fractions)), (a6, .inl (Z.2 0, 4, .inl v_times)), (a7, .inl (Z.2 1, 4, .inr (.inl v_energies))), (a8, .inl (Z.2 1, 1809, .inr (.inl v_far))), (a9, .inl (Z.2 1, 1809, .inr (.inl v_near))), (a10, .inl (Z.2 1, 201, .inr (.inl v_echoes))), (a11, .inl (Z.2 0, 120, .inl v_draft))] : va_W)) := by
  refine Ct.of cX6_benchOf 2 (some .int) "LineEchoesModel" [some (.ref a0), some (.int x1)] 0 (by decide) rfl (Nat.le_of_ble_eq_true rfl) rfl (fun p e s m args below meth c A X hin => ?_)
  unfold F_X6_benchOf at h
  refine g_iload_n X rfl dX6_benchOf_0 1 rfl ?_
  by_cases hc0 : x1 = 0
  · replace h := if_t hc0 h
    refine g_look (off := 35) X dX6_benchOf_1 36 (by decide) (by rw [hc0] <;> rfl) (by decide) ?_
    refine g_aload_n X rfl dX6_benchOf_36 37 rfl ?_
    obtain ⟨r1, hcl, h⟩ := bd1_e h
    refine g_callV1W X (met_X6_parts l Z a0 a1 a2 a3 a4 a5 a6 a7 a8 a9 a10 a11 v_savedCount v_scriptLength v_code v_lineParts v_pulseMany v_left v_dropped v_merged v_drops v_contributions v_packet v_peelResult v_peelTime v_peelSum v_at v_commands v_hash v_m v_saved v_script v_lengths v_fractions v_times v_energies v_far v_near v_echoes v_draft  r1 hcl) rfl 0 gC5 rfl rfl (lw_V q1447 q1449 qs22 q74 q1450) md_X6_parts ⟨(Nat.le_of_ble_eq_true rfl), (Nat.le_of_ble_eq_true rfl)⟩ rfl dX6_benchOf_37 40 rfl 0 0 rfl rfl (Nat.le_of_ble_eq_true rfl) (Nat.le_of_ble_eq_true rfl) (st := []) rfl (Nat.le_of_ble_eq_true rfl) (fun _ => rfl) (fun _ => ?_)
    cases h
    exact g_iret X dX6_benchOf_40 () rfl rfl (Nat.le_of_ble_eq_true rfl) (Nat.le_of_ble_eq_true rfl)
  replace h := if_f hc0 h
  by_cases hc1 : x1 = 1
  · replace h := if_t hc1 h
    refine g_look (off := 40) X dX6_benchOf_1 41 (by decide) (by rw [hc1] <;> rfl) (by decide) ?_
    refine g_aload_n X rfl dX6_benchOf_41 42 rfl ?_
    refine g_get X gC5 0 rfl 0 (by decide) q1342 (fun _ h9 => h9) rfl dX6_benchOf_42 45 rfl ?_
    refine g_bipush X 20 dX6_benchOf_45 47 rfl kB_20 ?_
    obtain ⟨hi, h⟩ := gin_e h
    refine g_lald X 1 rfl hi dX6_benchOf_47 48 rfl ?_
    refine g_l2i X dX6_benchOf_48 49 rfl ?_
    cases h
    exact g_iret X dX6_benchOf_49 () rfl rfl (Nat.le_of_ble_eq_true rfl) (Nat.le_of_ble_eq_true rfl)
  replace h := if_f hc1 h
  by_cases hc2 : x1 = 5
  · replace h := if_t hc2 h
    refine g_look (off := 49) X dX6_benchOf_1 50 (by decide) (by rw [hc2] <;> rfl) (by decide) ?_
    refine g_aload_n X rfl dX6_benchOf_50 51 rfl ?_
    obtain ⟨r2, hcl, h⟩ := bd1_e h
    refine g_callV1W X (met_X6_sumOfLengths l Z a0 a1 a2 a3 a4 a5 a6 a7 a8 a9 a10 a11 v_savedCount v_scriptLength v_code v_lineParts v_pulseMany v_left v_dropped v_merged v_drops v_contributions v_packet v_peelResult v_peelTime v_peelSum v_at v_commands v_hash v_m v_saved v_script v_lengths v_fractions v_times v_energies v_far v_near v_echoes v_draft  r2 hcl) rfl 0 gC5 rfl rfl (lw_V q1507 q1509 qs33 q74 q1510) md_X6_sumOfLengths ⟨(Nat.le_of_ble_eq_true rfl), (Nat.le_of_ble_eq_true rfl)⟩ rfl dX6_benchOf_51 54 rfl 0 0 rfl rfl (Nat.le_of_ble_eq_true rfl) (Nat.le_of_ble_eq_true rfl) (st := []) rfl (Nat.le_of_ble_eq_true rfl) (fun _ => rfl) (fun _ => ?_)
    cases h
    exact g_iret X dX6_benchOf_54 () rfl rfl (Nat.le_of_ble_eq_true rfl) (Nat.le_of_ble_eq_true rfl)
  replace h := if_f hc2 h
  refine g_look (off := 54) X dX6_benchOf_1 55 (by decide) ((lv_osw hc0 (by decide)).trans ((lv_osw hc1 (by decide)).trans ((lv_osw hc2 (by decide)).trans rfl))) (by decide) ?_
  refine g_aload_n X rfl dX6_benchOf_55 56 rfl ?_
  refine g_get X gC5 0 rfl 0 (by decide) q1342 (fun _ h9 => h9) rfl dX6_benchOf_56 59 rfl ?_
  refine g_bipush X 17 dX6_benchOf_59 61 rfl kB_17 ?_
  refine g_iload_n X rfl dX6_benchOf_61 62 rfl ?_
  refine g_iadd X dX6_benchOf_62 63 rfl ?_
  refine g_iconst X 2 dX6_benchOf_63 64 rfl kI_2 ?_
  refine g_isub X dX6_benchOf_64 65 rfl ?_
  obtain ⟨hi, h⟩ := gin_e h
  refine g_lald X 1 rfl hi dX6_benchOf_65 66 rfl ?_
  refine g_l2i X dX6_benchOf_66 67 rfl ?_
  cases h
  exact g_iret X dX6_benchOf_67 () rfl rfl (Nat.le_of_ble_eq_true rfl) (Nat.le_of_ble_eq_true rfl)
/-! LineEchoesModel.bench(I)I -/
abbrev rm_X6_bench : Room := { frames := 3, cells := 0, slots := 0, locals := 63 }
def F_X6_bench_37 (v_code : Int32) (s0 : Int32) : Option (Int32 × Int32) :=
  some (s0, v_code)
def F_X6_bench (v_m : Nat → Int64) (x1 : Int32) : Option (Int32 × Int32) :=
  bd1 (F_X6_in x1.toInt64 0 5) fun r1 =>
  if (if r1 = 0 then (1 : Int32) else 0) = 0 then
    (bd1 (F_X6_benchOf v_m x1) fun r2 =>
    F_X6_bench_37 (if r1 = 0 then (1 : Int32) else 0) r2)
  else
    (F_X6_bench_37 (if r1 = 0 then (1 : Int32) else 0) 0)
theorem w_X6_bench_37 {p : Program} {l : Launch} {e : Env} {s : State} {m : MethodId} {args : Array Value} {below : List Frame} {meth : Method} {c : Code} {Z : gZt} {A : Nat → Prop} (a0 : Nat) (a1 : Nat) (a2 : Nat) (a3 : Nat) (a4 : Nat) (a5 : Nat) (a6 : Nat) (a7 : Nat) (a8 : Nat) (a9 : Nat) (a10 : Nat) (a11 : Nat) (X : gX p s m args meth c Z A cX6_bench "LineEchoesModel" 2 (some .int) []) (r : Int32) (r_code : Int32)  (v_savedCount : Int32) (v_scriptLength : Int32) (v_code : Int32) (v_lineParts : Int32) (v_pulseMany : Int32) (v_left : Int64) (v_dropped : Int64) (v_merged : Int32) (v_drops : Int32) (v_contributions : Int32) (v_packet : Int64) (v_peelResult : Int32) (v_peelTime : Int32) (v_peelSum : Int32) (v_at : Int32) (v_commands : Int32) (v_hash : Int64) (v_m : Nat → Int64) (v_saved : Nat → Int64) (v_script : Nat → Int32) (v_lengths : Nat → Int32) (v_fractions : Nat → Int32) (v_times : Nat → Int32) (v_energies : Nat → Int64) (v_far : Nat → Int64) (v_near : Nat → Int64) (v_echoes : Nat → Int64) (v_draft : Nat → Int32) (s0 : Int32) (h : F_X6_bench_37 v_code s0 = some (r, r_code)) : G p l e rm_X6_bench s m args below meth c Z A 2 (MQ below (gPost Z A (fun _ : Unit => (some (.int r) : Option Value)) (fun _ : Unit => ([(a0, .inr (5, [.ref a1, .ref a2, .int v_savedCount, .ref a3, .int v_scriptLength, .int r_code, .int v_lineParts, .ref a4, .ref a5, .int v_pulseMany, .ref a6, .ref a7, .ref a8, .ref a9, .ref a10, .long v_left, .long v_dropped, .int v_merged, .int v_drops, .int v_contributions, .long v_packet, .int v_peelResult, .int v_peelTime, .int v_peelSum, .int v_at, .int v_commands, .ref a11, .long v_hash])), (a1, .inl (Z.2 1, 431, .inr (.inl v_m))), (a2, .inl (Z.2 1, 1293, .inr (.inl v_saved))), (a3, .inl (Z.2 0, 120, .inl v_script)), (a4, .inl (Z.2 0, 8, .inl v_lengths)), (a5, .inl (Z.2 0, 9, .inl v_fractions)), (a6, .inl (Z.2 0, 4, .inl v_times)), (a7, .inl (Z.2 1, 4, .inr (.inl v_energies))), (a8, .inl (Z.2 1, 1809, .inr (.inl v_far))), (a9, .inl (Z.2 1, 1809, .inr (.inl v_near))), (a10, .inl (Z.2 1, 201, .inr (.inl v_echoes))), (a11, .inl (Z.2 0, 120, .inl v_draft))] : va_W))) args s 0 0 A) [(a0, .inr (5, [.ref a1, .ref a2, .int v_savedCount, .ref a3, .int v_scriptLength, .int v_code, .int v_lineParts, .ref a4, .ref a5, .int v_pulseMany, .ref a6, .ref a7, .ref a8, .ref a9, .ref a10, .long v_left, .long v_dropped, .int v_merged, .int v_drops, .int v_contributions, .long v_packet, .int v_peelResult, .int v_peelTime, .int v_peelSum, .int v_at, .int v_commands, .ref a11, .long v_hash])), (a1, .inl (Z.2 1, 431, .inr (.inl v_m))), (a2, .inl (Z.2 1, 1293, .inr (.inl v_saved))), (a3, .inl (Z.2 0, 120, .inl v_script)), (a4, .inl (Z.2 0, 8, .inl v_lengths)), (a5, .inl (Z.2 0, 9, .inl v_fractions)), (a6, .inl (Z.2 0, 4, .inl v_times)), (a7, .inl (Z.2 1, 4, .inr (.inl v_energies))), (a8, .inl (Z.2 1, 1809, .inr (.inl v_far))), (a9, .inl (Z.2 1, 1809, .inr (.inl v_near))), (a10, .inl (Z.2 1, 201, .inr (.inl v_echoes))), (a11, .inl (Z.2 0, 120, .inl v_draft))] 0 0 37 [none, none] [.int s0] := by
  unfold F_X6_bench_37 at h
  cases h
  exact g_iret X dX6_bench_37 () rfl rfl (Nat.le_of_ble_eq_true rfl) (Nat.le_of_ble_eq_true rfl)
theorem met_X6_bench (l : Launch) (Z : gZt) (a0 : Nat) (a1 : Nat) (a2 : Nat) (a3 : Nat) (a4 : Nat) (a5 : Nat) (a6 : Nat) (a7 : Nat) (a8 : Nat) (a9 : Nat) (a10 : Nat) (a11 : Nat) (v_savedCount : Int32) (v_scriptLength : Int32) (v_code : Int32) (v_lineParts : Int32) (v_pulseMany : Int32) (v_left : Int64) (v_dropped : Int64) (v_merged : Int32) (v_drops : Int32) (v_contributions : Int32) (v_packet : Int64) (v_peelResult : Int32) (v_peelTime : Int32) (v_peelSum : Int32) (v_at : Int32) (v_commands : Int32) (v_hash : Int64) (v_m : Nat → Int64) (v_saved : Nat → Int64) (v_script : Nat → Int32) (v_lengths : Nat → Int32) (v_fractions : Nat → Int32) (v_times : Nat → Int32) (v_energies : Nat → Int64) (v_far : Nat → Int64) (v_near : Nat → Int64) (v_echoes : Nat → Int64) (v_draft : Nat → Int32) (x1 : Int32) (r : Int32) (r_code : Int32) (h : F_X6_bench v_m x1 = some (r, r_code)) : Ct l yX6_bench (ws_ yX6_bench cX6_bench 2 (some .int)) rm_X6_bench Z [.ref a0, .int x1] [(a0, .inr (5, [.ref a1, .ref a2, .int v_savedCount, .ref a3, .int v_scriptLength, .int v_code, .int v_lineParts, .ref a4, .ref a5, .int v_pulseMany, .ref a6, .ref a7, .ref a8, .ref a9, .ref a10, .long v_left, .long v_dropped, .int v_merged, .int v_drops, .int v_contributions, .long v_packet, .int v_peelResult, .int v_peelTime, .int v_peelSum, .int v_at, .int v_commands, .ref a11, .long v_hash])), (a1, .inl (Z.2 1, 431, .inr (.inl v_m))), (a2, .inl (Z.2 1, 1293, .inr (.inl v_saved))), (a3, .inl (Z.2 0, 120, .inl v_script)), (a4, .inl (Z.2 0, 8, .inl v_lengths)), (a5, .inl (Z.2 0, 9, .inl v_fractions)), (a6, .inl (Z.2 0, 4, .inl v_times)), (a7, .inl (Z.2 1, 4, .inr (.inl v_energies))), (a8, .inl (Z.2 1, 1809, .inr (.inl v_far))), (a9, .inl (Z.2 1, 1809, .inr (.inl v_near))), (a10, .inl (Z.2 1, 201, .inr (.inl v_echoes))), (a11, .inl (Z.2 0, 120, .inl v_draft))] [] (fun _ : Unit => (some (.int r) : Option Value)) (fun _ : Unit => ([(a0, .inr (5, [.ref a1, .ref a2, .int v_savedCount, .ref a3, .int v_scriptLength, .int r_code, .int v_lineParts, .ref a4, .ref a5, .int v_pulseMany, .ref a6, .ref a7, .ref a8, .ref a9, .ref a10, .long v_left, .long v_dropped, .int v_merged, .int v_drops, .int v_contributions, .long v_packet, .int v_peelResult, .int v_peelTime, .int v_peelSum, .int v_at, .int v_commands, .ref a11, .long v_hash])), (a1, .inl (Z.2 1, 431, .inr (.inl v_m))), (a2, .inl (Z.2 1, 1293, .inr (.inl v_saved))), (a3, .inl (Z.2 0, 120, .inl v_script)), (a4, .inl (Z.2 0, 8, .inl v_lengths)), (a5, .inl (Z.2 0, 9, .inl v_fractions)), (a6, .inl (Z.2 0, 4, .inl v_times)), (a7, .inl (Z.2 1, 4, .inr (.inl v_energies))), (a8, .inl (Z.2 1, 1809, .inr (.inl v_far))), (a9, .inl (Z.2 1, 1809, .inr (.inl v_near))), (a10, .inl (Z.2 1, 201, .inr (.inl v_echoes))), (a11, .inl (Z.2 0, 120, .inl v_draft))] : va_W)) := by
  refine Ct.of cX6_bench 2 (some .int) "LineEchoesModel" [some (.ref a0), some (.int x1)] 0 (by decide) rfl (Nat.le_of_ble_eq_true rfl) rfl (fun p e s m args below meth c A X hin => ?_)
  unfold F_X6_bench at h
  refine g_aload_n X rfl dX6_bench_0 1 rfl ?_
  refine g_iload_n X rfl dX6_bench_1 2 rfl ?_
  refine g_i2l X dX6_bench_2 3 rfl ?_
  refine g_lconst X 0 dX6_bench_3 4 rfl rfl ?_
  refine g_ldc2 X q1553 dX6_bench_4 7 rfl ?_
  obtain ⟨r1, hcl, h⟩ := bd1_e h
  refine g_callS1Z X (met_X6_in l Z   x1.toInt64 0 5 r1 hcl) (lw_S q1443 q1444 q74 q1445) md_X6_in ⟨(Nat.le_of_ble_eq_true rfl), (Nat.le_of_ble_eq_true rfl)⟩ rfl dX6_bench_7 10 rfl 0 0 rfl rfl (Nat.le_of_ble_eq_true rfl) (Nat.le_of_ble_eq_true rfl) (st := [.ref a0]) rfl (Nat.le_of_ble_eq_true rfl) (fun _ => rfl) (fun _ => ?_)
  refine g_seli 18 [.ref a0] (b := r1 = 0) 1 0 ?_ (fun hc K => ?_) (fun hc K => ?_)
  · refine g_put X gC5 0 rfl 5 (by decide) q1347 (fun _ h9 => h9) rfl rfl rfl (Nat.le_of_ble_eq_true rfl) dX6_bench_18 21 rfl ?_
    refine g_aload_n X rfl dX6_bench_21 22 rfl ?_
    refine g_get X gC5 0 rfl 5 (by decide) q1347 (fun _ h9 => h9) rfl dX6_bench_22 25 rfl ?_
    refine g_if_eq X dX6_bench_25 32 (by decide) 28 rfl (fun hc => ?_) (fun hc => ?_)
    · replace h := if_t hc h
      refine g_aload_n X rfl dX6_bench_32 33 rfl ?_
      refine g_iload_n X rfl dX6_bench_33 34 rfl ?_
      obtain ⟨r2, hcl, h⟩ := bd1_e h
      refine g_callV1W X (met_X6_benchOf l Z a0 a1 a2 a3 a4 a5 a6 a7 a8 a9 a10 a11 v_savedCount v_scriptLength (if r1 = 0 then (1 : Int32) else 0) v_lineParts v_pulseMany v_left v_dropped v_merged v_drops v_contributions v_packet v_peelResult v_peelTime v_peelSum v_at v_commands v_hash v_m v_saved v_script v_lengths v_fractions v_times v_energies v_far v_near v_echoes v_draft x1 r2 hcl) rfl 0 gC5 rfl rfl (lw_V q1554 q1556 qs38 q74 q1557) md_X6_benchOf ⟨(Nat.le_of_ble_eq_true rfl), (Nat.le_of_ble_eq_true rfl)⟩ rfl dX6_bench_34 37 rfl 0 0 rfl rfl (Nat.le_of_ble_eq_true rfl) (Nat.le_of_ble_eq_true rfl) (st := []) rfl (Nat.le_of_ble_eq_true rfl) (fun _ => rfl) (fun _ => ?_)
      refine g_kill (j := 0) [none, some (.int x1)] rfl ?_
      refine g_kill (j := 1) [none, none] rfl ?_
      exact w_X6_bench_37 a0 a1 a2 a3 a4 a5 a6 a7 a8 a9 a10 a11  X  r r_code    v_savedCount v_scriptLength (if r1 = 0 then (1 : Int32) else 0) v_lineParts v_pulseMany v_left v_dropped v_merged v_drops v_contributions v_packet v_peelResult v_peelTime v_peelSum v_at v_commands v_hash v_m v_saved v_script v_lengths v_fractions v_times v_energies v_far v_near v_echoes v_draft r2 h
    · replace h := if_f hc h
      refine g_iconst X 0 dX6_bench_28 29 rfl kI_0 ?_
      refine g_goto X dX6_bench_29 37 (by decide) ?_
      refine g_kill (j := 0) [none, some (.int x1)] rfl ?_
      refine g_kill (j := 1) [none, none] rfl ?_
      exact w_X6_bench_37 a0 a1 a2 a3 a4 a5 a6 a7 a8 a9 a10 a11  X  r r_code    v_savedCount v_scriptLength (if r1 = 0 then (1 : Int32) else 0) v_lineParts v_pulseMany v_left v_dropped v_merged v_drops v_contributions v_packet v_peelResult v_peelTime v_peelSum v_at v_commands v_hash v_m v_saved v_script v_lengths v_fractions v_times v_energies v_far v_near v_echoes v_draft 0 h
  · refine g_if_eq X dX6_bench_10 17 (by decide) 13 rfl (fun _ => ?_) (fun hn => absurd hc hn)
    refine g_iconst X 1 dX6_bench_17 18 rfl kI_1 ?_
    exact K
  · refine g_if_eq X dX6_bench_10 17 (by decide) 13 rfl (fun hn => absurd hn hc) (fun _ => ?_)
    refine g_iconst X 0 dX6_bench_13 14 rfl kI_0 ?_
    refine g_goto X dX6_bench_14 18 (by decide) ?_
    exact K
/-! LineEchoesModel.contribute(J)V -/
abbrev rm_X6_contribute : Room := { frames := 0, cells := 0, slots := 0, locals := 0 }
def F_X6_contribute (v_contributions : Int32) (v_packet : Int64) (x1 : Int64) : Option (Int32 × Int64) :=
  nm (v_contributions + (if x1 ≤ 0 then (0 : Int32) else 1)) fun t1 =>
  some (t1, v_packet + x1)
theorem met_X6_contribute (l : Launch) (Z : gZt) (a0 : Nat) (a1 : Nat) (a2 : Nat) (a3 : Nat) (a4 : Nat) (a5 : Nat) (a6 : Nat) (a7 : Nat) (a8 : Nat) (a9 : Nat) (a10 : Nat) (a11 : Nat) (v_savedCount : Int32) (v_scriptLength : Int32) (v_code : Int32) (v_lineParts : Int32) (v_pulseMany : Int32) (v_left : Int64) (v_dropped : Int64) (v_merged : Int32) (v_drops : Int32) (v_contributions : Int32) (v_packet : Int64) (v_peelResult : Int32) (v_peelTime : Int32) (v_peelSum : Int32) (v_at : Int32) (v_commands : Int32) (v_hash : Int64) (v_m : Nat → Int64) (v_saved : Nat → Int64) (v_script : Nat → Int32) (v_lengths : Nat → Int32) (v_fractions : Nat → Int32) (v_times : Nat → Int32) (v_energies : Nat → Int64) (v_far : Nat → Int64) (v_near : Nat → Int64) (v_echoes : Nat → Int64) (v_draft : Nat → Int32) (x1 : Int64) (r_contributions : Int32) (r_packet : Int64) (h : F_X6_contribute v_contributions v_packet x1 = some (r_contributions, r_packet)) : Ct l yX6_contribute (ws_ yX6_contribute cX6_contribute 3 none) rm_X6_contribute Z [.ref a0, .long x1] [(a0, .inr (5, [.ref a1, .ref a2, .int v_savedCount, .ref a3, .int v_scriptLength, .int v_code, .int v_lineParts, .ref a4, .ref a5, .int v_pulseMany, .ref a6, .ref a7, .ref a8, .ref a9, .ref a10, .long v_left, .long v_dropped, .int v_merged, .int v_drops, .int v_contributions, .long v_packet, .int v_peelResult, .int v_peelTime, .int v_peelSum, .int v_at, .int v_commands, .ref a11, .long v_hash])), (a1, .inl (Z.2 1, 431, .inr (.inl v_m))), (a2, .inl (Z.2 1, 1293, .inr (.inl v_saved))), (a3, .inl (Z.2 0, 120, .inl v_script)), (a4, .inl (Z.2 0, 8, .inl v_lengths)), (a5, .inl (Z.2 0, 9, .inl v_fractions)), (a6, .inl (Z.2 0, 4, .inl v_times)), (a7, .inl (Z.2 1, 4, .inr (.inl v_energies))), (a8, .inl (Z.2 1, 1809, .inr (.inl v_far))), (a9, .inl (Z.2 1, 1809, .inr (.inl v_near))), (a10, .inl (Z.2 1, 201, .inr (.inl v_echoes))), (a11, .inl (Z.2 0, 120, .inl v_draft))] [] (fun _ : Unit => (none : Option Value)) (fun _ : Unit => ([(a0, .inr (5, [.ref a1, .ref a2, .int v_savedCount, .ref a3, .int v_scriptLength, .int v_code, .int v_lineParts, .ref a4, .ref a5, .int v_pulseMany, .ref a6, .ref a7, .ref a8, .ref a9, .ref a10, .long v_left, .long v_dropped, .int v_merged, .int v_drops, .int r_contributions, .long r_packet, .int v_peelResult, .int v_peelTime, .int v_peelSum, .int v_at, .int v_commands, .ref a11, .long v_hash])), (a1, .inl (Z.2 1, 431, .inr (.inl v_m))), (a2, .inl (Z.2 1, 1293, .inr (.inl v_saved))), (a3, .inl (Z.2 0, 120, .inl v_script)), (a4, .inl (Z.2 0, 8, .inl v_lengths)), (a5, .inl (Z.2 0, 9, .inl v_fractions)), (a6, .inl (Z.2 0, 4, .inl v_times)), (a7, .inl (Z.2 1, 4, .inr (.inl v_energies))), (a8, .inl (Z.2 1, 1809, .inr (.inl v_far))), (a9, .inl (Z.2 1, 1809, .inr (.inl v_near))), (a10, .inl (Z.2 1, 201, .inr (.inl v_echoes))), (a11, .inl (Z.2 0, 120, .inl v_draft))] : va_W)) := by
  refine Ct.of cX6_contribute 3 none "LineEchoesModel" [some (.ref a0), some (.long x1), none] 0 (by decide) rfl (Nat.le_of_ble_eq_true rfl) rfl (fun p e s m args below meth c A X hin => ?_)
  unfold F_X6_contribute at h
  refine g_aload_n X rfl dX6_contribute_0 1 rfl ?_
  refine g_dup X dX6_contribute_1 2 rfl rfl ?_
  refine g_get X gC5 0 rfl 19 (by decide) q1361 (fun _ h9 => h9) rfl dX6_contribute_2 5 rfl ?_
  refine g_lload_n X rfl dX6_contribute_5 6 rfl ?_
  refine g_lconst X 0 dX6_contribute_6 7 rfl rfl ?_
  refine g_seli 16 [.int v_contributions, .ref a0] (b := x1 ≤ 0) 0 1 ?_ (fun hc K => ?_) (fun hc K => ?_)
  · refine g_iadd X dX6_contribute_16 17 rfl ?_
    refine g_topi (fun t1 et1 => ?_)
    replace h := nm_at et1 h
    refine g_put X gC5 0 rfl 19 (by decide) q1361 (fun _ h9 => h9) rfl rfl rfl (Nat.le_of_ble_eq_true rfl) dX6_contribute_17 20 rfl ?_
    refine g_aload_n X rfl dX6_contribute_20 21 rfl ?_
    refine g_dup X dX6_contribute_21 22 rfl rfl ?_
    refine g_get X gC5 0 rfl 20 (by decide) q1362 (fun _ h9 => h9) rfl dX6_contribute_22 25 rfl ?_
    refine g_lload_n X rfl dX6_contribute_25 26 rfl ?_
    refine g_ladd X dX6_contribute_26 27 rfl ?_
    refine g_put X gC5 0 rfl 20 (by decide) q1362 (fun _ h9 => h9) rfl rfl rfl (Nat.le_of_ble_eq_true rfl) dX6_contribute_27 30 rfl ?_
    cases h
    exact g_vret X dX6_contribute_30 () rfl rfl (Nat.le_of_ble_eq_true rfl) (Nat.le_of_ble_eq_true rfl)
  · refine g_lcmp_le X dX6_contribute_7 8 rfl dX6_contribute_8 15 (by decide) 11 rfl (fun _ => ?_) (fun hn => absurd hc hn)
    refine g_iconst X 0 dX6_contribute_15 16 rfl kI_0 ?_
    exact K
  · refine g_lcmp_le X dX6_contribute_7 8 rfl dX6_contribute_8 15 (by decide) 11 rfl (fun hn => absurd hn hc) (fun _ => ?_)
    refine g_iconst X 1 dX6_contribute_11 12 rfl kI_1 ?_
    refine g_goto X dX6_contribute_12 16 (by decide) ?_
    exact K
/-! LineEchoesModel.passPulses(I)V -/
abbrev rm_X6_passPulses : Room := { frames := 1, cells := 0, slots := 0, locals := 22 }
def F_X6_passPulses_31 (K2 : (Int32) → (Int32) → (Int64) → (Nat → Int32) → (Nat → Int64) → (Int32) → (Int32) → Option (Int32 × Int64)) (v_pulseMany : Int32) (v_contributions : Int32) (v_packet : Int64) (v_times : Nat → Int32) (v_energies : Nat → Int64) (x1 : Int32) (x2 : Int32) (s1 : Int64) : Option (Int32 × Int64) :=
  bd2 (F_X6_contribute v_contributions v_packet s1) fun w1_contributions w2_packet =>
  K2 v_pulseMany w1_contributions w2_packet v_times v_energies x1 (x2 + 1)
def B_X6_passPulses_2 (K2 : (Int32) → (Int32) → (Int64) → (Nat → Int32) → (Nat → Int64) → (Int32) → (Int32) → Option (Int32 × Int64)) (v_pulseMany : Int32) (v_contributions : Int32) (v_packet : Int64) (v_times : Nat → Int32) (v_energies : Nat → Int64) (x1 : Int32) (x2 : Int32) : Option (Int32 × Int64) :=
  if v_pulseMany ≤ x2 then
    (some (v_contributions, v_packet))
  else
    (gin x2 4 <|
    if (v_times x2.toNatClampNeg) = x1 then
      (gin x2 4 <|
      F_X6_passPulses_31 K2 v_pulseMany v_contributions v_packet v_times v_energies x1 x2 (v_energies x2.toNatClampNeg))
    else
      (F_X6_passPulses_31 K2 v_pulseMany v_contributions v_packet v_times v_energies x1 x2 0))
def F_X6_passPulses_2 : Nat → (Int32) → (Int32) → (Int64) → (Nat → Int32) → (Nat → Int64) → (Int32) → (Int32) → Option (Int32 × Int64)
  | 0 => fun _ _ _ _ _ _ _ => none
  | n + 1 => B_X6_passPulses_2 (F_X6_passPulses_2 n)
def F_X6_passPulses (v_pulseMany : Int32) (v_contributions : Int32) (v_packet : Int64) (v_times : Nat → Int32) (v_energies : Nat → Int64) (x1 : Int32) : Option (Int32 × Int64) :=
  F_X6_passPulses_2 gFU v_pulseMany v_contributions v_packet v_times v_energies x1 0
theorem w_X6_passPulses_31 {p : Program} {l : Launch} {e : Env} {s : State} {m : MethodId} {args : Array Value} {below : List Frame} {meth : Method} {c : Code} {Z : gZt} {A : Nat → Prop} (a0 : Nat) (a1 : Nat) (a2 : Nat) (a3 : Nat) (a4 : Nat) (a5 : Nat) (a6 : Nat) (a7 : Nat) (a8 : Nat) (a9 : Nat) (a10 : Nat) (a11 : Nat) (X : gX p s m args meth c Z A cX6_passPulses "LineEchoesModel" 3 none []) (r_contributions : Int32) (r_packet : Int64) (K2 : (Int32) → (Int32) → (Int64) → (Nat → Int32) → (Nat → Int64) → (Int32) → (Int32) → Option (Int32 × Int64)) (hK2 : ∀ (v_savedCount : Int32) (v_scriptLength : Int32) (v_code : Int32) (v_lineParts : Int32) (v_pulseMany : Int32) (v_left : Int64) (v_dropped : Int64) (v_merged : Int32) (v_drops : Int32) (v_contributions : Int32) (v_packet : Int64) (v_peelResult : Int32) (v_peelTime : Int32) (v_peelSum : Int32) (v_at : Int32) (v_commands : Int32) (v_hash : Int64) (v_m : Nat → Int64) (v_saved : Nat → Int64) (v_script : Nat → Int32) (v_lengths : Nat → Int32) (v_fractions : Nat → Int32) (v_times : Nat → Int32) (v_energies : Nat → Int64) (v_far : Nat → Int64) (v_near : Nat → Int64) (v_echoes : Nat → Int64) (v_draft : Nat → Int32) (x1 : Int32) (x2 : Int32), K2 v_pulseMany v_contributions v_packet v_times v_energies x1 x2 = some (r_contributions, r_packet) → G p l e rm_X6_passPulses s m args below meth c Z A 3 (MQ below (gPost Z A (fun _ : Unit => (none : Option Value)) (fun _ : Unit => ([(a0, .inr (5, [.ref a1, .ref a2, .int v_savedCount, .ref a3, .int v_scriptLength, .int v_code, .int v_lineParts, .ref a4, .ref a5, .int v_pulseMany, .ref a6, .ref a7, .ref a8, .ref a9, .ref a10, .long v_left, .long v_dropped, .int v_merged, .int v_drops, .int r_contributions, .long r_packet, .int v_peelResult, .int v_peelTime, .int v_peelSum, .int v_at, .int v_commands, .ref a11, .long v_hash])), (a1, .inl (Z.2 1, 431, .inr (.inl v_m))), (a2, .inl (Z.2 1, 1293, .inr (.inl v_saved))), (a3, .inl (Z.2 0, 120, .inl v_script)), (a4, .inl (Z.2 0, 8, .inl v_lengths)), (a5, .inl (Z.2 0, 9, .inl v_fractions)), (a6, .inl (Z.2 0, 4, .inl v_times)), (a7, .inl (Z.2 1, 4, .inr (.inl v_energies))), (a8, .inl (Z.2 1, 1809, .inr (.inl v_far))), (a9, .inl (Z.2 1, 1809, .inr (.inl v_near))), (a10, .inl (Z.2 1, 201, .inr (.inl v_echoes))), (a11, .inl (Z.2 0, 120, .inl v_draft))] : va_W))) args s 0 0 A) [(a0, .inr (5, [.ref a1, .ref a2, .int v_savedCount, .ref a3, .int v_scriptLength, .int v_code, .int v_lineParts, .ref a4, .ref a5, .int v_pulseMany, .ref a6, .ref a7, .ref a8, .ref a9, .ref a10, .long v_left, .long v_dropped, .int v_merged, .int v_drops, .int v_contributions, .long v_packet, .int v_peelResult, .int v_peelTime, .int v_peelSum, .int v_at, .int v_commands, .ref a11, .long v_hash])), (a1, .inl (Z.2 1, 431, .inr (.inl v_m))), (a2, .inl (Z.2 1, 1293, .inr (.inl v_saved))), (a3, .inl (Z.2 0, 120, .inl v_script)), (a4, .inl (Z.2 0, 8, .inl v_lengths)), (a5, .inl (Z.2 0, 9, .inl v_fractions)), (a6, .inl (Z.2 0, 4, .inl v_times)), (a7, .inl (Z.2 1, 4, .inr (.inl v_energies))), (a8, .inl (Z.2 1, 1809, .inr (.inl v_far))), (a9, .inl (Z.2 1, 1809, .inr (.inl v_near))), (a10, .inl (Z.2 1, 201, .inr (.inl v_echoes))), (a11, .inl (Z.2 0, 120, .inl v_draft))] 0 0 2 [some (.ref a0), some (.int x1), some (.int x2)] []) (v_savedCount : Int32) (v_scriptLength : Int32) (v_code : Int32) (v_lineParts : Int32) (v_pulseMany : Int32) (v_left : Int64) (v_dropped : Int64) (v_merged : Int32) (v_drops : Int32) (v_contributions : Int32) (v_packet : Int64) (v_peelResult : Int32) (v_peelTime : Int32) (v_peelSum : Int32) (v_at : Int32) (v_commands : Int32) (v_hash : Int64) (v_m : Nat → Int64) (v_saved : Nat → Int64) (v_script : Nat → Int32) (v_lengths : Nat → Int32) (v_fractions : Nat → Int32) (v_times : Nat → Int32) (v_energies : Nat → Int64) (v_far : Nat → Int64) (v_near : Nat → Int64) (v_echoes : Nat → Int64) (v_draft : Nat → Int32) (x1 : Int32) (x2 : Int32) (s1 : Int64) (h : F_X6_passPulses_31 K2 v_pulseMany v_contributions v_packet v_times v_energies x1 x2 s1 = some (r_contributions, r_packet)) : G p l e rm_X6_passPulses s m args below meth c Z A 3 (MQ below (gPost Z A (fun _ : Unit => (none : Option Value)) (fun _ : Unit => ([(a0, .inr (5, [.ref a1, .ref a2, .int v_savedCount, .ref a3, .int v_scriptLength, .int v_code, .int v_lineParts, .ref a4, .ref a5, .int v_pulseMany, .ref a6, .ref a7, .ref a8, .ref a9, .ref a10, .long v_left, .long v_dropped, .int v_merged, .int v_drops, .int r_contributions, .long r_packet, .int v_peelResult, .int v_peelTime, .int v_peelSum, .int v_at, .int v_commands, .ref a11, .long v_hash])), (a1, .inl (Z.2 1, 431, .inr (.inl v_m))), (a2, .inl (Z.2 1, 1293, .inr (.inl v_saved))), (a3, .inl (Z.2 0, 120, .inl v_script)), (a4, .inl (Z.2 0, 8, .inl v_lengths)), (a5, .inl (Z.2 0, 9, .inl v_fractions)), (a6, .inl (Z.2 0, 4, .inl v_times)), (a7, .inl (Z.2 1, 4, .inr (.inl v_energies))), (a8, .inl (Z.2 1, 1809, .inr (.inl v_far))), (a9, .inl (Z.2 1, 1809, .inr (.inl v_near))), (a10, .inl (Z.2 1, 201, .inr (.inl v_echoes))), (a11, .inl (Z.2 0, 120, .inl v_draft))] : va_W))) args s 0 0 A) [(a0, .inr (5, [.ref a1, .ref a2, .int v_savedCount, .ref a3, .int v_scriptLength, .int v_code, .int v_lineParts, .ref a4, .ref a5, .int v_pulseMany, .ref a6, .ref a7, .ref a8, .ref a9, .ref a10, .long v_left, .long v_dropped, .int v_merged, .int v_drops, .int v_contributions, .long v_packet, .int v_peelResult, .int v_peelTime, .int v_peelSum, .int v_at, .int v_commands, .ref a11, .long v_hash])), (a1, .inl (Z.2 1, 431, .inr (.inl v_m))), (a2, .inl (Z.2 1, 1293, .inr (.inl v_saved))), (a3, .inl (Z.2 0, 120, .inl v_script)), (a4, .inl (Z.2 0, 8, .inl v_lengths)), (a5, .inl (Z.2 0, 9, .inl v_fractions)), (a6, .inl (Z.2 0, 4, .inl v_times)), (a7, .inl (Z.2 1, 4, .inr (.inl v_energies))), (a8, .inl (Z.2 1, 1809, .inr (.inl v_far))), (a9, .inl (Z.2 1, 1809, .inr (.inl v_near))), (a10, .inl (Z.2 1, 201, .inr (.inl v_echoes))), (a11, .inl (Z.2 0, 120, .inl v_draft))] 0 0 31 [some (.ref a0), some (.int x1), some (.int x2)] [.long s1, .ref a0] := by
  unfold F_X6_passPulses_31 at h
  obtain ⟨w1_contributions, w2_packet, hcl, h⟩ := bd2_e h
  refine g_callV0W X (met_X6_contribute l Z a0 a1 a2 a3 a4 a5 a6 a7 a8 a9 a10 a11 v_savedCount v_scriptLength v_code v_lineParts v_pulseMany v_left v_dropped v_merged v_drops v_contributions v_packet v_peelResult v_peelTime v_peelSum v_at v_commands v_hash v_m v_saved v_script v_lengths v_fractions v_times v_energies v_far v_near v_echoes v_draft s1 w1_contributions w2_packet hcl) rfl 0 gC5 rfl rfl (lw_V q1574 q1576 qs42 q74 q1577) md_X6_contribute ⟨(Nat.le_of_ble_eq_true rfl), (Nat.le_of_ble_eq_true rfl)⟩ rfl dX6_passPulses_31 34 rfl 0 0 rfl rfl (Nat.le_of_ble_eq_true rfl) (Nat.le_of_ble_eq_true rfl) (st := []) rfl (Nat.le_of_ble_eq_true rfl) (fun _ => rfl) (fun _ => ?_)
  refine g_iinc X 1 rfl dX6_passPulses_34 37 rfl kI_1 (Nat.le_of_ble_eq_true rfl) rfl [some (.ref a0), some (.int x1), some (.int (x2 + 1))] rfl ?_
  refine g_goto X dX6_passPulses_37 2 (by decide) ?_
  exact hK2 v_savedCount v_scriptLength v_code v_lineParts v_pulseMany v_left v_dropped v_merged v_drops w1_contributions w2_packet v_peelResult v_peelTime v_peelSum v_at v_commands v_hash v_m v_saved v_script v_lengths v_fractions v_times v_energies v_far v_near v_echoes v_draft x1 (x2 + 1) h
theorem w_X6_passPulses_2 {p : Program} {l : Launch} {e : Env} {s : State} {m : MethodId} {args : Array Value} {below : List Frame} {meth : Method} {c : Code} {Z : gZt} {A : Nat → Prop} (a0 : Nat) (a1 : Nat) (a2 : Nat) (a3 : Nat) (a4 : Nat) (a5 : Nat) (a6 : Nat) (a7 : Nat) (a8 : Nat) (a9 : Nat) (a10 : Nat) (a11 : Nat) (X : gX p s m args meth c Z A cX6_passPulses "LineEchoesModel" 3 none []) (r_contributions : Int32) (r_packet : Int64)  : ∀ (n : Nat) (v_savedCount : Int32) (v_scriptLength : Int32) (v_code : Int32) (v_lineParts : Int32) (v_pulseMany : Int32) (v_left : Int64) (v_dropped : Int64) (v_merged : Int32) (v_drops : Int32) (v_contributions : Int32) (v_packet : Int64) (v_peelResult : Int32) (v_peelTime : Int32) (v_peelSum : Int32) (v_at : Int32) (v_commands : Int32) (v_hash : Int64) (v_m : Nat → Int64) (v_saved : Nat → Int64) (v_script : Nat → Int32) (v_lengths : Nat → Int32) (v_fractions : Nat → Int32) (v_times : Nat → Int32) (v_energies : Nat → Int64) (v_far : Nat → Int64) (v_near : Nat → Int64) (v_echoes : Nat → Int64) (v_draft : Nat → Int32) (x1 : Int32) (x2 : Int32), F_X6_passPulses_2 n v_pulseMany v_contributions v_packet v_times v_energies x1 x2 = some (r_contributions, r_packet) → G p l e rm_X6_passPulses s m args below meth c Z A 3 (MQ below (gPost Z A (fun _ : Unit => (none : Option Value)) (fun _ : Unit => ([(a0, .inr (5, [.ref a1, .ref a2, .int v_savedCount, .ref a3, .int v_scriptLength, .int v_code, .int v_lineParts, .ref a4, .ref a5, .int v_pulseMany, .ref a6, .ref a7, .ref a8, .ref a9, .ref a10, .long v_left, .long v_dropped, .int v_merged, .int v_drops, .int r_contributions, .long r_packet, .int v_peelResult, .int v_peelTime, .int v_peelSum, .int v_at, .int v_commands, .ref a11, .long v_hash])), (a1, .inl (Z.2 1, 431, .inr (.inl v_m))), (a2, .inl (Z.2 1, 1293, .inr (.inl v_saved))), (a3, .inl (Z.2 0, 120, .inl v_script)), (a4, .inl (Z.2 0, 8, .inl v_lengths)), (a5, .inl (Z.2 0, 9, .inl v_fractions)), (a6, .inl (Z.2 0, 4, .inl v_times)), (a7, .inl (Z.2 1, 4, .inr (.inl v_energies))), (a8, .inl (Z.2 1, 1809, .inr (.inl v_far))), (a9, .inl (Z.2 1, 1809, .inr (.inl v_near))), (a10, .inl (Z.2 1, 201, .inr (.inl v_echoes))), (a11, .inl (Z.2 0, 120, .inl v_draft))] : va_W))) args s 0 0 A) [(a0, .inr (5, [.ref a1, .ref a2, .int v_savedCount, .ref a3, .int v_scriptLength, .int v_code, .int v_lineParts, .ref a4, .ref a5, .int v_pulseMany, .ref a6, .ref a7, .ref a8, .ref a9, .ref a10, .long v_left, .long v_dropped, .int v_merged, .int v_drops, .int v_contributions, .long v_packet, .int v_peelResult, .int v_peelTime, .int v_peelSum, .int v_at, .int v_commands, .ref a11, .long v_hash])), (a1, .inl (Z.2 1, 431, .inr (.inl v_m))), (a2, .inl (Z.2 1, 1293, .inr (.inl v_saved))), (a3, .inl (Z.2 0, 120, .inl v_script)), (a4, .inl (Z.2 0, 8, .inl v_lengths)), (a5, .inl (Z.2 0, 9, .inl v_fractions)), (a6, .inl (Z.2 0, 4, .inl v_times)), (a7, .inl (Z.2 1, 4, .inr (.inl v_energies))), (a8, .inl (Z.2 1, 1809, .inr (.inl v_far))), (a9, .inl (Z.2 1, 1809, .inr (.inl v_near))), (a10, .inl (Z.2 1, 201, .inr (.inl v_echoes))), (a11, .inl (Z.2 0, 120, .inl v_draft))] 0 0 2 [some (.ref a0), some (.int x1), some (.int x2)] [] := by
  intro n
  induction n with
  | zero =>
    intro v_savedCount v_scriptLength v_code v_lineParts v_pulseMany v_left v_dropped v_merged v_drops v_contributions v_packet v_peelResult v_peelTime v_peelSum v_at v_commands v_hash v_m v_saved v_script v_lengths v_fractions v_times v_energies v_far v_near v_echoes v_draft x1 x2 h
    cases h
  | succ n hK2 =>
    intro v_savedCount v_scriptLength v_code v_lineParts v_pulseMany v_left v_dropped v_merged v_drops v_contributions v_packet v_peelResult v_peelTime v_peelSum v_at v_commands v_hash v_m v_saved v_script v_lengths v_fractions v_times v_energies v_far v_near v_echoes v_draft x1 x2 h
    replace h : B_X6_passPulses_2 (F_X6_passPulses_2 n) v_pulseMany v_contributions v_packet v_times v_energies x1 x2 = some (r_contributions, r_packet) := h
    unfold B_X6_passPulses_2 at h
    refine g_iload_n X rfl dX6_passPulses_2 3 rfl ?_
    refine g_aload_n X rfl dX6_passPulses_3 4 rfl ?_
    refine g_get X gC5 0 rfl 9 (by decide) q1351 (fun _ h9 => h9) rfl dX6_passPulses_4 7 rfl ?_
    refine g_icmp_ge X dX6_passPulses_7 40 (by decide) 10 rfl (fun hc => ?_) (fun hc => ?_)
    · replace h := if_t hc h
      cases h
      exact g_vret X dX6_passPulses_40 () rfl rfl (Nat.le_of_ble_eq_true rfl) (Nat.le_of_ble_eq_true rfl)
    · replace h := if_f hc h
      refine g_aload_n X rfl dX6_passPulses_10 11 rfl ?_
      refine g_aload_n X rfl dX6_passPulses_11 12 rfl ?_
      refine g_get X gC5 0 rfl 10 (by decide) q1352 (fun _ h9 => h9) rfl dX6_passPulses_12 15 rfl ?_
      refine g_iload_n X rfl dX6_passPulses_15 16 rfl ?_
      obtain ⟨hi, h⟩ := gin_e h
      refine g_iald X 6 rfl hi dX6_passPulses_16 17 rfl ?_
      refine g_iload_n X rfl dX6_passPulses_17 18 rfl ?_
      refine g_icmp_ne X dX6_passPulses_18 30 (by decide) 21 rfl (fun hc => ?_) (fun hc => ?_)
      · replace h := if_f hc h
        refine g_lconst X 0 dX6_passPulses_30 31 rfl rfl ?_
        exact w_X6_passPulses_31 a0 a1 a2 a3 a4 a5 a6 a7 a8 a9 a10 a11  X  r_contributions r_packet _ hK2  v_savedCount v_scriptLength v_code v_lineParts v_pulseMany v_left v_dropped v_merged v_drops v_contributions v_packet v_peelResult v_peelTime v_peelSum v_at v_commands v_hash v_m v_saved v_script v_lengths v_fractions v_times v_energies v_far v_near v_echoes v_draft x1 x2 0 h
      · replace h := if_t hc h
        refine g_aload_n X rfl dX6_passPulses_21 22 rfl ?_
        refine g_get X gC5 0 rfl 11 (by decide) q1353 (fun _ h9 => h9) rfl dX6_passPulses_22 25 rfl ?_
        refine g_iload_n X rfl dX6_passPulses_25 26 rfl ?_
        obtain ⟨hi, h⟩ := gin_e h
        refine g_lald X 7 rfl hi dX6_passPulses_26 27 rfl ?_
        refine g_goto X dX6_passPulses_27 31 (by decide) ?_
        exact w_X6_passPulses_31 a0 a1 a2 a3 a4 a5 a6 a7 a8 a9 a10 a11  X  r_contributions r_packet _ hK2  v_savedCount v_scriptLength v_code v_lineParts v_pulseMany v_left v_dropped v_merged v_drops v_contributions v_packet v_peelResult v_peelTime v_peelSum v_at v_commands v_hash v_m v_saved v_script v_lengths v_fractions v_times v_energies v_far v_near v_echoes v_draft x1 x2 (v_energies x2.toNatClampNeg) h
theorem met_X6_passPulses (l : Launch) (Z : gZt) (a0 : Nat) (a1 : Nat) (a2 : Nat) (a3 : Nat) (a4 : Nat) (a5 : Nat) (a6 : Nat) (a7 : Nat) (a8 : Nat) (a9 : Nat) (a10 : Nat) (a11 : Nat) (v_savedCount : Int32) (v_scriptLength : Int32) (v_code : Int32) (v_lineParts : Int32) (v_pulseMany : Int32) (v_left : Int64) (v_dropped : Int64) (v_merged : Int32) (v_drops : Int32) (v_contributions : Int32) (v_packet : Int64) (v_peelResult : Int32) (v_peelTime : Int32) (v_peelSum : Int32) (v_at : Int32) (v_commands : Int32) (v_hash : Int64) (v_m : Nat → Int64) (v_saved : Nat → Int64) (v_script : Nat → Int32) (v_lengths : Nat → Int32) (v_fractions : Nat → Int32) (v_times : Nat → Int32) (v_energies : Nat → Int64) (v_far : Nat → Int64) (v_near : Nat → Int64) (v_echoes : Nat → Int64) (v_draft : Nat → Int32) (x1 : Int32) (r_contributions : Int32) (r_packet : Int64) (h : F_X6_passPulses v_pulseMany v_contributions v_packet v_times v_energies x1 = some (r_contributions, r_packet)) : Ct l yX6_passPulses (ws_ yX6_passPulses cX6_passPulses 3 none) rm_X6_passPulses Z [.ref a0, .int x1] [(a0, .inr (5, [.ref a1, .ref a2, .int v_savedCount, .ref a3, .int v_scriptLength, .int v_code, .int v_lineParts, .ref a4, .ref a5, .int v_pulseMany, .ref a6, .ref a7, .ref a8, .ref a9, .ref a10, .long v_left, .long v_dropped, .int v_merged, .int v_drops, .int v_contributions, .long v_packet, .int v_peelResult, .int v_peelTime, .int v_peelSum, .int v_at, .int v_commands, .ref a11, .long v_hash])), (a1, .inl (Z.2 1, 431, .inr (.inl v_m))), (a2, .inl (Z.2 1, 1293, .inr (.inl v_saved))), (a3, .inl (Z.2 0, 120, .inl v_script)), (a4, .inl (Z.2 0, 8, .inl v_lengths)), (a5, .inl (Z.2 0, 9, .inl v_fractions)), (a6, .inl (Z.2 0, 4, .inl v_times)), (a7, .inl (Z.2 1, 4, .inr (.inl v_energies))), (a8, .inl (Z.2 1, 1809, .inr (.inl v_far))), (a9, .inl (Z.2 1, 1809, .inr (.inl v_near))), (a10, .inl (Z.2 1, 201, .inr (.inl v_echoes))), (a11, .inl (Z.2 0, 120, .inl v_draft))] [] (fun _ : Unit => (none : Option Value)) (fun _ : Unit => ([(a0, .inr (5, [.ref a1, .ref a2, .int v_savedCount, .ref a3, .int v_scriptLength, .int v_code, .int v_lineParts, .ref a4, .ref a5, .int v_pulseMany, .ref a6, .ref a7, .ref a8, .ref a9, .ref a10, .long v_left, .long v_dropped, .int v_merged, .int v_drops, .int r_contributions, .long r_packet, .int v_peelResult, .int v_peelTime, .int v_peelSum, .int v_at, .int v_commands, .ref a11, .long v_hash])), (a1, .inl (Z.2 1, 431, .inr (.inl v_m))), (a2, .inl (Z.2 1, 1293, .inr (.inl v_saved))), (a3, .inl (Z.2 0, 120, .inl v_script)), (a4, .inl (Z.2 0, 8, .inl v_lengths)), (a5, .inl (Z.2 0, 9, .inl v_fractions)), (a6, .inl (Z.2 0, 4, .inl v_times)), (a7, .inl (Z.2 1, 4, .inr (.inl v_energies))), (a8, .inl (Z.2 1, 1809, .inr (.inl v_far))), (a9, .inl (Z.2 1, 1809, .inr (.inl v_near))), (a10, .inl (Z.2 1, 201, .inr (.inl v_echoes))), (a11, .inl (Z.2 0, 120, .inl v_draft))] : va_W)) := by
  refine Ct.of cX6_passPulses 3 none "LineEchoesModel" [some (.ref a0), some (.int x1), none] 1 (by decide) rfl (Nat.le_of_ble_eq_true rfl) rfl (fun p e s m args below meth c A X hin => ?_)
  unfold F_X6_passPulses at h
  refine g_iconst X 0 dX6_passPulses_0 1 rfl kI_0 ?_
  refine g_istore_n X dX6_passPulses_1 2 rfl (Nat.le_of_ble_eq_true rfl) rfl [some (.ref a0), some (.int x1), some (.int 0)] rfl ?_
  exact w_X6_passPulses_2 a0 a1 a2 a3 a4 a5 a6 a7 a8 a9 a10 a11  X  r_contributions r_packet    gFU v_savedCount v_scriptLength v_code v_lineParts v_pulseMany v_left v_dropped v_merged v_drops v_contributions v_packet v_peelResult v_peelTime v_peelSum v_at v_commands v_hash v_m v_saved v_script v_lengths v_fractions v_times v_energies v_far v_near v_echoes v_draft x1 0 h
/-! LineEchoesModel.arrives(IIZ)J -/
abbrev rm_X6_arrives : Room := { frames := 0, cells := 0, slots := 0, locals := 0 }
def F_X6_arrives_38 : Option (Int64) :=
  some 0
def F_X6_arrives_88 (s0 : Int64) : Option (Int64) :=
  some s0
def F_X6_arrives (v_lineParts : Int32) (v_lengths : Nat → Int32) (v_far : Nat → Int64) (v_near : Nat → Int64) (x1 : Int32) (x2 : Int32) (x3 : Int32) : Option (Int64) :=
  if (if x3 = 0 then x1 - 1 else x1) < 0 then
    (F_X6_arrives_38)
  else
    (if v_lineParts ≤ (if x3 = 0 then x1 - 1 else x1) then
      (F_X6_arrives_38)
    else
      (gin (if x3 = 0 then x1 - 1 else x1) 8 <|
      if (v_lengths (if x3 = 0 then x1 - 1 else x1).toNatClampNeg) ≤ x2 then
        (gin (if x3 = 0 then x1 - 1 else x1) 8 <|
        nm (x2 - (v_lengths (if x3 = 0 then x1 - 1 else x1).toNatClampNeg)) fun t1 =>
        if x3 = 0 then
          (gin ((201 * (x1 - 1)) + t1) 1809 <|
          F_X6_arrives_88 (v_far ((201 * (x1 - 1)) + t1).toNatClampNeg))
        else
          (gin ((201 * (x1 + 1)) + t1) 1809 <|
          F_X6_arrives_88 (v_near ((201 * (x1 + 1)) + t1).toNatClampNeg)))
      else
        (F_X6_arrives_38)))
theorem w_X6_arrives_38 {p : Program} {l : Launch} {e : Env} {s : State} {m : MethodId} {args : Array Value} {below : List Frame} {meth : Method} {c : Code} {Z : gZt} {A : Nat → Prop} (a0 : Nat) (a1 : Nat) (a2 : Nat) (a3 : Nat) (a4 : Nat) (a5 : Nat) (a6 : Nat) (a7 : Nat) (a8 : Nat) (a9 : Nat) (a10 : Nat) (a11 : Nat) (X : gX p s m args meth c Z A cX6_arrives "LineEchoesModel" 6 (some .long) []) (r : Int64)  (v_savedCount : Int32) (v_scriptLength : Int32) (v_code : Int32) (v_lineParts : Int32) (v_pulseMany : Int32) (v_left : Int64) (v_dropped : Int64) (v_merged : Int32) (v_drops : Int32) (v_contributions : Int32) (v_packet : Int64) (v_peelResult : Int32) (v_peelTime : Int32) (v_peelSum : Int32) (v_at : Int32) (v_commands : Int32) (v_hash : Int64) (v_m : Nat → Int64) (v_saved : Nat → Int64) (v_script : Nat → Int32) (v_lengths : Nat → Int32) (v_fractions : Nat → Int32) (v_times : Nat → Int32) (v_energies : Nat → Int64) (v_far : Nat → Int64) (v_near : Nat → Int64) (v_echoes : Nat → Int64) (v_draft : Nat → Int32) (h : F_X6_arrives_38 = some r) : G p l e rm_X6_arrives s m args below meth c Z A 6 (MQ below (gPost Z A (fun _ : Unit => (some (.long r) : Option Value)) (fun _ : Unit => ([(a0, .inr (5, [.ref a1, .ref a2, .int v_savedCount, .ref a3, .int v_scriptLength, .int v_code, .int v_lineParts, .ref a4, .ref a5, .int v_pulseMany, .ref a6, .ref a7, .ref a8, .ref a9, .ref a10, .long v_left, .long v_dropped, .int v_merged, .int v_drops, .int v_contributions, .long v_packet, .int v_peelResult, .int v_peelTime, .int v_peelSum, .int v_at, .int v_commands, .ref a11, .long v_hash])), (a1, .inl (Z.2 1, 431, .inr (.inl v_m))), (a2, .inl (Z.2 1, 1293, .inr (.inl v_saved))), (a3, .inl (Z.2 0, 120, .inl v_script)), (a4, .inl (Z.2 0, 8, .inl v_lengths)), (a5, .inl (Z.2 0, 9, .inl v_fractions)), (a6, .inl (Z.2 0, 4, .inl v_times)), (a7, .inl (Z.2 1, 4, .inr (.inl v_energies))), (a8, .inl (Z.2 1, 1809, .inr (.inl v_far))), (a9, .inl (Z.2 1, 1809, .inr (.inl v_near))), (a10, .inl (Z.2 1, 201, .inr (.inl v_echoes))), (a11, .inl (Z.2 0, 120, .inl v_draft))] : va_W))) args s 0 0 A) [(a0, .inr (5, [.ref a1, .ref a2, .int v_savedCount, .ref a3, .int v_scriptLength, .int v_code, .int v_lineParts, .ref a4, .ref a5, .int v_pulseMany, .ref a6, .ref a7, .ref a8, .ref a9, .ref a10, .long v_left, .long v_dropped, .int v_merged, .int v_drops, .int v_contributions, .long v_packet, .int v_peelResult, .int v_peelTime, .int v_peelSum, .int v_at, .int v_commands, .ref a11, .long v_hash])), (a1, .inl (Z.2 1, 431, .inr (.inl v_m))), (a2, .inl (Z.2 1, 1293, .inr (.inl v_saved))), (a3, .inl (Z.2 0, 120, .inl v_script)), (a4, .inl (Z.2 0, 8, .inl v_lengths)), (a5, .inl (Z.2 0, 9, .inl v_fractions)), (a6, .inl (Z.2 0, 4, .inl v_times)), (a7, .inl (Z.2 1, 4, .inr (.inl v_energies))), (a8, .inl (Z.2 1, 1809, .inr (.inl v_far))), (a9, .inl (Z.2 1, 1809, .inr (.inl v_near))), (a10, .inl (Z.2 1, 201, .inr (.inl v_echoes))), (a11, .inl (Z.2 0, 120, .inl v_draft))] 0 0 38 [none, none, none, none, none, none] [] := by
  unfold F_X6_arrives_38 at h
  refine g_lconst X 0 dX6_arrives_38 39 rfl rfl ?_
  cases h
  exact g_lret X dX6_arrives_39 () rfl rfl (Nat.le_of_ble_eq_true rfl) (Nat.le_of_ble_eq_true rfl)
theorem w_X6_arrives_88 {p : Program} {l : Launch} {e : Env} {s : State} {m : MethodId} {args : Array Value} {below : List Frame} {meth : Method} {c : Code} {Z : gZt} {A : Nat → Prop} (a0 : Nat) (a1 : Nat) (a2 : Nat) (a3 : Nat) (a4 : Nat) (a5 : Nat) (a6 : Nat) (a7 : Nat) (a8 : Nat) (a9 : Nat) (a10 : Nat) (a11 : Nat) (X : gX p s m args meth c Z A cX6_arrives "LineEchoesModel" 6 (some .long) []) (r : Int64)  (v_savedCount : Int32) (v_scriptLength : Int32) (v_code : Int32) (v_lineParts : Int32) (v_pulseMany : Int32) (v_left : Int64) (v_dropped : Int64) (v_merged : Int32) (v_drops : Int32) (v_contributions : Int32) (v_packet : Int64) (v_peelResult : Int32) (v_peelTime : Int32) (v_peelSum : Int32) (v_at : Int32) (v_commands : Int32) (v_hash : Int64) (v_m : Nat → Int64) (v_saved : Nat → Int64) (v_script : Nat → Int32) (v_lengths : Nat → Int32) (v_fractions : Nat → Int32) (v_times : Nat → Int32) (v_energies : Nat → Int64) (v_far : Nat → Int64) (v_near : Nat → Int64) (v_echoes : Nat → Int64) (v_draft : Nat → Int32) (s0 : Int64) (h : F_X6_arrives_88 s0 = some r) : G p l e rm_X6_arrives s m args below meth c Z A 6 (MQ below (gPost Z A (fun _ : Unit => (some (.long r) : Option Value)) (fun _ : Unit => ([(a0, .inr (5, [.ref a1, .ref a2, .int v_savedCount, .ref a3, .int v_scriptLength, .int v_code, .int v_lineParts, .ref a4, .ref a5, .int v_pulseMany, .ref a6, .ref a7, .ref a8, .ref a9, .ref a10, .long v_left, .long v_dropped, .int v_merged, .int v_drops, .int v_contributions, .long v_packet, .int v_peelResult, .int v_peelTime, .int v_peelSum, .int v_at, .int v_commands, .ref a11, .long v_hash])), (a1, .inl (Z.2 1, 431, .inr (.inl v_m))), (a2, .inl (Z.2 1, 1293, .inr (.inl v_saved))), (a3, .inl (Z.2 0, 120, .inl v_script)), (a4, .inl (Z.2 0, 8, .inl v_lengths)), (a5, .inl (Z.2 0, 9, .inl v_fractions)), (a6, .inl (Z.2 0, 4, .inl v_times)), (a7, .inl (Z.2 1, 4, .inr (.inl v_energies))), (a8, .inl (Z.2 1, 1809, .inr (.inl v_far))), (a9, .inl (Z.2 1, 1809, .inr (.inl v_near))), (a10, .inl (Z.2 1, 201, .inr (.inl v_echoes))), (a11, .inl (Z.2 0, 120, .inl v_draft))] : va_W))) args s 0 0 A) [(a0, .inr (5, [.ref a1, .ref a2, .int v_savedCount, .ref a3, .int v_scriptLength, .int v_code, .int v_lineParts, .ref a4, .ref a5, .int v_pulseMany, .ref a6, .ref a7, .ref a8, .ref a9, .ref a10, .long v_left, .long v_dropped, .int v_merged, .int v_drops, .int v_contributions, .long v_packet, .int v_peelResult, .int v_peelTime, .int v_peelSum, .int v_at, .int v_commands, .ref a11, .long v_hash])), (a1, .inl (Z.2 1, 431, .inr (.inl v_m))), (a2, .inl (Z.2 1, 1293, .inr (.inl v_saved))), (a3, .inl (Z.2 0, 120, .inl v_script)), (a4, .inl (Z.2 0, 8, .inl v_lengths)), (a5, .inl (Z.2 0, 9, .inl v_fractions)), (a6, .inl (Z.2 0, 4, .inl v_times)), (a7, .inl (Z.2 1, 4, .inr (.inl v_energies))), (a8, .inl (Z.2 1, 1809, .inr (.inl v_far))), (a9, .inl (Z.2 1, 1809, .inr (.inl v_near))), (a10, .inl (Z.2 1, 201, .inr (.inl v_echoes))), (a11, .inl (Z.2 0, 120, .inl v_draft))] 0 0 88 [none, none, none, none, none, none] [.long s0] := by
  unfold F_X6_arrives_88 at h
  cases h
  exact g_lret X dX6_arrives_88 () rfl rfl (Nat.le_of_ble_eq_true rfl) (Nat.le_of_ble_eq_true rfl)
theorem met_X6_arrives (l : Launch) (Z : gZt) (a0 : Nat) (a1 : Nat) (a2 : Nat) (a3 : Nat) (a4 : Nat) (a5 : Nat) (a6 : Nat) (a7 : Nat) (a8 : Nat) (a9 : Nat) (a10 : Nat) (a11 : Nat) (v_savedCount : Int32) (v_scriptLength : Int32) (v_code : Int32) (v_lineParts : Int32) (v_pulseMany : Int32) (v_left : Int64) (v_dropped : Int64) (v_merged : Int32) (v_drops : Int32) (v_contributions : Int32) (v_packet : Int64) (v_peelResult : Int32) (v_peelTime : Int32) (v_peelSum : Int32) (v_at : Int32) (v_commands : Int32) (v_hash : Int64) (v_m : Nat → Int64) (v_saved : Nat → Int64) (v_script : Nat → Int32) (v_lengths : Nat → Int32) (v_fractions : Nat → Int32) (v_times : Nat → Int32) (v_energies : Nat → Int64) (v_far : Nat → Int64) (v_near : Nat → Int64) (v_echoes : Nat → Int64) (v_draft : Nat → Int32) (x1 : Int32) (x2 : Int32) (x3 : Int32) (r : Int64) (h : F_X6_arrives v_lineParts v_lengths v_far v_near x1 x2 x3 = some r) : Ct l yX6_arrives (ws_ yX6_arrives cX6_arrives 6 (some .long)) rm_X6_arrives Z [.ref a0, .int x1, .int x2, .int x3] [(a0, .inr (5, [.ref a1, .ref a2, .int v_savedCount, .ref a3, .int v_scriptLength, .int v_code, .int v_lineParts, .ref a4, .ref a5, .int v_pulseMany, .ref a6, .ref a7, .ref a8, .ref a9, .ref a10, .long v_left, .long v_dropped, .int v_merged, .int v_drops, .int v_contributions, .long v_packet, .int v_peelResult, .int v_peelTime, .int v_peelSum, .int v_at, .int v_commands, .ref a11, .long v_hash])), (a1, .inl (Z.2 1, 431, .inr (.inl v_m))), (a2, .inl (Z.2 1, 1293, .inr (.inl v_saved))), (a3, .inl (Z.2 0, 120, .inl v_script)), (a4, .inl (Z.2 0, 8, .inl v_lengths)), (a5, .inl (Z.2 0, 9, .inl v_fractions)), (a6, .inl (Z.2 0, 4, .inl v_times)), (a7, .inl (Z.2 1, 4, .inr (.inl v_energies))), (a8, .inl (Z.2 1, 1809, .inr (.inl v_far))), (a9, .inl (Z.2 1, 1809, .inr (.inl v_near))), (a10, .inl (Z.2 1, 201, .inr (.inl v_echoes))), (a11, .inl (Z.2 0, 120, .inl v_draft))] [] (fun _ : Unit => (some (.long r) : Option Value)) (fun _ : Unit => ([(a0, .inr (5, [.ref a1, .ref a2, .int v_savedCount, .ref a3, .int v_scriptLength, .int v_code, .int v_lineParts, .ref a4, .ref a5, .int v_pulseMany, .ref a6, .ref a7, .ref a8, .ref a9, .ref a10, .long v_left, .long v_dropped, .int v_merged, .int v_drops, .int v_contributions, .long v_packet, .int v_peelResult, .int v_peelTime, .int v_peelSum, .int v_at, .int v_commands, .ref a11, .long v_hash])), (a1, .inl (Z.2 1, 431, .inr (.inl v_m))), (a2, .inl (Z.2 1, 1293, .inr (.inl v_saved))), (a3, .inl (Z.2 0, 120, .inl v_script)), (a4, .inl (Z.2 0, 8, .inl v_lengths)), (a5, .inl (Z.2 0, 9, .inl v_fractions)), (a6, .inl (Z.2 0, 4, .inl v_times)), (a7, .inl (Z.2 1, 4, .inr (.inl v_energies))), (a8, .inl (Z.2 1, 1809, .inr (.inl v_far))), (a9, .inl (Z.2 1, 1809, .inr (.inl v_near))), (a10, .inl (Z.2 1, 201, .inr (.inl v_echoes))), (a11, .inl (Z.2 0, 120, .inl v_draft))] : va_W)) := by
  refine Ct.of cX6_arrives 6 (some .long) "LineEchoesModel" [some (.ref a0), some (.int x1), some (.int x2), some (.int x3), none, none] 2 (by decide) rfl (Nat.le_of_ble_eq_true rfl) rfl (fun p e s m args below meth c A X hin => ?_)
  unfold F_X6_arrives at h
  refine g_iload_n X rfl dX6_arrives_0 1 rfl ?_
  refine g_seli 11 [] (b := x3 = 0) (x1 - 1) x1 ?_ (fun hc K => ?_) (fun hc K => ?_)
  · refine g_istore X dX6_arrives_11 13 rfl (Nat.le_of_ble_eq_true rfl) rfl [some (.ref a0), some (.int x1), some (.int x2), some (.int x3), some (.int (if x3 = 0 then x1 - 1 else x1)), none] rfl ?_
    refine g_iload X rfl dX6_arrives_13 15 rfl ?_
    refine g_if_lt X dX6_arrives_15 38 (by decide) 18 rfl (fun hc => ?_) (fun hc => ?_)
    · replace h := if_t hc h
      refine g_kill (j := 0) [none, some (.int x1), some (.int x2), some (.int x3), some (.int (if x3 = 0 then x1 - 1 else x1)), none] rfl ?_
      refine g_kill (j := 1) [none, none, some (.int x2), some (.int x3), some (.int (if x3 = 0 then x1 - 1 else x1)), none] rfl ?_
      refine g_kill (j := 2) [none, none, none, some (.int x3), some (.int (if x3 = 0 then x1 - 1 else x1)), none] rfl ?_
      refine g_kill (j := 3) [none, none, none, none, some (.int (if x3 = 0 then x1 - 1 else x1)), none] rfl ?_
      refine g_kill (j := 4) [none, none, none, none, none, none] rfl ?_
      exact w_X6_arrives_38 a0 a1 a2 a3 a4 a5 a6 a7 a8 a9 a10 a11  X  r    v_savedCount v_scriptLength v_code v_lineParts v_pulseMany v_left v_dropped v_merged v_drops v_contributions v_packet v_peelResult v_peelTime v_peelSum v_at v_commands v_hash v_m v_saved v_script v_lengths v_fractions v_times v_energies v_far v_near v_echoes v_draft h
    · replace h := if_f hc h
      refine g_iload X rfl dX6_arrives_18 20 rfl ?_
      refine g_aload_n X rfl dX6_arrives_20 21 rfl ?_
      refine g_get X gC5 0 rfl 6 (by decide) q1348 (fun _ h9 => h9) rfl dX6_arrives_21 24 rfl ?_
      refine g_icmp_ge X dX6_arrives_24 38 (by decide) 27 rfl (fun hc => ?_) (fun hc => ?_)
      · replace h := if_t hc h
        refine g_kill (j := 0) [none, some (.int x1), some (.int x2), some (.int x3), some (.int (if x3 = 0 then x1 - 1 else x1)), none] rfl ?_
        refine g_kill (j := 1) [none, none, some (.int x2), some (.int x3), some (.int (if x3 = 0 then x1 - 1 else x1)), none] rfl ?_
        refine g_kill (j := 2) [none, none, none, some (.int x3), some (.int (if x3 = 0 then x1 - 1 else x1)), none] rfl ?_
        refine g_kill (j := 3) [none, none, none, none, some (.int (if x3 = 0 then x1 - 1 else x1)), none] rfl ?_
        refine g_kill (j := 4) [none, none, none, none, none, none] rfl ?_
        exact w_X6_arrives_38 a0 a1 a2 a3 a4 a5 a6 a7 a8 a9 a10 a11  X  r    v_savedCount v_scriptLength v_code v_lineParts v_pulseMany v_left v_dropped v_merged v_drops v_contributions v_packet v_peelResult v_peelTime v_peelSum v_at v_commands v_hash v_m v_saved v_script v_lengths v_fractions v_times v_energies v_far v_near v_echoes v_draft h
      · replace h := if_f hc h
        refine g_iload_n X rfl dX6_arrives_27 28 rfl ?_
        refine g_aload_n X rfl dX6_arrives_28 29 rfl ?_
        refine g_get X gC5 0 rfl 7 (by decide) q1349 (fun _ h9 => h9) rfl dX6_arrives_29 32 rfl ?_
        refine g_iload X rfl dX6_arrives_32 34 rfl ?_
        obtain ⟨hi, h⟩ := gin_e h
        refine g_iald X 4 rfl hi dX6_arrives_34 35 rfl ?_
        refine g_icmp_ge X dX6_arrives_35 40 (by decide) 38 rfl (fun hc => ?_) (fun hc => ?_)
        · replace h := if_t hc h
          refine g_iload_n X rfl dX6_arrives_40 41 rfl ?_
          refine g_aload_n X rfl dX6_arrives_41 42 rfl ?_
          refine g_get X gC5 0 rfl 7 (by decide) q1349 (fun _ h9 => h9) rfl dX6_arrives_42 45 rfl ?_
          refine g_iload X rfl dX6_arrives_45 47 rfl ?_
          obtain ⟨hi, h⟩ := gin_e h
          refine g_iald X 4 rfl hi dX6_arrives_47 48 rfl ?_
          refine g_isub X dX6_arrives_48 49 rfl ?_
          refine g_topi (fun t1 et1 => ?_)
          replace h := nm_at et1 h
          refine g_istore X dX6_arrives_49 51 rfl (Nat.le_of_ble_eq_true rfl) rfl [some (.ref a0), some (.int x1), some (.int x2), some (.int x3), some (.int (if x3 = 0 then x1 - 1 else x1)), some (.int t1)] rfl ?_
          refine g_iload_n X rfl dX6_arrives_51 52 rfl ?_
          refine g_if_eq X dX6_arrives_52 73 (by decide) 55 rfl (fun hc => ?_) (fun hc => ?_)
          · replace h := if_t hc h
            refine g_aload_n X rfl dX6_arrives_73 74 rfl ?_
            refine g_get X gC5 0 rfl 12 (by decide) q1354 (fun _ h9 => h9) rfl dX6_arrives_74 77 rfl ?_
            refine g_sipush X 201 dX6_arrives_77 80 rfl kS_201 ?_
            refine g_iload_n X rfl dX6_arrives_80 81 rfl ?_
            refine g_iconst X 1 dX6_arrives_81 82 rfl kI_1 ?_
            refine g_isub X dX6_arrives_82 83 rfl ?_
            refine g_imul X dX6_arrives_83 84 rfl ?_
            refine g_iload X rfl dX6_arrives_84 86 rfl ?_
            refine g_iadd X dX6_arrives_86 87 rfl ?_
            obtain ⟨hi, h⟩ := gin_e h
            refine g_lald X 8 rfl hi dX6_arrives_87 88 rfl ?_
            refine g_kill (j := 0) [none, some (.int x1), some (.int x2), some (.int x3), some (.int (if x3 = 0 then x1 - 1 else x1)), some (.int t1)] rfl ?_
            refine g_kill (j := 1) [none, none, some (.int x2), some (.int x3), some (.int (if x3 = 0 then x1 - 1 else x1)), some (.int t1)] rfl ?_
            refine g_kill (j := 2) [none, none, none, some (.int x3), some (.int (if x3 = 0 then x1 - 1 else x1)), some (.int t1)] rfl ?_
            refine g_kill (j := 3) [none, none, none, none, some (.int (if x3 = 0 then x1 - 1 else x1)), some (.int t1)] rfl ?_
            refine g_kill (j := 4) [none, none, none, none, none, some (.int t1)] rfl ?_
            refine g_kill (j := 5) [none, none, none, none, none, none] rfl ?_
            exact w_X6_arrives_88 a0 a1 a2 a3 a4 a5 a6 a7 a8 a9 a10 a11  X  r    v_savedCount v_scriptLength v_code v_lineParts v_pulseMany v_left v_dropped v_merged v_drops v_contributions v_packet v_peelResult v_peelTime v_peelSum v_at v_commands v_hash v_m v_saved v_script v_lengths v_fractions v_times v_energies v_far v_near v_echoes v_draft (v_far ((201 * (x1 - 1)) + t1).toNatClampNeg) h
          · replace h := if_f hc h
            refine g_aload_n X rfl dX6_arrives_55 56 rfl ?_
            refine g_get X gC5 0 rfl 13 (by decide) q1355 (fun _ h9 => h9) rfl dX6_arrives_56 59 rfl ?_
            refine g_sipush X 201 dX6_arrives_59 62 rfl kS_201 ?_
            refine g_iload_n X rfl dX6_arrives_62 63 rfl ?_
            refine g_iconst X 1 dX6_arrives_63 64 rfl kI_1 ?_
            refine g_iadd X dX6_arrives_64 65 rfl ?_
            refine g_imul X dX6_arrives_65 66 rfl ?_
            refine g_iload X rfl dX6_arrives_66 68 rfl ?_
            refine g_iadd X dX6_arrives_68 69 rfl ?_
            obtain ⟨hi, h⟩ := gin_e h
            refine g_lald X 9 rfl hi dX6_arrives_69 70 rfl ?_
            refine g_goto X dX6_arrives_70 88 (by decide) ?_
            refine g_kill (j := 0) [none, some (.int x1), some (.int x2), some (.int x3), some (.int (if x3 = 0 then x1 - 1 else x1)), some (.int t1)] rfl ?_
            refine g_kill (j := 1) [none, none, some (.int x2), some (.int x3), some (.int (if x3 = 0 then x1 - 1 else x1)), some (.int t1)] rfl ?_
            refine g_kill (j := 2) [none, none, none, some (.int x3), some (.int (if x3 = 0 then x1 - 1 else x1)), some (.int t1)] rfl ?_
            refine g_kill (j := 3) [none, none, none, none, some (.int (if x3 = 0 then x1 - 1 else x1)), some (.int t1)] rfl ?_
            refine g_kill (j := 4) [none, none, none, none, none, some (.int t1)] rfl ?_
            refine g_kill (j := 5) [none, none, none, none, none, none] rfl ?_
            exact w_X6_arrives_88 a0 a1 a2 a3 a4 a5 a6 a7 a8 a9 a10 a11  X  r    v_savedCount v_scriptLength v_code v_lineParts v_pulseMany v_left v_dropped v_merged v_drops v_contributions v_packet v_peelResult v_peelTime v_peelSum v_at v_commands v_hash v_m v_saved v_script v_lengths v_fractions v_times v_energies v_far v_near v_echoes v_draft (v_near ((201 * (x1 + 1)) + t1).toNatClampNeg) h
        · replace h := if_f hc h
          refine g_kill (j := 0) [none, some (.int x1), some (.int x2), some (.int x3), some (.int (if x3 = 0 then x1 - 1 else x1)), none] rfl ?_
          refine g_kill (j := 1) [none, none, some (.int x2), some (.int x3), some (.int (if x3 = 0 then x1 - 1 else x1)), none] rfl ?_
          refine g_kill (j := 2) [none, none, none, some (.int x3), some (.int (if x3 = 0 then x1 - 1 else x1)), none] rfl ?_
          refine g_kill (j := 3) [none, none, none, none, some (.int (if x3 = 0 then x1 - 1 else x1)), none] rfl ?_
          refine g_kill (j := 4) [none, none, none, none, none, none] rfl ?_
          exact w_X6_arrives_38 a0 a1 a2 a3 a4 a5 a6 a7 a8 a9 a10 a11  X  r    v_savedCount v_scriptLength v_code v_lineParts v_pulseMany v_left v_dropped v_merged v_drops v_contributions v_packet v_peelResult v_peelTime v_peelSum v_at v_commands v_hash v_m v_saved v_script v_lengths v_fractions v_times v_energies v_far v_near v_echoes v_draft h
  · refine g_if_eq X dX6_arrives_1 8 (by decide) 4 rfl (fun _ => ?_) (fun hn => absurd hc hn)
    refine g_iload_n X rfl dX6_arrives_8 9 rfl ?_
    refine g_iconst X 1 dX6_arrives_9 10 rfl kI_1 ?_
    refine g_isub X dX6_arrives_10 11 rfl ?_
    exact K
  · refine g_if_eq X dX6_arrives_1 8 (by decide) 4 rfl (fun hn => absurd hn hc) (fun _ => ?_)
    refine g_iload_n X rfl dX6_arrives_4 5 rfl ?_
    refine g_goto X dX6_arrives_5 11 (by decide) ?_
    exact K
/-! LineEchoesModel.back(JI)J -/
abbrev rm_X6_back : Room := { frames := 0, cells := 0, slots := 0, locals := 0 }
def F_X6_back (v_fractions : Nat → Int32) (x1 : Int64) (x3 : Int32) : Option (Int64) :=
  gin x3 9 <|
  some ((x1 * ((v_fractions x3.toNatClampNeg).toInt64)) / 1000)
theorem met_X6_back (l : Launch) (Z : gZt) (a0 : Nat) (a1 : Nat) (a2 : Nat) (a3 : Nat) (a4 : Nat) (a5 : Nat) (a6 : Nat) (a7 : Nat) (a8 : Nat) (a9 : Nat) (a10 : Nat) (a11 : Nat) (v_savedCount : Int32) (v_scriptLength : Int32) (v_code : Int32) (v_lineParts : Int32) (v_pulseMany : Int32) (v_left : Int64) (v_dropped : Int64) (v_merged : Int32) (v_drops : Int32) (v_contributions : Int32) (v_packet : Int64) (v_peelResult : Int32) (v_peelTime : Int32) (v_peelSum : Int32) (v_at : Int32) (v_commands : Int32) (v_hash : Int64) (v_m : Nat → Int64) (v_saved : Nat → Int64) (v_script : Nat → Int32) (v_lengths : Nat → Int32) (v_fractions : Nat → Int32) (v_times : Nat → Int32) (v_energies : Nat → Int64) (v_far : Nat → Int64) (v_near : Nat → Int64) (v_echoes : Nat → Int64) (v_draft : Nat → Int32) (x1 : Int64) (x3 : Int32) (r : Int64) (h : F_X6_back v_fractions x1 x3 = some r) : Ct l yX6_back (ws_ yX6_back cX6_back 4 (some .long)) rm_X6_back Z [.ref a0, .long x1, .int x3] [(a0, .inr (5, [.ref a1, .ref a2, .int v_savedCount, .ref a3, .int v_scriptLength, .int v_code, .int v_lineParts, .ref a4, .ref a5, .int v_pulseMany, .ref a6, .ref a7, .ref a8, .ref a9, .ref a10, .long v_left, .long v_dropped, .int v_merged, .int v_drops, .int v_contributions, .long v_packet, .int v_peelResult, .int v_peelTime, .int v_peelSum, .int v_at, .int v_commands, .ref a11, .long v_hash])), (a1, .inl (Z.2 1, 431, .inr (.inl v_m))), (a2, .inl (Z.2 1, 1293, .inr (.inl v_saved))), (a3, .inl (Z.2 0, 120, .inl v_script)), (a4, .inl (Z.2 0, 8, .inl v_lengths)), (a5, .inl (Z.2 0, 9, .inl v_fractions)), (a6, .inl (Z.2 0, 4, .inl v_times)), (a7, .inl (Z.2 1, 4, .inr (.inl v_energies))), (a8, .inl (Z.2 1, 1809, .inr (.inl v_far))), (a9, .inl (Z.2 1, 1809, .inr (.inl v_near))), (a10, .inl (Z.2 1, 201, .inr (.inl v_echoes))), (a11, .inl (Z.2 0, 120, .inl v_draft))] [] (fun _ : Unit => (some (.long r) : Option Value)) (fun _ : Unit => ([(a0, .inr (5, [.ref a1, .ref a2, .int v_savedCount, .ref a3, .int v_scriptLength, .int v_code, .int v_lineParts, .ref a4, .ref a5, .int v_pulseMany, .ref a6, .ref a7, .ref a8, .ref a9, .ref a10, .long v_left, .long v_dropped, .int v_merged, .int v_drops, .int v_contributions, .long v_packet, .int v_peelResult, .int v_peelTime, .int v_peelSum, .int v_at, .int v_commands, .ref a11, .long v_hash])), (a1, .inl (Z.2 1, 431, .inr (.inl v_m))), (a2, .inl (Z.2 1, 1293, .inr (.inl v_saved))), (a3, .inl (Z.2 0, 120, .inl v_script)), (a4, .inl (Z.2 0, 8, .inl v_lengths)), (a5, .inl (Z.2 0, 9, .inl v_fractions)), (a6, .inl (Z.2 0, 4, .inl v_times)), (a7, .inl (Z.2 1, 4, .inr (.inl v_energies))), (a8, .inl (Z.2 1, 1809, .inr (.inl v_far))), (a9, .inl (Z.2 1, 1809, .inr (.inl v_near))), (a10, .inl (Z.2 1, 201, .inr (.inl v_echoes))), (a11, .inl (Z.2 0, 120, .inl v_draft))] : va_W)) := by
  refine Ct.of cX6_back 4 (some .long) "LineEchoesModel" [some (.ref a0), some (.long x1), none, some (.int x3)] 0 (by decide) rfl (Nat.le_of_ble_eq_true rfl) rfl (fun p e s m args below meth c A X hin => ?_)
  unfold F_X6_back at h
  refine g_lload_n X rfl dX6_back_0 1 rfl ?_
  refine g_aload_n X rfl dX6_back_1 2 rfl ?_
  refine g_get X gC5 0 rfl 8 (by decide) q1350 (fun _ h9 => h9) rfl dX6_back_2 5 rfl ?_
  refine g_iload_n X rfl dX6_back_5 6 rfl ?_
  obtain ⟨hi, h⟩ := gin_e h
  refine g_iald X 5 rfl hi dX6_back_6 7 rfl ?_
  refine g_i2l X dX6_back_7 8 rfl ?_
  refine g_lmul X dX6_back_8 9 rfl ?_
  refine g_ldc2 X q1446 dX6_back_9 12 rfl ?_
  refine g_ldiv X (by decide) dX6_back_12 13 rfl ?_
  cases h
  exact g_lret X dX6_back_13 () rfl rfl (Nat.le_of_ble_eq_true rfl) (Nat.le_of_ble_eq_true rfl)
/-! LineEchoesModel.setsOut()J -/
abbrev rm_X6_setsOut : Room := { frames := 0, cells := 0, slots := 0, locals := 0 }
def F_X6_setsOut_67 (v_dropped : Int64) (v_merged : Int32) (v_drops : Int32) (x1 : Int64) : Option (Int64 × Int64 × Int32 × Int32 × Int32 × Int64) :=
  some (x1, v_dropped, v_merged, v_drops, 0, 0)
def F_X6_setsOut (v_dropped : Int64) (v_merged : Int32) (v_drops : Int32) (v_contributions : Int32) (v_packet : Int64) (v_m : Nat → Int64) : Option (Int64 × Int64 × Int32 × Int32 × Int32 × Int64) :=
  nm (v_merged + (if v_contributions ≤ 1 then (0 : Int32) else 1)) fun t1 =>
  if v_packet ≤ 0 then
    (F_X6_setsOut_67 v_dropped t1 v_drops v_packet)
  else
    (gin 18 431 <|
    if (v_m (Int32.toNatClampNeg 18)) ≤ v_packet then
      (F_X6_setsOut_67 v_dropped t1 v_drops v_packet)
    else
      (F_X6_setsOut_67 (v_dropped + v_packet) t1 (v_drops + 1) 0))
theorem w_X6_setsOut_67 {p : Program} {l : Launch} {e : Env} {s : State} {m : MethodId} {args : Array Value} {below : List Frame} {meth : Method} {c : Code} {Z : gZt} {A : Nat → Prop} (a0 : Nat) (a1 : Nat) (a2 : Nat) (a3 : Nat) (a4 : Nat) (a5 : Nat) (a6 : Nat) (a7 : Nat) (a8 : Nat) (a9 : Nat) (a10 : Nat) (a11 : Nat) (X : gX p s m args meth c Z A cX6_setsOut "LineEchoesModel" 3 (some .long) []) (r : Int64) (r_dropped : Int64) (r_merged : Int32) (r_drops : Int32) (r_contributions : Int32) (r_packet : Int64)  (v_savedCount : Int32) (v_scriptLength : Int32) (v_code : Int32) (v_lineParts : Int32) (v_pulseMany : Int32) (v_left : Int64) (v_dropped : Int64) (v_merged : Int32) (v_drops : Int32) (v_contributions : Int32) (v_packet : Int64) (v_peelResult : Int32) (v_peelTime : Int32) (v_peelSum : Int32) (v_at : Int32) (v_commands : Int32) (v_hash : Int64) (v_m : Nat → Int64) (v_saved : Nat → Int64) (v_script : Nat → Int32) (v_lengths : Nat → Int32) (v_fractions : Nat → Int32) (v_times : Nat → Int32) (v_energies : Nat → Int64) (v_far : Nat → Int64) (v_near : Nat → Int64) (v_echoes : Nat → Int64) (v_draft : Nat → Int32) (x1 : Int64) (h : F_X6_setsOut_67 v_dropped v_merged v_drops x1 = some (r, r_dropped, r_merged, r_drops, r_contributions, r_packet)) : G p l e rm_X6_setsOut s m args below meth c Z A 3 (MQ below (gPost Z A (fun _ : Unit => (some (.long r) : Option Value)) (fun _ : Unit => ([(a0, .inr (5, [.ref a1, .ref a2, .int v_savedCount, .ref a3, .int v_scriptLength, .int v_code, .int v_lineParts, .ref a4, .ref a5, .int v_pulseMany, .ref a6, .ref a7, .ref a8, .ref a9, .ref a10, .long v_left, .long r_dropped, .int r_merged, .int r_drops, .int r_contributions, .long r_packet, .int v_peelResult, .int v_peelTime, .int v_peelSum, .int v_at, .int v_commands, .ref a11, .long v_hash])), (a1, .inl (Z.2 1, 431, .inr (.inl v_m))), (a2, .inl (Z.2 1, 1293, .inr (.inl v_saved))), (a3, .inl (Z.2 0, 120, .inl v_script)), (a4, .inl (Z.2 0, 8, .inl v_lengths)), (a5, .inl (Z.2 0, 9, .inl v_fractions)), (a6, .inl (Z.2 0, 4, .inl v_times)), (a7, .inl (Z.2 1, 4, .inr (.inl v_energies))), (a8, .inl (Z.2 1, 1809, .inr (.inl v_far))), (a9, .inl (Z.2 1, 1809, .inr (.inl v_near))), (a10, .inl (Z.2 1, 201, .inr (.inl v_echoes))), (a11, .inl (Z.2 0, 120, .inl v_draft))] : va_W))) args s 0 0 A) [(a0, .inr (5, [.ref a1, .ref a2, .int v_savedCount, .ref a3, .int v_scriptLength, .int v_code, .int v_lineParts, .ref a4, .ref a5, .int v_pulseMany, .ref a6, .ref a7, .ref a8, .ref a9, .ref a10, .long v_left, .long v_dropped, .int v_merged, .int v_drops, .int v_contributions, .long v_packet, .int v_peelResult, .int v_peelTime, .int v_peelSum, .int v_at, .int v_commands, .ref a11, .long v_hash])), (a1, .inl (Z.2 1, 431, .inr (.inl v_m))), (a2, .inl (Z.2 1, 1293, .inr (.inl v_saved))), (a3, .inl (Z.2 0, 120, .inl v_script)), (a4, .inl (Z.2 0, 8, .inl v_lengths)), (a5, .inl (Z.2 0, 9, .inl v_fractions)), (a6, .inl (Z.2 0, 4, .inl v_times)), (a7, .inl (Z.2 1, 4, .inr (.inl v_energies))), (a8, .inl (Z.2 1, 1809, .inr (.inl v_far))), (a9, .inl (Z.2 1, 1809, .inr (.inl v_near))), (a10, .inl (Z.2 1, 201, .inr (.inl v_echoes))), (a11, .inl (Z.2 0, 120, .inl v_draft))] 0 0 67 [some (.ref a0), some (.long x1), none] [] := by
  unfold F_X6_setsOut_67 at h
  refine g_aload_n X rfl dX6_setsOut_67 68 rfl ?_
  refine g_iconst X 0 dX6_setsOut_68 69 rfl kI_0 ?_
  refine g_put X gC5 0 rfl 19 (by decide) q1361 (fun _ h9 => h9) rfl rfl rfl (Nat.le_of_ble_eq_true rfl) dX6_setsOut_69 72 rfl ?_
  refine g_aload_n X rfl dX6_setsOut_72 73 rfl ?_
  refine g_lconst X 0 dX6_setsOut_73 74 rfl rfl ?_
  refine g_put X gC5 0 rfl 20 (by decide) q1362 (fun _ h9 => h9) rfl rfl rfl (Nat.le_of_ble_eq_true rfl) dX6_setsOut_74 77 rfl ?_
  refine g_lload_n X rfl dX6_setsOut_77 78 rfl ?_
  cases h
  exact g_lret X dX6_setsOut_78 () rfl rfl (Nat.le_of_ble_eq_true rfl) (Nat.le_of_ble_eq_true rfl)
theorem met_X6_setsOut (l : Launch) (Z : gZt) (a0 : Nat) (a1 : Nat) (a2 : Nat) (a3 : Nat) (a4 : Nat) (a5 : Nat) (a6 : Nat) (a7 : Nat) (a8 : Nat) (a9 : Nat) (a10 : Nat) (a11 : Nat) (v_savedCount : Int32) (v_scriptLength : Int32) (v_code : Int32) (v_lineParts : Int32) (v_pulseMany : Int32) (v_left : Int64) (v_dropped : Int64) (v_merged : Int32) (v_drops : Int32) (v_contributions : Int32) (v_packet : Int64) (v_peelResult : Int32) (v_peelTime : Int32) (v_peelSum : Int32) (v_at : Int32) (v_commands : Int32) (v_hash : Int64) (v_m : Nat → Int64) (v_saved : Nat → Int64) (v_script : Nat → Int32) (v_lengths : Nat → Int32) (v_fractions : Nat → Int32) (v_times : Nat → Int32) (v_energies : Nat → Int64) (v_far : Nat → Int64) (v_near : Nat → Int64) (v_echoes : Nat → Int64) (v_draft : Nat → Int32) (r : Int64) (r_dropped : Int64) (r_merged : Int32) (r_drops : Int32) (r_contributions : Int32) (r_packet : Int64) (h : F_X6_setsOut v_dropped v_merged v_drops v_contributions v_packet v_m = some (r, r_dropped, r_merged, r_drops, r_contributions, r_packet)) : Ct l yX6_setsOut (ws_ yX6_setsOut cX6_setsOut 3 (some .long)) rm_X6_setsOut Z [.ref a0] [(a0, .inr (5, [.ref a1, .ref a2, .int v_savedCount, .ref a3, .int v_scriptLength, .int v_code, .int v_lineParts, .ref a4, .ref a5, .int v_pulseMany, .ref a6, .ref a7, .ref a8, .ref a9, .ref a10, .long v_left, .long v_dropped, .int v_merged, .int v_drops, .int v_contributions, .long v_packet, .int v_peelResult, .int v_peelTime, .int v_peelSum, .int v_at, .int v_commands, .ref a11, .long v_hash])), (a1, .inl (Z.2 1, 431, .inr (.inl v_m))), (a2, .inl (Z.2 1, 1293, .inr (.inl v_saved))), (a3, .inl (Z.2 0, 120, .inl v_script)), (a4, .inl (Z.2 0, 8, .inl v_lengths)), (a5, .inl (Z.2 0, 9, .inl v_fractions)), (a6, .inl (Z.2 0, 4, .inl v_times)), (a7, .inl (Z.2 1, 4, .inr (.inl v_energies))), (a8, .inl (Z.2 1, 1809, .inr (.inl v_far))), (a9, .inl (Z.2 1, 1809, .inr (.inl v_near))), (a10, .inl (Z.2 1, 201, .inr (.inl v_echoes))), (a11, .inl (Z.2 0, 120, .inl v_draft))] [] (fun _ : Unit => (some (.long r) : Option Value)) (fun _ : Unit => ([(a0, .inr (5, [.ref a1, .ref a2, .int v_savedCount, .ref a3, .int v_scriptLength, .int v_code, .int v_lineParts, .ref a4, .ref a5, .int v_pulseMany, .ref a6, .ref a7, .ref a8, .ref a9, .ref a10, .long v_left, .long r_dropped, .int r_merged, .int r_drops, .int r_contributions, .long r_packet, .int v_peelResult, .int v_peelTime, .int v_peelSum, .int v_at, .int v_commands, .ref a11, .long v_hash])), (a1, .inl (Z.2 1, 431, .inr (.inl v_m))), (a2, .inl (Z.2 1, 1293, .inr (.inl v_saved))), (a3, .inl (Z.2 0, 120, .inl v_script)), (a4, .inl (Z.2 0, 8, .inl v_lengths)), (a5, .inl (Z.2 0, 9, .inl v_fractions)), (a6, .inl (Z.2 0, 4, .inl v_times)), (a7, .inl (Z.2 1, 4, .inr (.inl v_energies))), (a8, .inl (Z.2 1, 1809, .inr (.inl v_far))), (a9, .inl (Z.2 1, 1809, .inr (.inl v_near))), (a10, .inl (Z.2 1, 201, .inr (.inl v_echoes))), (a11, .inl (Z.2 0, 120, .inl v_draft))] : va_W)) := by
  refine Ct.of cX6_setsOut 3 (some .long) "LineEchoesModel" [some (.ref a0), none, none] 2 (by decide) rfl (Nat.le_of_ble_eq_true rfl) rfl (fun p e s m args below meth c A X hin => ?_)
  unfold F_X6_setsOut at h
  refine g_aload_n X rfl dX6_setsOut_0 1 rfl ?_
  refine g_dup X dX6_setsOut_1 2 rfl rfl ?_
  refine g_get X gC5 0 rfl 17 (by decide) q1359 (fun _ h9 => h9) rfl dX6_setsOut_2 5 rfl ?_
  refine g_aload_n X rfl dX6_setsOut_5 6 rfl ?_
  refine g_get X gC5 0 rfl 19 (by decide) q1361 (fun _ h9 => h9) rfl dX6_setsOut_6 9 rfl ?_
  refine g_iconst X 1 dX6_setsOut_9 10 rfl kI_1 ?_
  refine g_seli 18 [.int v_merged, .ref a0] (b := v_contributions ≤ 1) 0 1 ?_ (fun hc K => ?_) (fun hc K => ?_)
  · refine g_iadd X dX6_setsOut_18 19 rfl ?_
    refine g_topi (fun t1 et1 => ?_)
    replace h := nm_at et1 h
    refine g_put X gC5 0 rfl 17 (by decide) q1359 (fun _ h9 => h9) rfl rfl rfl (Nat.le_of_ble_eq_true rfl) dX6_setsOut_19 22 rfl ?_
    refine g_aload_n X rfl dX6_setsOut_22 23 rfl ?_
    refine g_get X gC5 0 rfl 20 (by decide) q1362 (fun _ h9 => h9) rfl dX6_setsOut_23 26 rfl ?_
    refine g_lstore_n X dX6_setsOut_26 27 rfl (Nat.le_of_ble_eq_true rfl) rfl [some (.ref a0), some (.long v_packet), none] rfl ?_
    refine g_lload_n X rfl dX6_setsOut_27 28 rfl ?_
    refine g_lconst X 0 dX6_setsOut_28 29 rfl rfl ?_
    refine g_lcmp_le X dX6_setsOut_29 30 rfl dX6_setsOut_30 67 (by decide) 33 rfl (fun hc => ?_) (fun hc => ?_)
    · replace h := if_t hc h
      exact w_X6_setsOut_67 a0 a1 a2 a3 a4 a5 a6 a7 a8 a9 a10 a11  X  r r_dropped r_merged r_drops r_contributions r_packet    v_savedCount v_scriptLength v_code v_lineParts v_pulseMany v_left v_dropped t1 v_drops v_contributions v_packet v_peelResult v_peelTime v_peelSum v_at v_commands v_hash v_m v_saved v_script v_lengths v_fractions v_times v_energies v_far v_near v_echoes v_draft v_packet h
    · replace h := if_f hc h
      refine g_lload_n X rfl dX6_setsOut_33 34 rfl ?_
      refine g_aload_n X rfl dX6_setsOut_34 35 rfl ?_
      refine g_get X gC5 0 rfl 0 (by decide) q1342 (fun _ h9 => h9) rfl dX6_setsOut_35 38 rfl ?_
      refine g_bipush X 18 dX6_setsOut_38 40 rfl kB_18 ?_
      obtain ⟨hi, h⟩ := gin_e h
      refine g_lald X 1 rfl hi dX6_setsOut_40 41 rfl ?_
      refine g_lcmp_ge X dX6_setsOut_41 42 rfl dX6_setsOut_42 67 (by decide) 45 rfl (fun hc => ?_) (fun hc => ?_)
      · replace h := if_t hc h
        exact w_X6_setsOut_67 a0 a1 a2 a3 a4 a5 a6 a7 a8 a9 a10 a11  X  r r_dropped r_merged r_drops r_contributions r_packet    v_savedCount v_scriptLength v_code v_lineParts v_pulseMany v_left v_dropped t1 v_drops v_contributions v_packet v_peelResult v_peelTime v_peelSum v_at v_commands v_hash v_m v_saved v_script v_lengths v_fractions v_times v_energies v_far v_near v_echoes v_draft v_packet h
      · replace h := if_f hc h
        refine g_aload_n X rfl dX6_setsOut_45 46 rfl ?_
        refine g_dup X dX6_setsOut_46 47 rfl rfl ?_
        refine g_get X gC5 0 rfl 18 (by decide) q1360 (fun _ h9 => h9) rfl dX6_setsOut_47 50 rfl ?_
        refine g_iconst X 1 dX6_setsOut_50 51 rfl kI_1 ?_
        refine g_iadd X dX6_setsOut_51 52 rfl ?_
        refine g_put X gC5 0 rfl 18 (by decide) q1360 (fun _ h9 => h9) rfl rfl rfl (Nat.le_of_ble_eq_true rfl) dX6_setsOut_52 55 rfl ?_
        refine g_aload_n X rfl dX6_setsOut_55 56 rfl ?_
        refine g_dup X dX6_setsOut_56 57 rfl rfl ?_
        refine g_get X gC5 0 rfl 16 (by decide) q1358 (fun _ h9 => h9) rfl dX6_setsOut_57 60 rfl ?_
        refine g_lload_n X rfl dX6_setsOut_60 61 rfl ?_
        refine g_ladd X dX6_setsOut_61 62 rfl ?_
        refine g_put X gC5 0 rfl 16 (by decide) q1358 (fun _ h9 => h9) rfl rfl rfl (Nat.le_of_ble_eq_true rfl) dX6_setsOut_62 65 rfl ?_
        refine g_lconst X 0 dX6_setsOut_65 66 rfl rfl ?_
        refine g_lstore_n X dX6_setsOut_66 67 rfl (Nat.le_of_ble_eq_true rfl) rfl [some (.ref a0), some (.long 0), none] rfl ?_
        exact w_X6_setsOut_67 a0 a1 a2 a3 a4 a5 a6 a7 a8 a9 a10 a11  X  r r_dropped r_merged r_drops r_contributions r_packet    v_savedCount v_scriptLength v_code v_lineParts v_pulseMany v_left (v_dropped + v_packet) t1 (v_drops + 1) v_contributions v_packet v_peelResult v_peelTime v_peelSum v_at v_commands v_hash v_m v_saved v_script v_lengths v_fractions v_times v_energies v_far v_near v_echoes v_draft 0 h
  · refine g_icmp_le X dX6_setsOut_10 17 (by decide) 13 rfl (fun _ => ?_) (fun hn => absurd hc hn)
    refine g_iconst X 0 dX6_setsOut_17 18 rfl kI_0 ?_
    exact K
  · refine g_icmp_le X dX6_setsOut_10 17 (by decide) 13 rfl (fun hn => absurd hn hc) (fun _ => ?_)
    refine g_iconst X 1 dX6_setsOut_13 14 rfl kI_1 ?_
    refine g_goto X dX6_setsOut_14 18 (by decide) ?_
    exact K
/-! LineEchoesModel.runAt(II)V -/
abbrev rm_X6_runAt : Room := { frames := 2, cells := 0, slots := 0, locals := 44 }
def F_X6_runAt_146 (v_left : Int64) (v_dropped : Int64) (v_merged : Int32) (v_drops : Int32) (v_contributions : Int32) (v_packet : Int64) (v_far : Nat → Int64) (v_near : Nat → Int64) (v_echoes : Nat → Int64) : Option (Int64 × Int64 × Int32 × Int32 × Int32 × Int64 × (Nat → Int64) × (Nat → Int64) × (Nat → Int64)) :=
  some (v_left, v_dropped, v_merged, v_drops, v_contributions, v_packet, v_far, v_near, v_echoes)
def F_X6_runAt_97 (v_left : Int64) (v_dropped : Int64) (v_merged : Int32) (v_drops : Int32) (v_contributions : Int32) (v_packet : Int64) (v_m : Nat → Int64) (v_far : Nat → Int64) (v_near : Nat → Int64) (v_echoes : Nat → Int64) (x1 : Int32) (x2 : Int32) (x5 : Int64) (x7 : Int64) (x9 : Int64) : Option (Int64 × Int64 × Int32 × Int32 × Int32 × Int64 × (Nat → Int64) × (Nat → Int64) × (Nat → Int64)) :=
  if x1 ≤ 0 then
    (gin x2 201 <|
    F_X6_runAt_146 v_left v_dropped v_merged v_drops v_contributions v_packet v_far v_near (vp_updL v_echoes x2.toNatClampNeg (x5 - x9)))
  else
    (bd2 (F_X6_contribute v_contributions v_packet x7) fun w1_contributions w2_packet =>
    bd2 (F_X6_contribute w1_contributions w2_packet (x5 - x9)) fun w3_contributions w4_packet =>
    bd6 (F_X6_setsOut v_dropped v_merged v_drops w3_contributions w4_packet v_m) fun r5 w6_dropped w7_merged w8_drops w9_contributions w10_packet =>
    gin ((201 * x1) + x2) 1809 <|
    F_X6_runAt_146 v_left w6_dropped w7_merged w8_drops w9_contributions w10_packet v_far (vp_updL v_near ((201 * x1) + x2).toNatClampNeg r5) v_echoes)
def F_X6_runAt_65 (v_left : Int64) (v_dropped : Int64) (v_merged : Int32) (v_drops : Int32) (v_contributions : Int32) (v_packet : Int64) (v_m : Nat → Int64) (v_far : Nat → Int64) (v_near : Nat → Int64) (v_echoes : Nat → Int64) (x1 : Int32) (x2 : Int32) (x5 : Int64) (x7 : Int64) (x9 : Int64) : Option (Int64 × Int64 × Int32 × Int32 × Int32 × Int64 × (Nat → Int64) × (Nat → Int64) × (Nat → Int64)) :=
  bd6 (F_X6_setsOut v_dropped v_merged v_drops v_contributions v_packet v_m) fun r1 w2_dropped w3_merged w4_drops w5_contributions w6_packet =>
  gin ((201 * x1) + x2) 1809 <|
  F_X6_runAt_97 v_left w2_dropped w3_merged w4_drops w5_contributions w6_packet v_m (vp_updL v_far ((201 * x1) + x2).toNatClampNeg r1) v_near v_echoes x1 x2 x5 x7 x9
def F_X6_runAt (v_lineParts : Int32) (v_pulseMany : Int32) (v_left : Int64) (v_dropped : Int64) (v_merged : Int32) (v_drops : Int32) (v_contributions : Int32) (v_packet : Int64) (v_m : Nat → Int64) (v_lengths : Nat → Int32) (v_fractions : Nat → Int32) (v_times : Nat → Int32) (v_energies : Nat → Int64) (v_far : Nat → Int64) (v_near : Nat → Int64) (v_echoes : Nat → Int64) (x1 : Int32) (x2 : Int32) : Option (Int64 × Int64 × Int32 × Int32 × Int32 × Int64 × (Nat → Int64) × (Nat → Int64) × (Nat → Int64)) :=
  bd1 (F_X6_arrives v_lineParts v_lengths v_far v_near x1 x2 0) fun r1 =>
  bd1 (F_X6_arrives v_lineParts v_lengths v_far v_near x1 x2 1) fun r2 =>
  bd1 (F_X6_back v_fractions r1 x1) fun r3 =>
  bd1 (F_X6_back v_fractions r2 x1) fun r4 =>
  if v_lineParts ≤ x1 then
    (F_X6_runAt_97 (v_left + (r1 - r3)) v_dropped v_merged v_drops v_contributions v_packet v_m v_far v_near v_echoes x1 x2 r2 r3 r4)
  else
    (bd2 (F_X6_contribute v_contributions v_packet r4) fun w5_contributions w6_packet =>
    bd2 (F_X6_contribute w5_contributions w6_packet (r1 - r3)) fun w7_contributions w8_packet =>
    if x1 = 0 then
      (bd2 (F_X6_passPulses v_pulseMany w7_contributions w8_packet v_times v_energies x2) fun w9_contributions w10_packet =>
      F_X6_runAt_65 v_left v_dropped v_merged v_drops w9_contributions w10_packet v_m v_far v_near v_echoes x1 x2 r2 r3 r4)
    else
      (F_X6_runAt_65 v_left v_dropped v_merged v_drops w7_contributions w8_packet v_m v_far v_near v_echoes x1 x2 r2 r3 r4))
theorem w_X6_runAt_146 {p : Program} {l : Launch} {e : Env} {s : State} {m : MethodId} {args : Array Value} {below : List Frame} {meth : Method} {c : Code} {Z : gZt} {A : Nat → Prop} (a0 : Nat) (a1 : Nat) (a2 : Nat) (a3 : Nat) (a4 : Nat) (a5 : Nat) (a6 : Nat) (a7 : Nat) (a8 : Nat) (a9 : Nat) (a10 : Nat) (a11 : Nat) (X : gX p s m args meth c Z A cX6_runAt "LineEchoesModel" 11 none []) (r_left : Int64) (r_dropped : Int64) (r_merged : Int32) (r_drops : Int32) (r_contributions : Int32) (r_packet : Int64) (r_far : Nat → Int64) (r_near : Nat → Int64) (r_echoes : Nat → Int64)  (v_savedCount : Int32) (v_scriptLength : Int32) (v_code : Int32) (v_lineParts : Int32) (v_pulseMany : Int32) (v_left : Int64) (v_dropped : Int64) (v_merged : Int32) (v_drops : Int32) (v_contributions : Int32) (v_packet : Int64) (v_peelResult : Int32) (v_peelTime : Int32) (v_peelSum : Int32) (v_at : Int32) (v_commands : Int32) (v_hash : Int64) (v_m : Nat → Int64) (v_saved : Nat → Int64) (v_script : Nat → Int32) (v_lengths : Nat → Int32) (v_fractions : Nat → Int32) (v_times : Nat → Int32) (v_energies : Nat → Int64) (v_far : Nat → Int64) (v_near : Nat → Int64) (v_echoes : Nat → Int64) (v_draft : Nat → Int32) (h : F_X6_runAt_146 v_left v_dropped v_merged v_drops v_contributions v_packet v_far v_near v_echoes = some (r_left, r_dropped, r_merged, r_drops, r_contributions, r_packet, r_far, r_near, r_echoes)) : G p l e rm_X6_runAt s m args below meth c Z A 11 (MQ below (gPost Z A (fun _ : Unit => (none : Option Value)) (fun _ : Unit => ([(a0, .inr (5, [.ref a1, .ref a2, .int v_savedCount, .ref a3, .int v_scriptLength, .int v_code, .int v_lineParts, .ref a4, .ref a5, .int v_pulseMany, .ref a6, .ref a7, .ref a8, .ref a9, .ref a10, .long r_left, .long r_dropped, .int r_merged, .int r_drops, .int r_contributions, .long r_packet, .int v_peelResult, .int v_peelTime, .int v_peelSum, .int v_at, .int v_commands, .ref a11, .long v_hash])), (a1, .inl (Z.2 1, 431, .inr (.inl v_m))), (a2, .inl (Z.2 1, 1293, .inr (.inl v_saved))), (a3, .inl (Z.2 0, 120, .inl v_script)), (a4, .inl (Z.2 0, 8, .inl v_lengths)), (a5, .inl (Z.2 0, 9, .inl v_fractions)), (a6, .inl (Z.2 0, 4, .inl v_times)), (a7, .inl (Z.2 1, 4, .inr (.inl v_energies))), (a8, .inl (Z.2 1, 1809, .inr (.inl r_far))), (a9, .inl (Z.2 1, 1809, .inr (.inl r_near))), (a10, .inl (Z.2 1, 201, .inr (.inl r_echoes))), (a11, .inl (Z.2 0, 120, .inl v_draft))] : va_W))) args s 0 0 A) [(a0, .inr (5, [.ref a1, .ref a2, .int v_savedCount, .ref a3, .int v_scriptLength, .int v_code, .int v_lineParts, .ref a4, .ref a5, .int v_pulseMany, .ref a6, .ref a7, .ref a8, .ref a9, .ref a10, .long v_left, .long v_dropped, .int v_merged, .int v_drops, .int v_contributions, .long v_packet, .int v_peelResult, .int v_peelTime, .int v_peelSum, .int v_at, .int v_commands, .ref a11, .long v_hash])), (a1, .inl (Z.2 1, 431, .inr (.inl v_m))), (a2, .inl (Z.2 1, 1293, .inr (.inl v_saved))), (a3, .inl (Z.2 0, 120, .inl v_script)), (a4, .inl (Z.2 0, 8, .inl v_lengths)), (a5, .inl (Z.2 0, 9, .inl v_fractions)), (a6, .inl (Z.2 0, 4, .inl v_times)), (a7, .inl (Z.2 1, 4, .inr (.inl v_energies))), (a8, .inl (Z.2 1, 1809, .inr (.inl v_far))), (a9, .inl (Z.2 1, 1809, .inr (.inl v_near))), (a10, .inl (Z.2 1, 201, .inr (.inl v_echoes))), (a11, .inl (Z.2 0, 120, .inl v_draft))] 0 0 146 [none, none, none, none, none, none, none, none, none, none, none] [] := by
  unfold F_X6_runAt_146 at h
  cases h
  exact g_vret X dX6_runAt_146 () rfl rfl (Nat.le_of_ble_eq_true rfl) (Nat.le_of_ble_eq_true rfl)
theorem w_X6_runAt_97 {p : Program} {l : Launch} {e : Env} {s : State} {m : MethodId} {args : Array Value} {below : List Frame} {meth : Method} {c : Code} {Z : gZt} {A : Nat → Prop} (a0 : Nat) (a1 : Nat) (a2 : Nat) (a3 : Nat) (a4 : Nat) (a5 : Nat) (a6 : Nat) (a7 : Nat) (a8 : Nat) (a9 : Nat) (a10 : Nat) (a11 : Nat) (X : gX p s m args meth c Z A cX6_runAt "LineEchoesModel" 11 none []) (r_left : Int64) (r_dropped : Int64) (r_merged : Int32) (r_drops : Int32) (r_contributions : Int32) (r_packet : Int64) (r_far : Nat → Int64) (r_near : Nat → Int64) (r_echoes : Nat → Int64)  (v_savedCount : Int32) (v_scriptLength : Int32) (v_code : Int32) (v_lineParts : Int32) (v_pulseMany : Int32) (v_left : Int64) (v_dropped : Int64) (v_merged : Int32) (v_drops : Int32) (v_contributions : Int32) (v_packet : Int64) (v_peelResult : Int32) (v_peelTime : Int32) (v_peelSum : Int32) (v_at : Int32) (v_commands : Int32) (v_hash : Int64) (v_m : Nat → Int64) (v_saved : Nat → Int64) (v_script : Nat → Int32) (v_lengths : Nat → Int32) (v_fractions : Nat → Int32) (v_times : Nat → Int32) (v_energies : Nat → Int64) (v_far : Nat → Int64) (v_near : Nat → Int64) (v_echoes : Nat → Int64) (v_draft : Nat → Int32) (x1 : Int32) (x2 : Int32) (x5 : Int64) (x7 : Int64) (x9 : Int64) (h : F_X6_runAt_97 v_left v_dropped v_merged v_drops v_contributions v_packet v_m v_far v_near v_echoes x1 x2 x5 x7 x9 = some (r_left, r_dropped, r_merged, r_drops, r_contributions, r_packet, r_far, r_near, r_echoes)) : G p l e rm_X6_runAt s m args below meth c Z A 11 (MQ below (gPost Z A (fun _ : Unit => (none : Option Value)) (fun _ : Unit => ([(a0, .inr (5, [.ref a1, .ref a2, .int v_savedCount, .ref a3, .int v_scriptLength, .int v_code, .int v_lineParts, .ref a4, .ref a5, .int v_pulseMany, .ref a6, .ref a7, .ref a8, .ref a9, .ref a10, .long r_left, .long r_dropped, .int r_merged, .int r_drops, .int r_contributions, .long r_packet, .int v_peelResult, .int v_peelTime, .int v_peelSum, .int v_at, .int v_commands, .ref a11, .long v_hash])), (a1, .inl (Z.2 1, 431, .inr (.inl v_m))), (a2, .inl (Z.2 1, 1293, .inr (.inl v_saved))), (a3, .inl (Z.2 0, 120, .inl v_script)), (a4, .inl (Z.2 0, 8, .inl v_lengths)), (a5, .inl (Z.2 0, 9, .inl v_fractions)), (a6, .inl (Z.2 0, 4, .inl v_times)), (a7, .inl (Z.2 1, 4, .inr (.inl v_energies))), (a8, .inl (Z.2 1, 1809, .inr (.inl r_far))), (a9, .inl (Z.2 1, 1809, .inr (.inl r_near))), (a10, .inl (Z.2 1, 201, .inr (.inl r_echoes))), (a11, .inl (Z.2 0, 120, .inl v_draft))] : va_W))) args s 0 0 A) [(a0, .inr (5, [.ref a1, .ref a2, .int v_savedCount, .ref a3, .int v_scriptLength, .int v_code, .int v_lineParts, .ref a4, .ref a5, .int v_pulseMany, .ref a6, .ref a7, .ref a8, .ref a9, .ref a10, .long v_left, .long v_dropped, .int v_merged, .int v_drops, .int v_contributions, .long v_packet, .int v_peelResult, .int v_peelTime, .int v_peelSum, .int v_at, .int v_commands, .ref a11, .long v_hash])), (a1, .inl (Z.2 1, 431, .inr (.inl v_m))), (a2, .inl (Z.2 1, 1293, .inr (.inl v_saved))), (a3, .inl (Z.2 0, 120, .inl v_script)), (a4, .inl (Z.2 0, 8, .inl v_lengths)), (a5, .inl (Z.2 0, 9, .inl v_fractions)), (a6, .inl (Z.2 0, 4, .inl v_times)), (a7, .inl (Z.2 1, 4, .inr (.inl v_energies))), (a8, .inl (Z.2 1, 1809, .inr (.inl v_far))), (a9, .inl (Z.2 1, 1809, .inr (.inl v_near))), (a10, .inl (Z.2 1, 201, .inr (.inl v_echoes))), (a11, .inl (Z.2 0, 120, .inl v_draft))] 0 0 97 [some (.ref a0), some (.int x1), some (.int x2), none, none, some (.long x5), none, some (.long x7), none, some (.long x9), none] [] := by
  unfold F_X6_runAt_97 at h
  refine g_iload_n X rfl dX6_runAt_97 98 rfl ?_
  refine g_if_le X dX6_runAt_98 135 (by decide) 101 rfl (fun hc => ?_) (fun hc => ?_)
  · replace h := if_t hc h
    refine g_aload_n X rfl dX6_runAt_135 136 rfl ?_
    refine g_get X gC5 0 rfl 14 (by decide) q1356 (fun _ h9 => h9) rfl dX6_runAt_136 139 rfl ?_
    refine g_iload_n X rfl dX6_runAt_139 140 rfl ?_
    refine g_lload X rfl dX6_runAt_140 142 rfl ?_
    refine g_lload X rfl dX6_runAt_142 144 rfl ?_
    refine g_lsub X dX6_runAt_144 145 rfl ?_
    obtain ⟨hi, h⟩ := gin_e h
    refine g_last X 10 rfl hi dX6_runAt_145 146 rfl ?_
    refine g_kill (j := 0) [none, some (.int x1), some (.int x2), none, none, some (.long x5), none, some (.long x7), none, some (.long x9), none] rfl ?_
    refine g_kill (j := 1) [none, none, some (.int x2), none, none, some (.long x5), none, some (.long x7), none, some (.long x9), none] rfl ?_
    refine g_kill (j := 2) [none, none, none, none, none, some (.long x5), none, some (.long x7), none, some (.long x9), none] rfl ?_
    refine g_kill (j := 5) [none, none, none, none, none, none, none, some (.long x7), none, some (.long x9), none] rfl ?_
    refine g_kill (j := 7) [none, none, none, none, none, none, none, none, none, some (.long x9), none] rfl ?_
    refine g_kill (j := 9) [none, none, none, none, none, none, none, none, none, none, none] rfl ?_
    exact w_X6_runAt_146 a0 a1 a2 a3 a4 a5 a6 a7 a8 a9 a10 a11  X  r_left r_dropped r_merged r_drops r_contributions r_packet r_far r_near r_echoes    v_savedCount v_scriptLength v_code v_lineParts v_pulseMany v_left v_dropped v_merged v_drops v_contributions v_packet v_peelResult v_peelTime v_peelSum v_at v_commands v_hash v_m v_saved v_script v_lengths v_fractions v_times v_energies v_far v_near (vp_updL v_echoes x2.toNatClampNeg (x5 - x9)) v_draft h
  · replace h := if_f hc h
    refine g_aload_n X rfl dX6_runAt_101 102 rfl ?_
    refine g_lload X rfl dX6_runAt_102 104 rfl ?_
    obtain ⟨w1_contributions, w2_packet, hcl, h⟩ := bd2_e h
    refine g_callV0W X (met_X6_contribute l Z a0 a1 a2 a3 a4 a5 a6 a7 a8 a9 a10 a11 v_savedCount v_scriptLength v_code v_lineParts v_pulseMany v_left v_dropped v_merged v_drops v_contributions v_packet v_peelResult v_peelTime v_peelSum v_at v_commands v_hash v_m v_saved v_script v_lengths v_fractions v_times v_energies v_far v_near v_echoes v_draft x7 w1_contributions w2_packet hcl) rfl 0 gC5 rfl rfl (lw_V q1574 q1576 qs42 q74 q1577) md_X6_contribute ⟨(Nat.le_of_ble_eq_true rfl), (Nat.le_of_ble_eq_true rfl)⟩ rfl dX6_runAt_104 107 rfl 0 0 rfl rfl (Nat.le_of_ble_eq_true rfl) (Nat.le_of_ble_eq_true rfl) (st := []) rfl (Nat.le_of_ble_eq_true rfl) (fun _ => rfl) (fun _ => ?_)
    refine g_aload_n X rfl dX6_runAt_107 108 rfl ?_
    refine g_lload X rfl dX6_runAt_108 110 rfl ?_
    refine g_lload X rfl dX6_runAt_110 112 rfl ?_
    refine g_lsub X dX6_runAt_112 113 rfl ?_
    obtain ⟨w3_contributions, w4_packet, hcl, h⟩ := bd2_e h
    refine g_callV0W X (met_X6_contribute l Z a0 a1 a2 a3 a4 a5 a6 a7 a8 a9 a10 a11 v_savedCount v_scriptLength v_code v_lineParts v_pulseMany v_left v_dropped v_merged v_drops w1_contributions w2_packet v_peelResult v_peelTime v_peelSum v_at v_commands v_hash v_m v_saved v_script v_lengths v_fractions v_times v_energies v_far v_near v_echoes v_draft (x5 - x9) w3_contributions w4_packet hcl) rfl 0 gC5 rfl rfl (lw_V q1574 q1576 qs42 q74 q1577) md_X6_contribute ⟨(Nat.le_of_ble_eq_true rfl), (Nat.le_of_ble_eq_true rfl)⟩ rfl dX6_runAt_113 116 rfl 0 0 rfl rfl (Nat.le_of_ble_eq_true rfl) (Nat.le_of_ble_eq_true rfl) (st := []) rfl (Nat.le_of_ble_eq_true rfl) (fun _ => rfl) (fun _ => ?_)
    refine g_aload_n X rfl dX6_runAt_116 117 rfl ?_
    refine g_get X gC5 0 rfl 13 (by decide) q1355 (fun _ h9 => h9) rfl dX6_runAt_117 120 rfl ?_
    refine g_sipush X 201 dX6_runAt_120 123 rfl kS_201 ?_
    refine g_iload_n X rfl dX6_runAt_123 124 rfl ?_
    refine g_imul X dX6_runAt_124 125 rfl ?_
    refine g_iload_n X rfl dX6_runAt_125 126 rfl ?_
    refine g_iadd X dX6_runAt_126 127 rfl ?_
    refine g_aload_n X rfl dX6_runAt_127 128 rfl ?_
    obtain ⟨r5, w6_dropped, w7_merged, w8_drops, w9_contributions, w10_packet, hcl, h⟩ := bd6_e h
    refine g_callV1W X (met_X6_setsOut l Z a0 a1 a2 a3 a4 a5 a6 a7 a8 a9 a10 a11 v_savedCount v_scriptLength v_code v_lineParts v_pulseMany v_left v_dropped v_merged v_drops w3_contributions w4_packet v_peelResult v_peelTime v_peelSum v_at v_commands v_hash v_m v_saved v_script v_lengths v_fractions v_times v_energies v_far v_near v_echoes v_draft  r5 w6_dropped w7_merged w8_drops w9_contributions w10_packet hcl) rfl 0 gC5 rfl rfl (lw_V q1590 q1592 qs46 q74 q1593) md_X6_setsOut ⟨(Nat.le_of_ble_eq_true rfl), (Nat.le_of_ble_eq_true rfl)⟩ rfl dX6_runAt_128 131 rfl 0 0 rfl rfl (Nat.le_of_ble_eq_true rfl) (Nat.le_of_ble_eq_true rfl) (st := [.int ((201 * x1) + x2), .ref a9]) rfl (Nat.le_of_ble_eq_true rfl) (fun _ => rfl) (fun _ => ?_)
    obtain ⟨hi, h⟩ := gin_e h
    refine g_last X 9 rfl hi dX6_runAt_131 132 rfl ?_
    refine g_goto X dX6_runAt_132 146 (by decide) ?_
    refine g_kill (j := 0) [none, some (.int x1), some (.int x2), none, none, some (.long x5), none, some (.long x7), none, some (.long x9), none] rfl ?_
    refine g_kill (j := 1) [none, none, some (.int x2), none, none, some (.long x5), none, some (.long x7), none, some (.long x9), none] rfl ?_
    refine g_kill (j := 2) [none, none, none, none, none, some (.long x5), none, some (.long x7), none, some (.long x9), none] rfl ?_
    refine g_kill (j := 5) [none, none, none, none, none, none, none, some (.long x7), none, some (.long x9), none] rfl ?_
    refine g_kill (j := 7) [none, none, none, none, none, none, none, none, none, some (.long x9), none] rfl ?_
    refine g_kill (j := 9) [none, none, none, none, none, none, none, none, none, none, none] rfl ?_
    exact w_X6_runAt_146 a0 a1 a2 a3 a4 a5 a6 a7 a8 a9 a10 a11  X  r_left r_dropped r_merged r_drops r_contributions r_packet r_far r_near r_echoes    v_savedCount v_scriptLength v_code v_lineParts v_pulseMany v_left w6_dropped w7_merged w8_drops w9_contributions w10_packet v_peelResult v_peelTime v_peelSum v_at v_commands v_hash v_m v_saved v_script v_lengths v_fractions v_times v_energies v_far (vp_updL v_near ((201 * x1) + x2).toNatClampNeg r5) v_echoes v_draft h
theorem w_X6_runAt_65 {p : Program} {l : Launch} {e : Env} {s : State} {m : MethodId} {args : Array Value} {below : List Frame} {meth : Method} {c : Code} {Z : gZt} {A : Nat → Prop} (a0 : Nat) (a1 : Nat) (a2 : Nat) (a3 : Nat) (a4 : Nat) (a5 : Nat) (a6 : Nat) (a7 : Nat) (a8 : Nat) (a9 : Nat) (a10 : Nat) (a11 : Nat) (X : gX p s m args meth c Z A cX6_runAt "LineEchoesModel" 11 none []) (r_left : Int64) (r_dropped : Int64) (r_merged : Int32) (r_drops : Int32) (r_contributions : Int32) (r_packet : Int64) (r_far : Nat → Int64) (r_near : Nat → Int64) (r_echoes : Nat → Int64)  (v_savedCount : Int32) (v_scriptLength : Int32) (v_code : Int32) (v_lineParts : Int32) (v_pulseMany : Int32) (v_left : Int64) (v_dropped : Int64) (v_merged : Int32) (v_drops : Int32) (v_contributions : Int32) (v_packet : Int64) (v_peelResult : Int32) (v_peelTime : Int32) (v_peelSum : Int32) (v_at : Int32) (v_commands : Int32) (v_hash : Int64) (v_m : Nat → Int64) (v_saved : Nat → Int64) (v_script : Nat → Int32) (v_lengths : Nat → Int32) (v_fractions : Nat → Int32) (v_times : Nat → Int32) (v_energies : Nat → Int64) (v_far : Nat → Int64) (v_near : Nat → Int64) (v_echoes : Nat → Int64) (v_draft : Nat → Int32) (x1 : Int32) (x2 : Int32) (x5 : Int64) (x7 : Int64) (x9 : Int64) (h : F_X6_runAt_65 v_left v_dropped v_merged v_drops v_contributions v_packet v_m v_far v_near v_echoes x1 x2 x5 x7 x9 = some (r_left, r_dropped, r_merged, r_drops, r_contributions, r_packet, r_far, r_near, r_echoes)) : G p l e rm_X6_runAt s m args below meth c Z A 11 (MQ below (gPost Z A (fun _ : Unit => (none : Option Value)) (fun _ : Unit => ([(a0, .inr (5, [.ref a1, .ref a2, .int v_savedCount, .ref a3, .int v_scriptLength, .int v_code, .int v_lineParts, .ref a4, .ref a5, .int v_pulseMany, .ref a6, .ref a7, .ref a8, .ref a9, .ref a10, .long r_left, .long r_dropped, .int r_merged, .int r_drops, .int r_contributions, .long r_packet, .int v_peelResult, .int v_peelTime, .int v_peelSum, .int v_at, .int v_commands, .ref a11, .long v_hash])), (a1, .inl (Z.2 1, 431, .inr (.inl v_m))), (a2, .inl (Z.2 1, 1293, .inr (.inl v_saved))), (a3, .inl (Z.2 0, 120, .inl v_script)), (a4, .inl (Z.2 0, 8, .inl v_lengths)), (a5, .inl (Z.2 0, 9, .inl v_fractions)), (a6, .inl (Z.2 0, 4, .inl v_times)), (a7, .inl (Z.2 1, 4, .inr (.inl v_energies))), (a8, .inl (Z.2 1, 1809, .inr (.inl r_far))), (a9, .inl (Z.2 1, 1809, .inr (.inl r_near))), (a10, .inl (Z.2 1, 201, .inr (.inl r_echoes))), (a11, .inl (Z.2 0, 120, .inl v_draft))] : va_W))) args s 0 0 A) [(a0, .inr (5, [.ref a1, .ref a2, .int v_savedCount, .ref a3, .int v_scriptLength, .int v_code, .int v_lineParts, .ref a4, .ref a5, .int v_pulseMany, .ref a6, .ref a7, .ref a8, .ref a9, .ref a10, .long v_left, .long v_dropped, .int v_merged, .int v_drops, .int v_contributions, .long v_packet, .int v_peelResult, .int v_peelTime, .int v_peelSum, .int v_at, .int v_commands, .ref a11, .long v_hash])), (a1, .inl (Z.2 1, 431, .inr (.inl v_m))), (a2, .inl (Z.2 1, 1293, .inr (.inl v_saved))), (a3, .inl (Z.2 0, 120, .inl v_script)), (a4, .inl (Z.2 0, 8, .inl v_lengths)), (a5, .inl (Z.2 0, 9, .inl v_fractions)), (a6, .inl (Z.2 0, 4, .inl v_times)), (a7, .inl (Z.2 1, 4, .inr (.inl v_energies))), (a8, .inl (Z.2 1, 1809, .inr (.inl v_far))), (a9, .inl (Z.2 1, 1809, .inr (.inl v_near))), (a10, .inl (Z.2 1, 201, .inr (.inl v_echoes))), (a11, .inl (Z.2 0, 120, .inl v_draft))] 0 0 65 [some (.ref a0), some (.int x1), some (.int x2), none, none, some (.long x5), none, some (.long x7), none, some (.long x9), none] [] := by
  unfold F_X6_runAt_65 at h
  refine g_aload_n X rfl dX6_runAt_65 66 rfl ?_
  refine g_get X gC5 0 rfl 12 (by decide) q1354 (fun _ h9 => h9) rfl dX6_runAt_66 69 rfl ?_
  refine g_sipush X 201 dX6_runAt_69 72 rfl kS_201 ?_
  refine g_iload_n X rfl dX6_runAt_72 73 rfl ?_
  refine g_imul X dX6_runAt_73 74 rfl ?_
  refine g_iload_n X rfl dX6_runAt_74 75 rfl ?_
  refine g_iadd X dX6_runAt_75 76 rfl ?_
  refine g_aload_n X rfl dX6_runAt_76 77 rfl ?_
  obtain ⟨r1, w2_dropped, w3_merged, w4_drops, w5_contributions, w6_packet, hcl, h⟩ := bd6_e h
  refine g_callV1W X (met_X6_setsOut l Z a0 a1 a2 a3 a4 a5 a6 a7 a8 a9 a10 a11 v_savedCount v_scriptLength v_code v_lineParts v_pulseMany v_left v_dropped v_merged v_drops v_contributions v_packet v_peelResult v_peelTime v_peelSum v_at v_commands v_hash v_m v_saved v_script v_lengths v_fractions v_times v_energies v_far v_near v_echoes v_draft  r1 w2_dropped w3_merged w4_drops w5_contributions w6_packet hcl) rfl 0 gC5 rfl rfl (lw_V q1590 q1592 qs46 q74 q1593) md_X6_setsOut ⟨(Nat.le_of_ble_eq_true rfl), (Nat.le_of_ble_eq_true rfl)⟩ rfl dX6_runAt_77 80 rfl 0 0 rfl rfl (Nat.le_of_ble_eq_true rfl) (Nat.le_of_ble_eq_true rfl) (st := [.int ((201 * x1) + x2), .ref a8]) rfl (Nat.le_of_ble_eq_true rfl) (fun _ => rfl) (fun _ => ?_)
  obtain ⟨hi, h⟩ := gin_e h
  refine g_last X 8 rfl hi dX6_runAt_80 81 rfl ?_
  refine g_goto X dX6_runAt_81 97 (by decide) ?_
  exact w_X6_runAt_97 a0 a1 a2 a3 a4 a5 a6 a7 a8 a9 a10 a11  X  r_left r_dropped r_merged r_drops r_contributions r_packet r_far r_near r_echoes    v_savedCount v_scriptLength v_code v_lineParts v_pulseMany v_left w2_dropped w3_merged w4_drops w5_contributions w6_packet v_peelResult v_peelTime v_peelSum v_at v_commands v_hash v_m v_saved v_script v_lengths v_fractions v_times v_energies (vp_updL v_far ((201 * x1) + x2).toNatClampNeg r1) v_near v_echoes v_draft x1 x2 x5 x7 x9 h
theorem met_X6_runAt (l : Launch) (Z : gZt) (a0 : Nat) (a1 : Nat) (a2 : Nat) (a3 : Nat) (a4 : Nat) (a5 : Nat) (a6 : Nat) (a7 : Nat) (a8 : Nat) (a9 : Nat) (a10 : Nat) (a11 : Nat) (v_savedCount : Int32) (v_scriptLength : Int32) (v_code : Int32) (v_lineParts : Int32) (v_pulseMany : Int32) (v_left : Int64) (v_dropped : Int64) (v_merged : Int32) (v_drops : Int32) (v_contributions : Int32) (v_packet : Int64) (v_peelResult : Int32) (v_peelTime : Int32) (v_peelSum : Int32) (v_at : Int32) (v_commands : Int32) (v_hash : Int64) (v_m : Nat → Int64) (v_saved : Nat → Int64) (v_script : Nat → Int32) (v_lengths : Nat → Int32) (v_fractions : Nat → Int32) (v_times : Nat → Int32) (v_energies : Nat → Int64) (v_far : Nat → Int64) (v_near : Nat → Int64) (v_echoes : Nat → Int64) (v_draft : Nat → Int32) (x1 : Int32) (x2 : Int32) (r_left : Int64) (r_dropped : Int64) (r_merged : Int32) (r_drops : Int32) (r_contributions : Int32) (r_packet : Int64) (r_far : Nat → Int64) (r_near : Nat → Int64) (r_echoes : Nat → Int64) (h : F_X6_runAt v_lineParts v_pulseMany v_left v_dropped v_merged v_drops v_contributions v_packet v_m v_lengths v_fractions v_times v_energies v_far v_near v_echoes x1 x2 = some (r_left, r_dropped, r_merged, r_drops, r_contributions, r_packet, r_far, r_near, r_echoes)) : Ct l yX6_runAt (ws_ yX6_runAt cX6_runAt 11 none) rm_X6_runAt Z [.ref a0, .int x1, .int x2] [(a0, .inr (5, [.ref a1, .ref a2, .int v_savedCount, .ref a3, .int v_scriptLength, .int v_code, .int v_lineParts, .ref a4, .ref a5, .int v_pulseMany, .ref a6, .ref a7, .ref a8, .ref a9, .ref a10, .long v_left, .long v_dropped, .int v_merged, .int v_drops, .int v_contributions, .long v_packet, .int v_peelResult, .int v_peelTime, .int v_peelSum, .int v_at, .int v_commands, .ref a11, .long v_hash])), (a1, .inl (Z.2 1, 431, .inr (.inl v_m))), (a2, .inl (Z.2 1, 1293, .inr (.inl v_saved))), (a3, .inl (Z.2 0, 120, .inl v_script)), (a4, .inl (Z.2 0, 8, .inl v_lengths)), (a5, .inl (Z.2 0, 9, .inl v_fractions)), (a6, .inl (Z.2 0, 4, .inl v_times)), (a7, .inl (Z.2 1, 4, .inr (.inl v_energies))), (a8, .inl (Z.2 1, 1809, .inr (.inl v_far))), (a9, .inl (Z.2 1, 1809, .inr (.inl v_near))), (a10, .inl (Z.2 1, 201, .inr (.inl v_echoes))), (a11, .inl (Z.2 0, 120, .inl v_draft))] [] (fun _ : Unit => (none : Option Value)) (fun _ : Unit => ([(a0, .inr (5, [.ref a1, .ref a2, .int v_savedCount, .ref a3, .int v_scriptLength, .int v_code, .int v_lineParts, .ref a4, .ref a5, .int v_pulseMany, .ref a6, .ref a7, .ref a8, .ref a9, .ref a10, .long r_left, .long r_dropped, .int r_merged, .int r_drops, .int r_contributions, .long r_packet, .int v_peelResult, .int v_peelTime, .int v_peelSum, .int v_at, .int v_commands, .ref a11, .long v_hash])), (a1, .inl (Z.2 1, 431, .inr (.inl v_m))), (a2, .inl (Z.2 1, 1293, .inr (.inl v_saved))), (a3, .inl (Z.2 0, 120, .inl v_script)), (a4, .inl (Z.2 0, 8, .inl v_lengths)), (a5, .inl (Z.2 0, 9, .inl v_fractions)), (a6, .inl (Z.2 0, 4, .inl v_times)), (a7, .inl (Z.2 1, 4, .inr (.inl v_energies))), (a8, .inl (Z.2 1, 1809, .inr (.inl r_far))), (a9, .inl (Z.2 1, 1809, .inr (.inl r_near))), (a10, .inl (Z.2 1, 201, .inr (.inl r_echoes))), (a11, .inl (Z.2 0, 120, .inl v_draft))] : va_W)) := by
  refine Ct.of cX6_runAt 11 none "LineEchoesModel" [some (.ref a0), some (.int x1), some (.int x2), none, none, none, none, none, none, none, none] 8 (by decide) rfl (Nat.le_of_ble_eq_true rfl) rfl (fun p e s m args below meth c A X hin => ?_)
  unfold F_X6_runAt at h
  refine g_aload_n X rfl dX6_runAt_0 1 rfl ?_
  refine g_iload_n X rfl dX6_runAt_1 2 rfl ?_
  refine g_iload_n X rfl dX6_runAt_2 3 rfl ?_
  refine g_iconst X 0 dX6_runAt_3 4 rfl kI_0 ?_
  obtain ⟨r1, hcl, h⟩ := bd1_e h
  refine g_callV1W X (met_X6_arrives l Z a0 a1 a2 a3 a4 a5 a6 a7 a8 a9 a10 a11 v_savedCount v_scriptLength v_code v_lineParts v_pulseMany v_left v_dropped v_merged v_drops v_contributions v_packet v_peelResult v_peelTime v_peelSum v_at v_commands v_hash v_m v_saved v_script v_lengths v_fractions v_times v_energies v_far v_near v_echoes v_draft x1 x2 0 r1 hcl) rfl 0 gC5 rfl rfl (lw_V q1582 q1584 qs44 q74 q1585) md_X6_arrives ⟨(Nat.le_of_ble_eq_true rfl), (Nat.le_of_ble_eq_true rfl)⟩ rfl dX6_runAt_4 7 rfl 0 0 rfl rfl (Nat.le_of_ble_eq_true rfl) (Nat.le_of_ble_eq_true rfl) (st := []) rfl (Nat.le_of_ble_eq_true rfl) (fun _ => rfl) (fun _ => ?_)
  refine g_lstore_n X dX6_runAt_7 8 rfl (Nat.le_of_ble_eq_true rfl) rfl [some (.ref a0), some (.int x1), some (.int x2), some (.long r1), none, none, none, none, none, none, none] rfl ?_
  refine g_aload_n X rfl dX6_runAt_8 9 rfl ?_
  refine g_iload_n X rfl dX6_runAt_9 10 rfl ?_
  refine g_iload_n X rfl dX6_runAt_10 11 rfl ?_
  refine g_iconst X 1 dX6_runAt_11 12 rfl kI_1 ?_
  obtain ⟨r2, hcl, h⟩ := bd1_e h
  refine g_callV1W X (met_X6_arrives l Z a0 a1 a2 a3 a4 a5 a6 a7 a8 a9 a10 a11 v_savedCount v_scriptLength v_code v_lineParts v_pulseMany v_left v_dropped v_merged v_drops v_contributions v_packet v_peelResult v_peelTime v_peelSum v_at v_commands v_hash v_m v_saved v_script v_lengths v_fractions v_times v_energies v_far v_near v_echoes v_draft x1 x2 1 r2 hcl) rfl 0 gC5 rfl rfl (lw_V q1582 q1584 qs44 q74 q1585) md_X6_arrives ⟨(Nat.le_of_ble_eq_true rfl), (Nat.le_of_ble_eq_true rfl)⟩ rfl dX6_runAt_12 15 rfl 0 0 rfl rfl (Nat.le_of_ble_eq_true rfl) (Nat.le_of_ble_eq_true rfl) (st := []) rfl (Nat.le_of_ble_eq_true rfl) (fun _ => rfl) (fun _ => ?_)
  refine g_lstore X dX6_runAt_15 17 rfl (Nat.le_of_ble_eq_true rfl) rfl [some (.ref a0), some (.int x1), some (.int x2), some (.long r1), none, some (.long r2), none, none, none, none, none] rfl ?_
  refine g_aload_n X rfl dX6_runAt_17 18 rfl ?_
  refine g_lload_n X rfl dX6_runAt_18 19 rfl ?_
  refine g_iload_n X rfl dX6_runAt_19 20 rfl ?_
  obtain ⟨r3, hcl, h⟩ := bd1_e h
  refine g_callV1W X (met_X6_back l Z a0 a1 a2 a3 a4 a5 a6 a7 a8 a9 a10 a11 v_savedCount v_scriptLength v_code v_lineParts v_pulseMany v_left v_dropped v_merged v_drops v_contributions v_packet v_peelResult v_peelTime v_peelSum v_at v_commands v_hash v_m v_saved v_script v_lengths v_fractions v_times v_energies v_far v_near v_echoes v_draft r1 x1 r3 hcl) rfl 0 gC5 rfl rfl (lw_V q1586 q1588 qs45 q74 q1589) md_X6_back ⟨(Nat.le_of_ble_eq_true rfl), (Nat.le_of_ble_eq_true rfl)⟩ rfl dX6_runAt_20 23 rfl 0 0 rfl rfl (Nat.le_of_ble_eq_true rfl) (Nat.le_of_ble_eq_true rfl) (st := []) rfl (Nat.le_of_ble_eq_true rfl) (fun _ => rfl) (fun _ => ?_)
  refine g_lstore X dX6_runAt_23 25 rfl (Nat.le_of_ble_eq_true rfl) rfl [some (.ref a0), some (.int x1), some (.int x2), some (.long r1), none, some (.long r2), none, some (.long r3), none, none, none] rfl ?_
  refine g_aload_n X rfl dX6_runAt_25 26 rfl ?_
  refine g_lload X rfl dX6_runAt_26 28 rfl ?_
  refine g_iload_n X rfl dX6_runAt_28 29 rfl ?_
  obtain ⟨r4, hcl, h⟩ := bd1_e h
  refine g_callV1W X (met_X6_back l Z a0 a1 a2 a3 a4 a5 a6 a7 a8 a9 a10 a11 v_savedCount v_scriptLength v_code v_lineParts v_pulseMany v_left v_dropped v_merged v_drops v_contributions v_packet v_peelResult v_peelTime v_peelSum v_at v_commands v_hash v_m v_saved v_script v_lengths v_fractions v_times v_energies v_far v_near v_echoes v_draft r2 x1 r4 hcl) rfl 0 gC5 rfl rfl (lw_V q1586 q1588 qs45 q74 q1589) md_X6_back ⟨(Nat.le_of_ble_eq_true rfl), (Nat.le_of_ble_eq_true rfl)⟩ rfl dX6_runAt_29 32 rfl 0 0 rfl rfl (Nat.le_of_ble_eq_true rfl) (Nat.le_of_ble_eq_true rfl) (st := []) rfl (Nat.le_of_ble_eq_true rfl) (fun _ => rfl) (fun _ => ?_)
  refine g_lstore X dX6_runAt_32 34 rfl (Nat.le_of_ble_eq_true rfl) rfl [some (.ref a0), some (.int x1), some (.int x2), some (.long r1), none, some (.long r2), none, some (.long r3), none, some (.long r4), none] rfl ?_
  refine g_iload_n X rfl dX6_runAt_34 35 rfl ?_
  refine g_aload_n X rfl dX6_runAt_35 36 rfl ?_
  refine g_get X gC5 0 rfl 6 (by decide) q1348 (fun _ h9 => h9) rfl dX6_runAt_36 39 rfl ?_
  refine g_icmp_ge X dX6_runAt_39 84 (by decide) 42 rfl (fun hc => ?_) (fun hc => ?_)
  · replace h := if_t hc h
    refine g_aload_n X rfl dX6_runAt_84 85 rfl ?_
    refine g_dup X dX6_runAt_85 86 rfl rfl ?_
    refine g_get X gC5 0 rfl 15 (by decide) q1357 (fun _ h9 => h9) rfl dX6_runAt_86 89 rfl ?_
    refine g_lload_n X rfl dX6_runAt_89 90 rfl ?_
    refine g_lload X rfl dX6_runAt_90 92 rfl ?_
    refine g_lsub X dX6_runAt_92 93 rfl ?_
    refine g_ladd X dX6_runAt_93 94 rfl ?_
    refine g_put X gC5 0 rfl 15 (by decide) q1357 (fun _ h9 => h9) rfl rfl rfl (Nat.le_of_ble_eq_true rfl) dX6_runAt_94 97 rfl ?_
    refine g_kill (j := 3) [some (.ref a0), some (.int x1), some (.int x2), none, none, some (.long r2), none, some (.long r3), none, some (.long r4), none] rfl ?_
    exact w_X6_runAt_97 a0 a1 a2 a3 a4 a5 a6 a7 a8 a9 a10 a11  X  r_left r_dropped r_merged r_drops r_contributions r_packet r_far r_near r_echoes    v_savedCount v_scriptLength v_code v_lineParts v_pulseMany (v_left + (r1 - r3)) v_dropped v_merged v_drops v_contributions v_packet v_peelResult v_peelTime v_peelSum v_at v_commands v_hash v_m v_saved v_script v_lengths v_fractions v_times v_energies v_far v_near v_echoes v_draft x1 x2 r2 r3 r4 h
  · replace h := if_f hc h
    refine g_aload_n X rfl dX6_runAt_42 43 rfl ?_
    refine g_lload X rfl dX6_runAt_43 45 rfl ?_
    obtain ⟨w5_contributions, w6_packet, hcl, h⟩ := bd2_e h
    refine g_callV0W X (met_X6_contribute l Z a0 a1 a2 a3 a4 a5 a6 a7 a8 a9 a10 a11 v_savedCount v_scriptLength v_code v_lineParts v_pulseMany v_left v_dropped v_merged v_drops v_contributions v_packet v_peelResult v_peelTime v_peelSum v_at v_commands v_hash v_m v_saved v_script v_lengths v_fractions v_times v_energies v_far v_near v_echoes v_draft r4 w5_contributions w6_packet hcl) rfl 0 gC5 rfl rfl (lw_V q1574 q1576 qs42 q74 q1577) md_X6_contribute ⟨(Nat.le_of_ble_eq_true rfl), (Nat.le_of_ble_eq_true rfl)⟩ rfl dX6_runAt_45 48 rfl 0 0 rfl rfl (Nat.le_of_ble_eq_true rfl) (Nat.le_of_ble_eq_true rfl) (st := []) rfl (Nat.le_of_ble_eq_true rfl) (fun _ => rfl) (fun _ => ?_)
    refine g_aload_n X rfl dX6_runAt_48 49 rfl ?_
    refine g_lload_n X rfl dX6_runAt_49 50 rfl ?_
    refine g_lload X rfl dX6_runAt_50 52 rfl ?_
    refine g_lsub X dX6_runAt_52 53 rfl ?_
    obtain ⟨w7_contributions, w8_packet, hcl, h⟩ := bd2_e h
    refine g_callV0W X (met_X6_contribute l Z a0 a1 a2 a3 a4 a5 a6 a7 a8 a9 a10 a11 v_savedCount v_scriptLength v_code v_lineParts v_pulseMany v_left v_dropped v_merged v_drops w5_contributions w6_packet v_peelResult v_peelTime v_peelSum v_at v_commands v_hash v_m v_saved v_script v_lengths v_fractions v_times v_energies v_far v_near v_echoes v_draft (r1 - r3) w7_contributions w8_packet hcl) rfl 0 gC5 rfl rfl (lw_V q1574 q1576 qs42 q74 q1577) md_X6_contribute ⟨(Nat.le_of_ble_eq_true rfl), (Nat.le_of_ble_eq_true rfl)⟩ rfl dX6_runAt_53 56 rfl 0 0 rfl rfl (Nat.le_of_ble_eq_true rfl) (Nat.le_of_ble_eq_true rfl) (st := []) rfl (Nat.le_of_ble_eq_true rfl) (fun _ => rfl) (fun _ => ?_)
    refine g_iload_n X rfl dX6_runAt_56 57 rfl ?_
    refine g_if_ne X dX6_runAt_57 65 (by decide) 60 rfl (fun hc => ?_) (fun hc => ?_)
    · replace h := if_f hc h
      refine g_kill (j := 3) [some (.ref a0), some (.int x1), some (.int x2), none, none, some (.long r2), none, some (.long r3), none, some (.long r4), none] rfl ?_
      exact w_X6_runAt_65 a0 a1 a2 a3 a4 a5 a6 a7 a8 a9 a10 a11  X  r_left r_dropped r_merged r_drops r_contributions r_packet r_far r_near r_echoes    v_savedCount v_scriptLength v_code v_lineParts v_pulseMany v_left v_dropped v_merged v_drops w7_contributions w8_packet v_peelResult v_peelTime v_peelSum v_at v_commands v_hash v_m v_saved v_script v_lengths v_fractions v_times v_energies v_far v_near v_echoes v_draft x1 x2 r2 r3 r4 h
    · replace h := if_t hc h
      refine g_aload_n X rfl dX6_runAt_60 61 rfl ?_
      refine g_iload_n X rfl dX6_runAt_61 62 rfl ?_
      obtain ⟨w9_contributions, w10_packet, hcl, h⟩ := bd2_e h
      refine g_callV0W X (met_X6_passPulses l Z a0 a1 a2 a3 a4 a5 a6 a7 a8 a9 a10 a11 v_savedCount v_scriptLength v_code v_lineParts v_pulseMany v_left v_dropped v_merged v_drops w7_contributions w8_packet v_peelResult v_peelTime v_peelSum v_at v_commands v_hash v_m v_saved v_script v_lengths v_fractions v_times v_energies v_far v_near v_echoes v_draft x2 w9_contributions w10_packet hcl) rfl 0 gC5 rfl rfl (lw_V q1570 q1572 qs41 q74 q1573) md_X6_passPulses ⟨(Nat.le_of_ble_eq_true rfl), (Nat.le_of_ble_eq_true rfl)⟩ rfl dX6_runAt_62 65 rfl 0 0 rfl rfl (Nat.le_of_ble_eq_true rfl) (Nat.le_of_ble_eq_true rfl) (st := []) rfl (Nat.le_of_ble_eq_true rfl) (fun _ => rfl) (fun _ => ?_)
      refine g_kill (j := 3) [some (.ref a0), some (.int x1), some (.int x2), none, none, some (.long r2), none, some (.long r3), none, some (.long r4), none] rfl ?_
      exact w_X6_runAt_65 a0 a1 a2 a3 a4 a5 a6 a7 a8 a9 a10 a11  X  r_left r_dropped r_merged r_drops r_contributions r_packet r_far r_near r_echoes    v_savedCount v_scriptLength v_code v_lineParts v_pulseMany v_left v_dropped v_merged v_drops w9_contributions w10_packet v_peelResult v_peelTime v_peelSum v_at v_commands v_hash v_m v_saved v_script v_lengths v_fractions v_times v_energies v_far v_near v_echoes v_draft x1 x2 r2 r3 r4 h
/-! LineEchoesModel.runLine()V -/
abbrev rm_X6_runLine : Room := { frames := 3, cells := 0, slots := 0, locals := 74 }
def F_X6_runLine_126 (K54 : (Int32) → (Int32) → (Int64) → (Int64) → (Int32) → (Int32) → (Int32) → (Int64) → (Nat → Int64) → (Nat → Int32) → (Nat → Int32) → (Nat → Int32) → (Nat → Int64) → (Nat → Int64) → (Nat → Int64) → (Nat → Int64) → (Int32) → Option (Int64 × Int64 × Int32 × Int32 × Int32 × Int64 × (Nat → Int64) × (Nat → Int64) × (Nat → Int64))) (v_lineParts : Int32) (v_pulseMany : Int32) (v_left : Int64) (v_dropped : Int64) (v_merged : Int32) (v_drops : Int32) (v_contributions : Int32) (v_packet : Int64) (v_m : Nat → Int64) (v_lengths : Nat → Int32) (v_fractions : Nat → Int32) (v_times : Nat → Int32) (v_energies : Nat → Int64) (v_far : Nat → Int64) (v_near : Nat → Int64) (v_echoes : Nat → Int64) (x1 : Int32) : Option (Int64 × Int64 × Int32 × Int32 × Int32 × Int64 × (Nat → Int64) × (Nat → Int64) × (Nat → Int64)) :=
  K54 v_lineParts v_pulseMany v_left v_dropped v_merged v_drops v_contributions v_packet v_m v_lengths v_fractions v_times v_energies v_far v_near v_echoes (x1 + 1)
def B_X6_runLine_99 (K54 : (Int32) → (Int32) → (Int64) → (Int64) → (Int32) → (Int32) → (Int32) → (Int64) → (Nat → Int64) → (Nat → Int32) → (Nat → Int32) → (Nat → Int32) → (Nat → Int64) → (Nat → Int64) → (Nat → Int64) → (Nat → Int64) → (Int32) → Option (Int64 × Int64 × Int32 × Int32 × Int32 × Int64 × (Nat → Int64) × (Nat → Int64) × (Nat → Int64))) (K99 : (Int32) → (Int32) → (Int64) → (Int64) → (Int32) → (Int32) → (Int32) → (Int64) → (Nat → Int64) → (Nat → Int32) → (Nat → Int32) → (Nat → Int32) → (Nat → Int64) → (Nat → Int64) → (Nat → Int64) → (Nat → Int64) → (Int32) → (Int32) → Option (Int64 × Int64 × Int32 × Int32 × Int32 × Int64 × (Nat → Int64) × (Nat → Int64) × (Nat → Int64))) (v_lineParts : Int32) (v_pulseMany : Int32) (v_left : Int64) (v_dropped : Int64) (v_merged : Int32) (v_drops : Int32) (v_contributions : Int32) (v_packet : Int64) (v_m : Nat → Int64) (v_lengths : Nat → Int32) (v_fractions : Nat → Int32) (v_times : Nat → Int32) (v_energies : Nat → Int64) (v_far : Nat → Int64) (v_near : Nat → Int64) (v_echoes : Nat → Int64) (x1 : Int32) (x2 : Int32) : Option (Int64 × Int64 × Int32 × Int32 × Int32 × Int64 × (Nat → Int64) × (Nat → Int64) × (Nat → Int64)) :=
  if v_lineParts < x2 then
    (F_X6_runLine_126 K54 v_lineParts v_pulseMany v_left v_dropped v_merged v_drops v_contributions v_packet v_m v_lengths v_fractions v_times v_energies v_far v_near v_echoes x1)
  else
    (if v_lineParts ≤ 0 then
      (F_X6_runLine_126 K54 v_lineParts v_pulseMany v_left v_dropped v_merged v_drops v_contributions v_packet v_m v_lengths v_fractions v_times v_energies v_far v_near v_echoes x1)
    else
      (bd9 (F_X6_runAt v_lineParts v_pulseMany v_left v_dropped v_merged v_drops v_contributions v_packet v_m v_lengths v_fractions v_times v_energies v_far v_near v_echoes x2 x1) fun w1_left w2_dropped w3_merged w4_drops w5_contributions w6_packet w7_far w8_near w9_echoes =>
      K99 v_lineParts v_pulseMany w1_left w2_dropped w3_merged w4_drops w5_contributions w6_packet v_m v_lengths v_fractions v_times v_energies w7_far w8_near w9_echoes x1 (x2 + 1)))
def F_X6_runLine_99 (K54 : (Int32) → (Int32) → (Int64) → (Int64) → (Int32) → (Int32) → (Int32) → (Int64) → (Nat → Int64) → (Nat → Int32) → (Nat → Int32) → (Nat → Int32) → (Nat → Int64) → (Nat → Int64) → (Nat → Int64) → (Nat → Int64) → (Int32) → Option (Int64 × Int64 × Int32 × Int32 × Int32 × Int64 × (Nat → Int64) × (Nat → Int64) × (Nat → Int64))) : Nat → (Int32) → (Int32) → (Int64) → (Int64) → (Int32) → (Int32) → (Int32) → (Int64) → (Nat → Int64) → (Nat → Int32) → (Nat → Int32) → (Nat → Int32) → (Nat → Int64) → (Nat → Int64) → (Nat → Int64) → (Nat → Int64) → (Int32) → (Int32) → Option (Int64 × Int64 × Int32 × Int32 × Int32 × Int64 × (Nat → Int64) × (Nat → Int64) × (Nat → Int64))
  | 0 => fun _ _ _ _ _ _ _ _ _ _ _ _ _ _ _ _ _ _ => none
  | n + 1 => B_X6_runLine_99 K54 (F_X6_runLine_99 K54 n)
def F_X6_runLine_97 (K54 : (Int32) → (Int32) → (Int64) → (Int64) → (Int32) → (Int32) → (Int32) → (Int64) → (Nat → Int64) → (Nat → Int32) → (Nat → Int32) → (Nat → Int32) → (Nat → Int64) → (Nat → Int64) → (Nat → Int64) → (Nat → Int64) → (Int32) → Option (Int64 × Int64 × Int32 × Int32 × Int32 × Int64 × (Nat → Int64) × (Nat → Int64) × (Nat → Int64))) (v_lineParts : Int32) (v_pulseMany : Int32) (v_left : Int64) (v_dropped : Int64) (v_merged : Int32) (v_drops : Int32) (v_contributions : Int32) (v_packet : Int64) (v_m : Nat → Int64) (v_lengths : Nat → Int32) (v_fractions : Nat → Int32) (v_times : Nat → Int32) (v_energies : Nat → Int64) (v_far : Nat → Int64) (v_near : Nat → Int64) (v_echoes : Nat → Int64) (x1 : Int32) : Option (Int64 × Int64 × Int32 × Int32 × Int32 × Int64 × (Nat → Int64) × (Nat → Int64) × (Nat → Int64)) :=
  F_X6_runLine_99 K54 gFU v_lineParts v_pulseMany v_left v_dropped v_merged v_drops v_contributions v_packet v_m v_lengths v_fractions v_times v_energies v_far v_near v_echoes x1 0
def B_X6_runLine_54 (K54 : (Int32) → (Int32) → (Int64) → (Int64) → (Int32) → (Int32) → (Int32) → (Int64) → (Nat → Int64) → (Nat → Int32) → (Nat → Int32) → (Nat → Int32) → (Nat → Int64) → (Nat → Int64) → (Nat → Int64) → (Nat → Int64) → (Int32) → Option (Int64 × Int64 × Int32 × Int32 × Int32 × Int64 × (Nat → Int64) × (Nat → Int64) × (Nat → Int64))) (v_lineParts : Int32) (v_pulseMany : Int32) (v_left : Int64) (v_dropped : Int64) (v_merged : Int32) (v_drops : Int32) (v_contributions : Int32) (v_packet : Int64) (v_m : Nat → Int64) (v_lengths : Nat → Int32) (v_fractions : Nat → Int32) (v_times : Nat → Int32) (v_energies : Nat → Int64) (v_far : Nat → Int64) (v_near : Nat → Int64) (v_echoes : Nat → Int64) (x1 : Int32) : Option (Int64 × Int64 × Int32 × Int32 × Int32 × Int64 × (Nat → Int64) × (Nat → Int64) × (Nat → Int64)) :=
  bd1 (F_X6_window v_m) fun r1 =>
  if r1 < x1 then
    (some (v_left, v_dropped, v_merged, v_drops, v_contributions, v_packet, v_far, v_near, v_echoes))
  else
    (if v_lineParts = 0 then
      (bd2 (F_X6_passPulses v_pulseMany v_contributions v_packet v_times v_energies x1) fun w2_contributions w3_packet =>
      F_X6_runLine_97 K54 v_lineParts v_pulseMany (v_left + w3_packet) v_dropped v_merged v_drops 0 0 v_m v_lengths v_fractions v_times v_energies v_far v_near v_echoes x1)
    else
      (F_X6_runLine_97 K54 v_lineParts v_pulseMany v_left v_dropped v_merged v_drops v_contributions v_packet v_m v_lengths v_fractions v_times v_energies v_far v_near v_echoes x1))
def F_X6_runLine_54 : Nat → (Int32) → (Int32) → (Int64) → (Int64) → (Int32) → (Int32) → (Int32) → (Int64) → (Nat → Int64) → (Nat → Int32) → (Nat → Int32) → (Nat → Int32) → (Nat → Int64) → (Nat → Int64) → (Nat → Int64) → (Nat → Int64) → (Int32) → Option (Int64 × Int64 × Int32 × Int32 × Int32 × Int64 × (Nat → Int64) × (Nat → Int64) × (Nat → Int64))
  | 0 => fun _ _ _ _ _ _ _ _ _ _ _ _ _ _ _ _ _ => none
  | n + 1 => B_X6_runLine_54 (F_X6_runLine_54 n)
def B_X6_runLine_32 (K32 : (Int32) → (Int32) → (Int64) → (Int64) → (Int32) → (Int32) → (Int32) → (Int64) → (Nat → Int64) → (Nat → Int32) → (Nat → Int32) → (Nat → Int32) → (Nat → Int64) → (Nat → Int64) → (Nat → Int64) → (Nat → Int64) → (Int32) → Option (Int64 × Int64 × Int32 × Int32 × Int32 × Int64 × (Nat → Int64) × (Nat → Int64) × (Nat → Int64))) (v_lineParts : Int32) (v_pulseMany : Int32) (v_left : Int64) (v_dropped : Int64) (v_merged : Int32) (v_drops : Int32) (v_contributions : Int32) (v_packet : Int64) (v_m : Nat → Int64) (v_lengths : Nat → Int32) (v_fractions : Nat → Int32) (v_times : Nat → Int32) (v_energies : Nat → Int64) (v_far : Nat → Int64) (v_near : Nat → Int64) (v_echoes : Nat → Int64) (x1 : Int32) : Option (Int64 × Int64 × Int32 × Int32 × Int32 × Int64 × (Nat → Int64) × (Nat → Int64) × (Nat → Int64)) :=
  if 201 ≤ x1 then
    (F_X6_runLine_54 gFU v_lineParts v_pulseMany v_left v_dropped v_merged v_drops v_contributions v_packet v_m v_lengths v_fractions v_times v_energies v_far v_near v_echoes 0)
  else
    (gin x1 201 <|
    K32 v_lineParts v_pulseMany v_left v_dropped v_merged v_drops v_contributions v_packet v_m v_lengths v_fractions v_times v_energies v_far v_near (vp_updL v_echoes x1.toNatClampNeg 0) (x1 + 1))
def F_X6_runLine_32 : Nat → (Int32) → (Int32) → (Int64) → (Int64) → (Int32) → (Int32) → (Int32) → (Int64) → (Nat → Int64) → (Nat → Int32) → (Nat → Int32) → (Nat → Int32) → (Nat → Int64) → (Nat → Int64) → (Nat → Int64) → (Nat → Int64) → (Int32) → Option (Int64 × Int64 × Int32 × Int32 × Int32 × Int64 × (Nat → Int64) × (Nat → Int64) × (Nat → Int64))
  | 0 => fun _ _ _ _ _ _ _ _ _ _ _ _ _ _ _ _ _ => none
  | n + 1 => B_X6_runLine_32 (F_X6_runLine_32 n)
def F_X6_runLine (v_lineParts : Int32) (v_pulseMany : Int32) (v_m : Nat → Int64) (v_lengths : Nat → Int32) (v_fractions : Nat → Int32) (v_times : Nat → Int32) (v_energies : Nat → Int64) (v_far : Nat → Int64) (v_near : Nat → Int64) (v_echoes : Nat → Int64) : Option (Int64 × Int64 × Int32 × Int32 × Int32 × Int64 × (Nat → Int64) × (Nat → Int64) × (Nat → Int64)) :=
  F_X6_runLine_32 gFU v_lineParts v_pulseMany 0 0 0 0 0 0 v_m v_lengths v_fractions v_times v_energies v_far v_near v_echoes 0
theorem w_X6_runLine_126 {p : Program} {l : Launch} {e : Env} {s : State} {m : MethodId} {args : Array Value} {below : List Frame} {meth : Method} {c : Code} {Z : gZt} {A : Nat → Prop} (a0 : Nat) (a1 : Nat) (a2 : Nat) (a3 : Nat) (a4 : Nat) (a5 : Nat) (a6 : Nat) (a7 : Nat) (a8 : Nat) (a9 : Nat) (a10 : Nat) (a11 : Nat) (X : gX p s m args meth c Z A cX6_runLine "LineEchoesModel" 3 none []) (r_left : Int64) (r_dropped : Int64) (r_merged : Int32) (r_drops : Int32) (r_contributions : Int32) (r_packet : Int64) (r_far : Nat → Int64) (r_near : Nat → Int64) (r_echoes : Nat → Int64) (K54 : (Int32) → (Int32) → (Int64) → (Int64) → (Int32) → (Int32) → (Int32) → (Int64) → (Nat → Int64) → (Nat → Int32) → (Nat → Int32) → (Nat → Int32) → (Nat → Int64) → (Nat → Int64) → (Nat → Int64) → (Nat → Int64) → (Int32) → Option (Int64 × Int64 × Int32 × Int32 × Int32 × Int64 × (Nat → Int64) × (Nat → Int64) × (Nat → Int64))) (hK54 : ∀ (v_savedCount : Int32) (v_scriptLength : Int32) (v_code : Int32) (v_lineParts : Int32) (v_pulseMany : Int32) (v_left : Int64) (v_dropped : Int64) (v_merged : Int32) (v_drops : Int32) (v_contributions : Int32) (v_packet : Int64) (v_peelResult : Int32) (v_peelTime : Int32) (v_peelSum : Int32) (v_at : Int32) (v_commands : Int32) (v_hash : Int64) (v_m : Nat → Int64) (v_saved : Nat → Int64) (v_script : Nat → Int32) (v_lengths : Nat → Int32) (v_fractions : Nat → Int32) (v_times : Nat → Int32) (v_energies : Nat → Int64) (v_far : Nat → Int64) (v_near : Nat → Int64) (v_echoes : Nat → Int64) (v_draft : Nat → Int32) (x1 : Int32), K54 v_lineParts v_pulseMany v_left v_dropped v_merged v_drops v_contributions v_packet v_m v_lengths v_fractions v_times v_energies v_far v_near v_echoes x1 = some (r_left, r_dropped, r_merged, r_drops, r_contributions, r_packet, r_far, r_near, r_echoes) → G p l e rm_X6_runLine s m args below meth c Z A 3 (MQ below (gPost Z A (fun _ : Unit => (none : Option Value)) (fun _ : Unit => ([(a0, .inr (5, [.ref a1, .ref a2, .int v_savedCount, .ref a3, .int v_scriptLength, .int v_code, .int v_lineParts, .ref a4, .ref a5, .int v_pulseMany, .ref a6, .ref a7, .ref a8, .ref a9, .ref a10, .long r_left, .long r_dropped, .int r_merged, .int r_drops, .int r_contributions, .long r_packet, .int v_peelResult, .int v_peelTime, .int v_peelSum, .int v_at, .int v_commands, .ref a11, .long v_hash])), (a1, .inl (Z.2 1, 431, .inr (.inl v_m))), (a2, .inl (Z.2 1, 1293, .inr (.inl v_saved))), (a3, .inl (Z.2 0, 120, .inl v_script)), (a4, .inl (Z.2 0, 8, .inl v_lengths)), (a5, .inl (Z.2 0, 9, .inl v_fractions)), (a6, .inl (Z.2 0, 4, .inl v_times)), (a7, .inl (Z.2 1, 4, .inr (.inl v_energies))), (a8, .inl (Z.2 1, 1809, .inr (.inl r_far))), (a9, .inl (Z.2 1, 1809, .inr (.inl r_near))), (a10, .inl (Z.2 1, 201, .inr (.inl r_echoes))), (a11, .inl (Z.2 0, 120, .inl v_draft))] : va_W))) args s 0 0 A) [(a0, .inr (5, [.ref a1, .ref a2, .int v_savedCount, .ref a3, .int v_scriptLength, .int v_code, .int v_lineParts, .ref a4, .ref a5, .int v_pulseMany, .ref a6, .ref a7, .ref a8, .ref a9, .ref a10, .long v_left, .long v_dropped, .int v_merged, .int v_drops, .int v_contributions, .long v_packet, .int v_peelResult, .int v_peelTime, .int v_peelSum, .int v_at, .int v_commands, .ref a11, .long v_hash])), (a1, .inl (Z.2 1, 431, .inr (.inl v_m))), (a2, .inl (Z.2 1, 1293, .inr (.inl v_saved))), (a3, .inl (Z.2 0, 120, .inl v_script)), (a4, .inl (Z.2 0, 8, .inl v_lengths)), (a5, .inl (Z.2 0, 9, .inl v_fractions)), (a6, .inl (Z.2 0, 4, .inl v_times)), (a7, .inl (Z.2 1, 4, .inr (.inl v_energies))), (a8, .inl (Z.2 1, 1809, .inr (.inl v_far))), (a9, .inl (Z.2 1, 1809, .inr (.inl v_near))), (a10, .inl (Z.2 1, 201, .inr (.inl v_echoes))), (a11, .inl (Z.2 0, 120, .inl v_draft))] 0 0 54 [some (.ref a0), some (.int x1), none] []) (v_savedCount : Int32) (v_scriptLength : Int32) (v_code : Int32) (v_lineParts : Int32) (v_pulseMany : Int32) (v_left : Int64) (v_dropped : Int64) (v_merged : Int32) (v_drops : Int32) (v_contributions : Int32) (v_packet : Int64) (v_peelResult : Int32) (v_peelTime : Int32) (v_peelSum : Int32) (v_at : Int32) (v_commands : Int32) (v_hash : Int64) (v_m : Nat → Int64) (v_saved : Nat → Int64) (v_script : Nat → Int32) (v_lengths : Nat → Int32) (v_fractions : Nat → Int32) (v_times : Nat → Int32) (v_energies : Nat → Int64) (v_far : Nat → Int64) (v_near : Nat → Int64) (v_echoes : Nat → Int64) (v_draft : Nat → Int32) (x1 : Int32) (h : F_X6_runLine_126 K54 v_lineParts v_pulseMany v_left v_dropped v_merged v_drops v_contributions v_packet v_m v_lengths v_fractions v_times v_energies v_far v_near v_echoes x1 = some (r_left, r_dropped, r_merged, r_drops, r_contributions, r_packet, r_far, r_near, r_echoes)) : G p l e rm_X6_runLine s m args below meth c Z A 3 (MQ below (gPost Z A (fun _ : Unit => (none : Option Value)) (fun _ : Unit => ([(a0, .inr (5, [.ref a1, .ref a2, .int v_savedCount, .ref a3, .int v_scriptLength, .int v_code, .int v_lineParts, .ref a4, .ref a5, .int v_pulseMany, .ref a6, .ref a7, .ref a8, .ref a9, .ref a10, .long r_left, .long r_dropped, .int r_merged, .int r_drops, .int r_contributions, .long r_packet, .int v_peelResult, .int v_peelTime, .int v_peelSum, .int v_at, .int v_commands, .ref a11, .long v_hash])), (a1, .inl (Z.2 1, 431, .inr (.inl v_m))), (a2, .inl (Z.2 1, 1293, .inr (.inl v_saved))), (a3, .inl (Z.2 0, 120, .inl v_script)), (a4, .inl (Z.2 0, 8, .inl v_lengths)), (a5, .inl (Z.2 0, 9, .inl v_fractions)), (a6, .inl (Z.2 0, 4, .inl v_times)), (a7, .inl (Z.2 1, 4, .inr (.inl v_energies))), (a8, .inl (Z.2 1, 1809, .inr (.inl r_far))), (a9, .inl (Z.2 1, 1809, .inr (.inl r_near))), (a10, .inl (Z.2 1, 201, .inr (.inl r_echoes))), (a11, .inl (Z.2 0, 120, .inl v_draft))] : va_W))) args s 0 0 A) [(a0, .inr (5, [.ref a1, .ref a2, .int v_savedCount, .ref a3, .int v_scriptLength, .int v_code, .int v_lineParts, .ref a4, .ref a5, .int v_pulseMany, .ref a6, .ref a7, .ref a8, .ref a9, .ref a10, .long v_left, .long v_dropped, .int v_merged, .int v_drops, .int v_contributions, .long v_packet, .int v_peelResult, .int v_peelTime, .int v_peelSum, .int v_at, .int v_commands, .ref a11, .long v_hash])), (a1, .inl (Z.2 1, 431, .inr (.inl v_m))), (a2, .inl (Z.2 1, 1293, .inr (.inl v_saved))), (a3, .inl (Z.2 0, 120, .inl v_script)), (a4, .inl (Z.2 0, 8, .inl v_lengths)), (a5, .inl (Z.2 0, 9, .inl v_fractions)), (a6, .inl (Z.2 0, 4, .inl v_times)), (a7, .inl (Z.2 1, 4, .inr (.inl v_energies))), (a8, .inl (Z.2 1, 1809, .inr (.inl v_far))), (a9, .inl (Z.2 1, 1809, .inr (.inl v_near))), (a10, .inl (Z.2 1, 201, .inr (.inl v_echoes))), (a11, .inl (Z.2 0, 120, .inl v_draft))] 0 0 126 [some (.ref a0), some (.int x1), none] [] := by
  unfold F_X6_runLine_126 at h
  refine g_iinc X 1 rfl dX6_runLine_126 129 rfl kI_1 (Nat.le_of_ble_eq_true rfl) rfl [some (.ref a0), some (.int (x1 + 1)), none] rfl ?_
  refine g_goto X dX6_runLine_129 54 (by decide) ?_
  exact hK54 v_savedCount v_scriptLength v_code v_lineParts v_pulseMany v_left v_dropped v_merged v_drops v_contributions v_packet v_peelResult v_peelTime v_peelSum v_at v_commands v_hash v_m v_saved v_script v_lengths v_fractions v_times v_energies v_far v_near v_echoes v_draft (x1 + 1) h
theorem w_X6_runLine_99 {p : Program} {l : Launch} {e : Env} {s : State} {m : MethodId} {args : Array Value} {below : List Frame} {meth : Method} {c : Code} {Z : gZt} {A : Nat → Prop} (a0 : Nat) (a1 : Nat) (a2 : Nat) (a3 : Nat) (a4 : Nat) (a5 : Nat) (a6 : Nat) (a7 : Nat) (a8 : Nat) (a9 : Nat) (a10 : Nat) (a11 : Nat) (X : gX p s m args meth c Z A cX6_runLine "LineEchoesModel" 3 none []) (r_left : Int64) (r_dropped : Int64) (r_merged : Int32) (r_drops : Int32) (r_contributions : Int32) (r_packet : Int64) (r_far : Nat → Int64) (r_near : Nat → Int64) (r_echoes : Nat → Int64) (K54 : (Int32) → (Int32) → (Int64) → (Int64) → (Int32) → (Int32) → (Int32) → (Int64) → (Nat → Int64) → (Nat → Int32) → (Nat → Int32) → (Nat → Int32) → (Nat → Int64) → (Nat → Int64) → (Nat → Int64) → (Nat → Int64) → (Int32) → Option (Int64 × Int64 × Int32 × Int32 × Int32 × Int64 × (Nat → Int64) × (Nat → Int64) × (Nat → Int64))) (hK54 : ∀ (v_savedCount : Int32) (v_scriptLength : Int32) (v_code : Int32) (v_lineParts : Int32) (v_pulseMany : Int32) (v_left : Int64) (v_dropped : Int64) (v_merged : Int32) (v_drops : Int32) (v_contributions : Int32) (v_packet : Int64) (v_peelResult : Int32) (v_peelTime : Int32) (v_peelSum : Int32) (v_at : Int32) (v_commands : Int32) (v_hash : Int64) (v_m : Nat → Int64) (v_saved : Nat → Int64) (v_script : Nat → Int32) (v_lengths : Nat → Int32) (v_fractions : Nat → Int32) (v_times : Nat → Int32) (v_energies : Nat → Int64) (v_far : Nat → Int64) (v_near : Nat → Int64) (v_echoes : Nat → Int64) (v_draft : Nat → Int32) (x1 : Int32), K54 v_lineParts v_pulseMany v_left v_dropped v_merged v_drops v_contributions v_packet v_m v_lengths v_fractions v_times v_energies v_far v_near v_echoes x1 = some (r_left, r_dropped, r_merged, r_drops, r_contributions, r_packet, r_far, r_near, r_echoes) → G p l e rm_X6_runLine s m args below meth c Z A 3 (MQ below (gPost Z A (fun _ : Unit => (none : Option Value)) (fun _ : Unit => ([(a0, .inr (5, [.ref a1, .ref a2, .int v_savedCount, .ref a3, .int v_scriptLength, .int v_code, .int v_lineParts, .ref a4, .ref a5, .int v_pulseMany, .ref a6, .ref a7, .ref a8, .ref a9, .ref a10, .long r_left, .long r_dropped, .int r_merged, .int r_drops, .int r_contributions, .long r_packet, .int v_peelResult, .int v_peelTime, .int v_peelSum, .int v_at, .int v_commands, .ref a11, .long v_hash])), (a1, .inl (Z.2 1, 431, .inr (.inl v_m))), (a2, .inl (Z.2 1, 1293, .inr (.inl v_saved))), (a3, .inl (Z.2 0, 120, .inl v_script)), (a4, .inl (Z.2 0, 8, .inl v_lengths)), (a5, .inl (Z.2 0, 9, .inl v_fractions)), (a6, .inl (Z.2 0, 4, .inl v_times)), (a7, .inl (Z.2 1, 4, .inr (.inl v_energies))), (a8, .inl (Z.2 1, 1809, .inr (.inl r_far))), (a9, .inl (Z.2 1, 1809, .inr (.inl r_near))), (a10, .inl (Z.2 1, 201, .inr (.inl r_echoes))), (a11, .inl (Z.2 0, 120, .inl v_draft))] : va_W))) args s 0 0 A) [(a0, .inr (5, [.ref a1, .ref a2, .int v_savedCount, .ref a3, .int v_scriptLength, .int v_code, .int v_lineParts, .ref a4, .ref a5, .int v_pulseMany, .ref a6, .ref a7, .ref a8, .ref a9, .ref a10, .long v_left, .long v_dropped, .int v_merged, .int v_drops, .int v_contributions, .long v_packet, .int v_peelResult, .int v_peelTime, .int v_peelSum, .int v_at, .int v_commands, .ref a11, .long v_hash])), (a1, .inl (Z.2 1, 431, .inr (.inl v_m))), (a2, .inl (Z.2 1, 1293, .inr (.inl v_saved))), (a3, .inl (Z.2 0, 120, .inl v_script)), (a4, .inl (Z.2 0, 8, .inl v_lengths)), (a5, .inl (Z.2 0, 9, .inl v_fractions)), (a6, .inl (Z.2 0, 4, .inl v_times)), (a7, .inl (Z.2 1, 4, .inr (.inl v_energies))), (a8, .inl (Z.2 1, 1809, .inr (.inl v_far))), (a9, .inl (Z.2 1, 1809, .inr (.inl v_near))), (a10, .inl (Z.2 1, 201, .inr (.inl v_echoes))), (a11, .inl (Z.2 0, 120, .inl v_draft))] 0 0 54 [some (.ref a0), some (.int x1), none] []) : ∀ (n : Nat) (v_savedCount : Int32) (v_scriptLength : Int32) (v_code : Int32) (v_lineParts : Int32) (v_pulseMany : Int32) (v_left : Int64) (v_dropped : Int64) (v_merged : Int32) (v_drops : Int32) (v_contributions : Int32) (v_packet : Int64) (v_peelResult : Int32) (v_peelTime : Int32) (v_peelSum : Int32) (v_at : Int32) (v_commands : Int32) (v_hash : Int64) (v_m : Nat → Int64) (v_saved : Nat → Int64) (v_script : Nat → Int32) (v_lengths : Nat → Int32) (v_fractions : Nat → Int32) (v_times : Nat → Int32) (v_energies : Nat → Int64) (v_far : Nat → Int64) (v_near : Nat → Int64) (v_echoes : Nat → Int64) (v_draft : Nat → Int32) (x1 : Int32) (x2 : Int32), F_X6_runLine_99 K54 n v_lineParts v_pulseMany v_left v_dropped v_merged v_drops v_contributions v_packet v_m v_lengths v_fractions v_times v_energies v_far v_near v_echoes x1 x2 = some (r_left, r_dropped, r_merged, r_drops, r_contributions, r_packet, r_far, r_near, r_echoes) → G p l e rm_X6_runLine s m args below meth c Z A 3 (MQ below (gPost Z A (fun _ : Unit => (none : Option Value)) (fun _ : Unit => ([(a0, .inr (5, [.ref a1, .ref a2, .int v_savedCount, .ref a3, .int v_scriptLength, .int v_code, .int v_lineParts, .ref a4, .ref a5, .int v_pulseMany, .ref a6, .ref a7, .ref a8, .ref a9, .ref a10, .long r_left, .long r_dropped, .int r_merged, .int r_drops, .int r_contributions, .long r_packet, .int v_peelResult, .int v_peelTime, .int v_peelSum, .int v_at, .int v_commands, .ref a11, .long v_hash])), (a1, .inl (Z.2 1, 431, .inr (.inl v_m))), (a2, .inl (Z.2 1, 1293, .inr (.inl v_saved))), (a3, .inl (Z.2 0, 120, .inl v_script)), (a4, .inl (Z.2 0, 8, .inl v_lengths)), (a5, .inl (Z.2 0, 9, .inl v_fractions)), (a6, .inl (Z.2 0, 4, .inl v_times)), (a7, .inl (Z.2 1, 4, .inr (.inl v_energies))), (a8, .inl (Z.2 1, 1809, .inr (.inl r_far))), (a9, .inl (Z.2 1, 1809, .inr (.inl r_near))), (a10, .inl (Z.2 1, 201, .inr (.inl r_echoes))), (a11, .inl (Z.2 0, 120, .inl v_draft))] : va_W))) args s 0 0 A) [(a0, .inr (5, [.ref a1, .ref a2, .int v_savedCount, .ref a3, .int v_scriptLength, .int v_code, .int v_lineParts, .ref a4, .ref a5, .int v_pulseMany, .ref a6, .ref a7, .ref a8, .ref a9, .ref a10, .long v_left, .long v_dropped, .int v_merged, .int v_drops, .int v_contributions, .long v_packet, .int v_peelResult, .int v_peelTime, .int v_peelSum, .int v_at, .int v_commands, .ref a11, .long v_hash])), (a1, .inl (Z.2 1, 431, .inr (.inl v_m))), (a2, .inl (Z.2 1, 1293, .inr (.inl v_saved))), (a3, .inl (Z.2 0, 120, .inl v_script)), (a4, .inl (Z.2 0, 8, .inl v_lengths)), (a5, .inl (Z.2 0, 9, .inl v_fractions)), (a6, .inl (Z.2 0, 4, .inl v_times)), (a7, .inl (Z.2 1, 4, .inr (.inl v_energies))), (a8, .inl (Z.2 1, 1809, .inr (.inl v_far))), (a9, .inl (Z.2 1, 1809, .inr (.inl v_near))), (a10, .inl (Z.2 1, 201, .inr (.inl v_echoes))), (a11, .inl (Z.2 0, 120, .inl v_draft))] 0 0 99 [some (.ref a0), some (.int x1), some (.int x2)] [] := by
  intro n
  induction n with
  | zero =>
    intro v_savedCount v_scriptLength v_code v_lineParts v_pulseMany v_left v_dropped v_merged v_drops v_contributions v_packet v_peelResult v_peelTime v_peelSum v_at v_commands v_hash v_m v_saved v_script v_lengths v_fractions v_times v_energies v_far v_near v_echoes v_draft x1 x2 h
    cases h
  | succ n hK99 =>
    intro v_savedCount v_scriptLength v_code v_lineParts v_pulseMany v_left v_dropped v_merged v_drops v_contributions v_packet v_peelResult v_peelTime v_peelSum v_at v_commands v_hash v_m v_saved v_script v_lengths v_fractions v_times v_energies v_far v_near v_echoes v_draft x1 x2 h
    replace h : B_X6_runLine_99 K54 (F_X6_runLine_99 K54 n) v_lineParts v_pulseMany v_left v_dropped v_merged v_drops v_contributions v_packet v_m v_lengths v_fractions v_times v_energies v_far v_near v_echoes x1 x2 = some (r_left, r_dropped, r_merged, r_drops, r_contributions, r_packet, r_far, r_near, r_echoes) := h
    unfold B_X6_runLine_99 at h
    refine g_iload_n X rfl dX6_runLine_99 100 rfl ?_
    refine g_aload_n X rfl dX6_runLine_100 101 rfl ?_
    refine g_get X gC5 0 rfl 6 (by decide) q1348 (fun _ h9 => h9) rfl dX6_runLine_101 104 rfl ?_
    refine g_icmp_gt X dX6_runLine_104 126 (by decide) 107 rfl (fun hc => ?_) (fun hc => ?_)
    · replace h := if_t hc h
      refine g_kill (j := 2) [some (.ref a0), some (.int x1), none] rfl ?_
      exact w_X6_runLine_126 a0 a1 a2 a3 a4 a5 a6 a7 a8 a9 a10 a11  X  r_left r_dropped r_merged r_drops r_contributions r_packet r_far r_near r_echoes _ hK54  v_savedCount v_scriptLength v_code v_lineParts v_pulseMany v_left v_dropped v_merged v_drops v_contributions v_packet v_peelResult v_peelTime v_peelSum v_at v_commands v_hash v_m v_saved v_script v_lengths v_fractions v_times v_energies v_far v_near v_echoes v_draft x1 h
    · replace h := if_f hc h
      refine g_aload_n X rfl dX6_runLine_107 108 rfl ?_
      refine g_get X gC5 0 rfl 6 (by decide) q1348 (fun _ h9 => h9) rfl dX6_runLine_108 111 rfl ?_
      refine g_if_le X dX6_runLine_111 126 (by decide) 114 rfl (fun hc => ?_) (fun hc => ?_)
      · replace h := if_t hc h
        refine g_kill (j := 2) [some (.ref a0), some (.int x1), none] rfl ?_
        exact w_X6_runLine_126 a0 a1 a2 a3 a4 a5 a6 a7 a8 a9 a10 a11  X  r_left r_dropped r_merged r_drops r_contributions r_packet r_far r_near r_echoes _ hK54  v_savedCount v_scriptLength v_code v_lineParts v_pulseMany v_left v_dropped v_merged v_drops v_contributions v_packet v_peelResult v_peelTime v_peelSum v_at v_commands v_hash v_m v_saved v_script v_lengths v_fractions v_times v_energies v_far v_near v_echoes v_draft x1 h
      · replace h := if_f hc h
        refine g_aload_n X rfl dX6_runLine_114 115 rfl ?_
        refine g_iload_n X rfl dX6_runLine_115 116 rfl ?_
        refine g_iload_n X rfl dX6_runLine_116 117 rfl ?_
        obtain ⟨w1_left, w2_dropped, w3_merged, w4_drops, w5_contributions, w6_packet, w7_far, w8_near, w9_echoes, hcl, h⟩ := bd9_e h
        refine g_callV0W X (met_X6_runAt l Z a0 a1 a2 a3 a4 a5 a6 a7 a8 a9 a10 a11 v_savedCount v_scriptLength v_code v_lineParts v_pulseMany v_left v_dropped v_merged v_drops v_contributions v_packet v_peelResult v_peelTime v_peelSum v_at v_commands v_hash v_m v_saved v_script v_lengths v_fractions v_times v_energies v_far v_near v_echoes v_draft x2 x1 w1_left w2_dropped w3_merged w4_drops w5_contributions w6_packet w7_far w8_near w9_echoes hcl) rfl 0 gC5 rfl rfl (lw_V q1578 q1580 qs43 q74 q1581) md_X6_runAt ⟨(Nat.le_of_ble_eq_true rfl), (Nat.le_of_ble_eq_true rfl)⟩ rfl dX6_runLine_117 120 rfl 0 0 rfl rfl (Nat.le_of_ble_eq_true rfl) (Nat.le_of_ble_eq_true rfl) (st := []) rfl (Nat.le_of_ble_eq_true rfl) (fun _ => rfl) (fun _ => ?_)
        refine g_iinc X 1 rfl dX6_runLine_120 123 rfl kI_1 (Nat.le_of_ble_eq_true rfl) rfl [some (.ref a0), some (.int x1), some (.int (x2 + 1))] rfl ?_
        refine g_goto X dX6_runLine_123 99 (by decide) ?_
        exact hK99 v_savedCount v_scriptLength v_code v_lineParts v_pulseMany w1_left w2_dropped w3_merged w4_drops w5_contributions w6_packet v_peelResult v_peelTime v_peelSum v_at v_commands v_hash v_m v_saved v_script v_lengths v_fractions v_times v_energies w7_far w8_near w9_echoes v_draft x1 (x2 + 1) h
theorem w_X6_runLine_97 {p : Program} {l : Launch} {e : Env} {s : State} {m : MethodId} {args : Array Value} {below : List Frame} {meth : Method} {c : Code} {Z : gZt} {A : Nat → Prop} (a0 : Nat) (a1 : Nat) (a2 : Nat) (a3 : Nat) (a4 : Nat) (a5 : Nat) (a6 : Nat) (a7 : Nat) (a8 : Nat) (a9 : Nat) (a10 : Nat) (a11 : Nat) (X : gX p s m args meth c Z A cX6_runLine "LineEchoesModel" 3 none []) (r_left : Int64) (r_dropped : Int64) (r_merged : Int32) (r_drops : Int32) (r_contributions : Int32) (r_packet : Int64) (r_far : Nat → Int64) (r_near : Nat → Int64) (r_echoes : Nat → Int64) (K54 : (Int32) → (Int32) → (Int64) → (Int64) → (Int32) → (Int32) → (Int32) → (Int64) → (Nat → Int64) → (Nat → Int32) → (Nat → Int32) → (Nat → Int32) → (Nat → Int64) → (Nat → Int64) → (Nat → Int64) → (Nat → Int64) → (Int32) → Option (Int64 × Int64 × Int32 × Int32 × Int32 × Int64 × (Nat → Int64) × (Nat → Int64) × (Nat → Int64))) (hK54 : ∀ (v_savedCount : Int32) (v_scriptLength : Int32) (v_code : Int32) (v_lineParts : Int32) (v_pulseMany : Int32) (v_left : Int64) (v_dropped : Int64) (v_merged : Int32) (v_drops : Int32) (v_contributions : Int32) (v_packet : Int64) (v_peelResult : Int32) (v_peelTime : Int32) (v_peelSum : Int32) (v_at : Int32) (v_commands : Int32) (v_hash : Int64) (v_m : Nat → Int64) (v_saved : Nat → Int64) (v_script : Nat → Int32) (v_lengths : Nat → Int32) (v_fractions : Nat → Int32) (v_times : Nat → Int32) (v_energies : Nat → Int64) (v_far : Nat → Int64) (v_near : Nat → Int64) (v_echoes : Nat → Int64) (v_draft : Nat → Int32) (x1 : Int32), K54 v_lineParts v_pulseMany v_left v_dropped v_merged v_drops v_contributions v_packet v_m v_lengths v_fractions v_times v_energies v_far v_near v_echoes x1 = some (r_left, r_dropped, r_merged, r_drops, r_contributions, r_packet, r_far, r_near, r_echoes) → G p l e rm_X6_runLine s m args below meth c Z A 3 (MQ below (gPost Z A (fun _ : Unit => (none : Option Value)) (fun _ : Unit => ([(a0, .inr (5, [.ref a1, .ref a2, .int v_savedCount, .ref a3, .int v_scriptLength, .int v_code, .int v_lineParts, .ref a4, .ref a5, .int v_pulseMany, .ref a6, .ref a7, .ref a8, .ref a9, .ref a10, .long r_left, .long r_dropped, .int r_merged, .int r_drops, .int r_contributions, .long r_packet, .int v_peelResult, .int v_peelTime, .int v_peelSum, .int v_at, .int v_commands, .ref a11, .long v_hash])), (a1, .inl (Z.2 1, 431, .inr (.inl v_m))), (a2, .inl (Z.2 1, 1293, .inr (.inl v_saved))), (a3, .inl (Z.2 0, 120, .inl v_script)), (a4, .inl (Z.2 0, 8, .inl v_lengths)), (a5, .inl (Z.2 0, 9, .inl v_fractions)), (a6, .inl (Z.2 0, 4, .inl v_times)), (a7, .inl (Z.2 1, 4, .inr (.inl v_energies))), (a8, .inl (Z.2 1, 1809, .inr (.inl r_far))), (a9, .inl (Z.2 1, 1809, .inr (.inl r_near))), (a10, .inl (Z.2 1, 201, .inr (.inl r_echoes))), (a11, .inl (Z.2 0, 120, .inl v_draft))] : va_W))) args s 0 0 A) [(a0, .inr (5, [.ref a1, .ref a2, .int v_savedCount, .ref a3, .int v_scriptLength, .int v_code, .int v_lineParts, .ref a4, .ref a5, .int v_pulseMany, .ref a6, .ref a7, .ref a8, .ref a9, .ref a10, .long v_left, .long v_dropped, .int v_merged, .int v_drops, .int v_contributions, .long v_packet, .int v_peelResult, .int v_peelTime, .int v_peelSum, .int v_at, .int v_commands, .ref a11, .long v_hash])), (a1, .inl (Z.2 1, 431, .inr (.inl v_m))), (a2, .inl (Z.2 1, 1293, .inr (.inl v_saved))), (a3, .inl (Z.2 0, 120, .inl v_script)), (a4, .inl (Z.2 0, 8, .inl v_lengths)), (a5, .inl (Z.2 0, 9, .inl v_fractions)), (a6, .inl (Z.2 0, 4, .inl v_times)), (a7, .inl (Z.2 1, 4, .inr (.inl v_energies))), (a8, .inl (Z.2 1, 1809, .inr (.inl v_far))), (a9, .inl (Z.2 1, 1809, .inr (.inl v_near))), (a10, .inl (Z.2 1, 201, .inr (.inl v_echoes))), (a11, .inl (Z.2 0, 120, .inl v_draft))] 0 0 54 [some (.ref a0), some (.int x1), none] []) (v_savedCount : Int32) (v_scriptLength : Int32) (v_code : Int32) (v_lineParts : Int32) (v_pulseMany : Int32) (v_left : Int64) (v_dropped : Int64) (v_merged : Int32) (v_drops : Int32) (v_contributions : Int32) (v_packet : Int64) (v_peelResult : Int32) (v_peelTime : Int32) (v_peelSum : Int32) (v_at : Int32) (v_commands : Int32) (v_hash : Int64) (v_m : Nat → Int64) (v_saved : Nat → Int64) (v_script : Nat → Int32) (v_lengths : Nat → Int32) (v_fractions : Nat → Int32) (v_times : Nat → Int32) (v_energies : Nat → Int64) (v_far : Nat → Int64) (v_near : Nat → Int64) (v_echoes : Nat → Int64) (v_draft : Nat → Int32) (x1 : Int32) (h : F_X6_runLine_97 K54 v_lineParts v_pulseMany v_left v_dropped v_merged v_drops v_contributions v_packet v_m v_lengths v_fractions v_times v_energies v_far v_near v_echoes x1 = some (r_left, r_dropped, r_merged, r_drops, r_contributions, r_packet, r_far, r_near, r_echoes)) : G p l e rm_X6_runLine s m args below meth c Z A 3 (MQ below (gPost Z A (fun _ : Unit => (none : Option Value)) (fun _ : Unit => ([(a0, .inr (5, [.ref a1, .ref a2, .int v_savedCount, .ref a3, .int v_scriptLength, .int v_code, .int v_lineParts, .ref a4, .ref a5, .int v_pulseMany, .ref a6, .ref a7, .ref a8, .ref a9, .ref a10, .long r_left, .long r_dropped, .int r_merged, .int r_drops, .int r_contributions, .long r_packet, .int v_peelResult, .int v_peelTime, .int v_peelSum, .int v_at, .int v_commands, .ref a11, .long v_hash])), (a1, .inl (Z.2 1, 431, .inr (.inl v_m))), (a2, .inl (Z.2 1, 1293, .inr (.inl v_saved))), (a3, .inl (Z.2 0, 120, .inl v_script)), (a4, .inl (Z.2 0, 8, .inl v_lengths)), (a5, .inl (Z.2 0, 9, .inl v_fractions)), (a6, .inl (Z.2 0, 4, .inl v_times)), (a7, .inl (Z.2 1, 4, .inr (.inl v_energies))), (a8, .inl (Z.2 1, 1809, .inr (.inl r_far))), (a9, .inl (Z.2 1, 1809, .inr (.inl r_near))), (a10, .inl (Z.2 1, 201, .inr (.inl r_echoes))), (a11, .inl (Z.2 0, 120, .inl v_draft))] : va_W))) args s 0 0 A) [(a0, .inr (5, [.ref a1, .ref a2, .int v_savedCount, .ref a3, .int v_scriptLength, .int v_code, .int v_lineParts, .ref a4, .ref a5, .int v_pulseMany, .ref a6, .ref a7, .ref a8, .ref a9, .ref a10, .long v_left, .long v_dropped, .int v_merged, .int v_drops, .int v_contributions, .long v_packet, .int v_peelResult, .int v_peelTime, .int v_peelSum, .int v_at, .int v_commands, .ref a11, .long v_hash])), (a1, .inl (Z.2 1, 431, .inr (.inl v_m))), (a2, .inl (Z.2 1, 1293, .inr (.inl v_saved))), (a3, .inl (Z.2 0, 120, .inl v_script)), (a4, .inl (Z.2 0, 8, .inl v_lengths)), (a5, .inl (Z.2 0, 9, .inl v_fractions)), (a6, .inl (Z.2 0, 4, .inl v_times)), (a7, .inl (Z.2 1, 4, .inr (.inl v_energies))), (a8, .inl (Z.2 1, 1809, .inr (.inl v_far))), (a9, .inl (Z.2 1, 1809, .inr (.inl v_near))), (a10, .inl (Z.2 1, 201, .inr (.inl v_echoes))), (a11, .inl (Z.2 0, 120, .inl v_draft))] 0 0 97 [some (.ref a0), some (.int x1), none] [] := by
  unfold F_X6_runLine_97 at h
  refine g_iconst X 0 dX6_runLine_97 98 rfl kI_0 ?_
  refine g_istore_n X dX6_runLine_98 99 rfl (Nat.le_of_ble_eq_true rfl) rfl [some (.ref a0), some (.int x1), some (.int 0)] rfl ?_
  exact w_X6_runLine_99 a0 a1 a2 a3 a4 a5 a6 a7 a8 a9 a10 a11  X  r_left r_dropped r_merged r_drops r_contributions r_packet r_far r_near r_echoes _ hK54  gFU v_savedCount v_scriptLength v_code v_lineParts v_pulseMany v_left v_dropped v_merged v_drops v_contributions v_packet v_peelResult v_peelTime v_peelSum v_at v_commands v_hash v_m v_saved v_script v_lengths v_fractions v_times v_energies v_far v_near v_echoes v_draft x1 0 h
theorem w_X6_runLine_54 {p : Program} {l : Launch} {e : Env} {s : State} {m : MethodId} {args : Array Value} {below : List Frame} {meth : Method} {c : Code} {Z : gZt} {A : Nat → Prop} (a0 : Nat) (a1 : Nat) (a2 : Nat) (a3 : Nat) (a4 : Nat) (a5 : Nat) (a6 : Nat) (a7 : Nat) (a8 : Nat) (a9 : Nat) (a10 : Nat) (a11 : Nat) (X : gX p s m args meth c Z A cX6_runLine "LineEchoesModel" 3 none []) (r_left : Int64) (r_dropped : Int64) (r_merged : Int32) (r_drops : Int32) (r_contributions : Int32) (r_packet : Int64) (r_far : Nat → Int64) (r_near : Nat → Int64) (r_echoes : Nat → Int64)  : ∀ (n : Nat) (v_savedCount : Int32) (v_scriptLength : Int32) (v_code : Int32) (v_lineParts : Int32) (v_pulseMany : Int32) (v_left : Int64) (v_dropped : Int64) (v_merged : Int32) (v_drops : Int32) (v_contributions : Int32) (v_packet : Int64) (v_peelResult : Int32) (v_peelTime : Int32) (v_peelSum : Int32) (v_at : Int32) (v_commands : Int32) (v_hash : Int64) (v_m : Nat → Int64) (v_saved : Nat → Int64) (v_script : Nat → Int32) (v_lengths : Nat → Int32) (v_fractions : Nat → Int32) (v_times : Nat → Int32) (v_energies : Nat → Int64) (v_far : Nat → Int64) (v_near : Nat → Int64) (v_echoes : Nat → Int64) (v_draft : Nat → Int32) (x1 : Int32), F_X6_runLine_54 n v_lineParts v_pulseMany v_left v_dropped v_merged v_drops v_contributions v_packet v_m v_lengths v_fractions v_times v_energies v_far v_near v_echoes x1 = some (r_left, r_dropped, r_merged, r_drops, r_contributions, r_packet, r_far, r_near, r_echoes) → G p l e rm_X6_runLine s m args below meth c Z A 3 (MQ below (gPost Z A (fun _ : Unit => (none : Option Value)) (fun _ : Unit => ([(a0, .inr (5, [.ref a1, .ref a2, .int v_savedCount, .ref a3, .int v_scriptLength, .int v_code, .int v_lineParts, .ref a4, .ref a5, .int v_pulseMany, .ref a6, .ref a7, .ref a8, .ref a9, .ref a10, .long r_left, .long r_dropped, .int r_merged, .int r_drops, .int r_contributions, .long r_packet, .int v_peelResult, .int v_peelTime, .int v_peelSum, .int v_at, .int v_commands, .ref a11, .long v_hash])), (a1, .inl (Z.2 1, 431, .inr (.inl v_m))), (a2, .inl (Z.2 1, 1293, .inr (.inl v_saved))), (a3, .inl (Z.2 0, 120, .inl v_script)), (a4, .inl (Z.2 0, 8, .inl v_lengths)), (a5, .inl (Z.2 0, 9, .inl v_fractions)), (a6, .inl (Z.2 0, 4, .inl v_times)), (a7, .inl (Z.2 1, 4, .inr (.inl v_energies))), (a8, .inl (Z.2 1, 1809, .inr (.inl r_far))), (a9, .inl (Z.2 1, 1809, .inr (.inl r_near))), (a10, .inl (Z.2 1, 201, .inr (.inl r_echoes))), (a11, .inl (Z.2 0, 120, .inl v_draft))] : va_W))) args s 0 0 A) [(a0, .inr (5, [.ref a1, .ref a2, .int v_savedCount, .ref a3, .int v_scriptLength, .int v_code, .int v_lineParts, .ref a4, .ref a5, .int v_pulseMany, .ref a6, .ref a7, .ref a8, .ref a9, .ref a10, .long v_left, .long v_dropped, .int v_merged, .int v_drops, .int v_contributions, .long v_packet, .int v_peelResult, .int v_peelTime, .int v_peelSum, .int v_at, .int v_commands, .ref a11, .long v_hash])), (a1, .inl (Z.2 1, 431, .inr (.inl v_m))), (a2, .inl (Z.2 1, 1293, .inr (.inl v_saved))), (a3, .inl (Z.2 0, 120, .inl v_script)), (a4, .inl (Z.2 0, 8, .inl v_lengths)), (a5, .inl (Z.2 0, 9, .inl v_fractions)), (a6, .inl (Z.2 0, 4, .inl v_times)), (a7, .inl (Z.2 1, 4, .inr (.inl v_energies))), (a8, .inl (Z.2 1, 1809, .inr (.inl v_far))), (a9, .inl (Z.2 1, 1809, .inr (.inl v_near))), (a10, .inl (Z.2 1, 201, .inr (.inl v_echoes))), (a11, .inl (Z.2 0, 120, .inl v_draft))] 0 0 54 [some (.ref a0), some (.int x1), none] [] := by
  intro n
  induction n with
  | zero =>
    intro v_savedCount v_scriptLength v_code v_lineParts v_pulseMany v_left v_dropped v_merged v_drops v_contributions v_packet v_peelResult v_peelTime v_peelSum v_at v_commands v_hash v_m v_saved v_script v_lengths v_fractions v_times v_energies v_far v_near v_echoes v_draft x1 h
    cases h
  | succ n hK54 =>
    intro v_savedCount v_scriptLength v_code v_lineParts v_pulseMany v_left v_dropped v_merged v_drops v_contributions v_packet v_peelResult v_peelTime v_peelSum v_at v_commands v_hash v_m v_saved v_script v_lengths v_fractions v_times v_energies v_far v_near v_echoes v_draft x1 h
    replace h : B_X6_runLine_54 (F_X6_runLine_54 n) v_lineParts v_pulseMany v_left v_dropped v_merged v_drops v_contributions v_packet v_m v_lengths v_fractions v_times v_energies v_far v_near v_echoes x1 = some (r_left, r_dropped, r_merged, r_drops, r_contributions, r_packet, r_far, r_near, r_echoes) := h
    unfold B_X6_runLine_54 at h
    refine g_iload_n X rfl dX6_runLine_54 55 rfl ?_
    refine g_aload_n X rfl dX6_runLine_55 56 rfl ?_
    obtain ⟨r1, hcl, h⟩ := bd1_e h
    refine g_callV1W X (met_X6_window l Z a0 a1 a2 a3 a4 a5 a6 a7 a8 a9 a10 a11 v_savedCount v_scriptLength v_code v_lineParts v_pulseMany v_left v_dropped v_merged v_drops v_contributions v_packet v_peelResult v_peelTime v_peelSum v_at v_commands v_hash v_m v_saved v_script v_lengths v_fractions v_times v_energies v_far v_near v_echoes v_draft  r1 hcl) rfl 0 gC5 rfl rfl (lw_V q1517 q1519 qs34 q74 q1520) md_X6_window ⟨(Nat.le_of_ble_eq_true rfl), (Nat.le_of_ble_eq_true rfl)⟩ rfl dX6_runLine_56 59 rfl 0 0 rfl rfl (Nat.le_of_ble_eq_true rfl) (Nat.le_of_ble_eq_true rfl) (st := [.int x1]) rfl (Nat.le_of_ble_eq_true rfl) (fun _ => rfl) (fun _ => ?_)
    refine g_icmp_gt X dX6_runLine_59 132 (by decide) 62 rfl (fun hc => ?_) (fun hc => ?_)
    · replace h := if_t hc h
      cases h
      exact g_vret X dX6_runLine_132 () rfl rfl (Nat.le_of_ble_eq_true rfl) (Nat.le_of_ble_eq_true rfl)
    · replace h := if_f hc h
      refine g_aload_n X rfl dX6_runLine_62 63 rfl ?_
      refine g_get X gC5 0 rfl 6 (by decide) q1348 (fun _ h9 => h9) rfl dX6_runLine_63 66 rfl ?_
      refine g_if_ne X dX6_runLine_66 97 (by decide) 69 rfl (fun hc => ?_) (fun hc => ?_)
      · replace h := if_f hc h
        exact w_X6_runLine_97 a0 a1 a2 a3 a4 a5 a6 a7 a8 a9 a10 a11  X  r_left r_dropped r_merged r_drops r_contributions r_packet r_far r_near r_echoes _ hK54  v_savedCount v_scriptLength v_code v_lineParts v_pulseMany v_left v_dropped v_merged v_drops v_contributions v_packet v_peelResult v_peelTime v_peelSum v_at v_commands v_hash v_m v_saved v_script v_lengths v_fractions v_times v_energies v_far v_near v_echoes v_draft x1 h
      · replace h := if_t hc h
        refine g_aload_n X rfl dX6_runLine_69 70 rfl ?_
        refine g_iload_n X rfl dX6_runLine_70 71 rfl ?_
        obtain ⟨w2_contributions, w3_packet, hcl, h⟩ := bd2_e h
        refine g_callV0W X (met_X6_passPulses l Z a0 a1 a2 a3 a4 a5 a6 a7 a8 a9 a10 a11 v_savedCount v_scriptLength v_code v_lineParts v_pulseMany v_left v_dropped v_merged v_drops v_contributions v_packet v_peelResult v_peelTime v_peelSum v_at v_commands v_hash v_m v_saved v_script v_lengths v_fractions v_times v_energies v_far v_near v_echoes v_draft x1 w2_contributions w3_packet hcl) rfl 0 gC5 rfl rfl (lw_V q1570 q1572 qs41 q74 q1573) md_X6_passPulses ⟨(Nat.le_of_ble_eq_true rfl), (Nat.le_of_ble_eq_true rfl)⟩ rfl dX6_runLine_71 74 rfl 0 0 rfl rfl (Nat.le_of_ble_eq_true rfl) (Nat.le_of_ble_eq_true rfl) (st := []) rfl (Nat.le_of_ble_eq_true rfl) (fun _ => rfl) (fun _ => ?_)
        refine g_aload_n X rfl dX6_runLine_74 75 rfl ?_
        refine g_dup X dX6_runLine_75 76 rfl rfl ?_
        refine g_get X gC5 0 rfl 15 (by decide) q1357 (fun _ h9 => h9) rfl dX6_runLine_76 79 rfl ?_
        refine g_aload_n X rfl dX6_runLine_79 80 rfl ?_
        refine g_get X gC5 0 rfl 20 (by decide) q1362 (fun _ h9 => h9) rfl dX6_runLine_80 83 rfl ?_
        refine g_ladd X dX6_runLine_83 84 rfl ?_
        refine g_put X gC5 0 rfl 15 (by decide) q1357 (fun _ h9 => h9) rfl rfl rfl (Nat.le_of_ble_eq_true rfl) dX6_runLine_84 87 rfl ?_
        refine g_aload_n X rfl dX6_runLine_87 88 rfl ?_
        refine g_lconst X 0 dX6_runLine_88 89 rfl rfl ?_
        refine g_put X gC5 0 rfl 20 (by decide) q1362 (fun _ h9 => h9) rfl rfl rfl (Nat.le_of_ble_eq_true rfl) dX6_runLine_89 92 rfl ?_
        refine g_aload_n X rfl dX6_runLine_92 93 rfl ?_
        refine g_iconst X 0 dX6_runLine_93 94 rfl kI_0 ?_
        refine g_put X gC5 0 rfl 19 (by decide) q1361 (fun _ h9 => h9) rfl rfl rfl (Nat.le_of_ble_eq_true rfl) dX6_runLine_94 97 rfl ?_
        exact w_X6_runLine_97 a0 a1 a2 a3 a4 a5 a6 a7 a8 a9 a10 a11  X  r_left r_dropped r_merged r_drops r_contributions r_packet r_far r_near r_echoes _ hK54  v_savedCount v_scriptLength v_code v_lineParts v_pulseMany (v_left + w3_packet) v_dropped v_merged v_drops 0 0 v_peelResult v_peelTime v_peelSum v_at v_commands v_hash v_m v_saved v_script v_lengths v_fractions v_times v_energies v_far v_near v_echoes v_draft x1 h
theorem w_X6_runLine_32 {p : Program} {l : Launch} {e : Env} {s : State} {m : MethodId} {args : Array Value} {below : List Frame} {meth : Method} {c : Code} {Z : gZt} {A : Nat → Prop} (a0 : Nat) (a1 : Nat) (a2 : Nat) (a3 : Nat) (a4 : Nat) (a5 : Nat) (a6 : Nat) (a7 : Nat) (a8 : Nat) (a9 : Nat) (a10 : Nat) (a11 : Nat) (X : gX p s m args meth c Z A cX6_runLine "LineEchoesModel" 3 none []) (r_left : Int64) (r_dropped : Int64) (r_merged : Int32) (r_drops : Int32) (r_contributions : Int32) (r_packet : Int64) (r_far : Nat → Int64) (r_near : Nat → Int64) (r_echoes : Nat → Int64)  : ∀ (n : Nat) (v_savedCount : Int32) (v_scriptLength : Int32) (v_code : Int32) (v_lineParts : Int32) (v_pulseMany : Int32) (v_left : Int64) (v_dropped : Int64) (v_merged : Int32) (v_drops : Int32) (v_contributions : Int32) (v_packet : Int64) (v_peelResult : Int32) (v_peelTime : Int32) (v_peelSum : Int32) (v_at : Int32) (v_commands : Int32) (v_hash : Int64) (v_m : Nat → Int64) (v_saved : Nat → Int64) (v_script : Nat → Int32) (v_lengths : Nat → Int32) (v_fractions : Nat → Int32) (v_times : Nat → Int32) (v_energies : Nat → Int64) (v_far : Nat → Int64) (v_near : Nat → Int64) (v_echoes : Nat → Int64) (v_draft : Nat → Int32) (x1 : Int32), F_X6_runLine_32 n v_lineParts v_pulseMany v_left v_dropped v_merged v_drops v_contributions v_packet v_m v_lengths v_fractions v_times v_energies v_far v_near v_echoes x1 = some (r_left, r_dropped, r_merged, r_drops, r_contributions, r_packet, r_far, r_near, r_echoes) → G p l e rm_X6_runLine s m args below meth c Z A 3 (MQ below (gPost Z A (fun _ : Unit => (none : Option Value)) (fun _ : Unit => ([(a0, .inr (5, [.ref a1, .ref a2, .int v_savedCount, .ref a3, .int v_scriptLength, .int v_code, .int v_lineParts, .ref a4, .ref a5, .int v_pulseMany, .ref a6, .ref a7, .ref a8, .ref a9, .ref a10, .long r_left, .long r_dropped, .int r_merged, .int r_drops, .int r_contributions, .long r_packet, .int v_peelResult, .int v_peelTime, .int v_peelSum, .int v_at, .int v_commands, .ref a11, .long v_hash])), (a1, .inl (Z.2 1, 431, .inr (.inl v_m))), (a2, .inl (Z.2 1, 1293, .inr (.inl v_saved))), (a3, .inl (Z.2 0, 120, .inl v_script)), (a4, .inl (Z.2 0, 8, .inl v_lengths)), (a5, .inl (Z.2 0, 9, .inl v_fractions)), (a6, .inl (Z.2 0, 4, .inl v_times)), (a7, .inl (Z.2 1, 4, .inr (.inl v_energies))), (a8, .inl (Z.2 1, 1809, .inr (.inl r_far))), (a9, .inl (Z.2 1, 1809, .inr (.inl r_near))), (a10, .inl (Z.2 1, 201, .inr (.inl r_echoes))), (a11, .inl (Z.2 0, 120, .inl v_draft))] : va_W))) args s 0 0 A) [(a0, .inr (5, [.ref a1, .ref a2, .int v_savedCount, .ref a3, .int v_scriptLength, .int v_code, .int v_lineParts, .ref a4, .ref a5, .int v_pulseMany, .ref a6, .ref a7, .ref a8, .ref a9, .ref a10, .long v_left, .long v_dropped, .int v_merged, .int v_drops, .int v_contributions, .long v_packet, .int v_peelResult, .int v_peelTime, .int v_peelSum, .int v_at, .int v_commands, .ref a11, .long v_hash])), (a1, .inl (Z.2 1, 431, .inr (.inl v_m))), (a2, .inl (Z.2 1, 1293, .inr (.inl v_saved))), (a3, .inl (Z.2 0, 120, .inl v_script)), (a4, .inl (Z.2 0, 8, .inl v_lengths)), (a5, .inl (Z.2 0, 9, .inl v_fractions)), (a6, .inl (Z.2 0, 4, .inl v_times)), (a7, .inl (Z.2 1, 4, .inr (.inl v_energies))), (a8, .inl (Z.2 1, 1809, .inr (.inl v_far))), (a9, .inl (Z.2 1, 1809, .inr (.inl v_near))), (a10, .inl (Z.2 1, 201, .inr (.inl v_echoes))), (a11, .inl (Z.2 0, 120, .inl v_draft))] 0 0 32 [some (.ref a0), some (.int x1), none] [] := by
  intro n
  induction n with
  | zero =>
    intro v_savedCount v_scriptLength v_code v_lineParts v_pulseMany v_left v_dropped v_merged v_drops v_contributions v_packet v_peelResult v_peelTime v_peelSum v_at v_commands v_hash v_m v_saved v_script v_lengths v_fractions v_times v_energies v_far v_near v_echoes v_draft x1 h
    cases h
  | succ n hK32 =>
    intro v_savedCount v_scriptLength v_code v_lineParts v_pulseMany v_left v_dropped v_merged v_drops v_contributions v_packet v_peelResult v_peelTime v_peelSum v_at v_commands v_hash v_m v_saved v_script v_lengths v_fractions v_times v_energies v_far v_near v_echoes v_draft x1 h
    replace h : B_X6_runLine_32 (F_X6_runLine_32 n) v_lineParts v_pulseMany v_left v_dropped v_merged v_drops v_contributions v_packet v_m v_lengths v_fractions v_times v_energies v_far v_near v_echoes x1 = some (r_left, r_dropped, r_merged, r_drops, r_contributions, r_packet, r_far, r_near, r_echoes) := h
    unfold B_X6_runLine_32 at h
    refine g_iload_n X rfl dX6_runLine_32 33 rfl ?_
    refine g_sipush X 201 dX6_runLine_33 36 rfl kS_201 ?_
    refine g_icmp_ge X dX6_runLine_36 52 (by decide) 39 rfl (fun hc => ?_) (fun hc => ?_)
    · replace h := if_t hc h
      refine g_iconst X 0 dX6_runLine_52 53 rfl kI_0 ?_
      refine g_istore_n X dX6_runLine_53 54 rfl (Nat.le_of_ble_eq_true rfl) rfl [some (.ref a0), some (.int 0), none] rfl ?_
      exact w_X6_runLine_54 a0 a1 a2 a3 a4 a5 a6 a7 a8 a9 a10 a11  X  r_left r_dropped r_merged r_drops r_contributions r_packet r_far r_near r_echoes    gFU v_savedCount v_scriptLength v_code v_lineParts v_pulseMany v_left v_dropped v_merged v_drops v_contributions v_packet v_peelResult v_peelTime v_peelSum v_at v_commands v_hash v_m v_saved v_script v_lengths v_fractions v_times v_energies v_far v_near v_echoes v_draft 0 h
    · replace h := if_f hc h
      refine g_aload_n X rfl dX6_runLine_39 40 rfl ?_
      refine g_get X gC5 0 rfl 14 (by decide) q1356 (fun _ h9 => h9) rfl dX6_runLine_40 43 rfl ?_
      refine g_iload_n X rfl dX6_runLine_43 44 rfl ?_
      refine g_lconst X 0 dX6_runLine_44 45 rfl rfl ?_
      obtain ⟨hi, h⟩ := gin_e h
      refine g_last X 10 rfl hi dX6_runLine_45 46 rfl ?_
      refine g_iinc X 1 rfl dX6_runLine_46 49 rfl kI_1 (Nat.le_of_ble_eq_true rfl) rfl [some (.ref a0), some (.int (x1 + 1)), none] rfl ?_
      refine g_goto X dX6_runLine_49 32 (by decide) ?_
      exact hK32 v_savedCount v_scriptLength v_code v_lineParts v_pulseMany v_left v_dropped v_merged v_drops v_contributions v_packet v_peelResult v_peelTime v_peelSum v_at v_commands v_hash v_m v_saved v_script v_lengths v_fractions v_times v_energies v_far v_near (vp_updL v_echoes x1.toNatClampNeg 0) v_draft (x1 + 1) h
theorem met_X6_runLine (l : Launch) (Z : gZt) (a0 : Nat) (a1 : Nat) (a2 : Nat) (a3 : Nat) (a4 : Nat) (a5 : Nat) (a6 : Nat) (a7 : Nat) (a8 : Nat) (a9 : Nat) (a10 : Nat) (a11 : Nat) (v_savedCount : Int32) (v_scriptLength : Int32) (v_code : Int32) (v_lineParts : Int32) (v_pulseMany : Int32) (v_left : Int64) (v_dropped : Int64) (v_merged : Int32) (v_drops : Int32) (v_contributions : Int32) (v_packet : Int64) (v_peelResult : Int32) (v_peelTime : Int32) (v_peelSum : Int32) (v_at : Int32) (v_commands : Int32) (v_hash : Int64) (v_m : Nat → Int64) (v_saved : Nat → Int64) (v_script : Nat → Int32) (v_lengths : Nat → Int32) (v_fractions : Nat → Int32) (v_times : Nat → Int32) (v_energies : Nat → Int64) (v_far : Nat → Int64) (v_near : Nat → Int64) (v_echoes : Nat → Int64) (v_draft : Nat → Int32) (r_left : Int64) (r_dropped : Int64) (r_merged : Int32) (r_drops : Int32) (r_contributions : Int32) (r_packet : Int64) (r_far : Nat → Int64) (r_near : Nat → Int64) (r_echoes : Nat → Int64) (h : F_X6_runLine v_lineParts v_pulseMany v_m v_lengths v_fractions v_times v_energies v_far v_near v_echoes = some (r_left, r_dropped, r_merged, r_drops, r_contributions, r_packet, r_far, r_near, r_echoes)) : Ct l yX6_runLine (ws_ yX6_runLine cX6_runLine 3 none) rm_X6_runLine Z [.ref a0] [(a0, .inr (5, [.ref a1, .ref a2, .int v_savedCount, .ref a3, .int v_scriptLength, .int v_code, .int v_lineParts, .ref a4, .ref a5, .int v_pulseMany, .ref a6, .ref a7, .ref a8, .ref a9, .ref a10, .long v_left, .long v_dropped, .int v_merged, .int v_drops, .int v_contributions, .long v_packet, .int v_peelResult, .int v_peelTime, .int v_peelSum, .int v_at, .int v_commands, .ref a11, .long v_hash])), (a1, .inl (Z.2 1, 431, .inr (.inl v_m))), (a2, .inl (Z.2 1, 1293, .inr (.inl v_saved))), (a3, .inl (Z.2 0, 120, .inl v_script)), (a4, .inl (Z.2 0, 8, .inl v_lengths)), (a5, .inl (Z.2 0, 9, .inl v_fractions)), (a6, .inl (Z.2 0, 4, .inl v_times)), (a7, .inl (Z.2 1, 4, .inr (.inl v_energies))), (a8, .inl (Z.2 1, 1809, .inr (.inl v_far))), (a9, .inl (Z.2 1, 1809, .inr (.inl v_near))), (a10, .inl (Z.2 1, 201, .inr (.inl v_echoes))), (a11, .inl (Z.2 0, 120, .inl v_draft))] [] (fun _ : Unit => (none : Option Value)) (fun _ : Unit => ([(a0, .inr (5, [.ref a1, .ref a2, .int v_savedCount, .ref a3, .int v_scriptLength, .int v_code, .int v_lineParts, .ref a4, .ref a5, .int v_pulseMany, .ref a6, .ref a7, .ref a8, .ref a9, .ref a10, .long r_left, .long r_dropped, .int r_merged, .int r_drops, .int r_contributions, .long r_packet, .int v_peelResult, .int v_peelTime, .int v_peelSum, .int v_at, .int v_commands, .ref a11, .long v_hash])), (a1, .inl (Z.2 1, 431, .inr (.inl v_m))), (a2, .inl (Z.2 1, 1293, .inr (.inl v_saved))), (a3, .inl (Z.2 0, 120, .inl v_script)), (a4, .inl (Z.2 0, 8, .inl v_lengths)), (a5, .inl (Z.2 0, 9, .inl v_fractions)), (a6, .inl (Z.2 0, 4, .inl v_times)), (a7, .inl (Z.2 1, 4, .inr (.inl v_energies))), (a8, .inl (Z.2 1, 1809, .inr (.inl r_far))), (a9, .inl (Z.2 1, 1809, .inr (.inl r_near))), (a10, .inl (Z.2 1, 201, .inr (.inl r_echoes))), (a11, .inl (Z.2 0, 120, .inl v_draft))] : va_W)) := by
  refine Ct.of cX6_runLine 3 none "LineEchoesModel" [some (.ref a0), none, none] 2 (by decide) rfl (Nat.le_of_ble_eq_true rfl) rfl (fun p e s m args below meth c A X hin => ?_)
  unfold F_X6_runLine at h
  refine g_aload_n X rfl dX6_runLine_0 1 rfl ?_
  refine g_lconst X 0 dX6_runLine_1 2 rfl rfl ?_
  refine g_put X gC5 0 rfl 15 (by decide) q1357 (fun _ h9 => h9) rfl rfl rfl (Nat.le_of_ble_eq_true rfl) dX6_runLine_2 5 rfl ?_
  refine g_aload_n X rfl dX6_runLine_5 6 rfl ?_
  refine g_lconst X 0 dX6_runLine_6 7 rfl rfl ?_
  refine g_put X gC5 0 rfl 16 (by decide) q1358 (fun _ h9 => h9) rfl rfl rfl (Nat.le_of_ble_eq_true rfl) dX6_runLine_7 10 rfl ?_
  refine g_aload_n X rfl dX6_runLine_10 11 rfl ?_
  refine g_iconst X 0 dX6_runLine_11 12 rfl kI_0 ?_
  refine g_put X gC5 0 rfl 17 (by decide) q1359 (fun _ h9 => h9) rfl rfl rfl (Nat.le_of_ble_eq_true rfl) dX6_runLine_12 15 rfl ?_
  refine g_aload_n X rfl dX6_runLine_15 16 rfl ?_
  refine g_iconst X 0 dX6_runLine_16 17 rfl kI_0 ?_
  refine g_put X gC5 0 rfl 18 (by decide) q1360 (fun _ h9 => h9) rfl rfl rfl (Nat.le_of_ble_eq_true rfl) dX6_runLine_17 20 rfl ?_
  refine g_aload_n X rfl dX6_runLine_20 21 rfl ?_
  refine g_iconst X 0 dX6_runLine_21 22 rfl kI_0 ?_
  refine g_put X gC5 0 rfl 19 (by decide) q1361 (fun _ h9 => h9) rfl rfl rfl (Nat.le_of_ble_eq_true rfl) dX6_runLine_22 25 rfl ?_
  refine g_wd [(a0, .inr (5, [.ref a1, .ref a2, .int v_savedCount, .ref a3, .int v_scriptLength, .int v_code, .int v_lineParts, .ref a4, .ref a5, .int v_pulseMany, .ref a6, .ref a7, .ref a8, .ref a9, .ref a10, .long 0, .long 0, .int 0, .int 0, .int 0, .long v_packet, .int v_peelResult, .int v_peelTime, .int v_peelSum, .int v_at, .int v_commands, .ref a11, .long v_hash])), (a1, .inl (Z.2 1, 431, .inr (.inl v_m))), (a2, .inl (Z.2 1, 1293, .inr (.inl v_saved))), (a3, .inl (Z.2 0, 120, .inl v_script)), (a4, .inl (Z.2 0, 8, .inl v_lengths)), (a5, .inl (Z.2 0, 9, .inl v_fractions)), (a6, .inl (Z.2 0, 4, .inl v_times)), (a7, .inl (Z.2 1, 4, .inr (.inl v_energies))), (a8, .inl (Z.2 1, 1809, .inr (.inl v_far))), (a9, .inl (Z.2 1, 1809, .inr (.inl v_near))), (a10, .inl (Z.2 1, 201, .inr (.inl v_echoes))), (a11, .inl (Z.2 0, 120, .inl v_draft))] rfl ?_
  refine g_aload_n X rfl dX6_runLine_25 26 rfl ?_
  refine g_lconst X 0 dX6_runLine_26 27 rfl rfl ?_
  refine g_put X gC5 0 rfl 20 (by decide) q1362 (fun _ h9 => h9) rfl rfl rfl (Nat.le_of_ble_eq_true rfl) dX6_runLine_27 30 rfl ?_
  refine g_iconst X 0 dX6_runLine_30 31 rfl kI_0 ?_
  refine g_istore_n X dX6_runLine_31 32 rfl (Nat.le_of_ble_eq_true rfl) rfl [some (.ref a0), some (.int 0), none] rfl ?_
  exact w_X6_runLine_32 a0 a1 a2 a3 a4 a5 a6 a7 a8 a9 a10 a11  X  r_left r_dropped r_merged r_drops r_contributions r_packet r_far r_near r_echoes    gFU v_savedCount v_scriptLength v_code v_lineParts v_pulseMany 0 0 0 0 0 0 v_peelResult v_peelTime v_peelSum v_at v_commands v_hash v_m v_saved v_script v_lengths v_fractions v_times v_energies v_far v_near v_echoes v_draft 0 h
/-! LineEchoesModel.runPresent()V -/
abbrev rm_X6_runPresent : Room := { frames := 4, cells := 0, slots := 0, locals := 96 }
def B_X6_runPresent_85 (K85 : (Int32) → (Int32) → (Nat → Int64) → (Nat → Int32) → (Nat → Int32) → (Nat → Int32) → (Nat → Int64) → (Nat → Int64) → (Nat → Int64) → (Nat → Int64) → (Int32) → Option (Int32 × Int32 × Int64 × Int64 × Int32 × Int32 × Int32 × Int64 × (Nat → Int32) × (Nat → Int32) × (Nat → Int32) × (Nat → Int64) × (Nat → Int64) × (Nat → Int64) × (Nat → Int64))) (v_lineParts : Int32) (v_pulseMany : Int32) (v_m : Nat → Int64) (v_lengths : Nat → Int32) (v_fractions : Nat → Int32) (v_times : Nat → Int32) (v_energies : Nat → Int64) (v_far : Nat → Int64) (v_near : Nat → Int64) (v_echoes : Nat → Int64) (x1 : Int32) : Option (Int32 × Int32 × Int64 × Int64 × Int32 × Int32 × Int32 × Int64 × (Nat → Int32) × (Nat → Int32) × (Nat → Int32) × (Nat → Int64) × (Nat → Int64) × (Nat → Int64) × (Nat → Int64)) :=
  if v_pulseMany ≤ x1 then
    (bd9 (F_X6_runLine v_lineParts v_pulseMany v_m v_lengths v_fractions v_times v_energies v_far v_near v_echoes) fun w1_left w2_dropped w3_merged w4_drops w5_contributions w6_packet w7_far w8_near w9_echoes =>
    some (v_lineParts, v_pulseMany, w1_left, w2_dropped, w3_merged, w4_drops, w5_contributions, w6_packet, v_lengths, v_fractions, v_times, v_energies, w7_far, w8_near, w9_echoes))
  else
    (gin (21 + (2 * x1)) 431 <|
    nm ((v_m (21 + (2 * x1)).toNatClampNeg).toInt32) fun t10 =>
    gin x1 4 <|
    gin ((21 + (2 * x1)) + 1) 431 <|
    nm (v_m ((21 + (2 * x1)) + 1).toNatClampNeg) fun t11 =>
    gin x1 4 <|
    K85 v_lineParts v_pulseMany v_m v_lengths v_fractions (upd v_times x1.toNatClampNeg t10) (vp_updL v_energies x1.toNatClampNeg t11) v_far v_near v_echoes (x1 + 1))
def F_X6_runPresent_85 : Nat → (Int32) → (Int32) → (Nat → Int64) → (Nat → Int32) → (Nat → Int32) → (Nat → Int32) → (Nat → Int64) → (Nat → Int64) → (Nat → Int64) → (Nat → Int64) → (Int32) → Option (Int32 × Int32 × Int64 × Int64 × Int32 × Int32 × Int32 × Int64 × (Nat → Int32) × (Nat → Int32) × (Nat → Int32) × (Nat → Int64) × (Nat → Int64) × (Nat → Int64) × (Nat → Int64))
  | 0 => fun _ _ _ _ _ _ _ _ _ _ _ => none
  | n + 1 => B_X6_runPresent_85 (F_X6_runPresent_85 n)
def B_X6_runPresent_24 (K24 : (Int32) → (Nat → Int64) → (Nat → Int32) → (Nat → Int32) → (Nat → Int32) → (Nat → Int64) → (Nat → Int64) → (Nat → Int64) → (Nat → Int64) → (Int32) → Option (Int32 × Int32 × Int64 × Int64 × Int32 × Int32 × Int32 × Int64 × (Nat → Int32) × (Nat → Int32) × (Nat → Int32) × (Nat → Int64) × (Nat → Int64) × (Nat → Int64) × (Nat → Int64))) (v_lineParts : Int32) (v_m : Nat → Int64) (v_lengths : Nat → Int32) (v_fractions : Nat → Int32) (v_times : Nat → Int32) (v_energies : Nat → Int64) (v_far : Nat → Int64) (v_near : Nat → Int64) (v_echoes : Nat → Int64) (x1 : Int32) : Option (Int32 × Int32 × Int64 × Int64 × Int32 × Int32 × Int32 × Int64 × (Nat → Int32) × (Nat → Int32) × (Nat → Int32) × (Nat → Int64) × (Nat → Int64) × (Nat → Int64) × (Nat → Int64)) :=
  if v_lineParts ≤ x1 then
    (gin 20 431 <|
    nm ((v_m (Int32.toNatClampNeg 20)).toInt32) fun t1 =>
    F_X6_runPresent_85 gFU v_lineParts t1 v_m v_lengths v_fractions v_times v_energies v_far v_near v_echoes 0)
  else
    (gin (1 + x1) 431 <|
    nm ((v_m (1 + x1).toNatClampNeg).toInt32) fun t2 =>
    gin x1 8 <|
    gin (9 + x1) 431 <|
    nm ((v_m (9 + x1).toNatClampNeg).toInt32) fun t3 =>
    gin (x1 + 1) 9 <|
    K24 v_lineParts v_m (upd v_lengths x1.toNatClampNeg t2) (upd v_fractions (x1 + 1).toNatClampNeg t3) v_times v_energies v_far v_near v_echoes (x1 + 1))
def F_X6_runPresent_24 : Nat → (Int32) → (Nat → Int64) → (Nat → Int32) → (Nat → Int32) → (Nat → Int32) → (Nat → Int64) → (Nat → Int64) → (Nat → Int64) → (Nat → Int64) → (Int32) → Option (Int32 × Int32 × Int64 × Int64 × Int32 × Int32 × Int32 × Int64 × (Nat → Int32) × (Nat → Int32) × (Nat → Int32) × (Nat → Int64) × (Nat → Int64) × (Nat → Int64) × (Nat → Int64))
  | 0 => fun _ _ _ _ _ _ _ _ _ _ => none
  | n + 1 => B_X6_runPresent_24 (F_X6_runPresent_24 n)
def F_X6_runPresent (v_m : Nat → Int64) (v_lengths : Nat → Int32) (v_fractions : Nat → Int32) (v_times : Nat → Int32) (v_energies : Nat → Int64) (v_far : Nat → Int64) (v_near : Nat → Int64) (v_echoes : Nat → Int64) : Option (Int32 × Int32 × Int64 × Int64 × Int32 × Int32 × Int32 × Int64 × (Nat → Int32) × (Nat → Int32) × (Nat → Int32) × (Nat → Int64) × (Nat → Int64) × (Nat → Int64) × (Nat → Int64)) :=
  bd1 (F_X6_parts v_m) fun r1 =>
  gin 17 431 <|
  nm ((v_m (Int32.toNatClampNeg 17)).toInt32) fun t2 =>
  gin 0 9 <|
  F_X6_runPresent_24 gFU r1 v_m v_lengths (upd v_fractions (Int32.toNatClampNeg 0) t2) v_times v_energies v_far v_near v_echoes 0
theorem w_X6_runPresent_85 {p : Program} {l : Launch} {e : Env} {s : State} {m : MethodId} {args : Array Value} {below : List Frame} {meth : Method} {c : Code} {Z : gZt} {A : Nat → Prop} (a0 : Nat) (a1 : Nat) (a2 : Nat) (a3 : Nat) (a4 : Nat) (a5 : Nat) (a6 : Nat) (a7 : Nat) (a8 : Nat) (a9 : Nat) (a10 : Nat) (a11 : Nat) (X : gX p s m args meth c Z A cX6_runPresent "LineEchoesModel" 2 none []) (r_lineParts : Int32) (r_pulseMany : Int32) (r_left : Int64) (r_dropped : Int64) (r_merged : Int32) (r_drops : Int32) (r_contributions : Int32) (r_packet : Int64) (r_lengths : Nat → Int32) (r_fractions : Nat → Int32) (r_times : Nat → Int32) (r_energies : Nat → Int64) (r_far : Nat → Int64) (r_near : Nat → Int64) (r_echoes : Nat → Int64)  : ∀ (n : Nat) (v_savedCount : Int32) (v_scriptLength : Int32) (v_code : Int32) (v_lineParts : Int32) (v_pulseMany : Int32) (v_left : Int64) (v_dropped : Int64) (v_merged : Int32) (v_drops : Int32) (v_contributions : Int32) (v_packet : Int64) (v_peelResult : Int32) (v_peelTime : Int32) (v_peelSum : Int32) (v_at : Int32) (v_commands : Int32) (v_hash : Int64) (v_m : Nat → Int64) (v_saved : Nat → Int64) (v_script : Nat → Int32) (v_lengths : Nat → Int32) (v_fractions : Nat → Int32) (v_times : Nat → Int32) (v_energies : Nat → Int64) (v_far : Nat → Int64) (v_near : Nat → Int64) (v_echoes : Nat → Int64) (v_draft : Nat → Int32) (x1 : Int32), F_X6_runPresent_85 n v_lineParts v_pulseMany v_m v_lengths v_fractions v_times v_energies v_far v_near v_echoes x1 = some (r_lineParts, r_pulseMany, r_left, r_dropped, r_merged, r_drops, r_contributions, r_packet, r_lengths, r_fractions, r_times, r_energies, r_far, r_near, r_echoes) → G p l e rm_X6_runPresent s m args below meth c Z A 2 (MQ below (gPost Z A (fun _ : Unit => (none : Option Value)) (fun _ : Unit => ([(a0, .inr (5, [.ref a1, .ref a2, .int v_savedCount, .ref a3, .int v_scriptLength, .int v_code, .int r_lineParts, .ref a4, .ref a5, .int r_pulseMany, .ref a6, .ref a7, .ref a8, .ref a9, .ref a10, .long r_left, .long r_dropped, .int r_merged, .int r_drops, .int r_contributions, .long r_packet, .int v_peelResult, .int v_peelTime, .int v_peelSum, .int v_at, .int v_commands, .ref a11, .long v_hash])), (a1, .inl (Z.2 1, 431, .inr (.inl v_m))), (a2, .inl (Z.2 1, 1293, .inr (.inl v_saved))), (a3, .inl (Z.2 0, 120, .inl v_script)), (a4, .inl (Z.2 0, 8, .inl r_lengths)), (a5, .inl (Z.2 0, 9, .inl r_fractions)), (a6, .inl (Z.2 0, 4, .inl r_times)), (a7, .inl (Z.2 1, 4, .inr (.inl r_energies))), (a8, .inl (Z.2 1, 1809, .inr (.inl r_far))), (a9, .inl (Z.2 1, 1809, .inr (.inl r_near))), (a10, .inl (Z.2 1, 201, .inr (.inl r_echoes))), (a11, .inl (Z.2 0, 120, .inl v_draft))] : va_W))) args s 0 0 A) [(a0, .inr (5, [.ref a1, .ref a2, .int v_savedCount, .ref a3, .int v_scriptLength, .int v_code, .int v_lineParts, .ref a4, .ref a5, .int v_pulseMany, .ref a6, .ref a7, .ref a8, .ref a9, .ref a10, .long v_left, .long v_dropped, .int v_merged, .int v_drops, .int v_contributions, .long v_packet, .int v_peelResult, .int v_peelTime, .int v_peelSum, .int v_at, .int v_commands, .ref a11, .long v_hash])), (a1, .inl (Z.2 1, 431, .inr (.inl v_m))), (a2, .inl (Z.2 1, 1293, .inr (.inl v_saved))), (a3, .inl (Z.2 0, 120, .inl v_script)), (a4, .inl (Z.2 0, 8, .inl v_lengths)), (a5, .inl (Z.2 0, 9, .inl v_fractions)), (a6, .inl (Z.2 0, 4, .inl v_times)), (a7, .inl (Z.2 1, 4, .inr (.inl v_energies))), (a8, .inl (Z.2 1, 1809, .inr (.inl v_far))), (a9, .inl (Z.2 1, 1809, .inr (.inl v_near))), (a10, .inl (Z.2 1, 201, .inr (.inl v_echoes))), (a11, .inl (Z.2 0, 120, .inl v_draft))] 0 0 85 [some (.ref a0), some (.int x1)] [] := by
  intro n
  induction n with
  | zero =>
    intro v_savedCount v_scriptLength v_code v_lineParts v_pulseMany v_left v_dropped v_merged v_drops v_contributions v_packet v_peelResult v_peelTime v_peelSum v_at v_commands v_hash v_m v_saved v_script v_lengths v_fractions v_times v_energies v_far v_near v_echoes v_draft x1 h
    cases h
  | succ n hK85 =>
    intro v_savedCount v_scriptLength v_code v_lineParts v_pulseMany v_left v_dropped v_merged v_drops v_contributions v_packet v_peelResult v_peelTime v_peelSum v_at v_commands v_hash v_m v_saved v_script v_lengths v_fractions v_times v_energies v_far v_near v_echoes v_draft x1 h
    replace h : B_X6_runPresent_85 (F_X6_runPresent_85 n) v_lineParts v_pulseMany v_m v_lengths v_fractions v_times v_energies v_far v_near v_echoes x1 = some (r_lineParts, r_pulseMany, r_left, r_dropped, r_merged, r_drops, r_contributions, r_packet, r_lengths, r_fractions, r_times, r_energies, r_far, r_near, r_echoes) := h
    unfold B_X6_runPresent_85 at h
    refine g_iload_n X rfl dX6_runPresent_85 86 rfl ?_
    refine g_aload_n X rfl dX6_runPresent_86 87 rfl ?_
    refine g_get X gC5 0 rfl 9 (by decide) q1351 (fun _ h9 => h9) rfl dX6_runPresent_87 90 rfl ?_
    refine g_icmp_ge X dX6_runPresent_90 136 (by decide) 93 rfl (fun hc => ?_) (fun hc => ?_)
    · replace h := if_t hc h
      refine g_aload_n X rfl dX6_runPresent_136 137 rfl ?_
      obtain ⟨w1_left, w2_dropped, w3_merged, w4_drops, w5_contributions, w6_packet, w7_far, w8_near, w9_echoes, hcl, h⟩ := bd9_e h
      refine g_callV0W X (met_X6_runLine l Z a0 a1 a2 a3 a4 a5 a6 a7 a8 a9 a10 a11 v_savedCount v_scriptLength v_code v_lineParts v_pulseMany v_left v_dropped v_merged v_drops v_contributions v_packet v_peelResult v_peelTime v_peelSum v_at v_commands v_hash v_m v_saved v_script v_lengths v_fractions v_times v_energies v_far v_near v_echoes v_draft  w1_left w2_dropped w3_merged w4_drops w5_contributions w6_packet w7_far w8_near w9_echoes hcl) rfl 0 gC5 rfl rfl (lw_V q1566 q1568 qs40 q74 q1569) md_X6_runLine ⟨(Nat.le_of_ble_eq_true rfl), (Nat.le_of_ble_eq_true rfl)⟩ rfl dX6_runPresent_137 140 rfl 0 0 rfl rfl (Nat.le_of_ble_eq_true rfl) (Nat.le_of_ble_eq_true rfl) (st := []) rfl (Nat.le_of_ble_eq_true rfl) (fun _ => rfl) (fun _ => ?_)
      obtain ⟨rfl, rfl, rfl, rfl, rfl, rfl, rfl, rfl, rfl, rfl, rfl, rfl, rfl, rfl, rfl⟩ := rt15 h
      exact g_vret X dX6_runPresent_140 () rfl rfl (Nat.le_of_ble_eq_true rfl) (Nat.le_of_ble_eq_true rfl)
    · replace h := if_f hc h
      refine g_aload_n X rfl dX6_runPresent_93 94 rfl ?_
      refine g_get X gC5 0 rfl 10 (by decide) q1352 (fun _ h9 => h9) rfl dX6_runPresent_94 97 rfl ?_
      refine g_iload_n X rfl dX6_runPresent_97 98 rfl ?_
      refine g_aload_n X rfl dX6_runPresent_98 99 rfl ?_
      refine g_get X gC5 0 rfl 0 (by decide) q1342 (fun _ h9 => h9) rfl dX6_runPresent_99 102 rfl ?_
      refine g_bipush X 21 dX6_runPresent_102 104 rfl kB_21 ?_
      refine g_iconst X 2 dX6_runPresent_104 105 rfl kI_2 ?_
      refine g_iload_n X rfl dX6_runPresent_105 106 rfl ?_
      refine g_imul X dX6_runPresent_106 107 rfl ?_
      refine g_iadd X dX6_runPresent_107 108 rfl ?_
      obtain ⟨hi, h⟩ := gin_e h
      refine g_lald X 1 rfl hi dX6_runPresent_108 109 rfl ?_
      refine g_l2i X dX6_runPresent_109 110 rfl ?_
      refine g_topi (fun t10 et10 => ?_)
      replace h := nm_at et10 h
      obtain ⟨hi, h⟩ := gin_e h
      refine g_iast X 6 rfl hi dX6_runPresent_110 111 rfl ?_
      refine g_aload_n X rfl dX6_runPresent_111 112 rfl ?_
      refine g_get X gC5 0 rfl 11 (by decide) q1353 (fun _ h9 => h9) rfl dX6_runPresent_112 115 rfl ?_
      refine g_iload_n X rfl dX6_runPresent_115 116 rfl ?_
      refine g_aload_n X rfl dX6_runPresent_116 117 rfl ?_
      refine g_get X gC5 0 rfl 0 (by decide) q1342 (fun _ h9 => h9) rfl dX6_runPresent_117 120 rfl ?_
      refine g_bipush X 21 dX6_runPresent_120 122 rfl kB_21 ?_
      refine g_iconst X 2 dX6_runPresent_122 123 rfl kI_2 ?_
      refine g_iload_n X rfl dX6_runPresent_123 124 rfl ?_
      refine g_imul X dX6_runPresent_124 125 rfl ?_
      refine g_iadd X dX6_runPresent_125 126 rfl ?_
      refine g_iconst X 1 dX6_runPresent_126 127 rfl kI_1 ?_
      refine g_iadd X dX6_runPresent_127 128 rfl ?_
      obtain ⟨hi, h⟩ := gin_e h
      refine g_lald X 1 rfl hi dX6_runPresent_128 129 rfl ?_
      refine g_topl (fun t11 et11 => ?_)
      replace h := nm_at et11 h
      obtain ⟨hi, h⟩ := gin_e h
      refine g_last X 7 rfl hi dX6_runPresent_129 130 rfl ?_
      refine g_wd [(a0, .inr (5, [.ref a1, .ref a2, .int v_savedCount, .ref a3, .int v_scriptLength, .int v_code, .int v_lineParts, .ref a4, .ref a5, .int v_pulseMany, .ref a6, .ref a7, .ref a8, .ref a9, .ref a10, .long v_left, .long v_dropped, .int v_merged, .int v_drops, .int v_contributions, .long v_packet, .int v_peelResult, .int v_peelTime, .int v_peelSum, .int v_at, .int v_commands, .ref a11, .long v_hash])), (a1, .inl (Z.2 1, 431, .inr (.inl v_m))), (a2, .inl (Z.2 1, 1293, .inr (.inl v_saved))), (a3, .inl (Z.2 0, 120, .inl v_script)), (a4, .inl (Z.2 0, 8, .inl v_lengths)), (a5, .inl (Z.2 0, 9, .inl v_fractions)), (a6, .inl (Z.2 0, 4, .inl (upd v_times x1.toNatClampNeg t10))), (a7, .inl (Z.2 1, 4, .inr (.inl (vp_updL v_energies x1.toNatClampNeg t11)))), (a8, .inl (Z.2 1, 1809, .inr (.inl v_far))), (a9, .inl (Z.2 1, 1809, .inr (.inl v_near))), (a10, .inl (Z.2 1, 201, .inr (.inl v_echoes))), (a11, .inl (Z.2 0, 120, .inl v_draft))] rfl ?_
      refine g_iinc X 1 rfl dX6_runPresent_130 133 rfl kI_1 (Nat.le_of_ble_eq_true rfl) rfl [some (.ref a0), some (.int (x1 + 1))] rfl ?_
      refine g_goto X dX6_runPresent_133 85 (by decide) ?_
      exact hK85 v_savedCount v_scriptLength v_code v_lineParts v_pulseMany v_left v_dropped v_merged v_drops v_contributions v_packet v_peelResult v_peelTime v_peelSum v_at v_commands v_hash v_m v_saved v_script v_lengths v_fractions (upd v_times x1.toNatClampNeg t10) (vp_updL v_energies x1.toNatClampNeg t11) v_far v_near v_echoes v_draft (x1 + 1) h
theorem w_X6_runPresent_24 {p : Program} {l : Launch} {e : Env} {s : State} {m : MethodId} {args : Array Value} {below : List Frame} {meth : Method} {c : Code} {Z : gZt} {A : Nat → Prop} (a0 : Nat) (a1 : Nat) (a2 : Nat) (a3 : Nat) (a4 : Nat) (a5 : Nat) (a6 : Nat) (a7 : Nat) (a8 : Nat) (a9 : Nat) (a10 : Nat) (a11 : Nat) (X : gX p s m args meth c Z A cX6_runPresent "LineEchoesModel" 2 none []) (r_lineParts : Int32) (r_pulseMany : Int32) (r_left : Int64) (r_dropped : Int64) (r_merged : Int32) (r_drops : Int32) (r_contributions : Int32) (r_packet : Int64) (r_lengths : Nat → Int32) (r_fractions : Nat → Int32) (r_times : Nat → Int32) (r_energies : Nat → Int64) (r_far : Nat → Int64) (r_near : Nat → Int64) (r_echoes : Nat → Int64)  : ∀ (n : Nat) (v_savedCount : Int32) (v_scriptLength : Int32) (v_code : Int32) (v_lineParts : Int32) (v_pulseMany : Int32) (v_left : Int64) (v_dropped : Int64) (v_merged : Int32) (v_drops : Int32) (v_contributions : Int32) (v_packet : Int64) (v_peelResult : Int32) (v_peelTime : Int32) (v_peelSum : Int32) (v_at : Int32) (v_commands : Int32) (v_hash : Int64) (v_m : Nat → Int64) (v_saved : Nat → Int64) (v_script : Nat → Int32) (v_lengths : Nat → Int32) (v_fractions : Nat → Int32) (v_times : Nat → Int32) (v_energies : Nat → Int64) (v_far : Nat → Int64) (v_near : Nat → Int64) (v_echoes : Nat → Int64) (v_draft : Nat → Int32) (x1 : Int32), F_X6_runPresent_24 n v_lineParts v_m v_lengths v_fractions v_times v_energies v_far v_near v_echoes x1 = some (r_lineParts, r_pulseMany, r_left, r_dropped, r_merged, r_drops, r_contributions, r_packet, r_lengths, r_fractions, r_times, r_energies, r_far, r_near, r_echoes) → G p l e rm_X6_runPresent s m args below meth c Z A 2 (MQ below (gPost Z A (fun _ : Unit => (none : Option Value)) (fun _ : Unit => ([(a0, .inr (5, [.ref a1, .ref a2, .int v_savedCount, .ref a3, .int v_scriptLength, .int v_code, .int r_lineParts, .ref a4, .ref a5, .int r_pulseMany, .ref a6, .ref a7, .ref a8, .ref a9, .ref a10, .long r_left, .long r_dropped, .int r_merged, .int r_drops, .int r_contributions, .long r_packet, .int v_peelResult, .int v_peelTime, .int v_peelSum, .int v_at, .int v_commands, .ref a11, .long v_hash])), (a1, .inl (Z.2 1, 431, .inr (.inl v_m))), (a2, .inl (Z.2 1, 1293, .inr (.inl v_saved))), (a3, .inl (Z.2 0, 120, .inl v_script)), (a4, .inl (Z.2 0, 8, .inl r_lengths)), (a5, .inl (Z.2 0, 9, .inl r_fractions)), (a6, .inl (Z.2 0, 4, .inl r_times)), (a7, .inl (Z.2 1, 4, .inr (.inl r_energies))), (a8, .inl (Z.2 1, 1809, .inr (.inl r_far))), (a9, .inl (Z.2 1, 1809, .inr (.inl r_near))), (a10, .inl (Z.2 1, 201, .inr (.inl r_echoes))), (a11, .inl (Z.2 0, 120, .inl v_draft))] : va_W))) args s 0 0 A) [(a0, .inr (5, [.ref a1, .ref a2, .int v_savedCount, .ref a3, .int v_scriptLength, .int v_code, .int v_lineParts, .ref a4, .ref a5, .int v_pulseMany, .ref a6, .ref a7, .ref a8, .ref a9, .ref a10, .long v_left, .long v_dropped, .int v_merged, .int v_drops, .int v_contributions, .long v_packet, .int v_peelResult, .int v_peelTime, .int v_peelSum, .int v_at, .int v_commands, .ref a11, .long v_hash])), (a1, .inl (Z.2 1, 431, .inr (.inl v_m))), (a2, .inl (Z.2 1, 1293, .inr (.inl v_saved))), (a3, .inl (Z.2 0, 120, .inl v_script)), (a4, .inl (Z.2 0, 8, .inl v_lengths)), (a5, .inl (Z.2 0, 9, .inl v_fractions)), (a6, .inl (Z.2 0, 4, .inl v_times)), (a7, .inl (Z.2 1, 4, .inr (.inl v_energies))), (a8, .inl (Z.2 1, 1809, .inr (.inl v_far))), (a9, .inl (Z.2 1, 1809, .inr (.inl v_near))), (a10, .inl (Z.2 1, 201, .inr (.inl v_echoes))), (a11, .inl (Z.2 0, 120, .inl v_draft))] 0 0 24 [some (.ref a0), some (.int x1)] [] := by
  intro n
  induction n with
  | zero =>
    intro v_savedCount v_scriptLength v_code v_lineParts v_pulseMany v_left v_dropped v_merged v_drops v_contributions v_packet v_peelResult v_peelTime v_peelSum v_at v_commands v_hash v_m v_saved v_script v_lengths v_fractions v_times v_energies v_far v_near v_echoes v_draft x1 h
    cases h
  | succ n hK24 =>
    intro v_savedCount v_scriptLength v_code v_lineParts v_pulseMany v_left v_dropped v_merged v_drops v_contributions v_packet v_peelResult v_peelTime v_peelSum v_at v_commands v_hash v_m v_saved v_script v_lengths v_fractions v_times v_energies v_far v_near v_echoes v_draft x1 h
    replace h : B_X6_runPresent_24 (F_X6_runPresent_24 n) v_lineParts v_m v_lengths v_fractions v_times v_energies v_far v_near v_echoes x1 = some (r_lineParts, r_pulseMany, r_left, r_dropped, r_merged, r_drops, r_contributions, r_packet, r_lengths, r_fractions, r_times, r_energies, r_far, r_near, r_echoes) := h
    unfold B_X6_runPresent_24 at h
    refine g_iload_n X rfl dX6_runPresent_24 25 rfl ?_
    refine g_aload_n X rfl dX6_runPresent_25 26 rfl ?_
    refine g_get X gC5 0 rfl 6 (by decide) q1348 (fun _ h9 => h9) rfl dX6_runPresent_26 29 rfl ?_
    refine g_icmp_ge X dX6_runPresent_29 71 (by decide) 32 rfl (fun hc => ?_) (fun hc => ?_)
    · replace h := if_t hc h
      refine g_aload_n X rfl dX6_runPresent_71 72 rfl ?_
      refine g_aload_n X rfl dX6_runPresent_72 73 rfl ?_
      refine g_get X gC5 0 rfl 0 (by decide) q1342 (fun _ h9 => h9) rfl dX6_runPresent_73 76 rfl ?_
      refine g_bipush X 20 dX6_runPresent_76 78 rfl kB_20 ?_
      obtain ⟨hi, h⟩ := gin_e h
      refine g_lald X 1 rfl hi dX6_runPresent_78 79 rfl ?_
      refine g_l2i X dX6_runPresent_79 80 rfl ?_
      refine g_topi (fun t1 et1 => ?_)
      replace h := nm_at et1 h
      refine g_put X gC5 0 rfl 9 (by decide) q1351 (fun _ h9 => h9) rfl rfl rfl (Nat.le_of_ble_eq_true rfl) dX6_runPresent_80 83 rfl ?_
      refine g_iconst X 0 dX6_runPresent_83 84 rfl kI_0 ?_
      refine g_istore_n X dX6_runPresent_84 85 rfl (Nat.le_of_ble_eq_true rfl) rfl [some (.ref a0), some (.int 0)] rfl ?_
      exact w_X6_runPresent_85 a0 a1 a2 a3 a4 a5 a6 a7 a8 a9 a10 a11  X  r_lineParts r_pulseMany r_left r_dropped r_merged r_drops r_contributions r_packet r_lengths r_fractions r_times r_energies r_far r_near r_echoes    gFU v_savedCount v_scriptLength v_code v_lineParts t1 v_left v_dropped v_merged v_drops v_contributions v_packet v_peelResult v_peelTime v_peelSum v_at v_commands v_hash v_m v_saved v_script v_lengths v_fractions v_times v_energies v_far v_near v_echoes v_draft 0 h
    · replace h := if_f hc h
      refine g_aload_n X rfl dX6_runPresent_32 33 rfl ?_
      refine g_get X gC5 0 rfl 7 (by decide) q1349 (fun _ h9 => h9) rfl dX6_runPresent_33 36 rfl ?_
      refine g_iload_n X rfl dX6_runPresent_36 37 rfl ?_
      refine g_aload_n X rfl dX6_runPresent_37 38 rfl ?_
      refine g_get X gC5 0 rfl 0 (by decide) q1342 (fun _ h9 => h9) rfl dX6_runPresent_38 41 rfl ?_
      refine g_iconst X 1 dX6_runPresent_41 42 rfl kI_1 ?_
      refine g_iload_n X rfl dX6_runPresent_42 43 rfl ?_
      refine g_iadd X dX6_runPresent_43 44 rfl ?_
      obtain ⟨hi, h⟩ := gin_e h
      refine g_lald X 1 rfl hi dX6_runPresent_44 45 rfl ?_
      refine g_l2i X dX6_runPresent_45 46 rfl ?_
      refine g_topi (fun t2 et2 => ?_)
      replace h := nm_at et2 h
      obtain ⟨hi, h⟩ := gin_e h
      refine g_iast X 4 rfl hi dX6_runPresent_46 47 rfl ?_
      refine g_aload_n X rfl dX6_runPresent_47 48 rfl ?_
      refine g_get X gC5 0 rfl 8 (by decide) q1350 (fun _ h9 => h9) rfl dX6_runPresent_48 51 rfl ?_
      refine g_iload_n X rfl dX6_runPresent_51 52 rfl ?_
      refine g_iconst X 1 dX6_runPresent_52 53 rfl kI_1 ?_
      refine g_iadd X dX6_runPresent_53 54 rfl ?_
      refine g_aload_n X rfl dX6_runPresent_54 55 rfl ?_
      refine g_get X gC5 0 rfl 0 (by decide) q1342 (fun _ h9 => h9) rfl dX6_runPresent_55 58 rfl ?_
      refine g_bipush X 9 dX6_runPresent_58 60 rfl kB_9 ?_
      refine g_iload_n X rfl dX6_runPresent_60 61 rfl ?_
      refine g_iadd X dX6_runPresent_61 62 rfl ?_
      obtain ⟨hi, h⟩ := gin_e h
      refine g_lald X 1 rfl hi dX6_runPresent_62 63 rfl ?_
      refine g_l2i X dX6_runPresent_63 64 rfl ?_
      refine g_topi (fun t3 et3 => ?_)
      replace h := nm_at et3 h
      obtain ⟨hi, h⟩ := gin_e h
      refine g_iast X 5 rfl hi dX6_runPresent_64 65 rfl ?_
      refine g_iinc X 1 rfl dX6_runPresent_65 68 rfl kI_1 (Nat.le_of_ble_eq_true rfl) rfl [some (.ref a0), some (.int (x1 + 1))] rfl ?_
      refine g_goto X dX6_runPresent_68 24 (by decide) ?_
      exact hK24 v_savedCount v_scriptLength v_code v_lineParts v_pulseMany v_left v_dropped v_merged v_drops v_contributions v_packet v_peelResult v_peelTime v_peelSum v_at v_commands v_hash v_m v_saved v_script (upd v_lengths x1.toNatClampNeg t2) (upd v_fractions (x1 + 1).toNatClampNeg t3) v_times v_energies v_far v_near v_echoes v_draft (x1 + 1) h
theorem met_X6_runPresent (l : Launch) (Z : gZt) (a0 : Nat) (a1 : Nat) (a2 : Nat) (a3 : Nat) (a4 : Nat) (a5 : Nat) (a6 : Nat) (a7 : Nat) (a8 : Nat) (a9 : Nat) (a10 : Nat) (a11 : Nat) (v_savedCount : Int32) (v_scriptLength : Int32) (v_code : Int32) (v_lineParts : Int32) (v_pulseMany : Int32) (v_left : Int64) (v_dropped : Int64) (v_merged : Int32) (v_drops : Int32) (v_contributions : Int32) (v_packet : Int64) (v_peelResult : Int32) (v_peelTime : Int32) (v_peelSum : Int32) (v_at : Int32) (v_commands : Int32) (v_hash : Int64) (v_m : Nat → Int64) (v_saved : Nat → Int64) (v_script : Nat → Int32) (v_lengths : Nat → Int32) (v_fractions : Nat → Int32) (v_times : Nat → Int32) (v_energies : Nat → Int64) (v_far : Nat → Int64) (v_near : Nat → Int64) (v_echoes : Nat → Int64) (v_draft : Nat → Int32) (r_lineParts : Int32) (r_pulseMany : Int32) (r_left : Int64) (r_dropped : Int64) (r_merged : Int32) (r_drops : Int32) (r_contributions : Int32) (r_packet : Int64) (r_lengths : Nat → Int32) (r_fractions : Nat → Int32) (r_times : Nat → Int32) (r_energies : Nat → Int64) (r_far : Nat → Int64) (r_near : Nat → Int64) (r_echoes : Nat → Int64) (h : F_X6_runPresent v_m v_lengths v_fractions v_times v_energies v_far v_near v_echoes = some (r_lineParts, r_pulseMany, r_left, r_dropped, r_merged, r_drops, r_contributions, r_packet, r_lengths, r_fractions, r_times, r_energies, r_far, r_near, r_echoes)) : Ct l yX6_runPresent (ws_ yX6_runPresent cX6_runPresent 2 none) rm_X6_runPresent Z [.ref a0] [(a0, .inr (5, [.ref a1, .ref a2, .int v_savedCount, .ref a3, .int v_scriptLength, .int v_code, .int v_lineParts, .ref a4, .ref a5, .int v_pulseMany, .ref a6, .ref a7, .ref a8, .ref a9, .ref a10, .long v_left, .long v_dropped, .int v_merged, .int v_drops, .int v_contributions, .long v_packet, .int v_peelResult, .int v_peelTime, .int v_peelSum, .int v_at, .int v_commands, .ref a11, .long v_hash])), (a1, .inl (Z.2 1, 431, .inr (.inl v_m))), (a2, .inl (Z.2 1, 1293, .inr (.inl v_saved))), (a3, .inl (Z.2 0, 120, .inl v_script)), (a4, .inl (Z.2 0, 8, .inl v_lengths)), (a5, .inl (Z.2 0, 9, .inl v_fractions)), (a6, .inl (Z.2 0, 4, .inl v_times)), (a7, .inl (Z.2 1, 4, .inr (.inl v_energies))), (a8, .inl (Z.2 1, 1809, .inr (.inl v_far))), (a9, .inl (Z.2 1, 1809, .inr (.inl v_near))), (a10, .inl (Z.2 1, 201, .inr (.inl v_echoes))), (a11, .inl (Z.2 0, 120, .inl v_draft))] [] (fun _ : Unit => (none : Option Value)) (fun _ : Unit => ([(a0, .inr (5, [.ref a1, .ref a2, .int v_savedCount, .ref a3, .int v_scriptLength, .int v_code, .int r_lineParts, .ref a4, .ref a5, .int r_pulseMany, .ref a6, .ref a7, .ref a8, .ref a9, .ref a10, .long r_left, .long r_dropped, .int r_merged, .int r_drops, .int r_contributions, .long r_packet, .int v_peelResult, .int v_peelTime, .int v_peelSum, .int v_at, .int v_commands, .ref a11, .long v_hash])), (a1, .inl (Z.2 1, 431, .inr (.inl v_m))), (a2, .inl (Z.2 1, 1293, .inr (.inl v_saved))), (a3, .inl (Z.2 0, 120, .inl v_script)), (a4, .inl (Z.2 0, 8, .inl r_lengths)), (a5, .inl (Z.2 0, 9, .inl r_fractions)), (a6, .inl (Z.2 0, 4, .inl r_times)), (a7, .inl (Z.2 1, 4, .inr (.inl r_energies))), (a8, .inl (Z.2 1, 1809, .inr (.inl r_far))), (a9, .inl (Z.2 1, 1809, .inr (.inl r_near))), (a10, .inl (Z.2 1, 201, .inr (.inl r_echoes))), (a11, .inl (Z.2 0, 120, .inl v_draft))] : va_W)) := by
  refine Ct.of cX6_runPresent 2 none "LineEchoesModel" [some (.ref a0), none] 1 (by decide) rfl (Nat.le_of_ble_eq_true rfl) rfl (fun p e s m args below meth c A X hin => ?_)
  unfold F_X6_runPresent at h
  refine g_aload_n X rfl dX6_runPresent_0 1 rfl ?_
  refine g_aload_n X rfl dX6_runPresent_1 2 rfl ?_
  obtain ⟨r1, hcl, h⟩ := bd1_e h
  refine g_callV1W X (met_X6_parts l Z a0 a1 a2 a3 a4 a5 a6 a7 a8 a9 a10 a11 v_savedCount v_scriptLength v_code v_lineParts v_pulseMany v_left v_dropped v_merged v_drops v_contributions v_packet v_peelResult v_peelTime v_peelSum v_at v_commands v_hash v_m v_saved v_script v_lengths v_fractions v_times v_energies v_far v_near v_echoes v_draft  r1 hcl) rfl 0 gC5 rfl rfl (lw_V q1447 q1449 qs22 q74 q1450) md_X6_parts ⟨(Nat.le_of_ble_eq_true rfl), (Nat.le_of_ble_eq_true rfl)⟩ rfl dX6_runPresent_2 5 rfl 0 0 rfl rfl (Nat.le_of_ble_eq_true rfl) (Nat.le_of_ble_eq_true rfl) (st := [.ref a0]) rfl (Nat.le_of_ble_eq_true rfl) (fun _ => rfl) (fun _ => ?_)
  refine g_put X gC5 0 rfl 6 (by decide) q1348 (fun _ h9 => h9) rfl rfl rfl (Nat.le_of_ble_eq_true rfl) dX6_runPresent_5 8 rfl ?_
  refine g_aload_n X rfl dX6_runPresent_8 9 rfl ?_
  refine g_get X gC5 0 rfl 8 (by decide) q1350 (fun _ h9 => h9) rfl dX6_runPresent_9 12 rfl ?_
  refine g_iconst X 0 dX6_runPresent_12 13 rfl kI_0 ?_
  refine g_aload_n X rfl dX6_runPresent_13 14 rfl ?_
  refine g_get X gC5 0 rfl 0 (by decide) q1342 (fun _ h9 => h9) rfl dX6_runPresent_14 17 rfl ?_
  refine g_bipush X 17 dX6_runPresent_17 19 rfl kB_17 ?_
  obtain ⟨hi, h⟩ := gin_e h
  refine g_lald X 1 rfl hi dX6_runPresent_19 20 rfl ?_
  refine g_l2i X dX6_runPresent_20 21 rfl ?_
  refine g_topi (fun t2 et2 => ?_)
  replace h := nm_at et2 h
  obtain ⟨hi, h⟩ := gin_e h
  refine g_iast X 5 rfl hi dX6_runPresent_21 22 rfl ?_
  refine g_iconst X 0 dX6_runPresent_22 23 rfl kI_0 ?_
  refine g_istore_n X dX6_runPresent_23 24 rfl (Nat.le_of_ble_eq_true rfl) rfl [some (.ref a0), some (.int 0)] rfl ?_
  exact w_X6_runPresent_24 a0 a1 a2 a3 a4 a5 a6 a7 a8 a9 a10 a11  X  r_lineParts r_pulseMany r_left r_dropped r_merged r_drops r_contributions r_packet r_lengths r_fractions r_times r_energies r_far r_near r_echoes    gFU v_savedCount v_scriptLength v_code r1 v_pulseMany v_left v_dropped v_merged v_drops v_contributions v_packet v_peelResult v_peelTime v_peelSum v_at v_commands v_hash v_m v_saved v_script v_lengths (upd v_fractions (Int32.toNatClampNeg 0) t2) v_times v_energies v_far v_near v_echoes v_draft 0 h
