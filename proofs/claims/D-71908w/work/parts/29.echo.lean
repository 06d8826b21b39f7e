/-! 29.echo (printed by gen/system.py) -/
set_option maxRecDepth 100000
theorem md_J7_charAt : gMd yJ7_charAt 1 := by unfold gMd; decide +kernel
theorem md_J7_length : gMd yJ7_length 0 := by unfold gMd; decide +kernel
theorem md_X5_text : gMd yX5_text 0 := by unfold gMd; decide +kernel
/-! LineEchoes.echoByte(I)I -/
abbrev rm_X1_echoByte : Room := { frames := 8, cells := 801, slots := 48106, locals := 193 }
def F_X1_echoByte (v_fromNear : Nat → Int64) (v_fromFar : Nat → Int64) (v_echoes : Nat → Int64) (v_n : Int32) (v_pulses : Int32) (v_front : Int32) (v_least : Int32) (v_window : Int32) (v_lengths : Nat → Int32) (v_fractions : Nat → Int32) (v_pulseTimes : Nat → Int32) (v_pulseEnergies : Nat → Int32) (x1 : Int32) : Option ((Int32 × Int64 × Int64 × Int64 × Int64 × Int32 × Int32 × (Nat → Int64) × (Nat → Int64) × (Nat → Int64)) ⊕ Nat) :=
  bc0 (F_X1_requireArgument (if x1 < 0 then (0 : Int32) else 1)) (
  bd9 (F_X5_run v_fromNear v_fromFar v_echoes v_n v_pulses v_front v_least v_window v_lengths v_fractions v_pulseTimes v_pulseEnergies) fun w1_brought w2_left w3_dropped w4_away w5_mergings w6_drops w7_fromNear w8_fromFar w9_echoes =>
  bd2 (F_X5_text w9_echoes v_window) fun w10_o1 w11_o1_N =>
  bd1 (F_J7_length w11_o1_N) fun r14 =>
  if r14 ≤ x1 then
    (some (.inl ((-1), w1_brought, w2_left, w3_dropped, w4_away, w5_mergings, w6_drops, w7_fromNear, w8_fromFar, w9_echoes)))
  else
    (bd1 (F_J7_charAt w10_o1 w11_o1_N x1) fun r15 =>
    some (.inl (r15, w1_brought, w2_left, w3_dropped, w4_away, w5_mergings, w6_drops, w7_fromNear, w8_fromFar, w9_echoes)))) gthr
theorem met_X1_echoByte (l : Launch) (hl : l.stackTraces = false) (Z : gZt) (a4 : Nat) (a4_1 : Nat) (a4_2 : Nat) (a4_3 : Nat) (a0 : Nat) (a1 : Nat) (a2 : Nat) (a2_1 : Nat) (a2_2 : Nat) (a2_3 : Nat) (a2_4 : Nat) (a7 : Nat) (a8 : Nat) (a3 : Nat) (a5 : Nat) (v_line : Option Nat) (v_brought : Int64) (v_left : Int64) (v_dropped : Int64) (v_away : Int64) (v_mergings : Int32) (v_drops : Int32) (v_fromNear : Nat → Int64) (v_fromFar : Nat → Int64) (v_echoes : Nat → Int64) (v_depth : Int32) (v_scriptLength : Int32) (v_n : Int32) (v_pulses : Int32) (v_front : Int32) (v_least : Int32) (v_window : Int32) (v_lengths : Nat → Int32) (v_fractions : Nat → Int32) (v_pulseTimes : Nat → Int32) (v_pulseEnergies : Nat → Int32) (x1 : Int32) (o : (Int32 × Int64 × Int64 × Int64 × Int64 × Int32 × Int32 × (Nat → Int64) × (Nat → Int64) × (Nat → Int64)) ⊕ Nat) (h : F_X1_echoByte v_fromNear v_fromFar v_echoes v_n v_pulses v_front v_least v_window v_lengths v_fractions v_pulseTimes v_pulseEnergies x1 = some o) : Cx l yX1_echoByte (ws_ yX1_echoByte cX1_echoByte 3 (some .int)) rm_X1_echoByte Z [.ref a0, .int x1] [(a4, .inr (4, [.ref a4_1, .ref a4_2, .ref a4_3, (va_rf v_line), .long v_brought, .long v_left, .long v_dropped, .long v_away, .int v_mergings, .int v_drops])), (a4_1, .inl (Z.2 1, 1809, .inr (.inl v_fromNear))), (a4_2, .inl (Z.2 1, 1809, .inr (.inl v_fromFar))), (a4_3, .inl (Z.2 1, 201, .inr (.inl v_echoes)))] [(a0, .inr (0, [.ref a1, .ref a7, .int v_depth, .ref a8, .int v_scriptLength, .ref a4])), (a1, .inr (1, [.ref a2, .ref a3, .ref a5])), (a2, .inr (2, [.ref a2_1, .ref a2_2, .int v_n, .ref a2_3, .ref a2_4, .int v_pulses, .int v_front, .int v_least, .int v_window])), (a2_1, .inl (Z.2 0, 8, .inl v_lengths)), (a2_2, .inl (Z.2 0, 8, .inl v_fractions)), (a2_3, .inl (Z.2 0, 4, .inl v_pulseTimes)), (a2_4, .inl (Z.2 0, 4, .inl v_pulseEnergies))] [(a4, .inr (4, [.ref a4_1, .ref a4_2, .ref a4_3, (va_rf v_line), .long v_brought, .long v_left, .long v_dropped, .long v_away, .int v_mergings, .int v_drops])), (a4_1, .inl (Z.2 1, 1809, .inr (.inl v_fromNear))), (a4_2, .inl (Z.2 1, 1809, .inr (.inl v_fromFar))), (a4_3, .inl (Z.2 1, 201, .inr (.inl v_echoes)))] (fun x : Int32 × Int64 × Int64 × Int64 × Int64 × Int32 × Int32 × (Nat → Int64) × (Nat → Int64) × (Nat → Int64) => (fun _ : Unit => (some (.int x.1) : Option Value))) (fun x : Int32 × Int64 × Int64 × Int64 × Int64 × Int32 × Int32 × (Nat → Int64) × (Nat → Int64) × (Nat → Int64) => (fun _ : Unit => ([(a4, .inr (4, [.ref a4_1, .ref a4_2, .ref a4_3, .ref a2, .long x.2.1, .long x.2.2.1, .long x.2.2.2.1, .long x.2.2.2.2.1, .int x.2.2.2.2.2.1, .int x.2.2.2.2.2.2.1])), (a4_1, .inl (Z.2 1, 1809, .inr (.inl x.2.2.2.2.2.2.2.1))), (a4_2, .inl (Z.2 1, 1809, .inr (.inl x.2.2.2.2.2.2.2.2.1))), (a4_3, .inl (Z.2 1, 201, .inr (.inl x.2.2.2.2.2.2.2.2.2)))] : va_W))) o := by
  refine Cx.of cX1_echoByte 3 (some .int) "LineEchoes" [some (.ref a0), some (.int x1), none] 1 (by decide) rfl (Nat.le_of_ble_eq_true rfl) rfl (fun p e s m args below meth c A X Xt => ?_)
  unfold F_X1_echoByte at h
  refine g_iload_n X rfl dX1_echoByte_0 1 rfl ?_
  refine g_seli 9 [] (b := x1 < 0) 0 1 ?_ (fun hc K => ?_) (fun hc K => ?_)
  · refine g_ldcS X 13 rfl dX1_echoByte_9 11 rfl ?_
    rcases bc0_e h with ⟨k9, hcl, hg⟩ | ⟨hcl, h⟩
    · obtain rfl := Option.some.inj (show some (Sum.inr k9) = some _ from hg)
      exact g_xoS X (met_X1_requireArgument l hl Z (gSK Z 13)  (if x1 < 0 then (0 : Int32) else 1) _ hcl).thr [] [0, 1, 2, 3] [] (wr := [(a4, .inr (4, [.ref a4_1, .ref a4_2, .ref a4_3, (va_rf v_line), .long v_brought, .long v_left, .long v_dropped, .long v_away, .int v_mergings, .int v_drops])), (a4_1, .inl (Z.2 1, 1809, .inr (.inl v_fromNear))), (a4_2, .inl (Z.2 1, 1809, .inr (.inl v_fromFar))), (a4_3, .inl (Z.2 1, 201, .inr (.inl v_echoes)))]) ⟨rfl, rfl, rfl, rfl, rfl, by decide, by decide⟩ (lw_S q1125 q952 q69 q953) md_X1_requireArgument ⟨(Nat.le_of_ble_eq_true rfl), (Nat.le_of_ble_eq_true rfl)⟩ rfl dX1_echoByte_11 Xt [0, 1, 2, 3] (Nat.le_of_ble_eq_true rfl) (Nat.le_of_ble_eq_true rfl) (st := []) rfl (Nat.le_of_ble_eq_true rfl) rfl rfl (Nat.le_of_ble_eq_true rfl) (Nat.le_of_ble_eq_true rfl)
    refine g_callS0Z X (met_X1_requireArgument l hl Z (gSK Z 13)  (if x1 < 0 then (0 : Int32) else 1) _ hcl).ret (lw_S q1125 q952 q69 q953) md_X1_requireArgument ⟨(Nat.le_of_ble_eq_true rfl), (Nat.le_of_ble_eq_true rfl)⟩ rfl dX1_echoByte_11 14 rfl 1 6 rfl rfl (Nat.le_of_ble_eq_true rfl) (Nat.le_of_ble_eq_true rfl) (st := []) rfl (Nat.le_of_ble_eq_true rfl) (fun _ => rfl) (fun _ => ?_)
    refine g_aload_n X rfl dX1_echoByte_14 15 rfl ?_
    refine g_getR X gC0 0 rfl 5 (by decide) q248 (fun _ h9 => h9) rfl dX1_echoByte_15 18 rfl ?_
    refine g_aload_n X rfl dX1_echoByte_18 19 rfl ?_
    refine g_getR X gC0 0 rfl 0 (by decide) q241 (fun _ h9 => h9) rfl dX1_echoByte_19 22 rfl ?_
    refine g_getRN X gC1 1 rfl 0 (by decide) q191 (fun _ h9 => h9) rfl dX1_echoByte_22 25 rfl ?_
    obtain ⟨w1_brought, w2_left, w3_dropped, w4_away, w5_mergings, w6_drops, w7_fromNear, w8_fromFar, w9_echoes, hcl, h⟩ := bd9_e h
    refine g_callV0 X (met_X5_run l Z a4 a4_1 a4_2 a4_3 a2 a2_1 a2_2 a2_3 a2_4 v_line v_brought v_left v_dropped v_away v_mergings v_drops v_fromNear v_fromFar v_echoes v_n v_pulses v_front v_least v_window v_lengths v_fractions v_pulseTimes v_pulseEnergies  w1_brought w2_left w3_dropped w4_away w5_mergings w6_drops w7_fromNear w8_fromFar w9_echoes hcl) [0, 1, 2, 3] [] [6, 7, 8, 9, 10] (wr := []) ⟨rfl, rfl, rfl, rfl, rfl, by decide, by decide⟩ 0 gC4 rfl rfl (lw_V q1038 q308 q309 q73 q310) md_X5_run ⟨(Nat.le_of_ble_eq_true rfl), (Nat.le_of_ble_eq_true rfl)⟩ rfl dX1_echoByte_25 28 rfl 1 6 rfl rfl (Nat.le_of_ble_eq_true rfl) (Nat.le_of_ble_eq_true rfl) (st := []) rfl (Nat.le_of_ble_eq_true rfl) (fun _ => rfl) (fun _ => ?_)
    refine g_aload_n X rfl dX1_echoByte_28 29 rfl ?_
    refine g_getR X gC0 0 rfl 5 (by decide) q248 (fun _ h9 => h9) rfl dX1_echoByte_29 32 rfl ?_
    obtain ⟨w10_o1, w11_o1_N, hcl, h⟩ := bd2_e h
    refine g_callV1 X (met_X5_text l Z a4 a4_1 a4_2 a4_3 a2 a2_1 a2_2 a2_3 a2_4 w1_brought w2_left w3_dropped w4_away w5_mergings w6_drops w7_fromNear w8_fromFar w9_echoes v_n v_pulses v_front v_least v_window v_lengths v_fractions v_pulseTimes v_pulseEnergies  w10_o1 w11_o1_N hcl) [] [0, 1, 2, 3] [0, 1, 2, 3, 6, 7, 8, 9, 10] (wr := [(a4, .inr (4, [.ref a4_1, .ref a4_2, .ref a4_3, .ref a2, .long w1_brought, .long w2_left, .long w3_dropped, .long w4_away, .int w5_mergings, .int w6_drops])), (a4_1, .inl (Z.2 1, 1809, .inr (.inl w7_fromNear))), (a4_2, .inl (Z.2 1, 1809, .inr (.inl w8_fromFar))), (a4_3, .inl (Z.2 1, 201, .inr (.inl w9_echoes)))]) ⟨rfl, rfl, rfl, rfl, rfl, by decide, by decide⟩ 0 gC4 rfl rfl (lw_V q1221 q1222 q1223 q73 q1224) md_X5_text ⟨(Nat.le_of_ble_eq_true rfl), (Nat.le_of_ble_eq_true rfl)⟩ rfl dX1_echoByte_32 35 rfl 801 48106 rfl rfl (Nat.le_of_ble_eq_true rfl) (Nat.le_of_ble_eq_true rfl) (st := []) rfl (Nat.le_of_ble_eq_true rfl) (fun _ => rfl) (fun u => ?_)
    obtain ⟨b12, b13⟩ := u
    refine g_astore_n X dX1_echoByte_35 36 rfl (Nat.le_of_ble_eq_true rfl) rfl [some (.ref a0), some (.int x1), some (.ref b12)] rfl ?_
    refine g_iload_n X rfl dX1_echoByte_36 37 rfl ?_
    refine g_aload_n X rfl dX1_echoByte_37 38 rfl ?_
    obtain ⟨r14, hcl, h⟩ := bd1_e h
    refine g_callV1 X (met_J7_length l Z b12 b13 0 0 w10_o1 w11_o1_N  r14 hcl) [] [0, 1, 2, 3, 4, 5] [4, 5] (wr := [(a4, .inr (4, [.ref a4_1, .ref a4_2, .ref a4_3, .ref a2, .long w1_brought, .long w2_left, .long w3_dropped, .long w4_away, .int w5_mergings, .int w6_drops])), (a4_1, .inl (Z.2 1, 1809, .inr (.inl w7_fromNear))), (a4_2, .inl (Z.2 1, 1809, .inr (.inl w8_fromFar))), (a4_3, .inl (Z.2 1, 201, .inr (.inl w9_echoes))), (b12, .inr (8, [.ref b13, .int 0, .int 0, .int 0])), (b13, .inl (Z.2 2, w11_o1_N, .inl w10_o1))]) ⟨rfl, rfl, rfl, rfl, rfl, by decide, by decide⟩ 4 gC8 rfl rfl (lw_V q1257 q748 q749 q83 q750) md_J7_length ⟨(Nat.le_of_ble_eq_true rfl), (Nat.le_of_ble_eq_true rfl)⟩ rfl dX1_echoByte_38 41 rfl 801 48106 rfl rfl (Nat.le_of_ble_eq_true rfl) (Nat.le_of_ble_eq_true rfl) (st := [.int x1]) rfl (Nat.le_of_ble_eq_true rfl) (fun _ => rfl) (fun _ => ?_)
    refine g_wd [(a4, .inr (4, [.ref a4_1, .ref a4_2, .ref a4_3, .ref a2, .long w1_brought, .long w2_left, .long w3_dropped, .long w4_away, .int w5_mergings, .int w6_drops])), (a4_1, .inl (Z.2 1, 1809, .inr (.inl w7_fromNear))), (a4_2, .inl (Z.2 1, 1809, .inr (.inl w8_fromFar))), (a4_3, .inl (Z.2 1, 201, .inr (.inl w9_echoes))), (b12, .inr (8, [.ref b13, .int 0, .int 0, .int 0])), (b13, .inl (Z.2 2, w11_o1_N, .inl w10_o1))] rfl ?_
    refine g_icmp_ge X dX1_echoByte_41 52 (by decide) 44 rfl (fun hc => ?_) (fun hc => ?_)
    · replace h := if_t hc h
      refine g_iconst X (-1) dX1_echoByte_52 53 rfl kI_m1 ?_
      refine g_keep [0, 1, 2, 3] [(a4, .inr (4, [.ref a4_1, .ref a4_2, .ref a4_3, .ref a2, .long w1_brought, .long w2_left, .long w3_dropped, .long w4_away, .int w5_mergings, .int w6_drops])), (a4_1, .inl (Z.2 1, 1809, .inr (.inl w7_fromNear))), (a4_2, .inl (Z.2 1, 1809, .inr (.inl w8_fromFar))), (a4_3, .inl (Z.2 1, 201, .inr (.inl w9_echoes)))] rfl rfl ?_
      obtain rfl := Option.some.inj h
      exact g_retI (g_iret X dX1_echoByte_53 () rfl rfl (Nat.le_of_ble_eq_true rfl) (Nat.le_of_ble_eq_true rfl))
    · replace h := if_f hc h
      refine g_aload_n X rfl dX1_echoByte_44 45 rfl ?_
      refine g_iload_n X rfl dX1_echoByte_45 46 rfl ?_
      obtain ⟨r15, hcl, h⟩ := bd1_e h
      refine g_callV1 X (met_J7_charAt l Z b12 b13 0 0 w10_o1 w11_o1_N x1 r15 hcl) [] [0, 1, 2, 3, 4, 5] [4, 5] (wr := [(a4, .inr (4, [.ref a4_1, .ref a4_2, .ref a4_3, .ref a2, .long w1_brought, .long w2_left, .long w3_dropped, .long w4_away, .int w5_mergings, .int w6_drops])), (a4_1, .inl (Z.2 1, 1809, .inr (.inl w7_fromNear))), (a4_2, .inl (Z.2 1, 1809, .inr (.inl w8_fromFar))), (a4_3, .inl (Z.2 1, 201, .inr (.inl w9_echoes))), (b12, .inr (8, [.ref b13, .int 0, .int 0, .int 0])), (b13, .inl (Z.2 2, w11_o1_N, .inl w10_o1))]) ⟨rfl, rfl, rfl, rfl, rfl, by decide, by decide⟩ 4 gC8 rfl rfl (lw_V q1258 q1259 q1260 q83 q1261) md_J7_charAt ⟨(Nat.le_of_ble_eq_true rfl), (Nat.le_of_ble_eq_true rfl)⟩ rfl dX1_echoByte_46 49 rfl 801 48106 rfl rfl (Nat.le_of_ble_eq_true rfl) (Nat.le_of_ble_eq_true rfl) (st := []) rfl (Nat.le_of_ble_eq_true rfl) (fun _ => rfl) (fun _ => ?_)
      refine g_goto X dX1_echoByte_49 53 (by decide) ?_
      refine g_keep [0, 1, 2, 3] [(a4, .inr (4, [.ref a4_1, .ref a4_2, .ref a4_3, .ref a2, .long w1_brought, .long w2_left, .long w3_dropped, .long w4_away, .int w5_mergings, .int w6_drops])), (a4_1, .inl (Z.2 1, 1809, .inr (.inl w7_fromNear))), (a4_2, .inl (Z.2 1, 1809, .inr (.inl w8_fromFar))), (a4_3, .inl (Z.2 1, 201, .inr (.inl w9_echoes)))] rfl rfl ?_
      obtain rfl := Option.some.inj h
      exact g_retI (g_iret X dX1_echoByte_53 () rfl rfl (Nat.le_of_ble_eq_true rfl) (Nat.le_of_ble_eq_true rfl))
  · refine g_if_lt X dX1_echoByte_1 8 (by decide) 4 rfl (fun _ => ?_) (fun hn => absurd hc hn)
    refine g_iconst X 0 dX1_echoByte_8 9 rfl kI_0 ?_
    exact K
  · refine g_if_lt X dX1_echoByte_1 8 (by decide) 4 rfl (fun hn => absurd hn hc) (fun _ => ?_)
    refine g_iconst X 1 dX1_echoByte_4 5 rfl kI_1 ?_
    refine g_goto X dX1_echoByte_5 9 (by decide) ?_
    exact K
