/-! 28.text (printed by gen/system.py) -/
set_option maxRecDepth 100000
theorem md_J11_append : gMd yJ11_append 1 := by unfold gMd; decide +kernel
theorem md_J11_append_2 : gMd yJ11_append_2 1 := by unfold gMd; decide +kernel
theorem md_J11_append_4 : gMd yJ11_append_4 1 := by unfold gMd; decide +kernel
theorem md_J11_init : gMd yJ11_init 0 := by unfold gMd; decide +kernel
theorem md_J11_toString : gMd yJ11_toString 0 := by unfold gMd; decide +kernel
theorem gD9 : ∀ j, j < 4 → defaultValue (tyJ11 j) = vp_V [.null, .int 0, .int 0, .int 0] j := fun j hj => match j, hj with | 0, _ => rfl | 1, _ => rfl | 2, _ => rfl | 3, _ => rfl | n + 4, hj => absurd hj (by omega)
/-! LineEchoes$Runner.text()Ljava/lang/String; -/
abbrev rm_X5_text : Room := { frames := 6, cells := 800, slots := 48100, locals := 171 }
def F_X5_text_57 (K10 : (Nat) → (Int32) → (Nat → Int32) → (Int32) → (Nat → Int64) → (Int32) → Option ((Nat → Int32) × Nat)) (n_cap : Nat) (n_b1_3 : Int32) (n_pv : Nat → Int32) (x2 : Int32) (v_echoes : Nat → Int64) (v_window : Int32) : Option ((Nat → Int32) × Nat) :=
  gch (n_cap ≤ 12000) <|
  K10 n_cap n_b1_3 n_pv (x2 + 1) v_echoes v_window
def B_X5_text_10 (K10 : (Nat) → (Int32) → (Nat → Int32) → (Int32) → (Nat → Int64) → (Int32) → Option ((Nat → Int32) × Nat)) (n_cap : Nat) (n_b1_3 : Int32) (n_pv : Nat → Int32) (x2 : Int32) (v_echoes : Nat → Int64) (v_window : Int32) : Option ((Nat → Int32) × Nat) :=
  gch (n_cap ≤ 12000) <|
  if v_window < x2 then
    (bd2 (F_J11_toString n_b1_3 n_pv n_cap 2 (n_b1_3.toNatClampNeg + 4)) fun w1_o1 w2_o1_N =>
    gch (n_b1_3.toNatClampNeg ≤ 12000 ∧ n_cap ≤ 12000) <|
    some (w1_o1, w2_o1_N))
  else
    (gin x2 201 <|
    if (v_echoes x2.toNatClampNeg) ≤ 0 then
      (F_X5_text_57 K10 n_cap n_b1_3 n_pv x2 v_echoes v_window)
    else
      (bd3 (F_J11_append_2 n_b1_3 n_pv n_cap x2 (gRc (F_J11_append_2 n_b1_3 n_pv n_cap x2 0 0)) (gRs (F_J11_append_2 n_b1_3 n_pv n_cap x2 0 0) n_cap)) fun w5_count w6_o0 w7_o0_N =>
      gch (n_cap / 16 + gRc (F_J11_append_2 n_b1_3 n_pv n_cap x2 0 0) ≤ w7_o0_N / 16 ∧ 3 * n_cap + gRs (F_J11_append_2 n_b1_3 n_pv n_cap x2 0 0) n_cap ≤ 3 * w7_o0_N ∧ n_cap ≤ 12000 ∧ w7_o0_N ≤ 12000) <|
      bd3 (F_J11_append w5_count w6_o0 w7_o0_N 58 (gRc (F_J11_append w5_count w6_o0 w7_o0_N 58 0 0)) (gRs (F_J11_append w5_count w6_o0 w7_o0_N 58 0 0) w7_o0_N)) fun w9_count w10_o0 w11_o0_N =>
      gch (w7_o0_N / 16 + gRc (F_J11_append w5_count w6_o0 w7_o0_N 58 0 0) ≤ w11_o0_N / 16 ∧ 3 * w7_o0_N + gRs (F_J11_append w5_count w6_o0 w7_o0_N 58 0 0) w7_o0_N ≤ 3 * w11_o0_N ∧ w7_o0_N ≤ 12000 ∧ w11_o0_N ≤ 12000) <|
      gin x2 201 <|
      bd3 (F_J11_append_4 w9_count w10_o0 w11_o0_N (v_echoes x2.toNatClampNeg) (gRc (F_J11_append_4 w9_count w10_o0 w11_o0_N (v_echoes x2.toNatClampNeg) 0 0)) (gRs (F_J11_append_4 w9_count w10_o0 w11_o0_N (v_echoes x2.toNatClampNeg) 0 0) w11_o0_N)) fun w13_count w14_o0 w15_o0_N =>
      gch (w11_o0_N / 16 + gRc (F_J11_append_4 w9_count w10_o0 w11_o0_N (v_echoes x2.toNatClampNeg) 0 0) ≤ w15_o0_N / 16 ∧ 3 * w11_o0_N + gRs (F_J11_append_4 w9_count w10_o0 w11_o0_N (v_echoes x2.toNatClampNeg) 0 0) w11_o0_N ≤ 3 * w15_o0_N ∧ w11_o0_N ≤ 12000 ∧ w15_o0_N ≤ 12000) <|
      bd3 (F_J11_append w13_count w14_o0 w15_o0_N 59 (gRc (F_J11_append w13_count w14_o0 w15_o0_N 59 0 0)) (gRs (F_J11_append w13_count w14_o0 w15_o0_N 59 0 0) w15_o0_N)) fun w17_count w18_o0 w19_o0_N =>
      gch (w15_o0_N / 16 + gRc (F_J11_append w13_count w14_o0 w15_o0_N 59 0 0) ≤ w19_o0_N / 16 ∧ 3 * w15_o0_N + gRs (F_J11_append w13_count w14_o0 w15_o0_N 59 0 0) w15_o0_N ≤ 3 * w19_o0_N ∧ w15_o0_N ≤ 12000 ∧ w19_o0_N ≤ 12000) <|
      F_X5_text_57 K10 w19_o0_N w17_count w18_o0 x2 v_echoes v_window))
def F_X5_text_10 : Nat → (Nat) → (Int32) → (Nat → Int32) → (Int32) → (Nat → Int64) → (Int32) → Option ((Nat → Int32) × Nat)
  | 0 => fun _ _ _ _ _ _ => none
  | n + 1 => B_X5_text_10 (F_X5_text_10 n)
def F_X5_text (v_echoes : Nat → Int64) (v_window : Int32) : Option ((Nat → Int32) × Nat) :=
  bd1 (F_J11_init) fun w2_o0 =>
  F_X5_text_10 gFU 16 0 w2_o0 0 v_echoes v_window
theorem w_X5_text_57 {p : Program} {l : Launch} {e : Env} {s : State} {m : MethodId} {args : Array Value} {below : List Frame} {meth : Method} {c : Code} {Z : gZt} {A : Nat → Prop} (a0 : Nat) (a0_1 : Nat) (a0_2 : Nat) (a0_3 : Nat) (a1 : Nat) (a1_1 : Nat) (a1_2 : Nat) (a1_3 : Nat) (a1_4 : Nat) (v_brought : Int64) (v_left : Int64) (v_dropped : Int64) (v_away : Int64) (v_mergings : Int32) (v_drops : Int32) (v_fromNear : Nat → Int64) (v_fromFar : Nat → Int64) (v_echoes : Nat → Int64) (v_n : Int32) (v_pulses : Int32) (v_front : Int32) (v_least : Int32) (v_window : Int32) (v_lengths : Nat → Int32) (v_fractions : Nat → Int32) (v_pulseTimes : Nat → Int32) (v_pulseEnergies : Nat → Int32) (X : gX p s m args meth c Z A cX5_text "LineEchoes$Runner" 3 (some (.object "java/lang/String")) [(a0, .inr (4, [.ref a0_1, .ref a0_2, .ref a0_3, .ref a1, .long v_brought, .long v_left, .long v_dropped, .long v_away, .int v_mergings, .int v_drops])), (a0_1, .inl (Z.2 1, 1809, .inr (.inl v_fromNear))), (a0_2, .inl (Z.2 1, 1809, .inr (.inl v_fromFar))), (a0_3, .inl (Z.2 1, 201, .inr (.inl v_echoes))), (a1, .inr (2, [.ref a1_1, .ref a1_2, .int v_n, .ref a1_3, .ref a1_4, .int v_pulses, .int v_front, .int v_least, .int v_window])), (a1_1, .inl (Z.2 0, 8, .inl v_lengths)), (a1_2, .inl (Z.2 0, 8, .inl v_fractions)), (a1_3, .inl (Z.2 0, 4, .inl v_pulseTimes)), (a1_4, .inl (Z.2 0, 4, .inl v_pulseEnergies))]) (b1 : Nat) (o1 : Nat → Int32) (o1_N : Nat) (K10 : (Nat) → (Int32) → (Nat → Int32) → (Int32) → (Nat → Int64) → (Int32) → Option ((Nat → Int32) × Nat)) (hK10 : ∀ (pv : Nat) (n_cap : Nat) (n_b1_3 : Int32) (n_pv : Nat → Int32) (x2 : Int32), K10 n_cap n_b1_3 n_pv x2 v_echoes v_window = some (o1, o1_N) → G p l e rm_X5_text s m args below meth c Z A 3 (MQ below (gPost Z A (fun u : Nat × Nat => (some (.ref u.1) : Option Value)) (fun u : Nat × Nat => ([(u.1, .inr (8, [.ref u.2, .int 0, .int 0, .int 0])), (u.2, .inl (Z.2 2, o1_N, .inl o1))] : va_W))) args s 800 48100 A) [(b1, .inr (9, [.ref pv, .int 0, .int 0, .int n_b1_3])), (pv, .inl (Z.2 2, n_cap, .inl n_pv))] (2 + n_cap / 16) (0 + 3 * n_cap) 10 [some (.ref a0), some (.ref b1), some (.int x2)] []) (pv : Nat) (n_cap : Nat) (n_b1_3 : Int32) (n_pv : Nat → Int32) (x2 : Int32) (h : F_X5_text_57 K10 n_cap n_b1_3 n_pv x2 v_echoes v_window = some (o1, o1_N)) : G p l e rm_X5_text s m args below meth c Z A 3 (MQ below (gPost Z A (fun u : Nat × Nat => (some (.ref u.1) : Option Value)) (fun u : Nat × Nat => ([(u.1, .inr (8, [.ref u.2, .int 0, .int 0, .int 0])), (u.2, .inl (Z.2 2, o1_N, .inl o1))] : va_W))) args s 800 48100 A) [(b1, .inr (9, [.ref pv, .int 0, .int 0, .int n_b1_3])), (pv, .inl (Z.2 2, n_cap, .inl n_pv))] (2 + n_cap / 16) (0 + 3 * n_cap) 57 [some (.ref a0), some (.ref b1), some (.int x2)] [] := by
  unfold F_X5_text_57 at h
  obtain ⟨hpc, h⟩ := gch_e h
  refine g_iinc X 1 rfl dX5_text_57 60 rfl kI_1 (Nat.le_of_ble_eq_true rfl) rfl [some (.ref a0), some (.ref b1), some (.int (x2 + 1))] rfl ?_
  refine g_goto X dX5_text_60 10 (by decide) ?_
  refine g_more (2 + n_cap / 16) (0 + 3 * n_cap) (by omega) (by omega) ?_
  exact hK10 pv n_cap n_b1_3 n_pv (x2 + 1) h
theorem w_X5_text_10 {p : Program} {l : Launch} {e : Env} {s : State} {m : MethodId} {args : Array Value} {below : List Frame} {meth : Method} {c : Code} {Z : gZt} {A : Nat → Prop} (a0 : Nat) (a0_1 : Nat) (a0_2 : Nat) (a0_3 : Nat) (a1 : Nat) (a1_1 : Nat) (a1_2 : Nat) (a1_3 : Nat) (a1_4 : Nat) (v_brought : Int64) (v_left : Int64) (v_dropped : Int64) (v_away : Int64) (v_mergings : Int32) (v_drops : Int32) (v_fromNear : Nat → Int64) (v_fromFar : Nat → Int64) (v_echoes : Nat → Int64) (v_n : Int32) (v_pulses : Int32) (v_front : Int32) (v_least : Int32) (v_window : Int32) (v_lengths : Nat → Int32) (v_fractions : Nat → Int32) (v_pulseTimes : Nat → Int32) (v_pulseEnergies : Nat → Int32) (X : gX p s m args meth c Z A cX5_text "LineEchoes$Runner" 3 (some (.object "java/lang/String")) [(a0, .inr (4, [.ref a0_1, .ref a0_2, .ref a0_3, .ref a1, .long v_brought, .long v_left, .long v_dropped, .long v_away, .int v_mergings, .int v_drops])), (a0_1, .inl (Z.2 1, 1809, .inr (.inl v_fromNear))), (a0_2, .inl (Z.2 1, 1809, .inr (.inl v_fromFar))), (a0_3, .inl (Z.2 1, 201, .inr (.inl v_echoes))), (a1, .inr (2, [.ref a1_1, .ref a1_2, .int v_n, .ref a1_3, .ref a1_4, .int v_pulses, .int v_front, .int v_least, .int v_window])), (a1_1, .inl (Z.2 0, 8, .inl v_lengths)), (a1_2, .inl (Z.2 0, 8, .inl v_fractions)), (a1_3, .inl (Z.2 0, 4, .inl v_pulseTimes)), (a1_4, .inl (Z.2 0, 4, .inl v_pulseEnergies))]) (b1 : Nat) (o1 : Nat → Int32) (o1_N : Nat)  : ∀ (n : Nat) (pv : Nat) (n_cap : Nat) (n_b1_3 : Int32) (n_pv : Nat → Int32) (x2 : Int32), F_X5_text_10 n n_cap n_b1_3 n_pv x2 v_echoes v_window = some (o1, o1_N) → G p l e rm_X5_text s m args below meth c Z A 3 (MQ below (gPost Z A (fun u : Nat × Nat => (some (.ref u.1) : Option Value)) (fun u : Nat × Nat => ([(u.1, .inr (8, [.ref u.2, .int 0, .int 0, .int 0])), (u.2, .inl (Z.2 2, o1_N, .inl o1))] : va_W))) args s 800 48100 A) [(b1, .inr (9, [.ref pv, .int 0, .int 0, .int n_b1_3])), (pv, .inl (Z.2 2, n_cap, .inl n_pv))] (2 + n_cap / 16) (0 + 3 * n_cap) 10 [some (.ref a0), some (.ref b1), some (.int x2)] [] := by
  intro n
  induction n with
  | zero =>
    intro pv n_cap n_b1_3 n_pv x2 h
    cases h
  | succ n hK10 =>
    intro pv n_cap n_b1_3 n_pv x2 h
    replace h : B_X5_text_10 (F_X5_text_10 n) n_cap n_b1_3 n_pv x2 v_echoes v_window = some (o1, o1_N) := h
    unfold B_X5_text_10 at h
    obtain ⟨hpc, h⟩ := gch_e h
    refine g_iload_n X rfl dX5_text_10 11 rfl ?_
    refine g_aload_n X rfl dX5_text_11 12 rfl ?_
    refine g_getR X gC4 0 rfl 3 (by decide) q212 (fun _ h9 => h9) rfl dX5_text_12 15 rfl ?_
    refine g_getRN X gC2 4 rfl 8 (by decide) q151 (fun _ h9 => h9) rfl dX5_text_15 18 rfl ?_
    refine g_icmp_gt X dX5_text_18 63 (by decide) 21 rfl (fun hc => ?_) (fun hc => ?_)
    · replace h := if_t hc h
      refine g_aload_n X rfl dX5_text_63 64 rfl ?_
      obtain ⟨w1_o1, w2_o1_N, hcl, h⟩ := bd2_e h
      obtain ⟨hpt, h⟩ := gch_e h
      refine g_callV1 X (met_J11_toString l Z b1 pv 0 n_b1_3 n_pv n_cap  2 (n_b1_3.toNatClampNeg + 4) w1_o1 w2_o1_N hcl) [0, 1] [] [] (wr := []) ⟨rfl, rfl, rfl, rfl, rfl, by decide, by decide⟩ 0 gC9 rfl rfl (lw_V q1256 q619 q620 q88 q621) md_J11_toString ⟨(Nat.le_of_ble_eq_true rfl), (Nat.le_of_ble_eq_true rfl)⟩ rfl dX5_text_64 67 rfl (2 + n_cap / 16 + 2) (0 + 3 * n_cap + (n_b1_3.toNatClampNeg + 4)) rfl rfl (show 2 + n_cap / 16 + 2 ≤ 800 by omega) (show 0 + 3 * n_cap + (n_b1_3.toNatClampNeg + 4) ≤ 48100 by omega) (st := []) rfl (Nat.le_of_ble_eq_true rfl) (fun _ => rfl) (fun u => ?_)
      obtain ⟨b3, b4⟩ := u
      refine g_wd [(b1, .inr (9, [.ref pv, .int 0, .int 0, .int n_b1_3])), (pv, .inl (Z.2 2, n_cap, .inl n_pv)), (b3, .inr (8, [.ref b4, .int 0, .int 0, .int 0])), (b4, .inl (Z.2 2, w2_o1_N, .inl w1_o1))] rfl ?_
      refine g_keep [2, 3] [(b3, .inr (8, [.ref b4, .int 0, .int 0, .int 0])), (b4, .inl (Z.2 2, w2_o1_N, .inl w1_o1))] rfl rfl ?_
      cases h
      exact g_aret X dX5_text_67 (Or.inl ⟨_, rfl⟩) (b3, b4) rfl rfl (show 2 + n_cap / 16 + 2 ≤ 800 by omega) (show 0 + 3 * n_cap + (n_b1_3.toNatClampNeg + 4) ≤ 48100 by omega)
    · replace h := if_f hc h
      refine g_aload_n X rfl dX5_text_21 22 rfl ?_
      refine g_getR X gC4 0 rfl 2 (by decide) q211 (fun _ h9 => h9) rfl dX5_text_22 25 rfl ?_
      refine g_iload_n X rfl dX5_text_25 26 rfl ?_
      obtain ⟨hi, h⟩ := gin_e h
      refine g_laldR X 3 rfl hi dX5_text_26 27 rfl ?_
      refine g_lconst X 0 dX5_text_27 28 rfl rfl ?_
      refine g_lcmp_le X dX5_text_28 29 rfl dX5_text_29 57 (by decide) 32 rfl (fun hc => ?_) (fun hc => ?_)
      · replace h := if_t hc h
        refine g_more (2 + n_cap / 16) (0 + 3 * n_cap) (by omega) (by omega) ?_
        exact w_X5_text_57 a0 a0_1 a0_2 a0_3 a1 a1_1 a1_2 a1_3 a1_4 v_brought v_left v_dropped v_away v_mergings v_drops v_fromNear v_fromFar v_echoes v_n v_pulses v_front v_least v_window v_lengths v_fractions v_pulseTimes v_pulseEnergies X b1 o1 o1_N _ hK10  pv n_cap n_b1_3 n_pv x2 h
      · replace h := if_f hc h
        refine g_aload_n X rfl dX5_text_32 33 rfl ?_
        refine g_iload_n X rfl dX5_text_33 34 rfl ?_
        obtain ⟨w5_count, w6_o0, w7_o0_N, hcl, h⟩ := bd3_e h
        obtain ⟨hpt, h⟩ := gch_e h
        refine g_callV1 X (met_J11_append_2 l Z b1 pv 0 n_b1_3 n_pv n_cap x2 (gRc (F_J11_append_2 n_b1_3 n_pv n_cap x2 0 0)) (gRs (F_J11_append_2 n_b1_3 n_pv n_cap x2 0 0) n_cap) w5_count w6_o0 w7_o0_N hcl) [0, 1] [] [] (wr := []) ⟨rfl, rfl, rfl, rfl, rfl, by decide, by decide⟩ 0 gC9 rfl rfl (lw_V q1227 q699 q700 q88 q701) md_J11_append_2 ⟨(Nat.le_of_ble_eq_true rfl), (Nat.le_of_ble_eq_true rfl)⟩ rfl dX5_text_34 37 rfl (2 + n_cap / 16 + (gRc (F_J11_append_2 n_b1_3 n_pv n_cap x2 0 0))) (0 + 3 * n_cap + (gRs (F_J11_append_2 n_b1_3 n_pv n_cap x2 0 0) n_cap)) rfl rfl (show 2 + n_cap / 16 + (gRc (F_J11_append_2 n_b1_3 n_pv n_cap x2 0 0)) ≤ 800 by omega) (show 0 + 3 * n_cap + (gRs (F_J11_append_2 n_b1_3 n_pv n_cap x2 0 0) n_cap) ≤ 48100 by omega) (st := []) rfl (Nat.le_of_ble_eq_true rfl) (fun _ => rfl) (fun b8 => ?_)
        refine g_more (2 + w7_o0_N / 16) (0 + 3 * w7_o0_N) (by omega) (by omega) ?_
        refine g_wd [(b1, .inr (9, [.ref b8, .int 0, .int 0, .int w5_count])), (b8, .inl (Z.2 2, w7_o0_N, .inl w6_o0))] rfl ?_
        refine g_bipush X 58 dX5_text_37 39 rfl kB_58 ?_
        obtain ⟨w9_count, w10_o0, w11_o0_N, hcl, h⟩ := bd3_e h
        obtain ⟨hpt, h⟩ := gch_e h
        refine g_callV1 X (met_J11_append l Z b1 b8 0 w5_count w6_o0 w7_o0_N 58 (gRc (F_J11_append w5_count w6_o0 w7_o0_N 58 0 0)) (gRs (F_J11_append w5_count w6_o0 w7_o0_N 58 0 0) w7_o0_N) w9_count w10_o0 w11_o0_N hcl) [0, 1] [] [] (wr := []) ⟨rfl, rfl, rfl, rfl, rfl, by decide, by decide⟩ 0 gC9 rfl rfl (lw_V q1228 q526 q527 q88 q528) md_J11_append ⟨(Nat.le_of_ble_eq_true rfl), (Nat.le_of_ble_eq_true rfl)⟩ rfl dX5_text_39 42 rfl (2 + w7_o0_N / 16 + (gRc (F_J11_append w5_count w6_o0 w7_o0_N 58 0 0))) (0 + 3 * w7_o0_N + (gRs (F_J11_append w5_count w6_o0 w7_o0_N 58 0 0) w7_o0_N)) rfl rfl (show 2 + w7_o0_N / 16 + (gRc (F_J11_append w5_count w6_o0 w7_o0_N 58 0 0)) ≤ 800 by omega) (show 0 + 3 * w7_o0_N + (gRs (F_J11_append w5_count w6_o0 w7_o0_N 58 0 0) w7_o0_N) ≤ 48100 by omega) (st := []) rfl (Nat.le_of_ble_eq_true rfl) (fun _ => rfl) (fun b12 => ?_)
        refine g_more (2 + w11_o0_N / 16) (0 + 3 * w11_o0_N) (by omega) (by omega) ?_
        refine g_aload_n X rfl dX5_text_42 43 rfl ?_
        refine g_getR X gC4 0 rfl 2 (by decide) q211 (fun _ h9 => h9) rfl dX5_text_43 46 rfl ?_
        refine g_iload_n X rfl dX5_text_46 47 rfl ?_
        obtain ⟨hi, h⟩ := gin_e h
        refine g_laldR X 3 rfl hi dX5_text_47 48 rfl ?_
        obtain ⟨w13_count, w14_o0, w15_o0_N, hcl, h⟩ := bd3_e h
        obtain ⟨hpt, h⟩ := gch_e h
        refine g_callV1 X (met_J11_append_4 l Z b1 b12 0 w9_count w10_o0 w11_o0_N (v_echoes x2.toNatClampNeg) (gRc (F_J11_append_4 w9_count w10_o0 w11_o0_N (v_echoes x2.toNatClampNeg) 0 0)) (gRs (F_J11_append_4 w9_count w10_o0 w11_o0_N (v_echoes x2.toNatClampNeg) 0 0) w11_o0_N) w13_count w14_o0 w15_o0_N hcl) [0, 1] [] [] (wr := []) ⟨rfl, rfl, rfl, rfl, rfl, by decide, by decide⟩ 0 gC9 rfl rfl (lw_V q1229 q1230 q1231 q88 q1232) md_J11_append_4 ⟨(Nat.le_of_ble_eq_true rfl), (Nat.le_of_ble_eq_true rfl)⟩ rfl dX5_text_48 51 rfl (2 + w11_o0_N / 16 + (gRc (F_J11_append_4 w9_count w10_o0 w11_o0_N (v_echoes x2.toNatClampNeg) 0 0))) (0 + 3 * w11_o0_N + (gRs (F_J11_append_4 w9_count w10_o0 w11_o0_N (v_echoes x2.toNatClampNeg) 0 0) w11_o0_N)) rfl rfl (show 2 + w11_o0_N / 16 + (gRc (F_J11_append_4 w9_count w10_o0 w11_o0_N (v_echoes x2.toNatClampNeg) 0 0)) ≤ 800 by omega) (show 0 + 3 * w11_o0_N + (gRs (F_J11_append_4 w9_count w10_o0 w11_o0_N (v_echoes x2.toNatClampNeg) 0 0) w11_o0_N) ≤ 48100 by omega) (st := []) rfl (Nat.le_of_ble_eq_true rfl) (fun _ => rfl) (fun b16 => ?_)
        refine g_more (2 + w15_o0_N / 16) (0 + 3 * w15_o0_N) (by omega) (by omega) ?_
        refine g_bipush X 59 dX5_text_51 53 rfl kB_59 ?_
        obtain ⟨w17_count, w18_o0, w19_o0_N, hcl, h⟩ := bd3_e h
        obtain ⟨hpt, h⟩ := gch_e h
        refine g_callV1 X (met_J11_append l Z b1 b16 0 w13_count w14_o0 w15_o0_N 59 (gRc (F_J11_append w13_count w14_o0 w15_o0_N 59 0 0)) (gRs (F_J11_append w13_count w14_o0 w15_o0_N 59 0 0) w15_o0_N) w17_count w18_o0 w19_o0_N hcl) [0, 1] [] [] (wr := []) ⟨rfl, rfl, rfl, rfl, rfl, by decide, by decide⟩ 0 gC9 rfl rfl (lw_V q1228 q526 q527 q88 q528) md_J11_append ⟨(Nat.le_of_ble_eq_true rfl), (Nat.le_of_ble_eq_true rfl)⟩ rfl dX5_text_53 56 rfl (2 + w15_o0_N / 16 + (gRc (F_J11_append w13_count w14_o0 w15_o0_N 59 0 0))) (0 + 3 * w15_o0_N + (gRs (F_J11_append w13_count w14_o0 w15_o0_N 59 0 0) w15_o0_N)) rfl rfl (show 2 + w15_o0_N / 16 + (gRc (F_J11_append w13_count w14_o0 w15_o0_N 59 0 0)) ≤ 800 by omega) (show 0 + 3 * w15_o0_N + (gRs (F_J11_append w13_count w14_o0 w15_o0_N 59 0 0) w15_o0_N) ≤ 48100 by omega) (st := []) rfl (Nat.le_of_ble_eq_true rfl) (fun _ => rfl) (fun b20 => ?_)
        refine g_more (2 + w19_o0_N / 16) (0 + 3 * w19_o0_N) (by omega) (by omega) ?_
        refine g_wd [(b1, .inr (9, [.ref b20, .int 0, .int 0, .int w17_count])), (b20, .inl (Z.2 2, w19_o0_N, .inl w18_o0))] rfl ?_
        refine g_pop X dX5_text_56 57 rfl rfl ?_
        refine g_more (2 + w19_o0_N / 16) (0 + 3 * w19_o0_N) (by omega) (by omega) ?_
        exact w_X5_text_57 a0 a0_1 a0_2 a0_3 a1 a1_1 a1_2 a1_3 a1_4 v_brought v_left v_dropped v_away v_mergings v_drops v_fromNear v_fromFar v_echoes v_n v_pulses v_front v_least v_window v_lengths v_fractions v_pulseTimes v_pulseEnergies X b1 o1 o1_N _ hK10  b20 w19_o0_N w17_count w18_o0 x2 h
theorem met_X5_text (l : Launch) (Z : gZt) (a0 : Nat) (a0_1 : Nat) (a0_2 : Nat) (a0_3 : Nat) (a1 : Nat) (a1_1 : Nat) (a1_2 : Nat) (a1_3 : Nat) (a1_4 : Nat) (v_brought : Int64) (v_left : Int64) (v_dropped : Int64) (v_away : Int64) (v_mergings : Int32) (v_drops : Int32) (v_fromNear : Nat → Int64) (v_fromFar : Nat → Int64) (v_echoes : Nat → Int64) (v_n : Int32) (v_pulses : Int32) (v_front : Int32) (v_least : Int32) (v_window : Int32) (v_lengths : Nat → Int32) (v_fractions : Nat → Int32) (v_pulseTimes : Nat → Int32) (v_pulseEnergies : Nat → Int32) (o1 : Nat → Int32) (o1_N : Nat) (h : F_X5_text v_echoes v_window = some (o1, o1_N)) : Ct l yX5_text (ws_ yX5_text cX5_text 3 (some (.object "java/lang/String"))) rm_X5_text Z [.ref a0] [] [(a0, .inr (4, [.ref a0_1, .ref a0_2, .ref a0_3, .ref a1, .long v_brought, .long v_left, .long v_dropped, .long v_away, .int v_mergings, .int v_drops])), (a0_1, .inl (Z.2 1, 1809, .inr (.inl v_fromNear))), (a0_2, .inl (Z.2 1, 1809, .inr (.inl v_fromFar))), (a0_3, .inl (Z.2 1, 201, .inr (.inl v_echoes))), (a1, .inr (2, [.ref a1_1, .ref a1_2, .int v_n, .ref a1_3, .ref a1_4, .int v_pulses, .int v_front, .int v_least, .int v_window])), (a1_1, .inl (Z.2 0, 8, .inl v_lengths)), (a1_2, .inl (Z.2 0, 8, .inl v_fractions)), (a1_3, .inl (Z.2 0, 4, .inl v_pulseTimes)), (a1_4, .inl (Z.2 0, 4, .inl v_pulseEnergies))] (fun u : Nat × Nat => (some (.ref u.1) : Option Value)) (fun u : Nat × Nat => ([(u.1, .inr (8, [.ref u.2, .int 0, .int 0, .int 0])), (u.2, .inl (Z.2 2, o1_N, .inl o1))] : va_W)) := by
  refine Ct.of cX5_text 3 (some (.object "java/lang/String")) "LineEchoes$Runner" [some (.ref a0), none, none] 2 (by decide) rfl (Nat.le_of_ble_eq_true rfl) rfl (fun p e s m args below meth c A X hin => ?_)
  unfold F_X5_text at h
  refine g_new X gC9 q1225 q495 q88 [.null, .int 0, .int 0, .int 0] gD9 dX5_text_0 3 rfl 1 4 rfl rfl (Nat.le_of_ble_eq_true rfl) (Nat.le_of_ble_eq_true rfl) (fun b1 => ?_)
  refine g_dup X dX5_text_3 4 rfl rfl ?_
  obtain ⟨w2_o0, hcl, h⟩ := bd1_e h
  refine g_callI0 X (met_J11_init l Z b1   w2_o0 hcl) [0] [] [] (wr := []) ⟨rfl, rfl, rfl, rfl, rfl, by decide, by decide⟩ q498 q88 q1226 q497 rfl md_J11_init ⟨(Nat.le_of_ble_eq_true rfl), (Nat.le_of_ble_eq_true rfl)⟩ rfl dX5_text_4 7 rfl 2 20 rfl rfl (Nat.le_of_ble_eq_true rfl) (Nat.le_of_ble_eq_true rfl) (st := [.ref b1]) rfl (Nat.le_of_ble_eq_true rfl) (fun _ => rfl) (fun b3 => ?_)
  refine g_astore_n X dX5_text_7 8 rfl (Nat.le_of_ble_eq_true rfl) rfl [some (.ref a0), some (.ref b1), none] rfl ?_
  refine g_iconst X 0 dX5_text_8 9 rfl kI_0 ?_
  refine g_istore_n X dX5_text_9 10 rfl (Nat.le_of_ble_eq_true rfl) rfl [some (.ref a0), some (.ref b1), some (.int 0)] rfl ?_
  refine g_more (2 + 16 / 16) (0 + 3 * 16) (by omega) (by omega) ?_
  exact w_X5_text_10 a0 a0_1 a0_2 a0_3 a1 a1_1 a1_2 a1_3 a1_4 v_brought v_left v_dropped v_away v_mergings v_drops v_fromNear v_fromFar v_echoes v_n v_pulses v_front v_least v_window v_lengths v_fractions v_pulseTimes v_pulseEnergies X b1 o1 o1_N    gFU b3 16 0 w2_o0 0 h
