/-! 23.bench (printed by gen/system.py) -/
set_option maxRecDepth 100000
theorem md_X2_init : gMd yX2_init 0 := by unfold gMd; decide +kernel
theorem md_X3_copy : gMd yX3_copy 0 := by unfold gMd; decide +kernel
theorem md_X3_earliest : gMd yX3_earliest 0 := by unfold gMd; decide +kernel
theorem md_X3_first : gMd yX3_first 0 := by unfold gMd; decide +kernel
theorem md_X3_partOf : gMd yX3_partOf 1 := by unfold gMd; decide +kernel
theorem md_X3_takeParts : gMd yX3_takeParts 1 := by unfold gMd; decide +kernel
theorem md_X4_at : gMd yX4_at 1 := by unfold gMd; decide +kernel
theorem md_X8_of : gMd yX8_of 3 := by unfold gMd; decide +kernel
theorem gD1 : ∀ j, j < 3 → defaultValue (tyX2 j) = vp_V [.null, .null, .null] j := fun j hj => match j, hj with | 0, _ => rfl | 1, _ => rfl | 2, _ => rfl | n + 3, hj => absurd hj (by omega)
/-! LineEchoes$Bench.<init>()V -/
abbrev rm_X2_init : Room := { frames := 3, cells := 9, slots := 437, locals := 80 }
def F_X2_init : Option (Int32 × Int32 × Int32 × Int32 × Int32 × (Nat → Int32) × (Nat → Int32) × (Nat → Int32) × (Nat → Int32) × (Nat → Int64) × (Nat → Int64)) :=
  bd9 (F_X3_first) fun w1_o0_2 w2_o0_5 w3_o0_6 w4_o0_7 w5_o0_8 w6_o1 w7_o2 w8_o3 w9_o4 =>
  bd1 (F_X4_init) fun w16_o0 =>
  bd1 (F_X4_init) fun w19_o0 =>
  some (w1_o0_2, w2_o0_5, w3_o0_6, w4_o0_7, w5_o0_8, w6_o1, w7_o2, w8_o3, w9_o4, w16_o0, w19_o0)
theorem met_X2_init (l : Launch) (Z : gZt) (a0 : Nat) (o0_2 : Int32) (o0_5 : Int32) (o0_6 : Int32) (o0_7 : Int32) (o0_8 : Int32) (o1 : Nat → Int32) (o2 : Nat → Int32) (o3 : Nat → Int32) (o4 : Nat → Int32) (o6 : Nat → Int64) (o8 : Nat → Int64) (h : F_X2_init = some (o0_2, o0_5, o0_6, o0_7, o0_8, o1, o2, o3, o4, o6, o8)) : Ct l yX2_init (ws_ yX2_init cX2_init 1 none) rm_X2_init Z [.ref a0] [(a0, .inr (1, [.null, .null, .null]))] [] (fun u : Nat × Nat × Nat × Nat × Nat × Nat × Nat × Nat × Nat => (none : Option Value)) (fun u : Nat × Nat × Nat × Nat × Nat × Nat × Nat × Nat × Nat => ([(a0, .inr (1, [.ref u.1, .ref u.2.2.2.2.2.1, .ref u.2.2.2.2.2.2.2.1])), (u.1, .inr (2, [.ref u.2.1, .ref u.2.2.1, .int o0_2, .ref u.2.2.2.1, .ref u.2.2.2.2.1, .int o0_5, .int o0_6, .int o0_7, .int o0_8])), (u.2.1, .inl (Z.2 0, 8, .inl o1)), (u.2.2.1, .inl (Z.2 0, 8, .inl o2)), (u.2.2.2.1, .inl (Z.2 0, 4, .inl o3)), (u.2.2.2.2.1, .inl (Z.2 0, 4, .inl o4)), (u.2.2.2.2.2.1, .inr (3, [.ref u.2.2.2.2.2.2.1])), (u.2.2.2.2.2.2.1, .inl (Z.2 1, 201, .inr (.inl o6))), (u.2.2.2.2.2.2.2.1, .inr (3, [.ref u.2.2.2.2.2.2.2.2])), (u.2.2.2.2.2.2.2.2, .inl (Z.2 1, 201, .inr (.inl o8)))] : va_W)) := by
  refine Ct.of cX2_init 1 none "LineEchoes$Bench" [some (.ref a0)] 0 (by decide) rfl (Nat.le_of_ble_eq_true rfl) rfl (fun p e s m args below meth c A X hin => ?_)
  replace hin : True → meth.name = "<init>" := fun _ => hin rfl
  unfold F_X2_init at h
  refine g_aload_n X rfl dX2_init_0 1 rfl ?_
  refine g_objInit X q111 q104 q105 dX2_init_1 4 rfl (Nat.le_of_ble_eq_true rfl) (Nat.le_of_ble_eq_true rfl) ?_
  refine g_aload_n X rfl dX2_init_4 5 rfl ?_
  obtain ⟨w1_o0_2, w2_o0_5, w3_o0_6, w4_o0_7, w5_o0_8, w6_o1, w7_o2, w8_o3, w9_o4, hcl, h⟩ := bd9_e h
  refine g_callS1 X (met_X3_first l Z    w1_o0_2 w2_o0_5 w3_o0_6 w4_o0_7 w5_o0_8 w6_o1 w7_o2 w8_o3 w9_o4 hcl) [] [0] [] (wr := [(a0, .inr (1, [.null, .null, .null]))]) ⟨rfl, rfl, rfl, rfl, rfl, by decide, by decide⟩ (lw_S q112 q113 q71 q114) md_X3_first ⟨(Nat.le_of_ble_eq_true rfl), (Nat.le_of_ble_eq_true rfl)⟩ rfl dX2_init_5 8 rfl 5 33 rfl rfl (Nat.le_of_ble_eq_true rfl) (Nat.le_of_ble_eq_true rfl) (st := [.ref a0]) rfl (Nat.le_of_ble_eq_true rfl) (fun _ => rfl) (fun u => ?_)
  obtain ⟨b10, b11, b12, b13, b14⟩ := u
  refine g_put X gC1 0 rfl 0 (by decide) q190 (fun _ h9 => h9) rfl rfl rfl (Nat.le_of_ble_eq_true rfl) dX2_init_8 11 rfl ?_
  refine g_aload_n X rfl dX2_init_11 12 rfl ?_
  refine g_new X gC3 q179 q180 q72 [.null] gD3 dX2_init_12 15 rfl 6 34 rfl rfl (Nat.le_of_ble_eq_true rfl) (Nat.le_of_ble_eq_true rfl) (fun b15 => ?_)
  refine g_dup X dX2_init_15 16 rfl rfl ?_
  obtain ⟨w16_o0, hcl, h⟩ := bd1_e h
  refine g_callIN0 X (met_X4_init l Z b15   w16_o0 hcl) [6] [0, 1, 2, 3, 4, 5] [] (wr := [(a0, .inr (1, [.ref b10, .null, .null])), (b10, .inr (2, [.ref b11, .ref b12, .int w1_o0_2, .ref b13, .ref b14, .int w2_o0_5, .int w3_o0_6, .int w4_o0_7, .int w5_o0_8])), (b11, .inl (Z.2 0, 8, .inl w6_o1)), (b12, .inl (Z.2 0, 8, .inl w7_o2)), (b13, .inl (Z.2 0, 4, .inl w8_o3)), (b14, .inl (Z.2 0, 4, .inl w9_o4))]) ⟨rfl, rfl, rfl, rfl, rfl, by decide, by decide⟩ q183 q72 q181 q182 rfl md_X4_init ⟨(Nat.le_of_ble_eq_true rfl), (Nat.le_of_ble_eq_true rfl)⟩ rfl dX2_init_16 19 rfl 7 235 rfl rfl (Nat.le_of_ble_eq_true rfl) (Nat.le_of_ble_eq_true rfl) (st := [.ref b15, .ref a0]) rfl (Nat.le_of_ble_eq_true rfl) (fun _ => rfl) (fun b17 => ?_)
  refine g_wd [(a0, .inr (1, [.ref b10, .null, .null])), (b10, .inr (2, [.ref b11, .ref b12, .int w1_o0_2, .ref b13, .ref b14, .int w2_o0_5, .int w3_o0_6, .int w4_o0_7, .int w5_o0_8])), (b11, .inl (Z.2 0, 8, .inl w6_o1)), (b12, .inl (Z.2 0, 8, .inl w7_o2)), (b13, .inl (Z.2 0, 4, .inl w8_o3)), (b14, .inl (Z.2 0, 4, .inl w9_o4)), (b15, .inr (3, [.ref b17])), (b17, .inl (Z.2 1, 201, .inr (.inl w16_o0)))] rfl ?_
  refine g_put X gC1 0 rfl 1 (by decide) q192 (fun _ h9 => h9) rfl rfl rfl (Nat.le_of_ble_eq_true rfl) dX2_init_19 22 rfl ?_
  refine g_aload_n X rfl dX2_init_22 23 rfl ?_
  refine g_new X gC3 q179 q180 q72 [.null] gD3 dX2_init_23 26 rfl 8 236 rfl rfl (Nat.le_of_ble_eq_true rfl) (Nat.le_of_ble_eq_true rfl) (fun b18 => ?_)
  refine g_dup X dX2_init_26 27 rfl rfl ?_
  obtain ⟨w19_o0, hcl, h⟩ := bd1_e h
  refine g_callIN0 X (met_X4_init l Z b18   w19_o0 hcl) [8] [0, 1, 2, 3, 4, 5, 6, 7] [] (wr := [(a0, .inr (1, [.ref b10, .ref b15, .null])), (b10, .inr (2, [.ref b11, .ref b12, .int w1_o0_2, .ref b13, .ref b14, .int w2_o0_5, .int w3_o0_6, .int w4_o0_7, .int w5_o0_8])), (b11, .inl (Z.2 0, 8, .inl w6_o1)), (b12, .inl (Z.2 0, 8, .inl w7_o2)), (b13, .inl (Z.2 0, 4, .inl w8_o3)), (b14, .inl (Z.2 0, 4, .inl w9_o4)), (b15, .inr (3, [.ref b17])), (b17, .inl (Z.2 1, 201, .inr (.inl w16_o0)))]) ⟨rfl, rfl, rfl, rfl, rfl, by decide, by decide⟩ q183 q72 q181 q182 rfl md_X4_init ⟨(Nat.le_of_ble_eq_true rfl), (Nat.le_of_ble_eq_true rfl)⟩ rfl dX2_init_27 30 rfl 9 437 rfl rfl (Nat.le_of_ble_eq_true rfl) (Nat.le_of_ble_eq_true rfl) (st := [.ref b18, .ref a0]) rfl (Nat.le_of_ble_eq_true rfl) (fun _ => rfl) (fun b20 => ?_)
  refine g_put X gC1 0 rfl 2 (by decide) q193 (fun _ h9 => h9) rfl rfl rfl (Nat.le_of_ble_eq_true rfl) dX2_init_30 33 rfl ?_
  refine g_wd [(a0, .inr (1, [.ref b10, .ref b15, .ref b18])), (b10, .inr (2, [.ref b11, .ref b12, .int w1_o0_2, .ref b13, .ref b14, .int w2_o0_5, .int w3_o0_6, .int w4_o0_7, .int w5_o0_8])), (b11, .inl (Z.2 0, 8, .inl w6_o1)), (b12, .inl (Z.2 0, 8, .inl w7_o2)), (b13, .inl (Z.2 0, 4, .inl w8_o3)), (b14, .inl (Z.2 0, 4, .inl w9_o4)), (b15, .inr (3, [.ref b17])), (b17, .inl (Z.2 1, 201, .inr (.inl w16_o0))), (b18, .inr (3, [.ref b20])), (b20, .inl (Z.2 1, 201, .inr (.inl w19_o0)))] rfl ?_
  obtain ⟨rfl, rfl, rfl, rfl, rfl, rfl, rfl, rfl, rfl, rfl, rfl⟩ := rt11 h
  exact g_vret X dX2_init_33 (b10, b11, b12, b13, b14, b15, b17, b18, b20) rfl rfl (Nat.le_of_ble_eq_true rfl) (Nat.le_of_ble_eq_true rfl)
/-! LineEchoes$Bench.copy()LLineEchoes$Bench; -/
abbrev rm_X2_copy : Room := { frames := 4, cells := 15, slots := 473, locals := 100 }
def F_X2_copy (v_n : Int32) (v_pulses : Int32) (v_front : Int32) (v_least : Int32) (v_window : Int32) (v_lengths : Nat → Int32) (v_fractions : Nat → Int32) (v_pulseTimes : Nat → Int32) (v_pulseEnergies : Nat → Int32) : Option (Int32 × Int32 × Int32 × Int32 × Int32 × (Nat → Int32) × (Nat → Int32) × (Nat → Int32) × (Nat → Int32)) :=
  bd11 (F_X2_init) fun w2_o0_2 w3_o0_5 w4_o0_6 w5_o0_7 w6_o0_8 w7_o1 w8_o2 w9_o3 w10_o4 w11_o6 w12_o8 =>
  bd9 (F_X3_copy v_n v_pulses v_front v_least v_window v_lengths v_fractions v_pulseTimes v_pulseEnergies) fun w22_o0_2 w23_o0_5 w24_o0_6 w25_o0_7 w26_o0_8 w27_o1 w28_o2 w29_o3 w30_o4 =>
  some (w22_o0_2, w23_o0_5, w24_o0_6, w25_o0_7, w26_o0_8, w27_o1, w28_o2, w29_o3, w30_o4)
theorem met_X2_copy (l : Launch) (Z : gZt) (a0 : Nat) (a1 : Nat) (a1_1 : Nat) (a1_2 : Nat) (a1_3 : Nat) (a1_4 : Nat) (a2 : Nat) (a3 : Nat) (v_n : Int32) (v_pulses : Int32) (v_front : Int32) (v_least : Int32) (v_window : Int32) (v_lengths : Nat → Int32) (v_fractions : Nat → Int32) (v_pulseTimes : Nat → Int32) (v_pulseEnergies : Nat → Int32) (o1_2 : Int32) (o1_5 : Int32) (o1_6 : Int32) (o1_7 : Int32) (o1_8 : Int32) (o2 : Nat → Int32) (o3 : Nat → Int32) (o4 : Nat → Int32) (o5 : Nat → Int32) (h : F_X2_copy v_n v_pulses v_front v_least v_window v_lengths v_fractions v_pulseTimes v_pulseEnergies = some (o1_2, o1_5, o1_6, o1_7, o1_8, o2, o3, o4, o5)) : Ct l yX2_copy (ws_ yX2_copy cX2_copy 2 (some (.object "LineEchoes$Bench"))) rm_X2_copy Z [.ref a0] [] [(a0, .inr (1, [.ref a1, .ref a2, .ref a3])), (a1, .inr (2, [.ref a1_1, .ref a1_2, .int v_n, .ref a1_3, .ref a1_4, .int v_pulses, .int v_front, .int v_least, .int v_window])), (a1_1, .inl (Z.2 0, 8, .inl v_lengths)), (a1_2, .inl (Z.2 0, 8, .inl v_fractions)), (a1_3, .inl (Z.2 0, 4, .inl v_pulseTimes)), (a1_4, .inl (Z.2 0, 4, .inl v_pulseEnergies))] (fun u : Nat × Nat × Nat × Nat × Nat × Nat => (some (.ref u.1) : Option Value)) (fun u : Nat × Nat × Nat × Nat × Nat × Nat => ([(u.1, .inr (1, [.ref u.2.1, .ref a2, .ref a3])), (u.2.1, .inr (2, [.ref u.2.2.1, .ref u.2.2.2.1, .int o1_2, .ref u.2.2.2.2.1, .ref u.2.2.2.2.2, .int o1_5, .int o1_6, .int o1_7, .int o1_8])), (u.2.2.1, .inl (Z.2 0, 8, .inl o2)), (u.2.2.2.1, .inl (Z.2 0, 8, .inl o3)), (u.2.2.2.2.1, .inl (Z.2 0, 4, .inl o4)), (u.2.2.2.2.2, .inl (Z.2 0, 4, .inl o5))] : va_W)) := by
  refine Ct.of cX2_copy 2 (some (.object "LineEchoes$Bench")) "LineEchoes$Bench" [some (.ref a0), none] 1 (by decide) rfl (Nat.le_of_ble_eq_true rfl) rfl (fun p e s m args below meth c A X hin => ?_)
  unfold F_X2_copy at h
  refine g_new X gC1 q270 q107 q70 [.null, .null, .null] gD1 dX2_copy_0 3 rfl 1 3 rfl rfl (Nat.le_of_ble_eq_true rfl) (Nat.le_of_ble_eq_true rfl) (fun b1 => ?_)
  refine g_dup X dX2_copy_3 4 rfl rfl ?_
  obtain ⟨w2_o0_2, w3_o0_5, w4_o0_6, w5_o0_7, w6_o0_8, w7_o1, w8_o2, w9_o3, w10_o4, w11_o6, w12_o8, hcl, h⟩ := bd11_e h
  refine g_callI0 X (met_X2_init l Z b1   w2_o0_2 w3_o0_5 w4_o0_6 w5_o0_7 w6_o0_8 w7_o1 w8_o2 w9_o3 w10_o4 w11_o6 w12_o8 hcl) [0] [] [] (wr := []) ⟨rfl, rfl, rfl, rfl, rfl, by decide, by decide⟩ q110 q70 q271 q109 rfl md_X2_init ⟨(Nat.le_of_ble_eq_true rfl), (Nat.le_of_ble_eq_true rfl)⟩ rfl dX2_copy_4 7 rfl 10 440 rfl rfl (Nat.le_of_ble_eq_true rfl) (Nat.le_of_ble_eq_true rfl) (st := [.ref b1]) rfl (Nat.le_of_ble_eq_true rfl) (fun _ => rfl) (fun u => ?_)
  obtain ⟨b13, b14, b15, b16, b17, b18, b19, b20, b21⟩ := u
  refine g_astore_n X dX2_copy_7 8 rfl (Nat.le_of_ble_eq_true rfl) rfl [some (.ref a0), some (.ref b1)] rfl ?_
  refine g_aload_n X rfl dX2_copy_8 9 rfl ?_
  refine g_aload_n X rfl dX2_copy_9 10 rfl ?_
  refine g_getR X gC1 0 rfl 0 (by decide) q190 (fun _ h9 => h9) rfl dX2_copy_10 13 rfl ?_
  obtain ⟨w22_o0_2, w23_o0_5, w24_o0_6, w25_o0_7, w26_o0_8, w27_o1, w28_o2, w29_o3, w30_o4, hcl, h⟩ := bd9_e h
  refine g_callV1 X (met_X3_copy l Z a1 a1_1 a1_2 a1_3 a1_4 v_n v_pulses v_front v_least v_window v_lengths v_fractions v_pulseTimes v_pulseEnergies  w22_o0_2 w23_o0_5 w24_o0_6 w25_o0_7 w26_o0_8 w27_o1 w28_o2 w29_o3 w30_o4 hcl) [] [0, 1, 2, 3, 4, 5, 6, 7, 8, 9] [11, 12, 13, 14, 15] (wr := [(b1, .inr (1, [.ref b13, .ref b18, .ref b20])), (b13, .inr (2, [.ref b14, .ref b15, .int w2_o0_2, .ref b16, .ref b17, .int w3_o0_5, .int w4_o0_6, .int w5_o0_7, .int w6_o0_8])), (b14, .inl (Z.2 0, 8, .inl w7_o1)), (b15, .inl (Z.2 0, 8, .inl w8_o2)), (b16, .inl (Z.2 0, 4, .inl w9_o3)), (b17, .inl (Z.2 0, 4, .inl w10_o4)), (b18, .inr (3, [.ref b19])), (b19, .inl (Z.2 1, 201, .inr (.inl w11_o6))), (b20, .inr (3, [.ref b21])), (b21, .inl (Z.2 1, 201, .inr (.inl w12_o8)))]) ⟨rfl, rfl, rfl, rfl, rfl, by decide, by decide⟩ 11 gC2 rfl rfl (lw_V q272 q273 q274 q71 q275) md_X3_copy ⟨(Nat.le_of_ble_eq_true rfl), (Nat.le_of_ble_eq_true rfl)⟩ rfl dX2_copy_13 16 rfl 15 473 rfl rfl (Nat.le_of_ble_eq_true rfl) (Nat.le_of_ble_eq_true rfl) (st := [.ref b1]) rfl (Nat.le_of_ble_eq_true rfl) (fun _ => rfl) (fun u => ?_)
  obtain ⟨b31, b32, b33, b34, b35⟩ := u
  refine g_wd [(b1, .inr (1, [.ref b13, .ref b18, .ref b20])), (b13, .inr (2, [.ref b14, .ref b15, .int w2_o0_2, .ref b16, .ref b17, .int w3_o0_5, .int w4_o0_6, .int w5_o0_7, .int w6_o0_8])), (b14, .inl (Z.2 0, 8, .inl w7_o1)), (b15, .inl (Z.2 0, 8, .inl w8_o2)), (b16, .inl (Z.2 0, 4, .inl w9_o3)), (b17, .inl (Z.2 0, 4, .inl w10_o4)), (b18, .inr (3, [.ref b19])), (b19, .inl (Z.2 1, 201, .inr (.inl w11_o6))), (b20, .inr (3, [.ref b21])), (b21, .inl (Z.2 1, 201, .inr (.inl w12_o8))), (b31, .inr (2, [.ref b32, .ref b33, .int w22_o0_2, .ref b34, .ref b35, .int w23_o0_5, .int w24_o0_6, .int w25_o0_7, .int w26_o0_8])), (b32, .inl (Z.2 0, 8, .inl w27_o1)), (b33, .inl (Z.2 0, 8, .inl w28_o2)), (b34, .inl (Z.2 0, 4, .inl w29_o3)), (b35, .inl (Z.2 0, 4, .inl w30_o4))] rfl ?_
  refine g_put X gC1 0 rfl 0 (by decide) q190 (fun _ h9 => h9) rfl rfl rfl (Nat.le_of_ble_eq_true rfl) dX2_copy_16 19 rfl ?_
  refine g_aload_n X rfl dX2_copy_19 20 rfl ?_
  refine g_aload_n X rfl dX2_copy_20 21 rfl ?_
  refine g_getR X gC1 0 rfl 1 (by decide) q192 (fun _ h9 => h9) rfl dX2_copy_21 24 rfl ?_
  refine g_put X gC1 0 rfl 1 (by decide) q192 (fun _ h9 => h9) rfl rfl rfl (Nat.le_of_ble_eq_true rfl) dX2_copy_24 27 rfl ?_
  refine g_aload_n X rfl dX2_copy_27 28 rfl ?_
  refine g_aload_n X rfl dX2_copy_28 29 rfl ?_
  refine g_getR X gC1 0 rfl 2 (by decide) q193 (fun _ h9 => h9) rfl dX2_copy_29 32 rfl ?_
  refine g_put X gC1 0 rfl 2 (by decide) q193 (fun _ h9 => h9) rfl rfl rfl (Nat.le_of_ble_eq_true rfl) dX2_copy_32 35 rfl ?_
  refine g_aload_n X rfl dX2_copy_35 36 rfl ?_
  refine g_keep [0, 10, 11, 12, 13, 14] [(b1, .inr (1, [.ref b31, .ref a2, .ref a3])), (b31, .inr (2, [.ref b32, .ref b33, .int w22_o0_2, .ref b34, .ref b35, .int w23_o0_5, .int w24_o0_6, .int w25_o0_7, .int w26_o0_8])), (b32, .inl (Z.2 0, 8, .inl w27_o1)), (b33, .inl (Z.2 0, 8, .inl w28_o2)), (b34, .inl (Z.2 0, 4, .inl w29_o3)), (b35, .inl (Z.2 0, 4, .inl w30_o4))] rfl rfl ?_
  cases h
  exact g_aret X dX2_copy_36 (Or.inl ⟨_, rfl⟩) (b1, b31, b32, b33, b34, b35) rfl rfl (Nat.le_of_ble_eq_true rfl) (Nat.le_of_ble_eq_true rfl)
/-! LineEchoes$Bench.keepSound(LLineEchoes$Runner;)I -/
abbrev rm_X2_keepSound : Room := { frames := 3, cells := 2, slots := 202, locals := 85 }
def F_X2_keepSound (v_fromNear : Nat → Int64) (v_fromFar : Nat → Int64) (v_echoes : Nat → Int64) (v_n : Int32) (v_pulses : Int32) (v_front : Int32) (v_least : Int32) (v_window : Int32) (v_lengths : Nat → Int32) (v_fractions : Nat → Int32) (v_pulseTimes : Nat → Int32) (v_pulseEnergies : Nat → Int32) : Option (Int32 × Int64 × Int64 × Int64 × Int64 × Int32 × Int32 × (Nat → Int64) × (Nat → Int64) × (Nat → Int64) × (Nat → Int64)) :=
  bd9 (F_X5_run v_fromNear v_fromFar v_echoes v_n v_pulses v_front v_least v_window v_lengths v_fractions v_pulseTimes v_pulseEnergies) fun w1_brought w2_left w3_dropped w4_away w5_mergings w6_drops w7_fromNear w8_fromFar w9_echoes =>
  bd1 (F_X4_ofR w9_echoes v_window) fun w10_o1 =>
  bd1 (F_X7_count w9_echoes v_window) fun r13 =>
  some (r13, w1_brought, w2_left, w3_dropped, w4_away, w5_mergings, w6_drops, w7_fromNear, w8_fromFar, w9_echoes, w10_o1)
theorem met_X2_keepSound (l : Launch) (Z : gZt) (a0 : Nat) (a4 : Nat) (a4_1 : Nat) (a4_2 : Nat) (a4_3 : Nat) (a1 : Nat) (a1_1 : Nat) (a1_2 : Nat) (a1_3 : Nat) (a1_4 : Nat) (a2 : Nat) (a3 : Nat) (v_line : Option Nat) (v_brought : Int64) (v_left : Int64) (v_dropped : Int64) (v_away : Int64) (v_mergings : Int32) (v_drops : Int32) (v_fromNear : Nat → Int64) (v_fromFar : Nat → Int64) (v_echoes : Nat → Int64) (v_n : Int32) (v_pulses : Int32) (v_front : Int32) (v_least : Int32) (v_window : Int32) (v_lengths : Nat → Int32) (v_fractions : Nat → Int32) (v_pulseTimes : Nat → Int32) (v_pulseEnergies : Nat → Int32) (r : Int32) (r_brought : Int64) (r_left : Int64) (r_dropped : Int64) (r_away : Int64) (r_mergings : Int32) (r_drops : Int32) (r_fromNear : Nat → Int64) (r_fromFar : Nat → Int64) (r_echoes : Nat → Int64) (o1 : Nat → Int64) (h : F_X2_keepSound v_fromNear v_fromFar v_echoes v_n v_pulses v_front v_least v_window v_lengths v_fractions v_pulseTimes v_pulseEnergies = some (r, r_brought, r_left, r_dropped, r_away, r_mergings, r_drops, r_fromNear, r_fromFar, r_echoes, o1)) : Ct l yX2_keepSound (ws_ yX2_keepSound cX2_keepSound 2 (some .int)) rm_X2_keepSound Z [.ref a0, .ref a4] [(a0, .inr (1, [.ref a1, .ref a2, .ref a3])), (a4, .inr (4, [.ref a4_1, .ref a4_2, .ref a4_3, (va_rf v_line), .long v_brought, .long v_left, .long v_dropped, .long v_away, .int v_mergings, .int v_drops])), (a4_1, .inl (Z.2 1, 1809, .inr (.inl v_fromNear))), (a4_2, .inl (Z.2 1, 1809, .inr (.inl v_fromFar))), (a4_3, .inl (Z.2 1, 201, .inr (.inl v_echoes)))] [(a1, .inr (2, [.ref a1_1, .ref a1_2, .int v_n, .ref a1_3, .ref a1_4, .int v_pulses, .int v_front, .int v_least, .int v_window])), (a1_1, .inl (Z.2 0, 8, .inl v_lengths)), (a1_2, .inl (Z.2 0, 8, .inl v_fractions)), (a1_3, .inl (Z.2 0, 4, .inl v_pulseTimes)), (a1_4, .inl (Z.2 0, 4, .inl v_pulseEnergies))] (fun u : Nat × Nat => (some (.int r) : Option Value)) (fun u : Nat × Nat => ([(a0, .inr (1, [.ref a1, .ref u.1, .ref a3])), (a4, .inr (4, [.ref a4_1, .ref a4_2, .ref a4_3, .ref a1, .long r_brought, .long r_left, .long r_dropped, .long r_away, .int r_mergings, .int r_drops])), (a4_1, .inl (Z.2 1, 1809, .inr (.inl r_fromNear))), (a4_2, .inl (Z.2 1, 1809, .inr (.inl r_fromFar))), (a4_3, .inl (Z.2 1, 201, .inr (.inl r_echoes))), (u.1, .inr (3, [.ref u.2])), (u.2, .inl (Z.2 1, 201, .inr (.inl o1)))] : va_W)) := by
  refine Ct.of cX2_keepSound 2 (some .int) "LineEchoes$Bench" [some (.ref a0), some (.ref a4)] 0 (by decide) rfl (Nat.le_of_ble_eq_true rfl) rfl (fun p e s m args below meth c A X hin => ?_)
  unfold F_X2_keepSound at h
  refine g_aload_n X rfl dX2_keepSound_0 1 rfl ?_
  refine g_aload_n X rfl dX2_keepSound_1 2 rfl ?_
  refine g_get X gC1 0 rfl 0 (by decide) q190 (fun _ h9 => h9) rfl dX2_keepSound_2 5 rfl ?_
  obtain ⟨w1_brought, w2_left, w3_dropped, w4_away, w5_mergings, w6_drops, w7_fromNear, w8_fromFar, w9_echoes, hcl, h⟩ := bd9_e h
  refine g_callV0 X (met_X5_run l Z a4 a4_1 a4_2 a4_3 a1 a1_1 a1_2 a1_3 a1_4 v_line v_brought v_left v_dropped v_away v_mergings v_drops v_fromNear v_fromFar v_echoes v_n v_pulses v_front v_least v_window v_lengths v_fractions v_pulseTimes v_pulseEnergies  w1_brought w2_left w3_dropped w4_away w5_mergings w6_drops w7_fromNear w8_fromFar w9_echoes hcl) [1, 2, 3, 4] [0] [5, 6, 7, 8, 9] (wr := [(a0, .inr (1, [.ref a1, .ref a2, .ref a3]))]) ⟨rfl, rfl, rfl, rfl, rfl, by decide, by decide⟩ 1 gC4 rfl rfl (lw_V q307 q308 q309 q73 q310) md_X5_run ⟨(Nat.le_of_ble_eq_true rfl), (Nat.le_of_ble_eq_true rfl)⟩ rfl dX2_keepSound_5 8 rfl 0 0 rfl rfl (Nat.le_of_ble_eq_true rfl) (Nat.le_of_ble_eq_true rfl) (st := []) rfl (Nat.le_of_ble_eq_true rfl) (fun _ => rfl) (fun _ => ?_)
  refine g_aload_n X rfl dX2_keepSound_8 9 rfl ?_
  refine g_aload_n X rfl dX2_keepSound_9 10 rfl ?_
  refine g_aload_n X rfl dX2_keepSound_10 11 rfl ?_
  refine g_get X gC1 0 rfl 0 (by decide) q190 (fun _ h9 => h9) rfl dX2_keepSound_11 14 rfl ?_
  refine g_getRN X gC2 0 rfl 8 (by decide) q152 (fun _ h9 => h9) rfl dX2_keepSound_14 17 rfl ?_
  obtain ⟨w10_o1, hcl, h⟩ := bd1_e h
  refine g_callS1 X (met_X4_ofR l Z a4 a4_1 a4_2 a4_3 (some a1) w1_brought w2_left w3_dropped w4_away w5_mergings w6_drops w7_fromNear w8_fromFar w9_echoes v_window w10_o1 hcl) [] [0, 1, 2, 3, 4] [1, 2, 3, 4] (wr := [(a0, .inr (1, [.ref a1, .ref a2, .ref a3])), (a4, .inr (4, [.ref a4_1, .ref a4_2, .ref a4_3, .ref a1, .long w1_brought, .long w2_left, .long w3_dropped, .long w4_away, .int w5_mergings, .int w6_drops])), (a4_1, .inl (Z.2 1, 1809, .inr (.inl w7_fromNear))), (a4_2, .inl (Z.2 1, 1809, .inr (.inl w8_fromFar))), (a4_3, .inl (Z.2 1, 201, .inr (.inl w9_echoes)))]) ⟨rfl, rfl, rfl, rfl, rfl, by decide, by decide⟩ (lw_S q330 q331 q72 q332) md_X4_of ⟨(Nat.le_of_ble_eq_true rfl), (Nat.le_of_ble_eq_true rfl)⟩ rfl dX2_keepSound_17 20 rfl 2 202 rfl rfl (Nat.le_of_ble_eq_true rfl) (Nat.le_of_ble_eq_true rfl) (st := [.ref a0]) rfl (Nat.le_of_ble_eq_true rfl) (fun _ => rfl) (fun u => ?_)
  obtain ⟨b11, b12⟩ := u
  refine g_put X gC1 0 rfl 1 (by decide) q192 (fun _ h9 => h9) rfl rfl rfl (Nat.le_of_ble_eq_true rfl) dX2_keepSound_20 23 rfl ?_
  refine g_wd [(a0, .inr (1, [.ref a1, .ref b11, .ref a3])), (a4, .inr (4, [.ref a4_1, .ref a4_2, .ref a4_3, .ref a1, .long w1_brought, .long w2_left, .long w3_dropped, .long w4_away, .int w5_mergings, .int w6_drops])), (a4_1, .inl (Z.2 1, 1809, .inr (.inl w7_fromNear))), (a4_2, .inl (Z.2 1, 1809, .inr (.inl w8_fromFar))), (a4_3, .inl (Z.2 1, 201, .inr (.inl w9_echoes))), (b11, .inr (3, [.ref b12])), (b12, .inl (Z.2 1, 201, .inr (.inl w10_o1)))] rfl ?_
  refine g_aload_n X rfl dX2_keepSound_23 24 rfl ?_
  refine g_aload_n X rfl dX2_keepSound_24 25 rfl ?_
  refine g_get X gC1 0 rfl 0 (by decide) q190 (fun _ h9 => h9) rfl dX2_keepSound_25 28 rfl ?_
  refine g_getRN X gC2 0 rfl 8 (by decide) q152 (fun _ h9 => h9) rfl dX2_keepSound_28 31 rfl ?_
  obtain ⟨r13, hcl, h⟩ := bd1_e h
  refine g_callD1 X (met_X7_count l Z a4 a4_1 a4_2 a4_3 (some a1) w1_brought w2_left w3_dropped w4_away w5_mergings w6_drops w7_fromNear w8_fromFar w9_echoes v_window r13 hcl) [] [0, 1, 2, 3, 4, 5, 6] [1, 2, 3, 4] (wr := [(a0, .inr (1, [.ref a1, .ref b11, .ref a3])), (a4, .inr (4, [.ref a4_1, .ref a4_2, .ref a4_3, .ref a1, .long w1_brought, .long w2_left, .long w3_dropped, .long w4_away, .int w5_mergings, .int w6_drops])), (a4_1, .inl (Z.2 1, 1809, .inr (.inl w7_fromNear))), (a4_2, .inl (Z.2 1, 1809, .inr (.inl w8_fromFar))), (a4_3, .inl (Z.2 1, 201, .inr (.inl w9_echoes))), (b11, .inr (3, [.ref b12])), (b12, .inl (Z.2 1, 201, .inr (.inl w10_o1)))]) ⟨rfl, rfl, rfl, rfl, rfl, by decide, by decide⟩ 1 gC4 rfl rfl (by simp [defaultWords_1, gDc, gDf, gDg]) X.kk.2.2.2.2.2.2.1 q351 (by decide) q353 q85 q355 md_Dc ⟨(Nat.le_of_ble_eq_true rfl), (Nat.le_of_ble_eq_true rfl)⟩ rfl dX2_keepSound_31 34 rfl 2 202 rfl rfl (Nat.le_of_ble_eq_true rfl) (Nat.le_of_ble_eq_true rfl) (st := []) rfl (Nat.le_of_ble_eq_true rfl) (fun _ => rfl) (fun _ => ?_)
  obtain ⟨rfl, rfl, rfl, rfl, rfl, rfl, rfl, rfl, rfl, rfl, rfl⟩ := rt11 h
  exact g_iret X dX2_keepSound_34 (b11, b12) rfl rfl (Nat.le_of_ble_eq_true rfl) (Nat.le_of_ble_eq_true rfl)
/-! LineEchoes$Bench.observe(LLineEchoes$Runner;)I -/
abbrev rm_X2_observe : Room := { frames := 3, cells := 2, slots := 202, locals := 85 }
def F_X2_observe (v_fromNear : Nat → Int64) (v_fromFar : Nat → Int64) (v_echoes : Nat → Int64) (v_n : Int32) (v_pulses : Int32) (v_front : Int32) (v_least : Int32) (v_window : Int32) (v_lengths : Nat → Int32) (v_fractions : Nat → Int32) (v_pulseTimes : Nat → Int32) (v_pulseEnergies : Nat → Int32) : Option (Int32 × Int64 × Int64 × Int64 × Int64 × Int32 × Int32 × (Nat → Int64) × (Nat → Int64) × (Nat → Int64) × (Nat → Int64)) :=
  bd9 (F_X5_run v_fromNear v_fromFar v_echoes v_n v_pulses v_front v_least v_window v_lengths v_fractions v_pulseTimes v_pulseEnergies) fun w1_brought w2_left w3_dropped w4_away w5_mergings w6_drops w7_fromNear w8_fromFar w9_echoes =>
  bd1 (F_X4_ofR w9_echoes v_window) fun w10_o1 =>
  bd1 (F_X7_count w9_echoes v_window) fun r13 =>
  some (r13, w1_brought, w2_left, w3_dropped, w4_away, w5_mergings, w6_drops, w7_fromNear, w8_fromFar, w9_echoes, w10_o1)
theorem met_X2_observe (l : Launch) (Z : gZt) (a0 : Nat) (a4 : Nat) (a4_1 : Nat) (a4_2 : Nat) (a4_3 : Nat) (a1 : Nat) (a1_1 : Nat) (a1_2 : Nat) (a1_3 : Nat) (a1_4 : Nat) (a2 : Nat) (a3 : Nat) (v_line : Option Nat) (v_brought : Int64) (v_left : Int64) (v_dropped : Int64) (v_away : Int64) (v_mergings : Int32) (v_drops : Int32) (v_fromNear : Nat → Int64) (v_fromFar : Nat → Int64) (v_echoes : Nat → Int64) (v_n : Int32) (v_pulses : Int32) (v_front : Int32) (v_least : Int32) (v_window : Int32) (v_lengths : Nat → Int32) (v_fractions : Nat → Int32) (v_pulseTimes : Nat → Int32) (v_pulseEnergies : Nat → Int32) (r : Int32) (r_brought : Int64) (r_left : Int64) (r_dropped : Int64) (r_away : Int64) (r_mergings : Int32) (r_drops : Int32) (r_fromNear : Nat → Int64) (r_fromFar : Nat → Int64) (r_echoes : Nat → Int64) (o1 : Nat → Int64) (h : F_X2_observe v_fromNear v_fromFar v_echoes v_n v_pulses v_front v_least v_window v_lengths v_fractions v_pulseTimes v_pulseEnergies = some (r, r_brought, r_left, r_dropped, r_away, r_mergings, r_drops, r_fromNear, r_fromFar, r_echoes, o1)) : Ct l yX2_observe (ws_ yX2_observe cX2_observe 2 (some .int)) rm_X2_observe Z [.ref a0, .ref a4] [(a0, .inr (1, [.ref a1, .ref a2, .ref a3])), (a4, .inr (4, [.ref a4_1, .ref a4_2, .ref a4_3, (va_rf v_line), .long v_brought, .long v_left, .long v_dropped, .long v_away, .int v_mergings, .int v_drops])), (a4_1, .inl (Z.2 1, 1809, .inr (.inl v_fromNear))), (a4_2, .inl (Z.2 1, 1809, .inr (.inl v_fromFar))), (a4_3, .inl (Z.2 1, 201, .inr (.inl v_echoes)))] [(a1, .inr (2, [.ref a1_1, .ref a1_2, .int v_n, .ref a1_3, .ref a1_4, .int v_pulses, .int v_front, .int v_least, .int v_window])), (a1_1, .inl (Z.2 0, 8, .inl v_lengths)), (a1_2, .inl (Z.2 0, 8, .inl v_fractions)), (a1_3, .inl (Z.2 0, 4, .inl v_pulseTimes)), (a1_4, .inl (Z.2 0, 4, .inl v_pulseEnergies))] (fun u : Nat × Nat => (some (.int r) : Option Value)) (fun u : Nat × Nat => ([(a0, .inr (1, [.ref a1, .ref a2, .ref u.1])), (a4, .inr (4, [.ref a4_1, .ref a4_2, .ref a4_3, .ref a1, .long r_brought, .long r_left, .long r_dropped, .long r_away, .int r_mergings, .int r_drops])), (a4_1, .inl (Z.2 1, 1809, .inr (.inl r_fromNear))), (a4_2, .inl (Z.2 1, 1809, .inr (.inl r_fromFar))), (a4_3, .inl (Z.2 1, 201, .inr (.inl r_echoes))), (u.1, .inr (3, [.ref u.2])), (u.2, .inl (Z.2 1, 201, .inr (.inl o1)))] : va_W)) := by
  refine Ct.of cX2_observe 2 (some .int) "LineEchoes$Bench" [some (.ref a0), some (.ref a4)] 0 (by decide) rfl (Nat.le_of_ble_eq_true rfl) rfl (fun p e s m args below meth c A X hin => ?_)
  unfold F_X2_observe at h
  refine g_aload_n X rfl dX2_observe_0 1 rfl ?_
  refine g_aload_n X rfl dX2_observe_1 2 rfl ?_
  refine g_get X gC1 0 rfl 0 (by decide) q190 (fun _ h9 => h9) rfl dX2_observe_2 5 rfl ?_
  obtain ⟨w1_brought, w2_left, w3_dropped, w4_away, w5_mergings, w6_drops, w7_fromNear, w8_fromFar, w9_echoes, hcl, h⟩ := bd9_e h
  refine g_callV0 X (met_X5_run l Z a4 a4_1 a4_2 a4_3 a1 a1_1 a1_2 a1_3 a1_4 v_line v_brought v_left v_dropped v_away v_mergings v_drops v_fromNear v_fromFar v_echoes v_n v_pulses v_front v_least v_window v_lengths v_fractions v_pulseTimes v_pulseEnergies  w1_brought w2_left w3_dropped w4_away w5_mergings w6_drops w7_fromNear w8_fromFar w9_echoes hcl) [1, 2, 3, 4] [0] [5, 6, 7, 8, 9] (wr := [(a0, .inr (1, [.ref a1, .ref a2, .ref a3]))]) ⟨rfl, rfl, rfl, rfl, rfl, by decide, by decide⟩ 1 gC4 rfl rfl (lw_V q307 q308 q309 q73 q310) md_X5_run ⟨(Nat.le_of_ble_eq_true rfl), (Nat.le_of_ble_eq_true rfl)⟩ rfl dX2_observe_5 8 rfl 0 0 rfl rfl (Nat.le_of_ble_eq_true rfl) (Nat.le_of_ble_eq_true rfl) (st := []) rfl (Nat.le_of_ble_eq_true rfl) (fun _ => rfl) (fun _ => ?_)
  refine g_aload_n X rfl dX2_observe_8 9 rfl ?_
  refine g_aload_n X rfl dX2_observe_9 10 rfl ?_
  refine g_aload_n X rfl dX2_observe_10 11 rfl ?_
  refine g_get X gC1 0 rfl 0 (by decide) q190 (fun _ h9 => h9) rfl dX2_observe_11 14 rfl ?_
  refine g_getRN X gC2 0 rfl 8 (by decide) q152 (fun _ h9 => h9) rfl dX2_observe_14 17 rfl ?_
  obtain ⟨w10_o1, hcl, h⟩ := bd1_e h
  refine g_callS1 X (met_X4_ofR l Z a4 a4_1 a4_2 a4_3 (some a1) w1_brought w2_left w3_dropped w4_away w5_mergings w6_drops w7_fromNear w8_fromFar w9_echoes v_window w10_o1 hcl) [] [0, 1, 2, 3, 4] [1, 2, 3, 4] (wr := [(a0, .inr (1, [.ref a1, .ref a2, .ref a3])), (a4, .inr (4, [.ref a4_1, .ref a4_2, .ref a4_3, .ref a1, .long w1_brought, .long w2_left, .long w3_dropped, .long w4_away, .int w5_mergings, .int w6_drops])), (a4_1, .inl (Z.2 1, 1809, .inr (.inl w7_fromNear))), (a4_2, .inl (Z.2 1, 1809, .inr (.inl w8_fromFar))), (a4_3, .inl (Z.2 1, 201, .inr (.inl w9_echoes)))]) ⟨rfl, rfl, rfl, rfl, rfl, by decide, by decide⟩ (lw_S q330 q331 q72 q332) md_X4_of ⟨(Nat.le_of_ble_eq_true rfl), (Nat.le_of_ble_eq_true rfl)⟩ rfl dX2_observe_17 20 rfl 2 202 rfl rfl (Nat.le_of_ble_eq_true rfl) (Nat.le_of_ble_eq_true rfl) (st := [.ref a0]) rfl (Nat.le_of_ble_eq_true rfl) (fun _ => rfl) (fun u => ?_)
  obtain ⟨b11, b12⟩ := u
  refine g_put X gC1 0 rfl 2 (by decide) q193 (fun _ h9 => h9) rfl rfl rfl (Nat.le_of_ble_eq_true rfl) dX2_observe_20 23 rfl ?_
  refine g_wd [(a0, .inr (1, [.ref a1, .ref a2, .ref b11])), (a4, .inr (4, [.ref a4_1, .ref a4_2, .ref a4_3, .ref a1, .long w1_brought, .long w2_left, .long w3_dropped, .long w4_away, .int w5_mergings, .int w6_drops])), (a4_1, .inl (Z.2 1, 1809, .inr (.inl w7_fromNear))), (a4_2, .inl (Z.2 1, 1809, .inr (.inl w8_fromFar))), (a4_3, .inl (Z.2 1, 201, .inr (.inl w9_echoes))), (b11, .inr (3, [.ref b12])), (b12, .inl (Z.2 1, 201, .inr (.inl w10_o1)))] rfl ?_
  refine g_aload_n X rfl dX2_observe_23 24 rfl ?_
  refine g_aload_n X rfl dX2_observe_24 25 rfl ?_
  refine g_get X gC1 0 rfl 0 (by decide) q190 (fun _ h9 => h9) rfl dX2_observe_25 28 rfl ?_
  refine g_getRN X gC2 0 rfl 8 (by decide) q152 (fun _ h9 => h9) rfl dX2_observe_28 31 rfl ?_
  obtain ⟨r13, hcl, h⟩ := bd1_e h
  refine g_callD1 X (met_X7_count l Z a4 a4_1 a4_2 a4_3 (some a1) w1_brought w2_left w3_dropped w4_away w5_mergings w6_drops w7_fromNear w8_fromFar w9_echoes v_window r13 hcl) [] [0, 1, 2, 3, 4, 5, 6] [1, 2, 3, 4] (wr := [(a0, .inr (1, [.ref a1, .ref a2, .ref b11])), (a4, .inr (4, [.ref a4_1, .ref a4_2, .ref a4_3, .ref a1, .long w1_brought, .long w2_left, .long w3_dropped, .long w4_away, .int w5_mergings, .int w6_drops])), (a4_1, .inl (Z.2 1, 1809, .inr (.inl w7_fromNear))), (a4_2, .inl (Z.2 1, 1809, .inr (.inl w8_fromFar))), (a4_3, .inl (Z.2 1, 201, .inr (.inl w9_echoes))), (b11, .inr (3, [.ref b12])), (b12, .inl (Z.2 1, 201, .inr (.inl w10_o1)))]) ⟨rfl, rfl, rfl, rfl, rfl, by decide, by decide⟩ 1 gC4 rfl rfl (by simp [defaultWords_1, gDc, gDf, gDg]) X.kk.2.2.2.2.2.2.1 q351 (by decide) q353 q85 q355 md_Dc ⟨(Nat.le_of_ble_eq_true rfl), (Nat.le_of_ble_eq_true rfl)⟩ rfl dX2_observe_31 34 rfl 2 202 rfl rfl (Nat.le_of_ble_eq_true rfl) (Nat.le_of_ble_eq_true rfl) (st := []) rfl (Nat.le_of_ble_eq_true rfl) (fun _ => rfl) (fun _ => ?_)
  obtain ⟨rfl, rfl, rfl, rfl, rfl, rfl, rfl, rfl, rfl, rfl, rfl⟩ := rt11 h
  exact g_iret X dX2_observe_34 (b11, b12) rfl rfl (Nat.le_of_ble_eq_true rfl) (Nat.le_of_ble_eq_true rfl)
/-! LineEchoes$Bench.adopt(LLineEchoes$Runner;)I -/
abbrev rm_X2_adopt : Room := { frames := 6, cells := 6, slots := 36, locals := 162 }
def F_X2_adopt (v_front : Int32) (v_least : Int32) (v_window : Int32) (v_lengths : Nat → Int32) (v_fractions : Nat → Int32) (v_pulseEnergies : Nat → Int32) (v_brought : Int64) (v_left : Int64) (v_dropped : Int64) (v_away : Int64) (v_mergings : Int32) (v_drops : Int32) (v_fromNear : Nat → Int64) (v_fromFar : Nat → Int64) (v_echoes : Nat → Int64) (v_energies : Nat → Int64) : Option (Int32 × Int32 × (Nat → Int32) × (Nat → Int32) × Int64 × Int64 × Int64 × Int64 × Int32 × Int32 × (Nat → Int64) × (Nat → Int64) × (Nat → Int64)) :=
  bd20 (F_X8_of v_brought v_left v_dropped v_away v_mergings v_drops v_fromNear v_fromFar v_echoes v_front v_least v_window v_pulseEnergies v_energies) fun w1_brought w2_left w3_dropped w4_away w5_mergings w6_drops w7_fromNear w8_fromFar w9_echoes w10_o0_1 w11_o0_2 w12_o1_2 w13_o1_5 w14_o1_6 w15_o1_7 w16_o1_8 w17_o2 w18_o3 w19_o4 w20_o5 =>
  bd3 (F_X3_takeParts v_lengths v_fractions w12_o1_2 w17_o2 w18_o3) fun w28_n w29_lengths w30_fractions =>
  some (w28_n, w28_n, w29_lengths, w30_fractions, w1_brought, w2_left, w3_dropped, w4_away, w5_mergings, w6_drops, w7_fromNear, w8_fromFar, w9_echoes)
theorem met_X2_adopt (l : Launch) (Z : gZt) (a1 : Nat) (a1_1 : Nat) (a1_2 : Nat) (a1_3 : Nat) (a1_4 : Nat) (a4 : Nat) (a4_1 : Nat) (a4_2 : Nat) (a4_3 : Nat) (a0 : Nat) (a3 : Nat) (a3_1 : Nat) (a2 : Nat) (v_n : Int32) (v_pulses : Int32) (v_front : Int32) (v_least : Int32) (v_window : Int32) (v_lengths : Nat → Int32) (v_fractions : Nat → Int32) (v_pulseTimes : Nat → Int32) (v_pulseEnergies : Nat → Int32) (v_line : Option Nat) (v_brought : Int64) (v_left : Int64) (v_dropped : Int64) (v_away : Int64) (v_mergings : Int32) (v_drops : Int32) (v_fromNear : Nat → Int64) (v_fromFar : Nat → Int64) (v_echoes : Nat → Int64) (v_energies : Nat → Int64) (r : Int32) (r_n : Int32) (r_lengths : Nat → Int32) (r_fractions : Nat → Int32) (r_brought : Int64) (r_left : Int64) (r_dropped : Int64) (r_away : Int64) (r_mergings : Int32) (r_drops : Int32) (r_fromNear : Nat → Int64) (r_fromFar : Nat → Int64) (r_echoes : Nat → Int64) (h : F_X2_adopt v_front v_least v_window v_lengths v_fractions v_pulseEnergies v_brought v_left v_dropped v_away v_mergings v_drops v_fromNear v_fromFar v_echoes v_energies = some (r, r_n, r_lengths, r_fractions, r_brought, r_left, r_dropped, r_away, r_mergings, r_drops, r_fromNear, r_fromFar, r_echoes)) : Ct l yX2_adopt (ws_ yX2_adopt cX2_adopt 2 (some .int)) rm_X2_adopt Z [.ref a0, .ref a4] [(a1, .inr (2, [.ref a1_1, .ref a1_2, .int v_n, .ref a1_3, .ref a1_4, .int v_pulses, .int v_front, .int v_least, .int v_window])), (a1_1, .inl (Z.2 0, 8, .inl v_lengths)), (a1_2, .inl (Z.2 0, 8, .inl v_fractions)), (a1_3, .inl (Z.2 0, 4, .inl v_pulseTimes)), (a1_4, .inl (Z.2 0, 4, .inl v_pulseEnergies)), (a4, .inr (4, [.ref a4_1, .ref a4_2, .ref a4_3, (va_rf v_line), .long v_brought, .long v_left, .long v_dropped, .long v_away, .int v_mergings, .int v_drops])), (a4_1, .inl (Z.2 1, 1809, .inr (.inl v_fromNear))), (a4_2, .inl (Z.2 1, 1809, .inr (.inl v_fromFar))), (a4_3, .inl (Z.2 1, 201, .inr (.inl v_echoes)))] [(a0, .inr (1, [.ref a1, .ref a2, .ref a3])), (a3, .inr (3, [.ref a3_1])), (a3_1, .inl (Z.2 1, 201, .inr (.inl v_energies)))] (fun z0 : Option Nat => (some (.int r) : Option Value)) (fun z0 : Option Nat => ([(a1, .inr (2, [.ref a1_1, .ref a1_2, .int r_n, .ref a1_3, .ref a1_4, .int v_pulses, .int v_front, .int v_least, .int v_window])), (a1_1, .inl (Z.2 0, 8, .inl r_lengths)), (a1_2, .inl (Z.2 0, 8, .inl r_fractions)), (a1_3, .inl (Z.2 0, 4, .inl v_pulseTimes)), (a1_4, .inl (Z.2 0, 4, .inl v_pulseEnergies)), (a4, .inr (4, [.ref a4_1, .ref a4_2, .ref a4_3, (va_rf z0), .long r_brought, .long r_left, .long r_dropped, .long r_away, .int r_mergings, .int r_drops])), (a4_1, .inl (Z.2 1, 1809, .inr (.inl r_fromNear))), (a4_2, .inl (Z.2 1, 1809, .inr (.inl r_fromFar))), (a4_3, .inl (Z.2 1, 201, .inr (.inl r_echoes)))] : va_W)) := by
  refine Ct.of cX2_adopt 2 (some .int) "LineEchoes$Bench" [some (.ref a0), some (.ref a4)] 0 (by decide) rfl (Nat.le_of_ble_eq_true rfl) rfl (fun p e s m args below meth c A X hin => ?_)
  unfold F_X2_adopt at h
  refine g_aload_n X rfl dX2_adopt_0 1 rfl ?_
  refine g_getR X gC1 0 rfl 0 (by decide) q190 (fun _ h9 => h9) rfl dX2_adopt_1 4 rfl ?_
  refine g_aload_n X rfl dX2_adopt_4 5 rfl ?_
  refine g_getR X gC1 0 rfl 0 (by decide) q190 (fun _ h9 => h9) rfl dX2_adopt_5 8 rfl ?_
  refine g_aload_n X rfl dX2_adopt_8 9 rfl ?_
  refine g_getR X gC1 0 rfl 2 (by decide) q193 (fun _ h9 => h9) rfl dX2_adopt_9 12 rfl ?_
  refine g_aload_n X rfl dX2_adopt_12 13 rfl ?_
  obtain ⟨w1_brought, w2_left, w3_dropped, w4_away, w5_mergings, w6_drops, w7_fromNear, w8_fromFar, w9_echoes, w10_o0_1, w11_o0_2, w12_o1_2, w13_o1_5, w14_o1_6, w15_o1_7, w16_o1_8, w17_o2, w18_o3, w19_o4, w20_o5, hcl, h⟩ := bd20_e h
  refine g_callS1 X (met_X8_of l Z a4 a4_1 a4_2 a4_3 a1 a1_1 a1_2 a1_3 a1_4 a3 a3_1 v_line v_brought v_left v_dropped v_away v_mergings v_drops v_fromNear v_fromFar v_echoes v_n v_pulses v_front v_least v_window v_lengths v_fractions v_pulseTimes v_pulseEnergies v_energies  w1_brought w2_left w3_dropped w4_away w5_mergings w6_drops w7_fromNear w8_fromFar w9_echoes w10_o0_1 w11_o0_2 w12_o1_2 w13_o1_5 w14_o1_6 w15_o1_7 w16_o1_8 w17_o2 w18_o3 w19_o4 w20_o5 hcl) [5, 6, 7, 8] [0, 1, 2, 3, 4] [0, 1, 2, 3, 4, 10, 11] (wr := [(a1, .inr (2, [.ref a1_1, .ref a1_2, .int v_n, .ref a1_3, .ref a1_4, .int v_pulses, .int v_front, .int v_least, .int v_window])), (a1_1, .inl (Z.2 0, 8, .inl v_lengths)), (a1_2, .inl (Z.2 0, 8, .inl v_fractions)), (a1_3, .inl (Z.2 0, 4, .inl v_pulseTimes)), (a1_4, .inl (Z.2 0, 4, .inl v_pulseEnergies))]) ⟨rfl, rfl, rfl, rfl, rfl, by decide, by decide⟩ (lw_S q384 q385 q96 q386) md_X8_of ⟨(Nat.le_of_ble_eq_true rfl), (Nat.le_of_ble_eq_true rfl)⟩ rfl dX2_adopt_13 16 rfl 6 36 rfl rfl (Nat.le_of_ble_eq_true rfl) (Nat.le_of_ble_eq_true rfl) (st := [.ref a1]) rfl (Nat.le_of_ble_eq_true rfl) (fun _ => rfl) (fun u => ?_)
  obtain ⟨b21, b22, b23, b24, b25, b26, z27⟩ := u
  refine g_getN X gC6 9 rfl 0 (by decide) q398 (fun _ h9 => h9) rfl dX2_adopt_16 19 rfl ?_
  obtain ⟨w28_n, w29_lengths, w30_fractions, hcl, h⟩ := bd3_e h
  refine g_callV0 X (met_X3_takeParts l Z a1 a1_1 a1_2 a1_3 a1_4 b22 b23 b24 b25 b26 v_n v_pulses v_front v_least v_window v_lengths v_fractions v_pulseTimes v_pulseEnergies w12_o1_2 w13_o1_5 w14_o1_6 w15_o1_7 w16_o1_8 w17_o2 w18_o3 w19_o4 w20_o5  w28_n w29_lengths w30_fractions hcl) [0, 1, 2, 3, 4, 10, 11, 12, 13, 14] [5, 6, 7, 8, 9] [] (wr := [(a4, .inr (4, [.ref a4_1, .ref a4_2, .ref a4_3, (va_rf z27), .long w1_brought, .long w2_left, .long w3_dropped, .long w4_away, .int w5_mergings, .int w6_drops])), (a4_1, .inl (Z.2 1, 1809, .inr (.inl w7_fromNear))), (a4_2, .inl (Z.2 1, 1809, .inr (.inl w8_fromFar))), (a4_3, .inl (Z.2 1, 201, .inr (.inl w9_echoes))), (b21, .inr (6, [.ref b22, .int w10_o0_1, .int w11_o0_2]))]) ⟨rfl, rfl, rfl, rfl, rfl, by decide, by decide⟩ 0 gC2 rfl rfl (lw_V q439 q440 q441 q71 q442) md_X3_takeParts ⟨(Nat.le_of_ble_eq_true rfl), (Nat.le_of_ble_eq_true rfl)⟩ rfl dX2_adopt_19 22 rfl 6 36 rfl rfl (Nat.le_of_ble_eq_true rfl) (Nat.le_of_ble_eq_true rfl) (st := []) rfl (Nat.le_of_ble_eq_true rfl) (fun _ => rfl) (fun _ => ?_)
  refine g_aload_n X rfl dX2_adopt_22 23 rfl ?_
  refine g_getR X gC1 0 rfl 0 (by decide) q190 (fun _ h9 => h9) rfl dX2_adopt_23 26 rfl ?_
  refine g_getN X gC2 5 rfl 2 (by decide) q130 (fun _ h9 => h9) rfl dX2_adopt_26 29 rfl ?_
  refine g_keep [5, 6, 7, 8, 9, 0, 1, 2, 3] [(a1, .inr (2, [.ref a1_1, .ref a1_2, .int w28_n, .ref a1_3, .ref a1_4, .int v_pulses, .int v_front, .int v_least, .int v_window])), (a1_1, .inl (Z.2 0, 8, .inl w29_lengths)), (a1_2, .inl (Z.2 0, 8, .inl w30_fractions)), (a1_3, .inl (Z.2 0, 4, .inl v_pulseTimes)), (a1_4, .inl (Z.2 0, 4, .inl v_pulseEnergies)), (a4, .inr (4, [.ref a4_1, .ref a4_2, .ref a4_3, (va_rf z27), .long w1_brought, .long w2_left, .long w3_dropped, .long w4_away, .int w5_mergings, .int w6_drops])), (a4_1, .inl (Z.2 1, 1809, .inr (.inl w7_fromNear))), (a4_2, .inl (Z.2 1, 1809, .inr (.inl w8_fromFar))), (a4_3, .inl (Z.2 1, 201, .inr (.inl w9_echoes)))] rfl rfl ?_
  obtain ⟨rfl, rfl, rfl, rfl, rfl, rfl, rfl, rfl, rfl, rfl, rfl, rfl, rfl⟩ := rt13 h
  exact g_iret X dX2_adopt_29 z27 rfl rfl (Nat.le_of_ble_eq_true rfl) (Nat.le_of_ble_eq_true rfl)
/-! LineEchoes$Bench.differences(LLineEchoes$Runner;)I -/
abbrev rm_X2_differences : Room := { frames := 3, cells := 0, slots := 0, locals := 85 }
def B_X2_differences_12 (K12 : (Int64) → (Int64) → (Int64) → (Int64) → (Int32) → (Int32) → (Nat → Int64) → (Nat → Int64) → (Nat → Int64) → (Int32) → (Int32) → (Int32) → (Nat → Int64) → Option (Int32 × Int64 × Int64 × Int64 × Int64 × Int32 × Int32 × (Nat → Int64) × (Nat → Int64) × (Nat → Int64))) (v_brought : Int64) (v_left : Int64) (v_dropped : Int64) (v_away : Int64) (v_mergings : Int32) (v_drops : Int32) (v_fromNear : Nat → Int64) (v_fromFar : Nat → Int64) (v_echoes : Nat → Int64) (x2 : Int32) (x3 : Int32) (v_window : Int32) (v_energies : Nat → Int64) : Option (Int32 × Int64 × Int64 × Int64 × Int64 × Int32 × Int32 × (Nat → Int64) × (Nat → Int64) × (Nat → Int64)) :=
  if v_window < x3 then
    (some (x2, v_brought, v_left, v_dropped, v_away, v_mergings, v_drops, v_fromNear, v_fromFar, v_echoes))
  else
    (bd1 (F_X5_at v_echoes x3) fun r1 =>
    bd1 (F_X4_at v_energies x3) fun r2 =>
    nm (x2 + (if r1 = r2 then (0 : Int32) else 1)) fun t3 =>
    K12 v_brought v_left v_dropped v_away v_mergings v_drops v_fromNear v_fromFar v_echoes t3 (x3 + 1) v_window v_energies)
def F_X2_differences_12 : Nat → (Int64) → (Int64) → (Int64) → (Int64) → (Int32) → (Int32) → (Nat → Int64) → (Nat → Int64) → (Nat → Int64) → (Int32) → (Int32) → (Int32) → (Nat → Int64) → Option (Int32 × Int64 × Int64 × Int64 × Int64 × Int32 × Int32 × (Nat → Int64) × (Nat → Int64) × (Nat → Int64))
  | 0 => fun _ _ _ _ _ _ _ _ _ _ _ _ _ => none
  | n + 1 => B_X2_differences_12 (F_X2_differences_12 n)
def F_X2_differences (v_fromNear : Nat → Int64) (v_fromFar : Nat → Int64) (v_echoes : Nat → Int64) (v_n : Int32) (v_pulses : Int32) (v_front : Int32) (v_least : Int32) (v_window : Int32) (v_lengths : Nat → Int32) (v_fractions : Nat → Int32) (v_pulseTimes : Nat → Int32) (v_pulseEnergies : Nat → Int32) (v_energies : Nat → Int64) : Option (Int32 × Int64 × Int64 × Int64 × Int64 × Int32 × Int32 × (Nat → Int64) × (Nat → Int64) × (Nat → Int64)) :=
  bd9 (F_X5_run v_fromNear v_fromFar v_echoes v_n v_pulses v_front v_least v_window v_lengths v_fractions v_pulseTimes v_pulseEnergies) fun w1_brought w2_left w3_dropped w4_away w5_mergings w6_drops w7_fromNear w8_fromFar w9_echoes =>
  F_X2_differences_12 gFU w1_brought w2_left w3_dropped w4_away w5_mergings w6_drops w7_fromNear w8_fromFar w9_echoes 0 0 v_window v_energies
theorem w_X2_differences_12 {p : Program} {l : Launch} {e : Env} {s : State} {m : MethodId} {args : Array Value} {below : List Frame} {meth : Method} {c : Code} {Z : gZt} {A : Nat → Prop} (a4 : Nat) (a4_1 : Nat) (a4_2 : Nat) (a4_3 : Nat) (a0 : Nat) (a1 : Nat) (a1_1 : Nat) (a1_2 : Nat) (a1_3 : Nat) (a1_4 : Nat) (a2 : Nat) (a2_1 : Nat) (a3 : Nat) (v_n : Int32) (v_pulses : Int32) (v_front : Int32) (v_least : Int32) (v_window : Int32) (v_lengths : Nat → Int32) (v_fractions : Nat → Int32) (v_pulseTimes : Nat → Int32) (v_pulseEnergies : Nat → Int32) (v_energies : Nat → Int64) (X : gX p s m args meth c Z A cX2_differences "LineEchoes$Bench" 4 (some .int) [(a0, .inr (1, [.ref a1, .ref a2, .ref a3])), (a1, .inr (2, [.ref a1_1, .ref a1_2, .int v_n, .ref a1_3, .ref a1_4, .int v_pulses, .int v_front, .int v_least, .int v_window])), (a1_1, .inl (Z.2 0, 8, .inl v_lengths)), (a1_2, .inl (Z.2 0, 8, .inl v_fractions)), (a1_3, .inl (Z.2 0, 4, .inl v_pulseTimes)), (a1_4, .inl (Z.2 0, 4, .inl v_pulseEnergies)), (a2, .inr (3, [.ref a2_1])), (a2_1, .inl (Z.2 1, 201, .inr (.inl v_energies)))]) (r : Int32) (r_brought : Int64) (r_left : Int64) (r_dropped : Int64) (r_away : Int64) (r_mergings : Int32) (r_drops : Int32) (r_fromNear : Nat → Int64) (r_fromFar : Nat → Int64) (r_echoes : Nat → Int64)  : ∀ (n : Nat) (v_brought : Int64) (v_left : Int64) (v_dropped : Int64) (v_away : Int64) (v_mergings : Int32) (v_drops : Int32) (v_fromNear : Nat → Int64) (v_fromFar : Nat → Int64) (v_echoes : Nat → Int64) (x2 : Int32) (x3 : Int32), F_X2_differences_12 n v_brought v_left v_dropped v_away v_mergings v_drops v_fromNear v_fromFar v_echoes x2 x3 v_window v_energies = some (r, r_brought, r_left, r_dropped, r_away, r_mergings, r_drops, r_fromNear, r_fromFar, r_echoes) → G p l e rm_X2_differences s m args below meth c Z A 4 (MQ below (gPost Z A (fun _ : Unit => (some (.int r) : Option Value)) (fun _ : Unit => ([(a4, .inr (4, [.ref a4_1, .ref a4_2, .ref a4_3, .ref a1, .long r_brought, .long r_left, .long r_dropped, .long r_away, .int r_mergings, .int r_drops])), (a4_1, .inl (Z.2 1, 1809, .inr (.inl r_fromNear))), (a4_2, .inl (Z.2 1, 1809, .inr (.inl r_fromFar))), (a4_3, .inl (Z.2 1, 201, .inr (.inl r_echoes)))] : va_W))) args s 0 0 A) [(a4, .inr (4, [.ref a4_1, .ref a4_2, .ref a4_3, .ref a1, .long v_brought, .long v_left, .long v_dropped, .long v_away, .int v_mergings, .int v_drops])), (a4_1, .inl (Z.2 1, 1809, .inr (.inl v_fromNear))), (a4_2, .inl (Z.2 1, 1809, .inr (.inl v_fromFar))), (a4_3, .inl (Z.2 1, 201, .inr (.inl v_echoes)))] 0 0 12 [some (.ref a0), some (.ref a4), some (.int x2), some (.int x3)] [] := by
  intro n
  induction n with
  | zero =>
    intro v_brought v_left v_dropped v_away v_mergings v_drops v_fromNear v_fromFar v_echoes x2 x3 h
    cases h
  | succ n hK12 =>
    intro v_brought v_left v_dropped v_away v_mergings v_drops v_fromNear v_fromFar v_echoes x2 x3 h
    replace h : B_X2_differences_12 (F_X2_differences_12 n) v_brought v_left v_dropped v_away v_mergings v_drops v_fromNear v_fromFar v_echoes x2 x3 v_window v_energies = some (r, r_brought, r_left, r_dropped, r_away, r_mergings, r_drops, r_fromNear, r_fromFar, r_echoes) := h
    unfold B_X2_differences_12 at h
    refine g_iload_n X rfl dX2_differences_12 13 rfl ?_
    refine g_aload_n X rfl dX2_differences_13 14 rfl ?_
    refine g_getR X gC1 0 rfl 0 (by decide) q190 (fun _ h9 => h9) rfl dX2_differences_14 17 rfl ?_
    refine g_getRN X gC2 1 rfl 8 (by decide) q152 (fun _ h9 => h9) rfl dX2_differences_17 20 rfl ?_
    refine g_icmp_gt X dX2_differences_20 54 (by decide) 23 rfl (fun hc => ?_) (fun hc => ?_)
    · replace h := if_t hc h
      refine g_iload_n X rfl dX2_differences_54 55 rfl ?_
      cases h
      exact g_iret X dX2_differences_55 () rfl rfl (Nat.le_of_ble_eq_true rfl) (Nat.le_of_ble_eq_true rfl)
    · replace h := if_f hc h
      refine g_iload_n X rfl dX2_differences_23 24 rfl ?_
      refine g_aload_n X rfl dX2_differences_24 25 rfl ?_
      refine g_iload_n X rfl dX2_differences_25 26 rfl ?_
      obtain ⟨r1, hcl, h⟩ := bd1_e h
      refine g_callV1 X (met_X5_at l Z a4 a4_1 a4_2 a4_3 (some a1) v_brought v_left v_dropped v_away v_mergings v_drops v_fromNear v_fromFar v_echoes x3 r1 hcl) [] [0, 1, 2, 3] [0, 1, 2, 3] (wr := [(a4, .inr (4, [.ref a4_1, .ref a4_2, .ref a4_3, .ref a1, .long v_brought, .long v_left, .long v_dropped, .long v_away, .int v_mergings, .int v_drops])), (a4_1, .inl (Z.2 1, 1809, .inr (.inl v_fromNear))), (a4_2, .inl (Z.2 1, 1809, .inr (.inl v_fromFar))), (a4_3, .inl (Z.2 1, 201, .inr (.inl v_echoes)))]) ⟨rfl, rfl, rfl, rfl, rfl, by decide, by decide⟩ 0 gC4 rfl rfl (lw_V q366 q348 q1781 q73 q350) md_X5_at ⟨(Nat.le_of_ble_eq_true rfl), (Nat.le_of_ble_eq_true rfl)⟩ rfl dX2_differences_26 29 rfl 0 0 rfl rfl (Nat.le_of_ble_eq_true rfl) (Nat.le_of_ble_eq_true rfl) (st := [.int x2]) rfl (Nat.le_of_ble_eq_true rfl) (fun _ => rfl) (fun _ => ?_)
      refine g_aload_n X rfl dX2_differences_29 30 rfl ?_
      refine g_getR X gC1 0 rfl 1 (by decide) q192 (fun _ h9 => h9) rfl dX2_differences_30 33 rfl ?_
      refine g_iload_n X rfl dX2_differences_33 34 rfl ?_
      obtain ⟨r2, hcl, h⟩ := bd1_e h
      refine g_callV1 X (met_X4_at l Z a2 a2_1 v_energies x3 r2 hcl) [] [0, 1, 2, 3] [10, 11] (wr := [(a4, .inr (4, [.ref a4_1, .ref a4_2, .ref a4_3, .ref a1, .long v_brought, .long v_left, .long v_dropped, .long v_away, .int v_mergings, .int v_drops])), (a4_1, .inl (Z.2 1, 1809, .inr (.inl v_fromNear))), (a4_2, .inl (Z.2 1, 1809, .inr (.inl v_fromFar))), (a4_3, .inl (Z.2 1, 201, .inr (.inl v_echoes)))]) ⟨rfl, rfl, rfl, rfl, rfl, by decide, by decide⟩ 10 gC3 rfl rfl (lw_V q367 q342 q1782 q72 q344) md_X4_at ⟨(Nat.le_of_ble_eq_true rfl), (Nat.le_of_ble_eq_true rfl)⟩ rfl dX2_differences_34 37 rfl 0 0 rfl rfl (Nat.le_of_ble_eq_true rfl) (Nat.le_of_ble_eq_true rfl) (st := [.long r1, .int x2]) rfl (Nat.le_of_ble_eq_true rfl) (fun _ => rfl) (fun _ => ?_)
      refine g_wd [(a4, .inr (4, [.ref a4_1, .ref a4_2, .ref a4_3, .ref a1, .long v_brought, .long v_left, .long v_dropped, .long v_away, .int v_mergings, .int v_drops])), (a4_1, .inl (Z.2 1, 1809, .inr (.inl v_fromNear))), (a4_2, .inl (Z.2 1, 1809, .inr (.inl v_fromFar))), (a4_3, .inl (Z.2 1, 201, .inr (.inl v_echoes)))] rfl ?_
      refine g_seli 46 [.int x2] (b := r1 = r2) 0 1 ?_ (fun hc K => ?_) (fun hc K => ?_)
      · refine g_iadd X dX2_differences_46 47 rfl ?_
        refine g_topi (fun t3 et3 => ?_)
        replace h := nm_at et3 h
        refine g_istore_n X dX2_differences_47 48 rfl (Nat.le_of_ble_eq_true rfl) rfl [some (.ref a0), some (.ref a4), some (.int t3), some (.int x3)] rfl ?_
        refine g_iinc X 1 rfl dX2_differences_48 51 rfl kI_1 (Nat.le_of_ble_eq_true rfl) rfl [some (.ref a0), some (.ref a4), some (.int t3), some (.int (x3 + 1))] rfl ?_
        refine g_goto X dX2_differences_51 12 (by decide) ?_
        exact hK12 v_brought v_left v_dropped v_away v_mergings v_drops v_fromNear v_fromFar v_echoes t3 (x3 + 1) h
      · refine g_lcmp_ne X dX2_differences_37 38 rfl dX2_differences_38 45 (by decide) 41 rfl (fun hn => absurd hc hn) (fun _ => ?_)
        refine g_iconst X 0 dX2_differences_41 42 rfl kI_0 ?_
        refine g_goto X dX2_differences_42 46 (by decide) ?_
        exact K
      · refine g_lcmp_ne X dX2_differences_37 38 rfl dX2_differences_38 45 (by decide) 41 rfl (fun _ => ?_) (fun hn => absurd hn hc)
        refine g_iconst X 1 dX2_differences_45 46 rfl kI_1 ?_
        exact K
theorem met_X2_differences (l : Launch) (Z : gZt) (a4 : Nat) (a4_1 : Nat) (a4_2 : Nat) (a4_3 : Nat) (a0 : Nat) (a1 : Nat) (a1_1 : Nat) (a1_2 : Nat) (a1_3 : Nat) (a1_4 : Nat) (a2 : Nat) (a2_1 : Nat) (a3 : Nat) (v_line : Option Nat) (v_brought : Int64) (v_left : Int64) (v_dropped : Int64) (v_away : Int64) (v_mergings : Int32) (v_drops : Int32) (v_fromNear : Nat → Int64) (v_fromFar : Nat → Int64) (v_echoes : Nat → Int64) (v_n : Int32) (v_pulses : Int32) (v_front : Int32) (v_least : Int32) (v_window : Int32) (v_lengths : Nat → Int32) (v_fractions : Nat → Int32) (v_pulseTimes : Nat → Int32) (v_pulseEnergies : Nat → Int32) (v_energies : Nat → Int64) (r : Int32) (r_brought : Int64) (r_left : Int64) (r_dropped : Int64) (r_away : Int64) (r_mergings : Int32) (r_drops : Int32) (r_fromNear : Nat → Int64) (r_fromFar : Nat → Int64) (r_echoes : Nat → Int64) (h : F_X2_differences v_fromNear v_fromFar v_echoes v_n v_pulses v_front v_least v_window v_lengths v_fractions v_pulseTimes v_pulseEnergies v_energies = some (r, r_brought, r_left, r_dropped, r_away, r_mergings, r_drops, r_fromNear, r_fromFar, r_echoes)) : Ct l yX2_differences (ws_ yX2_differences cX2_differences 4 (some .int)) rm_X2_differences Z [.ref a0, .ref a4] [(a4, .inr (4, [.ref a4_1, .ref a4_2, .ref a4_3, (va_rf v_line), .long v_brought, .long v_left, .long v_dropped, .long v_away, .int v_mergings, .int v_drops])), (a4_1, .inl (Z.2 1, 1809, .inr (.inl v_fromNear))), (a4_2, .inl (Z.2 1, 1809, .inr (.inl v_fromFar))), (a4_3, .inl (Z.2 1, 201, .inr (.inl v_echoes)))] [(a0, .inr (1, [.ref a1, .ref a2, .ref a3])), (a1, .inr (2, [.ref a1_1, .ref a1_2, .int v_n, .ref a1_3, .ref a1_4, .int v_pulses, .int v_front, .int v_least, .int v_window])), (a1_1, .inl (Z.2 0, 8, .inl v_lengths)), (a1_2, .inl (Z.2 0, 8, .inl v_fractions)), (a1_3, .inl (Z.2 0, 4, .inl v_pulseTimes)), (a1_4, .inl (Z.2 0, 4, .inl v_pulseEnergies)), (a2, .inr (3, [.ref a2_1])), (a2_1, .inl (Z.2 1, 201, .inr (.inl v_energies)))] (fun _ : Unit => (some (.int r) : Option Value)) (fun _ : Unit => ([(a4, .inr (4, [.ref a4_1, .ref a4_2, .ref a4_3, .ref a1, .long r_brought, .long r_left, .long r_dropped, .long r_away, .int r_mergings, .int r_drops])), (a4_1, .inl (Z.2 1, 1809, .inr (.inl r_fromNear))), (a4_2, .inl (Z.2 1, 1809, .inr (.inl r_fromFar))), (a4_3, .inl (Z.2 1, 201, .inr (.inl r_echoes)))] : va_W)) := by
  refine Ct.of cX2_differences 4 (some .int) "LineEchoes$Bench" [some (.ref a0), some (.ref a4), none, none] 2 (by decide) rfl (Nat.le_of_ble_eq_true rfl) rfl (fun p e s m args below meth c A X hin => ?_)
  unfold F_X2_differences at h
  refine g_aload_n X rfl dX2_differences_0 1 rfl ?_
  refine g_aload_n X rfl dX2_differences_1 2 rfl ?_
  refine g_getR X gC1 0 rfl 0 (by decide) q190 (fun _ h9 => h9) rfl dX2_differences_2 5 rfl ?_
  obtain ⟨w1_brought, w2_left, w3_dropped, w4_away, w5_mergings, w6_drops, w7_fromNear, w8_fromFar, w9_echoes, hcl, h⟩ := bd9_e h
  refine g_callV0 X (met_X5_run l Z a4 a4_1 a4_2 a4_3 a1 a1_1 a1_2 a1_3 a1_4 v_line v_brought v_left v_dropped v_away v_mergings v_drops v_fromNear v_fromFar v_echoes v_n v_pulses v_front v_least v_window v_lengths v_fractions v_pulseTimes v_pulseEnergies  w1_brought w2_left w3_dropped w4_away w5_mergings w6_drops w7_fromNear w8_fromFar w9_echoes hcl) [0, 1, 2, 3] [] [5, 6, 7, 8, 9] (wr := []) ⟨rfl, rfl, rfl, rfl, rfl, by decide, by decide⟩ 0 gC4 rfl rfl (lw_V q307 q308 q309 q73 q310) md_X5_run ⟨(Nat.le_of_ble_eq_true rfl), (Nat.le_of_ble_eq_true rfl)⟩ rfl dX2_differences_5 8 rfl 0 0 rfl rfl (Nat.le_of_ble_eq_true rfl) (Nat.le_of_ble_eq_true rfl) (st := []) rfl (Nat.le_of_ble_eq_true rfl) (fun _ => rfl) (fun _ => ?_)
  refine g_iconst X 0 dX2_differences_8 9 rfl kI_0 ?_
  refine g_istore_n X dX2_differences_9 10 rfl (Nat.le_of_ble_eq_true rfl) rfl [some (.ref a0), some (.ref a4), some (.int 0), none] rfl ?_
  refine g_iconst X 0 dX2_differences_10 11 rfl kI_0 ?_
  refine g_istore_n X dX2_differences_11 12 rfl (Nat.le_of_ble_eq_true rfl) rfl [some (.ref a0), some (.ref a4), some (.int 0), some (.int 0)] rfl ?_
  exact w_X2_differences_12 a4 a4_1 a4_2 a4_3 a0 a1 a1_1 a1_2 a1_3 a1_4 a2 a2_1 a3 v_n v_pulses v_front v_least v_window v_lengths v_fractions v_pulseTimes v_pulseEnergies v_energies X  r r_brought r_left r_dropped r_away r_mergings r_drops r_fromNear r_fromFar r_echoes    gFU w1_brought w2_left w3_dropped w4_away w5_mergings w6_drops w7_fromNear w8_fromFar w9_echoes 0 0 h
/-! LineEchoes$Bench.fault(LLineEchoes$Runner;I)I -/
abbrev rm_X2_fault : Room := { frames := 3, cells := 0, slots := 0, locals := 85 }
def F_X2_fault (v_fromNear : Nat → Int64) (v_fromFar : Nat → Int64) (v_echoes : Nat → Int64) (v_n : Int32) (v_pulses : Int32) (v_front : Int32) (v_least : Int32) (v_window : Int32) (v_lengths : Nat → Int32) (v_fractions : Nat → Int32) (v_pulseTimes : Nat → Int32) (v_pulseEnergies : Nat → Int32) (v_energies : Nat → Int64) (x2 : Int32) : Option (Int32 × Int64 × Int64 × Int64 × Int64 × Int32 × Int32 × (Nat → Int64) × (Nat → Int64) × (Nat → Int64)) :=
  bd9 (F_X5_run v_fromNear v_fromFar v_echoes v_n v_pulses v_front v_least v_window v_lengths v_fractions v_pulseTimes v_pulseEnergies) fun w1_brought w2_left w3_dropped w4_away w5_mergings w6_drops w7_fromNear w8_fromFar w9_echoes =>
  bd1 (F_X7_firstDifference w9_echoes v_energies v_window) fun r10 =>
  if r10 = (-1) then
    (some ((-1), w1_brought, w2_left, w3_dropped, w4_away, w5_mergings, w6_drops, w7_fromNear, w8_fromFar, w9_echoes))
  else
    (bd1 (F_X3_earliest v_pulses v_pulseTimes) fun r11 =>
    if x2 = 0 then
      (some (r10, w1_brought, w2_left, w3_dropped, w4_away, w5_mergings, w6_drops, w7_fromNear, w8_fromFar, w9_echoes))
    else
      (if x2 = 1 then
        (some (r10 - r11, w1_brought, w2_left, w3_dropped, w4_away, w5_mergings, w6_drops, w7_fromNear, w8_fromFar, w9_echoes))
      else
        (if x2 = 2 then
          (bd1 (F_X3_partOf v_n v_lengths (r10 - r11)) fun r12 =>
          some (r12, w1_brought, w2_left, w3_dropped, w4_away, w5_mergings, w6_drops, w7_fromNear, w8_fromFar, w9_echoes))
        else
          (bd1 (F_X5_at w9_echoes r10) fun r13 =>
          bd1 (F_X4_at v_energies r10) fun r14 =>
          some ((if r13 ≤ r14 then ((-1) : Int32) else 1), w1_brought, w2_left, w3_dropped, w4_away, w5_mergings, w6_drops, w7_fromNear, w8_fromFar, w9_echoes)))))
theorem met_X2_fault (l : Launch) (Z : gZt) (a4 : Nat) (a4_1 : Nat) (a4_2 : Nat) (a4_3 : Nat) (a0 : Nat) (a1 : Nat) (a1_1 : Nat) (a1_2 : Nat) (a1_3 : Nat) (a1_4 : Nat) (a2 : Nat) (a2_1 : Nat) (a3 : Nat) (v_line : Option Nat) (v_brought : Int64) (v_left : Int64) (v_dropped : Int64) (v_away : Int64) (v_mergings : Int32) (v_drops : Int32) (v_fromNear : Nat → Int64) (v_fromFar : Nat → Int64) (v_echoes : Nat → Int64) (v_n : Int32) (v_pulses : Int32) (v_front : Int32) (v_least : Int32) (v_window : Int32) (v_lengths : Nat → Int32) (v_fractions : Nat → Int32) (v_pulseTimes : Nat → Int32) (v_pulseEnergies : Nat → Int32) (v_energies : Nat → Int64) (x2 : Int32) (r : Int32) (r_brought : Int64) (r_left : Int64) (r_dropped : Int64) (r_away : Int64) (r_mergings : Int32) (r_drops : Int32) (r_fromNear : Nat → Int64) (r_fromFar : Nat → Int64) (r_echoes : Nat → Int64) (h : F_X2_fault v_fromNear v_fromFar v_echoes v_n v_pulses v_front v_least v_window v_lengths v_fractions v_pulseTimes v_pulseEnergies v_energies x2 = some (r, r_brought, r_left, r_dropped, r_away, r_mergings, r_drops, r_fromNear, r_fromFar, r_echoes)) : Ct l yX2_fault (ws_ yX2_fault cX2_fault 5 (some .int)) rm_X2_fault Z [.ref a0, .ref a4, .int x2] [(a4, .inr (4, [.ref a4_1, .ref a4_2, .ref a4_3, (va_rf v_line), .long v_brought, .long v_left, .long v_dropped, .long v_away, .int v_mergings, .int v_drops])), (a4_1, .inl (Z.2 1, 1809, .inr (.inl v_fromNear))), (a4_2, .inl (Z.2 1, 1809, .inr (.inl v_fromFar))), (a4_3, .inl (Z.2 1, 201, .inr (.inl v_echoes)))] [(a0, .inr (1, [.ref a1, .ref a2, .ref a3])), (a1, .inr (2, [.ref a1_1, .ref a1_2, .int v_n, .ref a1_3, .ref a1_4, .int v_pulses, .int v_front, .int v_least, .int v_window])), (a1_1, .inl (Z.2 0, 8, .inl v_lengths)), (a1_2, .inl (Z.2 0, 8, .inl v_fractions)), (a1_3, .inl (Z.2 0, 4, .inl v_pulseTimes)), (a1_4, .inl (Z.2 0, 4, .inl v_pulseEnergies)), (a2, .inr (3, [.ref a2_1])), (a2_1, .inl (Z.2 1, 201, .inr (.inl v_energies)))] (fun _ : Unit => (some (.int r) : Option Value)) (fun _ : Unit => ([(a4, .inr (4, [.ref a4_1, .ref a4_2, .ref a4_3, .ref a1, .long r_brought, .long r_left, .long r_dropped, .long r_away, .int r_mergings, .int r_drops])), (a4_1, .inl (Z.2 1, 1809, .inr (.inl r_fromNear))), (a4_2, .inl (Z.2 1, 1809, .inr (.inl r_fromFar))), (a4_3, .inl (Z.2 1, 201, .inr (.inl r_echoes)))] : va_W)) := by
  refine Ct.of cX2_fault 5 (some .int) "LineEchoes$Bench" [some (.ref a0), some (.ref a4), some (.int x2), none, none] 2 (by decide) rfl (Nat.le_of_ble_eq_true rfl) rfl (fun p e s m args below meth c A X hin => ?_)
  unfold F_X2_fault at h
  refine g_aload_n X rfl dX2_fault_0 1 rfl ?_
  refine g_aload_n X rfl dX2_fault_1 2 rfl ?_
  refine g_getR X gC1 0 rfl 0 (by decide) q190 (fun _ h9 => h9) rfl dX2_fault_2 5 rfl ?_
  obtain ⟨w1_brought, w2_left, w3_dropped, w4_away, w5_mergings, w6_drops, w7_fromNear, w8_fromFar, w9_echoes, hcl, h⟩ := bd9_e h
  refine g_callV0 X (met_X5_run l Z a4 a4_1 a4_2 a4_3 a1 a1_1 a1_2 a1_3 a1_4 v_line v_brought v_left v_dropped v_away v_mergings v_drops v_fromNear v_fromFar v_echoes v_n v_pulses v_front v_least v_window v_lengths v_fractions v_pulseTimes v_pulseEnergies  w1_brought w2_left w3_dropped w4_away w5_mergings w6_drops w7_fromNear w8_fromFar w9_echoes hcl) [0, 1, 2, 3] [] [5, 6, 7, 8, 9] (wr := []) ⟨rfl, rfl, rfl, rfl, rfl, by decide, by decide⟩ 0 gC4 rfl rfl (lw_V q307 q308 q309 q73 q310) md_X5_run ⟨(Nat.le_of_ble_eq_true rfl), (Nat.le_of_ble_eq_true rfl)⟩ rfl dX2_fault_5 8 rfl 0 0 rfl rfl (Nat.le_of_ble_eq_true rfl) (Nat.le_of_ble_eq_true rfl) (st := []) rfl (Nat.le_of_ble_eq_true rfl) (fun _ => rfl) (fun _ => ?_)
  refine g_aload_n X rfl dX2_fault_8 9 rfl ?_
  refine g_aload_n X rfl dX2_fault_9 10 rfl ?_
  refine g_getR X gC1 0 rfl 1 (by decide) q192 (fun _ h9 => h9) rfl dX2_fault_10 13 rfl ?_
  refine g_aload_n X rfl dX2_fault_13 14 rfl ?_
  refine g_getR X gC1 0 rfl 0 (by decide) q190 (fun _ h9 => h9) rfl dX2_fault_14 17 rfl ?_
  refine g_getRN X gC2 1 rfl 8 (by decide) q152 (fun _ h9 => h9) rfl dX2_fault_17 20 rfl ?_
  obtain ⟨r10, hcl, h⟩ := bd1_e h
  refine g_callD1 X (met_X7_firstDifference l Z a4 a4_1 a4_2 a4_3 a2 a2_1 (some a1) w1_brought w2_left w3_dropped w4_away w5_mergings w6_drops w7_fromNear w8_fromFar w9_echoes v_energies v_window r10 hcl) [] [0, 1, 2, 3] [0, 1, 2, 3, 10, 11] (wr := [(a4, .inr (4, [.ref a4_1, .ref a4_2, .ref a4_3, .ref a1, .long w1_brought, .long w2_left, .long w3_dropped, .long w4_away, .int w5_mergings, .int w6_drops])), (a4_1, .inl (Z.2 1, 1809, .inr (.inl w7_fromNear))), (a4_2, .inl (Z.2 1, 1809, .inr (.inl w8_fromFar))), (a4_3, .inl (Z.2 1, 201, .inr (.inl w9_echoes)))]) ⟨rfl, rfl, rfl, rfl, rfl, by decide, by decide⟩ 0 gC4 rfl rfl (by simp [defaultWords_1, gDc, gDf, gDg]) X.kk.2.2.2.2.2.2.2.1 q414 (by decide) q416 q85 q418 md_Df ⟨(Nat.le_of_ble_eq_true rfl), (Nat.le_of_ble_eq_true rfl)⟩ rfl dX2_fault_20 23 rfl 0 0 rfl rfl (Nat.le_of_ble_eq_true rfl) (Nat.le_of_ble_eq_true rfl) (st := []) rfl (Nat.le_of_ble_eq_true rfl) (fun _ => rfl) (fun _ => ?_)
  refine g_istore_n X dX2_fault_23 24 rfl (Nat.le_of_ble_eq_true rfl) rfl [some (.ref a0), some (.ref a4), some (.int x2), some (.int r10), none] rfl ?_
  refine g_iload_n X rfl dX2_fault_24 25 rfl ?_
  refine g_iconst X (-1) dX2_fault_25 26 rfl kI_m1 ?_
  refine g_icmp_ne X dX2_fault_26 31 (by decide) 29 rfl (fun hc => ?_) (fun hc => ?_)
  · replace h := if_f hc h
    refine g_iload_n X rfl dX2_fault_31 32 rfl ?_
    refine g_aload_n X rfl dX2_fault_32 33 rfl ?_
    refine g_getR X gC1 0 rfl 0 (by decide) q190 (fun _ h9 => h9) rfl dX2_fault_33 36 rfl ?_
    obtain ⟨r11, hcl, h⟩ := bd1_e h
    refine g_callV1 X (met_X3_earliest l Z a1 a1_1 a1_2 a1_3 a1_4 v_n v_pulses v_front v_least v_window v_lengths v_fractions v_pulseTimes v_pulseEnergies  r11 hcl) [] [0, 1, 2, 3] [5, 6, 7, 8, 9] (wr := [(a4, .inr (4, [.ref a4_1, .ref a4_2, .ref a4_3, .ref a1, .long w1_brought, .long w2_left, .long w3_dropped, .long w4_away, .int w5_mergings, .int w6_drops])), (a4_1, .inl (Z.2 1, 1809, .inr (.inl w7_fromNear))), (a4_2, .inl (Z.2 1, 1809, .inr (.inl w8_fromFar))), (a4_3, .inl (Z.2 1, 201, .inr (.inl w9_echoes)))]) ⟨rfl, rfl, rfl, rfl, rfl, by decide, by decide⟩ 5 gC2 rfl rfl (lw_V q1060 q1061 q1062 q71 q1063) md_X3_earliest ⟨(Nat.le_of_ble_eq_true rfl), (Nat.le_of_ble_eq_true rfl)⟩ rfl dX2_fault_36 39 rfl 0 0 rfl rfl (Nat.le_of_ble_eq_true rfl) (Nat.le_of_ble_eq_true rfl) (st := [.int r10]) rfl (Nat.le_of_ble_eq_true rfl) (fun _ => rfl) (fun _ => ?_)
    refine g_wd [(a4, .inr (4, [.ref a4_1, .ref a4_2, .ref a4_3, .ref a1, .long w1_brought, .long w2_left, .long w3_dropped, .long w4_away, .int w5_mergings, .int w6_drops])), (a4_1, .inl (Z.2 1, 1809, .inr (.inl w7_fromNear))), (a4_2, .inl (Z.2 1, 1809, .inr (.inl w8_fromFar))), (a4_3, .inl (Z.2 1, 201, .inr (.inl w9_echoes)))] rfl ?_
    refine g_isub X dX2_fault_39 40 rfl ?_
    refine g_istore X dX2_fault_40 42 rfl (Nat.le_of_ble_eq_true rfl) rfl [some (.ref a0), some (.ref a4), some (.int x2), some (.int r10), some (.int (r10 - r11))] rfl ?_
    refine g_iload_n X rfl dX2_fault_42 43 rfl ?_
    by_cases hc0 : x2 = 0
    · replace h := if_t hc0 h
      refine g_tabIn X dX2_fault_43 68 0 hc0 (by decide) (by decide) rfl (by decide) ?_
      refine g_iload_n X rfl dX2_fault_68 69 rfl ?_
      cases h
      exact g_iret X dX2_fault_69 () rfl rfl (Nat.le_of_ble_eq_true rfl) (Nat.le_of_ble_eq_true rfl)
    replace h := if_f hc0 h
    by_cases hc1 : x2 = 1
    · replace h := if_t hc1 h
      refine g_tabIn X dX2_fault_43 70 1 hc1 (by decide) (by decide) rfl (by decide) ?_
      refine g_iload X rfl dX2_fault_70 72 rfl ?_
      cases h
      exact g_iret X dX2_fault_72 () rfl rfl (Nat.le_of_ble_eq_true rfl) (Nat.le_of_ble_eq_true rfl)
    replace h := if_f hc1 h
    by_cases hc2 : x2 = 2
    · replace h := if_t hc2 h
      refine g_tabIn X dX2_fault_43 73 2 hc2 (by decide) (by decide) rfl (by decide) ?_
      refine g_aload_n X rfl dX2_fault_73 74 rfl ?_
      refine g_getR X gC1 0 rfl 0 (by decide) q190 (fun _ h9 => h9) rfl dX2_fault_74 77 rfl ?_
      refine g_iload X rfl dX2_fault_77 79 rfl ?_
      obtain ⟨r12, hcl, h⟩ := bd1_e h
      refine g_callV1 X (met_X3_partOf l Z a1 a1_1 a1_2 a1_3 a1_4 v_n v_pulses v_front v_least v_window v_lengths v_fractions v_pulseTimes v_pulseEnergies (r10 - r11) r12 hcl) [] [0, 1, 2, 3] [5, 6, 7, 8, 9] (wr := [(a4, .inr (4, [.ref a4_1, .ref a4_2, .ref a4_3, .ref a1, .long w1_brought, .long w2_left, .long w3_dropped, .long w4_away, .int w5_mergings, .int w6_drops])), (a4_1, .inl (Z.2 1, 1809, .inr (.inl w7_fromNear))), (a4_2, .inl (Z.2 1, 1809, .inr (.inl w8_fromFar))), (a4_3, .inl (Z.2 1, 201, .inr (.inl w9_echoes)))]) ⟨rfl, rfl, rfl, rfl, rfl, by decide, by decide⟩ 5 gC2 rfl rfl (lw_V q1065 q1066 q1067 q71 q1068) md_X3_partOf ⟨(Nat.le_of_ble_eq_true rfl), (Nat.le_of_ble_eq_true rfl)⟩ rfl dX2_fault_79 82 rfl 0 0 rfl rfl (Nat.le_of_ble_eq_true rfl) (Nat.le_of_ble_eq_true rfl) (st := []) rfl (Nat.le_of_ble_eq_true rfl) (fun _ => rfl) (fun _ => ?_)
      cases h
      exact g_iret X dX2_fault_82 () rfl rfl (Nat.le_of_ble_eq_true rfl) (Nat.le_of_ble_eq_true rfl)
    replace h := if_f hc2 h
    refine g_tabOut X dX2_fault_43 83 (g_rng (lo := 0) (n := 3) (fun i hi => match i, hi with | 0, _ => lv_neT hc0 (by decide) | 1, _ => lv_neT hc1 (by decide) | 2, _ => lv_neT hc2 (by decide) | n + 3, hi => absurd hi (by omega)) (by decide)) (by decide) ?_
    refine g_aload_n X rfl dX2_fault_83 84 rfl ?_
    refine g_iload_n X rfl dX2_fault_84 85 rfl ?_
    obtain ⟨r13, hcl, h⟩ := bd1_e h
    refine g_callV1 X (met_X5_at l Z a4 a4_1 a4_2 a4_3 (some a1) w1_brought w2_left w3_dropped w4_away w5_mergings w6_drops w7_fromNear w8_fromFar w9_echoes r10 r13 hcl) [] [0, 1, 2, 3] [0, 1, 2, 3] (wr := [(a4, .inr (4, [.ref a4_1, .ref a4_2, .ref a4_3, .ref a1, .long w1_brought, .long w2_left, .long w3_dropped, .long w4_away, .int w5_mergings, .int w6_drops])), (a4_1, .inl (Z.2 1, 1809, .inr (.inl w7_fromNear))), (a4_2, .inl (Z.2 1, 1809, .inr (.inl w8_fromFar))), (a4_3, .inl (Z.2 1, 201, .inr (.inl w9_echoes)))]) ⟨rfl, rfl, rfl, rfl, rfl, by decide, by decide⟩ 0 gC4 rfl rfl (lw_V q366 q348 q1781 q73 q350) md_X5_at ⟨(Nat.le_of_ble_eq_true rfl), (Nat.le_of_ble_eq_true rfl)⟩ rfl dX2_fault_85 88 rfl 0 0 rfl rfl (Nat.le_of_ble_eq_true rfl) (Nat.le_of_ble_eq_true rfl) (st := []) rfl (Nat.le_of_ble_eq_true rfl) (fun _ => rfl) (fun _ => ?_)
    refine g_aload_n X rfl dX2_fault_88 89 rfl ?_
    refine g_getR X gC1 0 rfl 1 (by decide) q192 (fun _ h9 => h9) rfl dX2_fault_89 92 rfl ?_
    refine g_iload_n X rfl dX2_fault_92 93 rfl ?_
    obtain ⟨r14, hcl, h⟩ := bd1_e h
    refine g_callV1 X (met_X4_at l Z a2 a2_1 v_energies r10 r14 hcl) [] [0, 1, 2, 3] [10, 11] (wr := [(a4, .inr (4, [.ref a4_1, .ref a4_2, .ref a4_3, .ref a1, .long w1_brought, .long w2_left, .long w3_dropped, .long w4_away, .int w5_mergings, .int w6_drops])), (a4_1, .inl (Z.2 1, 1809, .inr (.inl w7_fromNear))), (a4_2, .inl (Z.2 1, 1809, .inr (.inl w8_fromFar))), (a4_3, .inl (Z.2 1, 201, .inr (.inl w9_echoes)))]) ⟨rfl, rfl, rfl, rfl, rfl, by decide, by decide⟩ 10 gC3 rfl rfl (lw_V q367 q342 q1782 q72 q344) md_X4_at ⟨(Nat.le_of_ble_eq_true rfl), (Nat.le_of_ble_eq_true rfl)⟩ rfl dX2_fault_93 96 rfl 0 0 rfl rfl (Nat.le_of_ble_eq_true rfl) (Nat.le_of_ble_eq_true rfl) (st := [.long r13]) rfl (Nat.le_of_ble_eq_true rfl) (fun _ => rfl) (fun _ => ?_)
    refine g_seli 105 [] (b := r13 ≤ r14) (-1) 1 ?_ (fun hc K => ?_) (fun hc K => ?_)
    · cases h
      exact g_iret X dX2_fault_105 () rfl rfl (Nat.le_of_ble_eq_true rfl) (Nat.le_of_ble_eq_true rfl)
    · refine g_lcmp_le X dX2_fault_96 97 rfl dX2_fault_97 104 (by decide) 100 rfl (fun _ => ?_) (fun hn => absurd hc hn)
      refine g_iconst X (-1) dX2_fault_104 105 rfl kI_m1 ?_
      exact K
    · refine g_lcmp_le X dX2_fault_96 97 rfl dX2_fault_97 104 (by decide) 100 rfl (fun hn => absurd hn hc) (fun _ => ?_)
      refine g_iconst X 1 dX2_fault_100 101 rfl kI_1 ?_
      refine g_goto X dX2_fault_101 105 (by decide) ?_
      exact K
  · replace h := if_t hc h
    refine g_iconst X (-1) dX2_fault_29 30 rfl kI_m1 ?_
    cases h
    exact g_iret X dX2_fault_30 () rfl rfl (Nat.le_of_ble_eq_true rfl) (Nat.le_of_ble_eq_true rfl)
