/-! 20.leaves (printed by gen/system.py) -/
set_option maxRecDepth 100000
theorem kB_100 : (Int8.ofInt 100).toInt32 = 100 := by decide
theorem kS_1293 : (Int16.ofInt 1293).toInt32 = 1293 := by decide
theorem kS_1809 : (Int16.ofInt 1809).toInt32 = 1809 := by decide
theorem md_X3_addPulse : gMd yX3_addPulse 2 := by unfold gMd; decide +kernel
theorem md_X3_init : gMd yX3_init 0 := by unfold gMd; decide +kernel
theorem md_X3_setBench : gMd yX3_setBench 3 := by unfold gMd; decide +kernel
theorem md_X3_sum : gMd yX3_sum 1 := by unfold gMd; decide +kernel
theorem md_X3_swap : gMd yX3_swap 3 := by unfold gMd; decide +kernel
theorem gD2 : ∀ j, j < 9 → defaultValue (tyX3 j) = vp_V [.null, .null, .int 0, .null, .null, .int 0, .int 0, .int 0, .int 0] j := fun j hj => match j, hj with | 0, _ => rfl | 1, _ => rfl | 2, _ => rfl | 3, _ => rfl | 4, _ => rfl | 5, _ => rfl | 6, _ => rfl | 7, _ => rfl | 8, _ => rfl | n + 9, hj => absurd hj (by omega)
/-! LineEchoesModel.<init>()V -/
abbrev rm_X6_init : Room := { frames := 1, cells := 11, slots := 5808, locals := 40 }
def F_X6_init : Option ((Nat → Int64) × (Nat → Int64) × (Nat → Int32) × (Nat → Int32) × (Nat → Int32) × (Nat → Int32) × (Nat → Int64) × (Nat → Int64) × (Nat → Int64) × (Nat → Int64) × (Nat → Int32)) :=
  gin 18 431 <|
  gin 19 431 <|
  gin 20 431 <|
  gin 22 431 <|
  some (vp_updL (vp_updL (vp_updL (vp_updL (fun _ => 0) (Int32.toNatClampNeg 18) 1) (Int32.toNatClampNeg 19) 100) (Int32.toNatClampNeg 20) 1) (Int32.toNatClampNeg 22) 100000, fun _ => 0, fun _ => 0, fun _ => 0, fun _ => 0, fun _ => 0, fun _ => 0, fun _ => 0, fun _ => 0, fun _ => 0, fun _ => 0)
theorem met_X6_init (l : Launch) (Z : gZt) (a0 : Nat) (v_savedCount : Int32) (v_scriptLength : Int32) (v_code : Int32) (v_lineParts : Int32) (v_pulseMany : Int32) (v_left : Int64) (v_dropped : Int64) (v_merged : Int32) (v_drops : Int32) (v_contributions : Int32) (v_packet : Int64) (v_peelResult : Int32) (v_peelTime : Int32) (v_peelSum : Int32) (v_at : Int32) (v_commands : Int32) (v_hash : Int64) (o0 : Nat → Int64) (o1 : Nat → Int64) (o2 : Nat → Int32) (o3 : Nat → Int32) (o4 : Nat → Int32) (o5 : Nat → Int32) (o6 : Nat → Int64) (o7 : Nat → Int64) (o8 : Nat → Int64) (o9 : Nat → Int64) (o10 : Nat → Int32) (h : F_X6_init = some (o0, o1, o2, o3, o4, o5, o6, o7, o8, o9, o10)) : Ct l yX6_init (ws_ yX6_init cX6_init 1 none) rm_X6_init Z [.ref a0] [(a0, .inr (5, [.null, .null, .int v_savedCount, .null, .int v_scriptLength, .int v_code, .int v_lineParts, .null, .null, .int v_pulseMany, .null, .null, .null, .null, .null, .long v_left, .long v_dropped, .int v_merged, .int v_drops, .int v_contributions, .long v_packet, .int v_peelResult, .int v_peelTime, .int v_peelSum, .int v_at, .int v_commands, .null, .long v_hash]))] [] (fun u : Nat × Nat × Nat × Nat × Nat × Nat × Nat × Nat × Nat × Nat × Nat => (none : Option Value)) (fun u : Nat × Nat × Nat × Nat × Nat × Nat × Nat × Nat × Nat × Nat × Nat => ([(a0, .inr (5, [.ref u.1, .ref u.2.1, .int v_savedCount, .ref u.2.2.1, .int v_scriptLength, .int v_code, .int v_lineParts, .ref u.2.2.2.1, .ref u.2.2.2.2.1, .int v_pulseMany, .ref u.2.2.2.2.2.1, .ref u.2.2.2.2.2.2.1, .ref u.2.2.2.2.2.2.2.1, .ref u.2.2.2.2.2.2.2.2.1, .ref u.2.2.2.2.2.2.2.2.2.1, .long v_left, .long v_dropped, .int v_merged, .int v_drops, .int v_contributions, .long v_packet, .int v_peelResult, .int v_peelTime, .int v_peelSum, .int v_at, .int v_commands, .ref u.2.2.2.2.2.2.2.2.2.2, .long v_hash])), (u.1, .inl (Z.2 1, 431, .inr (.inl o0))), (u.2.1, .inl (Z.2 1, 1293, .inr (.inl o1))), (u.2.2.1, .inl (Z.2 0, 120, .inl o2)), (u.2.2.2.1, .inl (Z.2 0, 8, .inl o3)), (u.2.2.2.2.1, .inl (Z.2 0, 9, .inl o4)), (u.2.2.2.2.2.1, .inl (Z.2 0, 4, .inl o5)), (u.2.2.2.2.2.2.1, .inl (Z.2 1, 4, .inr (.inl o6))), (u.2.2.2.2.2.2.2.1, .inl (Z.2 1, 1809, .inr (.inl o7))), (u.2.2.2.2.2.2.2.2.1, .inl (Z.2 1, 1809, .inr (.inl o8))), (u.2.2.2.2.2.2.2.2.2.1, .inl (Z.2 1, 201, .inr (.inl o9))), (u.2.2.2.2.2.2.2.2.2.2, .inl (Z.2 0, 120, .inl o10))] : va_W)) := by
  refine Ct.of cX6_init 1 none "LineEchoesModel" [some (.ref a0)] 0 (by decide) rfl (Nat.le_of_ble_eq_true rfl) rfl (fun p e s m args below meth c A X hin => ?_)
  replace hin : True → meth.name = "<init>" := fun _ => hin rfl
  unfold F_X6_init at h
  refine g_aload_n X rfl dX6_init_0 1 rfl ?_
  refine g_objInit X q1339 q104 q105 dX6_init_1 4 rfl (Nat.le_of_ble_eq_true rfl) (Nat.le_of_ble_eq_true rfl) ?_
  refine g_aload_n X rfl dX6_init_4 5 rfl ?_
  refine g_sipush X 431 dX6_init_5 8 rfl kS_431 ?_
  refine g_newa1 X q189 431 (by decide) rfl (Nat.le_of_ble_eq_true rfl) dX6_init_8 10 rfl 1 431 rfl rfl (Nat.le_of_ble_eq_true rfl) (Nat.le_of_ble_eq_true rfl) (fun b1 => ?_)
  refine g_putF X gC5 0 rfl 0 (by decide) q1342 (fun _ h9 => h9) rfl (hin trivial) rfl rfl rfl (Nat.le_of_ble_eq_true rfl) dX6_init_10 13 rfl ?_
  refine g_aload_n X rfl dX6_init_13 14 rfl ?_
  refine g_sipush X 1293 dX6_init_14 17 rfl kS_1293 ?_
  refine g_newa1 X q189 1293 (by decide) rfl (Nat.le_of_ble_eq_true rfl) dX6_init_17 19 rfl 2 1724 rfl rfl (Nat.le_of_ble_eq_true rfl) (Nat.le_of_ble_eq_true rfl) (fun b2 => ?_)
  refine g_putF X gC5 0 rfl 1 (by decide) q1343 (fun _ h9 => h9) rfl (hin trivial) rfl rfl rfl (Nat.le_of_ble_eq_true rfl) dX6_init_19 22 rfl ?_
  refine g_aload_n X rfl dX6_init_22 23 rfl ?_
  refine g_bipush X 120 dX6_init_23 25 rfl kB_120 ?_
  refine g_newa0 X q173 120 (by decide) rfl (Nat.le_of_ble_eq_true rfl) dX6_init_25 27 rfl 3 1844 rfl rfl (Nat.le_of_ble_eq_true rfl) (Nat.le_of_ble_eq_true rfl) (fun b3 => ?_)
  refine g_wd [(a0, .inr (5, [.ref b1, .ref b2, .int v_savedCount, .null, .int v_scriptLength, .int v_code, .int v_lineParts, .null, .null, .int v_pulseMany, .null, .null, .null, .null, .null, .long v_left, .long v_dropped, .int v_merged, .int v_drops, .int v_contributions, .long v_packet, .int v_peelResult, .int v_peelTime, .int v_peelSum, .int v_at, .int v_commands, .null, .long v_hash])), (b1, .inl (Z.2 1, 431, .inr (.inl (fun _ => 0)))), (b2, .inl (Z.2 1, 1293, .inr (.inl (fun _ => 0)))), (b3, .inl (Z.2 0, 120, .inl (fun _ => 0)))] rfl ?_
  refine g_putF X gC5 0 rfl 3 (by decide) q1345 (fun _ h9 => h9) rfl (hin trivial) rfl rfl rfl (Nat.le_of_ble_eq_true rfl) dX6_init_27 30 rfl ?_
  refine g_aload_n X rfl dX6_init_30 31 rfl ?_
  refine g_bipush X 8 dX6_init_31 33 rfl kB_8 ?_
  refine g_newa0 X q173 8 (by decide) rfl (Nat.le_of_ble_eq_true rfl) dX6_init_33 35 rfl 4 1852 rfl rfl (Nat.le_of_ble_eq_true rfl) (Nat.le_of_ble_eq_true rfl) (fun b4 => ?_)
  refine g_putF X gC5 0 rfl 7 (by decide) q1349 (fun _ h9 => h9) rfl (hin trivial) rfl rfl rfl (Nat.le_of_ble_eq_true rfl) dX6_init_35 38 rfl ?_
  refine g_aload_n X rfl dX6_init_38 39 rfl ?_
  refine g_bipush X 9 dX6_init_39 41 rfl kB_9 ?_
  refine g_newa0 X q173 9 (by decide) rfl (Nat.le_of_ble_eq_true rfl) dX6_init_41 43 rfl 5 1861 rfl rfl (Nat.le_of_ble_eq_true rfl) (Nat.le_of_ble_eq_true rfl) (fun b5 => ?_)
  refine g_putF X gC5 0 rfl 8 (by decide) q1350 (fun _ h9 => h9) rfl (hin trivial) rfl rfl rfl (Nat.le_of_ble_eq_true rfl) dX6_init_43 46 rfl ?_
  refine g_wd [(a0, .inr (5, [.ref b1, .ref b2, .int v_savedCount, .ref b3, .int v_scriptLength, .int v_code, .int v_lineParts, .ref b4, .ref b5, .int v_pulseMany, .null, .null, .null, .null, .null, .long v_left, .long v_dropped, .int v_merged, .int v_drops, .int v_contributions, .long v_packet, .int v_peelResult, .int v_peelTime, .int v_peelSum, .int v_at, .int v_commands, .null, .long v_hash])), (b1, .inl (Z.2 1, 431, .inr (.inl (fun _ => 0)))), (b2, .inl (Z.2 1, 1293, .inr (.inl (fun _ => 0)))), (b3, .inl (Z.2 0, 120, .inl (fun _ => 0))), (b4, .inl (Z.2 0, 8, .inl (fun _ => 0))), (b5, .inl (Z.2 0, 9, .inl (fun _ => 0)))] rfl ?_
  refine g_aload_n X rfl dX6_init_46 47 rfl ?_
  refine g_iconst X 4 dX6_init_47 48 rfl kI_4 ?_
  refine g_newa0 X q173 4 (by decide) rfl (Nat.le_of_ble_eq_true rfl) dX6_init_48 50 rfl 6 1865 rfl rfl (Nat.le_of_ble_eq_true rfl) (Nat.le_of_ble_eq_true rfl) (fun b6 => ?_)
  refine g_putF X gC5 0 rfl 10 (by decide) q1352 (fun _ h9 => h9) rfl (hin trivial) rfl rfl rfl (Nat.le_of_ble_eq_true rfl) dX6_init_50 53 rfl ?_
  refine g_aload_n X rfl dX6_init_53 54 rfl ?_
  refine g_iconst X 4 dX6_init_54 55 rfl kI_4 ?_
  refine g_newa1 X q189 4 (by decide) rfl (Nat.le_of_ble_eq_true rfl) dX6_init_55 57 rfl 7 1869 rfl rfl (Nat.le_of_ble_eq_true rfl) (Nat.le_of_ble_eq_true rfl) (fun b7 => ?_)
  refine g_putF X gC5 0 rfl 11 (by decide) q1353 (fun _ h9 => h9) rfl (hin trivial) rfl rfl rfl (Nat.le_of_ble_eq_true rfl) dX6_init_57 60 rfl ?_
  refine g_aload_n X rfl dX6_init_60 61 rfl ?_
  refine g_sipush X 1809 dX6_init_61 64 rfl kS_1809 ?_
  refine g_newa1 X q189 1809 (by decide) rfl (Nat.le_of_ble_eq_true rfl) dX6_init_64 66 rfl 8 3678 rfl rfl (Nat.le_of_ble_eq_true rfl) (Nat.le_of_ble_eq_true rfl) (fun b8 => ?_)
  refine g_wd [(a0, .inr (5, [.ref b1, .ref b2, .int v_savedCount, .ref b3, .int v_scriptLength, .int v_code, .int v_lineParts, .ref b4, .ref b5, .int v_pulseMany, .ref b6, .ref b7, .null, .null, .null, .long v_left, .long v_dropped, .int v_merged, .int v_drops, .int v_contributions, .long v_packet, .int v_peelResult, .int v_peelTime, .int v_peelSum, .int v_at, .int v_commands, .null, .long v_hash])), (b1, .inl (Z.2 1, 431, .inr (.inl (fun _ => 0)))), (b2, .inl (Z.2 1, 1293, .inr (.inl (fun _ => 0)))), (b3, .inl (Z.2 0, 120, .inl (fun _ => 0))), (b4, .inl (Z.2 0, 8, .inl (fun _ => 0))), (b5, .inl (Z.2 0, 9, .inl (fun _ => 0))), (b6, .inl (Z.2 0, 4, .inl (fun _ => 0))), (b7, .inl (Z.2 1, 4, .inr (.inl (fun _ => 0)))), (b8, .inl (Z.2 1, 1809, .inr (.inl (fun _ => 0))))] rfl ?_
  refine g_putF X gC5 0 rfl 12 (by decide) q1354 (fun _ h9 => h9) rfl (hin trivial) rfl rfl rfl (Nat.le_of_ble_eq_true rfl) dX6_init_66 69 rfl ?_
  refine g_aload_n X rfl dX6_init_69 70 rfl ?_
  refine g_sipush X 1809 dX6_init_70 73 rfl kS_1809 ?_
  refine g_newa1 X q189 1809 (by decide) rfl (Nat.le_of_ble_eq_true rfl) dX6_init_73 75 rfl 9 5487 rfl rfl (Nat.le_of_ble_eq_true rfl) (Nat.le_of_ble_eq_true rfl) (fun b9 => ?_)
  refine g_putF X gC5 0 rfl 13 (by decide) q1355 (fun _ h9 => h9) rfl (hin trivial) rfl rfl rfl (Nat.le_of_ble_eq_true rfl) dX6_init_75 78 rfl ?_
  refine g_aload_n X rfl dX6_init_78 79 rfl ?_
  refine g_sipush X 201 dX6_init_79 82 rfl kS_201 ?_
  refine g_newa1 X q189 201 (by decide) rfl (Nat.le_of_ble_eq_true rfl) dX6_init_82 84 rfl 10 5688 rfl rfl (Nat.le_of_ble_eq_true rfl) (Nat.le_of_ble_eq_true rfl) (fun b10 => ?_)
  refine g_putF X gC5 0 rfl 14 (by decide) q1356 (fun _ h9 => h9) rfl (hin trivial) rfl rfl rfl (Nat.le_of_ble_eq_true rfl) dX6_init_84 87 rfl ?_
  refine g_wd [(a0, .inr (5, [.ref b1, .ref b2, .int v_savedCount, .ref b3, .int v_scriptLength, .int v_code, .int v_lineParts, .ref b4, .ref b5, .int v_pulseMany, .ref b6, .ref b7, .ref b8, .ref b9, .ref b10, .long v_left, .long v_dropped, .int v_merged, .int v_drops, .int v_contributions, .long v_packet, .int v_peelResult, .int v_peelTime, .int v_peelSum, .int v_at, .int v_commands, .null, .long v_hash])), (b1, .inl (Z.2 1, 431, .inr (.inl (fun _ => 0)))), (b2, .inl (Z.2 1, 1293, .inr (.inl (fun _ => 0)))), (b3, .inl (Z.2 0, 120, .inl (fun _ => 0))), (b4, .inl (Z.2 0, 8, .inl (fun _ => 0))), (b5, .inl (Z.2 0, 9, .inl (fun _ => 0))), (b6, .inl (Z.2 0, 4, .inl (fun _ => 0))), (b7, .inl (Z.2 1, 4, .inr (.inl (fun _ => 0)))), (b8, .inl (Z.2 1, 1809, .inr (.inl (fun _ => 0)))), (b9, .inl (Z.2 1, 1809, .inr (.inl (fun _ => 0)))), (b10, .inl (Z.2 1, 201, .inr (.inl (fun _ => 0))))] rfl ?_
  refine g_aload_n X rfl dX6_init_87 88 rfl ?_
  refine g_bipush X 120 dX6_init_88 90 rfl kB_120 ?_
  refine g_newa0 X q173 120 (by decide) rfl (Nat.le_of_ble_eq_true rfl) dX6_init_90 92 rfl 11 5808 rfl rfl (Nat.le_of_ble_eq_true rfl) (Nat.le_of_ble_eq_true rfl) (fun b11 => ?_)
  refine g_putF X gC5 0 rfl 26 (by decide) q1368 (fun _ h9 => h9) rfl (hin trivial) rfl rfl rfl (Nat.le_of_ble_eq_true rfl) dX6_init_92 95 rfl ?_
  refine g_aload_n X rfl dX6_init_95 96 rfl ?_
  refine g_get X gC5 0 rfl 0 (by decide) q1342 (fun _ h9 => h9) rfl dX6_init_96 99 rfl ?_
  refine g_bipush X 18 dX6_init_99 101 rfl kB_18 ?_
  refine g_lconst X 1 dX6_init_101 102 rfl rfl ?_
  obtain ⟨hi, h⟩ := gin_e h
  refine g_last X 1 rfl hi dX6_init_102 103 rfl ?_
  refine g_aload_n X rfl dX6_init_103 104 rfl ?_
  refine g_get X gC5 0 rfl 0 (by decide) q1342 (fun _ h9 => h9) rfl dX6_init_104 107 rfl ?_
  refine g_bipush X 19 dX6_init_107 109 rfl kB_19 ?_
  refine g_ldc2 X q1340 dX6_init_109 112 rfl ?_
  obtain ⟨hi, h⟩ := gin_e h
  refine g_last X 1 rfl hi dX6_init_112 113 rfl ?_
  refine g_aload_n X rfl dX6_init_113 114 rfl ?_
  refine g_get X gC5 0 rfl 0 (by decide) q1342 (fun _ h9 => h9) rfl dX6_init_114 117 rfl ?_
  refine g_bipush X 20 dX6_init_117 119 rfl kB_20 ?_
  refine g_lconst X 1 dX6_init_119 120 rfl rfl ?_
  obtain ⟨hi, h⟩ := gin_e h
  refine g_last X 1 rfl hi dX6_init_120 121 rfl ?_
  refine g_wd [(a0, .inr (5, [.ref b1, .ref b2, .int v_savedCount, .ref b3, .int v_scriptLength, .int v_code, .int v_lineParts, .ref b4, .ref b5, .int v_pulseMany, .ref b6, .ref b7, .ref b8, .ref b9, .ref b10, .long v_left, .long v_dropped, .int v_merged, .int v_drops, .int v_contributions, .long v_packet, .int v_peelResult, .int v_peelTime, .int v_peelSum, .int v_at, .int v_commands, .ref b11, .long v_hash])), (b1, .inl (Z.2 1, 431, .inr (.inl (vp_updL (vp_updL (vp_updL (fun _ => 0) (Int32.toNatClampNeg 18) 1) (Int32.toNatClampNeg 19) 100) (Int32.toNatClampNeg 20) 1)))), (b2, .inl (Z.2 1, 1293, .inr (.inl (fun _ => 0)))), (b3, .inl (Z.2 0, 120, .inl (fun _ => 0))), (b4, .inl (Z.2 0, 8, .inl (fun _ => 0))), (b5, .inl (Z.2 0, 9, .inl (fun _ => 0))), (b6, .inl (Z.2 0, 4, .inl (fun _ => 0))), (b7, .inl (Z.2 1, 4, .inr (.inl (fun _ => 0)))), (b8, .inl (Z.2 1, 1809, .inr (.inl (fun _ => 0)))), (b9, .inl (Z.2 1, 1809, .inr (.inl (fun _ => 0)))), (b10, .inl (Z.2 1, 201, .inr (.inl (fun _ => 0)))), (b11, .inl (Z.2 0, 120, .inl (fun _ => 0)))] rfl ?_
  refine g_aload_n X rfl dX6_init_121 122 rfl ?_
  refine g_get X gC5 0 rfl 0 (by decide) q1342 (fun _ h9 => h9) rfl dX6_init_122 125 rfl ?_
  refine g_bipush X 22 dX6_init_125 127 rfl kB_22 ?_
  refine g_ldc2 X q1341 dX6_init_127 130 rfl ?_
  obtain ⟨hi, h⟩ := gin_e h
  refine g_last X 1 rfl hi dX6_init_130 131 rfl ?_
  obtain ⟨rfl, rfl, rfl, rfl, rfl, rfl, rfl, rfl, rfl, rfl, rfl⟩ := rt11 h
  exact g_vret X dX6_init_131 (b1, b2, b3, b4, b5, b6, b7, b8, b9, b10, b11) rfl rfl (Nat.le_of_ble_eq_true rfl) (Nat.le_of_ble_eq_true rfl)
/-! LineEchoes$Line.<init>()V -/
abbrev rm_X3_init : Room := { frames := 1, cells := 4, slots := 24, locals := 40 }
def F_X3_init : Option (Int32 × Int32 × (Nat → Int32) × (Nat → Int32) × (Nat → Int32) × (Nat → Int32)) :=
  some (1, 100, fun _ => 0, fun _ => 0, fun _ => 0, fun _ => 0)
theorem met_X3_init (l : Launch) (Z : gZt) (a0 : Nat) (v_n : Int32) (v_pulses : Int32) (v_front : Int32) (v_least : Int32) (v_window : Int32) (r_least : Int32) (r_window : Int32) (o0 : Nat → Int32) (o1 : Nat → Int32) (o2 : Nat → Int32) (o3 : Nat → Int32) (h : F_X3_init = some (r_least, r_window, o0, o1, o2, o3)) : Ct l yX3_init (ws_ yX3_init cX3_init 1 none) rm_X3_init Z [.ref a0] [(a0, .inr (2, [.null, .null, .int v_n, .null, .null, .int v_pulses, .int v_front, .int v_least, .int v_window]))] [] (fun u : Nat × Nat × Nat × Nat => (none : Option Value)) (fun u : Nat × Nat × Nat × Nat => ([(a0, .inr (2, [.ref u.1, .ref u.2.1, .int v_n, .ref u.2.2.1, .ref u.2.2.2, .int v_pulses, .int v_front, .int r_least, .int r_window])), (u.1, .inl (Z.2 0, 8, .inl o0)), (u.2.1, .inl (Z.2 0, 8, .inl o1)), (u.2.2.1, .inl (Z.2 0, 4, .inl o2)), (u.2.2.2, .inl (Z.2 0, 4, .inl o3))] : va_W)) := by
  refine Ct.of cX3_init 1 none "LineEchoes$Line" [some (.ref a0)] 0 (by decide) rfl (Nat.le_of_ble_eq_true rfl) rfl (fun p e s m args below meth c A X hin => ?_)
  replace hin : True → meth.name = "<init>" := fun _ => hin rfl
  unfold F_X3_init at h
  refine g_aload_n X rfl dX3_init_0 1 rfl ?_
  refine g_objInit X q120 q104 q105 dX3_init_1 4 rfl (Nat.le_of_ble_eq_true rfl) (Nat.le_of_ble_eq_true rfl) ?_
  refine g_aload_n X rfl dX3_init_4 5 rfl ?_
  refine g_bipush X 8 dX3_init_5 7 rfl kB_8 ?_
  refine g_newa0 X q173 8 (by decide) rfl (Nat.le_of_ble_eq_true rfl) dX3_init_7 9 rfl 1 8 rfl rfl (Nat.le_of_ble_eq_true rfl) (Nat.le_of_ble_eq_true rfl) (fun b1 => ?_)
  refine g_putF X gC2 0 rfl 0 (by decide) q121 (fun _ h9 => h9) rfl (hin trivial) rfl rfl rfl (Nat.le_of_ble_eq_true rfl) dX3_init_9 12 rfl ?_
  refine g_aload_n X rfl dX3_init_12 13 rfl ?_
  refine g_bipush X 8 dX3_init_13 15 rfl kB_8 ?_
  refine g_newa0 X q173 8 (by decide) rfl (Nat.le_of_ble_eq_true rfl) dX3_init_15 17 rfl 2 16 rfl rfl (Nat.le_of_ble_eq_true rfl) (Nat.le_of_ble_eq_true rfl) (fun b2 => ?_)
  refine g_putF X gC2 0 rfl 1 (by decide) q125 (fun _ h9 => h9) rfl (hin trivial) rfl rfl rfl (Nat.le_of_ble_eq_true rfl) dX3_init_17 20 rfl ?_
  refine g_aload_n X rfl dX3_init_20 21 rfl ?_
  refine g_iconst X 4 dX3_init_21 22 rfl kI_4 ?_
  refine g_newa0 X q173 4 (by decide) rfl (Nat.le_of_ble_eq_true rfl) dX3_init_22 24 rfl 3 20 rfl rfl (Nat.le_of_ble_eq_true rfl) (Nat.le_of_ble_eq_true rfl) (fun b3 => ?_)
  refine g_wd [(a0, .inr (2, [.ref b1, .ref b2, .int v_n, .null, .null, .int v_pulses, .int v_front, .int v_least, .int v_window])), (b1, .inl (Z.2 0, 8, .inl (fun _ => 0))), (b2, .inl (Z.2 0, 8, .inl (fun _ => 0))), (b3, .inl (Z.2 0, 4, .inl (fun _ => 0)))] rfl ?_
  refine g_putF X gC2 0 rfl 3 (by decide) q135 (fun _ h9 => h9) rfl (hin trivial) rfl rfl rfl (Nat.le_of_ble_eq_true rfl) dX3_init_24 27 rfl ?_
  refine g_aload_n X rfl dX3_init_27 28 rfl ?_
  refine g_iconst X 4 dX3_init_28 29 rfl kI_4 ?_
  refine g_newa0 X q173 4 (by decide) rfl (Nat.le_of_ble_eq_true rfl) dX3_init_29 31 rfl 4 24 rfl rfl (Nat.le_of_ble_eq_true rfl) (Nat.le_of_ble_eq_true rfl) (fun b4 => ?_)
  refine g_putF X gC2 0 rfl 4 (by decide) q138 (fun _ h9 => h9) rfl (hin trivial) rfl rfl rfl (Nat.le_of_ble_eq_true rfl) dX3_init_31 34 rfl ?_
  refine g_aload_n X rfl dX3_init_34 35 rfl ?_
  refine g_iconst X 1 dX3_init_35 36 rfl kI_1 ?_
  refine g_put X gC2 0 rfl 7 (by decide) q147 (fun _ h9 => h9) rfl rfl rfl (Nat.le_of_ble_eq_true rfl) dX3_init_36 39 rfl ?_
  refine g_aload_n X rfl dX3_init_39 40 rfl ?_
  refine g_bipush X 100 dX3_init_40 42 rfl kB_100 ?_
  refine g_put X gC2 0 rfl 8 (by decide) q149 (fun _ h9 => h9) rfl rfl rfl (Nat.le_of_ble_eq_true rfl) dX3_init_42 45 rfl ?_
  refine g_wd [(a0, .inr (2, [.ref b1, .ref b2, .int v_n, .ref b3, .ref b4, .int v_pulses, .int v_front, .int 1, .int 100])), (b1, .inl (Z.2 0, 8, .inl (fun _ => 0))), (b2, .inl (Z.2 0, 8, .inl (fun _ => 0))), (b3, .inl (Z.2 0, 4, .inl (fun _ => 0))), (b4, .inl (Z.2 0, 4, .inl (fun _ => 0)))] rfl ?_
  cases h
  exact g_vret X dX3_init_45 (b1, b2, b3, b4) rfl rfl (Nat.le_of_ble_eq_true rfl) (Nat.le_of_ble_eq_true rfl)
/-! LineEchoes$Line.setBench(III)V -/
abbrev rm_X3_setBench : Room := { frames := 0, cells := 0, slots := 0, locals := 0 }
def F_X3_setBench (x1 : Int32) (x2 : Int32) (x3 : Int32) : Option (Int32 × Int32 × Int32) :=
  some (x1, x2, x3)
theorem met_X3_setBench (l : Launch) (Z : gZt) (a0 : Nat) (a0_1 : Nat) (a0_2 : Nat) (a0_3 : Nat) (a0_4 : Nat) (v_n : Int32) (v_pulses : Int32) (v_front : Int32) (v_least : Int32) (v_window : Int32) (v_lengths : Nat → Int32) (v_fractions : Nat → Int32) (v_pulseTimes : Nat → Int32) (v_pulseEnergies : Nat → Int32) (x1 : Int32) (x2 : Int32) (x3 : Int32) (r_front : Int32) (r_least : Int32) (r_window : Int32) (h : F_X3_setBench x1 x2 x3 = some (r_front, r_least, r_window)) : Ct l yX3_setBench (ws_ yX3_setBench cX3_setBench 4 none) rm_X3_setBench Z [.ref a0, .int x1, .int x2, .int x3] [(a0, .inr (2, [.ref a0_1, .ref a0_2, .int v_n, .ref a0_3, .ref a0_4, .int v_pulses, .int v_front, .int v_least, .int v_window])), (a0_1, .inl (Z.2 0, 8, .inl v_lengths)), (a0_2, .inl (Z.2 0, 8, .inl v_fractions)), (a0_3, .inl (Z.2 0, 4, .inl v_pulseTimes)), (a0_4, .inl (Z.2 0, 4, .inl v_pulseEnergies))] [] (fun _ : Unit => (none : Option Value)) (fun _ : Unit => ([(a0, .inr (2, [.ref a0_1, .ref a0_2, .int v_n, .ref a0_3, .ref a0_4, .int v_pulses, .int r_front, .int r_least, .int r_window])), (a0_1, .inl (Z.2 0, 8, .inl v_lengths)), (a0_2, .inl (Z.2 0, 8, .inl v_fractions)), (a0_3, .inl (Z.2 0, 4, .inl v_pulseTimes)), (a0_4, .inl (Z.2 0, 4, .inl v_pulseEnergies))] : va_W)) := by
  refine Ct.of cX3_setBench 4 none "LineEchoes$Line" [some (.ref a0), some (.int x1), some (.int x2), some (.int x3)] 0 (by decide) rfl (Nat.le_of_ble_eq_true rfl) rfl (fun p e s m args below meth c A X hin => ?_)
  unfold F_X3_setBench at h
  refine g_aload_n X rfl dX3_setBench_0 1 rfl ?_
  refine g_iload_n X rfl dX3_setBench_1 2 rfl ?_
  refine g_put X gC2 0 rfl 6 (by decide) q145 (fun _ h9 => h9) rfl rfl rfl (Nat.le_of_ble_eq_true rfl) dX3_setBench_2 5 rfl ?_
  refine g_aload_n X rfl dX3_setBench_5 6 rfl ?_
  refine g_iload_n X rfl dX3_setBench_6 7 rfl ?_
  refine g_put X gC2 0 rfl 7 (by decide) q147 (fun _ h9 => h9) rfl rfl rfl (Nat.le_of_ble_eq_true rfl) dX3_setBench_7 10 rfl ?_
  refine g_aload_n X rfl dX3_setBench_10 11 rfl ?_
  refine g_iload_n X rfl dX3_setBench_11 12 rfl ?_
  refine g_put X gC2 0 rfl 8 (by decide) q149 (fun _ h9 => h9) rfl rfl rfl (Nat.le_of_ble_eq_true rfl) dX3_setBench_12 15 rfl ?_
  cases h
  exact g_vret X dX3_setBench_15 () rfl rfl (Nat.le_of_ble_eq_true rfl) (Nat.le_of_ble_eq_true rfl)
/-! LineEchoes$Line.addPulse(II)V -/
abbrev rm_X3_addPulse : Room := { frames := 0, cells := 0, slots := 0, locals := 0 }
def F_X3_addPulse (v_pulses : Int32) (v_pulseTimes : Nat → Int32) (v_pulseEnergies : Nat → Int32) (x1 : Int32) (x2 : Int32) : Option (Int32 × (Nat → Int32) × (Nat → Int32)) :=
  gin v_pulses 4 <|
  gin v_pulses 4 <|
  some (v_pulses + 1, upd v_pulseTimes v_pulses.toNatClampNeg x1, upd v_pulseEnergies v_pulses.toNatClampNeg x2)
theorem met_X3_addPulse (l : Launch) (Z : gZt) (a0 : Nat) (a0_1 : Nat) (a0_2 : Nat) (a0_3 : Nat) (a0_4 : Nat) (v_n : Int32) (v_pulses : Int32) (v_front : Int32) (v_least : Int32) (v_window : Int32) (v_lengths : Nat → Int32) (v_fractions : Nat → Int32) (v_pulseTimes : Nat → Int32) (v_pulseEnergies : Nat → Int32) (x1 : Int32) (x2 : Int32) (r_pulses : Int32) (r_pulseTimes : Nat → Int32) (r_pulseEnergies : Nat → Int32) (h : F_X3_addPulse v_pulses v_pulseTimes v_pulseEnergies x1 x2 = some (r_pulses, r_pulseTimes, r_pulseEnergies)) : Ct l yX3_addPulse (ws_ yX3_addPulse cX3_addPulse 3 none) rm_X3_addPulse Z [.ref a0, .int x1, .int x2] [(a0, .inr (2, [.ref a0_1, .ref a0_2, .int v_n, .ref a0_3, .ref a0_4, .int v_pulses, .int v_front, .int v_least, .int v_window])), (a0_1, .inl (Z.2 0, 8, .inl v_lengths)), (a0_2, .inl (Z.2 0, 8, .inl v_fractions)), (a0_3, .inl (Z.2 0, 4, .inl v_pulseTimes)), (a0_4, .inl (Z.2 0, 4, .inl v_pulseEnergies))] [] (fun _ : Unit => (none : Option Value)) (fun _ : Unit => ([(a0, .inr (2, [.ref a0_1, .ref a0_2, .int v_n, .ref a0_3, .ref a0_4, .int r_pulses, .int v_front, .int v_least, .int v_window])), (a0_1, .inl (Z.2 0, 8, .inl v_lengths)), (a0_2, .inl (Z.2 0, 8, .inl v_fractions)), (a0_3, .inl (Z.2 0, 4, .inl r_pulseTimes)), (a0_4, .inl (Z.2 0, 4, .inl r_pulseEnergies))] : va_W)) := by
  refine Ct.of cX3_addPulse 3 none "LineEchoes$Line" [some (.ref a0), some (.int x1), some (.int x2)] 0 (by decide) rfl (Nat.le_of_ble_eq_true rfl) rfl (fun p e s m args below meth c A X hin => ?_)
  unfold F_X3_addPulse at h
  refine g_aload_n X rfl dX3_addPulse_0 1 rfl ?_
  refine g_get X gC2 0 rfl 3 (by decide) q135 (fun _ h9 => h9) rfl dX3_addPulse_1 4 rfl ?_
  refine g_aload_n X rfl dX3_addPulse_4 5 rfl ?_
  refine g_get X gC2 0 rfl 5 (by decide) q141 (fun _ h9 => h9) rfl dX3_addPulse_5 8 rfl ?_
  refine g_iload_n X rfl dX3_addPulse_8 9 rfl ?_
  obtain ⟨hi, h⟩ := gin_e h
  refine g_iast X 3 rfl hi dX3_addPulse_9 10 rfl ?_
  refine g_aload_n X rfl dX3_addPulse_10 11 rfl ?_
  refine g_get X gC2 0 rfl 4 (by decide) q138 (fun _ h9 => h9) rfl dX3_addPulse_11 14 rfl ?_
  refine g_aload_n X rfl dX3_addPulse_14 15 rfl ?_
  refine g_get X gC2 0 rfl 5 (by decide) q141 (fun _ h9 => h9) rfl dX3_addPulse_15 18 rfl ?_
  refine g_iload_n X rfl dX3_addPulse_18 19 rfl ?_
  obtain ⟨hi, h⟩ := gin_e h
  refine g_iast X 4 rfl hi dX3_addPulse_19 20 rfl ?_
  refine g_aload_n X rfl dX3_addPulse_20 21 rfl ?_
  refine g_dup X dX3_addPulse_21 22 rfl rfl ?_
  refine g_get X gC2 0 rfl 5 (by decide) q141 (fun _ h9 => h9) rfl dX3_addPulse_22 25 rfl ?_
  refine g_iconst X 1 dX3_addPulse_25 26 rfl kI_1 ?_
  refine g_iadd X dX3_addPulse_26 27 rfl ?_
  refine g_put X gC2 0 rfl 5 (by decide) q141 (fun _ h9 => h9) rfl rfl rfl (Nat.le_of_ble_eq_true rfl) dX3_addPulse_27 30 rfl ?_
  cases h
  exact g_vret X dX3_addPulse_30 () rfl rfl (Nat.le_of_ble_eq_true rfl) (Nat.le_of_ble_eq_true rfl)
/-! LineEchoes$Line.removePulse(I)V -/
abbrev rm_X3_removePulse : Room := { frames := 1, cells := 0, slots := 0, locals := 60 }
def F_X3_removePulse (v_pulses : Int32) (v_pulseTimes : Nat → Int32) (v_pulseEnergies : Nat → Int32) (x1 : Int32) : Option (Int32 × (Nat → Int32) × (Nat → Int32)) :=
  gcp (x1 + 1) x1 ((v_pulses - 1) - x1) 4 4 <|
  gcp (x1 + 1) x1 ((v_pulses - 1) - x1) 4 4 <|
  some (v_pulses - 1, va_cpy v_pulseTimes v_pulseTimes (x1 + 1).toNatClampNeg x1.toNatClampNeg ((v_pulses - 1) - x1).toNatClampNeg, va_cpy v_pulseEnergies v_pulseEnergies (x1 + 1).toNatClampNeg x1.toNatClampNeg ((v_pulses - 1) - x1).toNatClampNeg)
theorem met_X3_removePulse (l : Launch) (Z : gZt) (a0 : Nat) (a0_1 : Nat) (a0_2 : Nat) (a0_3 : Nat) (a0_4 : Nat) (v_n : Int32) (v_pulses : Int32) (v_front : Int32) (v_least : Int32) (v_window : Int32) (v_lengths : Nat → Int32) (v_fractions : Nat → Int32) (v_pulseTimes : Nat → Int32) (v_pulseEnergies : Nat → Int32) (x1 : Int32) (r_pulses : Int32) (r_pulseTimes : Nat → Int32) (r_pulseEnergies : Nat → Int32) (h : F_X3_removePulse v_pulses v_pulseTimes v_pulseEnergies x1 = some (r_pulses, r_pulseTimes, r_pulseEnergies)) : Ct l yX3_removePulse (ws_ yX3_removePulse cX3_removePulse 2 none) rm_X3_removePulse Z [.ref a0, .int x1] [(a0, .inr (2, [.ref a0_1, .ref a0_2, .int v_n, .ref a0_3, .ref a0_4, .int v_pulses, .int v_front, .int v_least, .int v_window])), (a0_1, .inl (Z.2 0, 8, .inl v_lengths)), (a0_2, .inl (Z.2 0, 8, .inl v_fractions)), (a0_3, .inl (Z.2 0, 4, .inl v_pulseTimes)), (a0_4, .inl (Z.2 0, 4, .inl v_pulseEnergies))] [] (fun _ : Unit => (none : Option Value)) (fun _ : Unit => ([(a0, .inr (2, [.ref a0_1, .ref a0_2, .int v_n, .ref a0_3, .ref a0_4, .int r_pulses, .int v_front, .int v_least, .int v_window])), (a0_1, .inl (Z.2 0, 8, .inl v_lengths)), (a0_2, .inl (Z.2 0, 8, .inl v_fractions)), (a0_3, .inl (Z.2 0, 4, .inl r_pulseTimes)), (a0_4, .inl (Z.2 0, 4, .inl r_pulseEnergies))] : va_W)) := by
  refine Ct.of cX3_removePulse 2 none "LineEchoes$Line" [some (.ref a0), some (.int x1)] 0 (by decide) rfl (Nat.le_of_ble_eq_true rfl) rfl (fun p e s m args below meth c A X hin => ?_)
  unfold F_X3_removePulse at h
  refine g_aload_n X rfl dX3_removePulse_0 1 rfl ?_
  refine g_dup X dX3_removePulse_1 2 rfl rfl ?_
  refine g_get X gC2 0 rfl 5 (by decide) q141 (fun _ h9 => h9) rfl dX3_removePulse_2 5 rfl ?_
  refine g_iconst X 1 dX3_removePulse_5 6 rfl kI_1 ?_
  refine g_isub X dX3_removePulse_6 7 rfl ?_
  refine g_put X gC2 0 rfl 5 (by decide) q141 (fun _ h9 => h9) rfl rfl rfl (Nat.le_of_ble_eq_true rfl) dX3_removePulse_7 10 rfl ?_
  refine g_aload_n X rfl dX3_removePulse_10 11 rfl ?_
  refine g_get X gC2 0 rfl 3 (by decide) q135 (fun _ h9 => h9) rfl dX3_removePulse_11 14 rfl ?_
  refine g_iload_n X rfl dX3_removePulse_14 15 rfl ?_
  refine g_iconst X 1 dX3_removePulse_15 16 rfl kI_1 ?_
  refine g_iadd X dX3_removePulse_16 17 rfl ?_
  refine g_aload_n X rfl dX3_removePulse_17 18 rfl ?_
  refine g_get X gC2 0 rfl 3 (by decide) q135 (fun _ h9 => h9) rfl dX3_removePulse_18 21 rfl ?_
  refine g_iload_n X rfl dX3_removePulse_21 22 rfl ?_
  refine g_aload_n X rfl dX3_removePulse_22 23 rfl ?_
  refine g_get X gC2 0 rfl 5 (by decide) q141 (fun _ h9 => h9) rfl dX3_removePulse_23 26 rfl ?_
  refine g_iload_n X rfl dX3_removePulse_26 27 rfl ?_
  refine g_isub X dX3_removePulse_27 28 rfl ?_
  obtain ⟨hcp, h⟩ := gcp_e h
  refine g_copyi X q276 3 3 rfl rfl hcp dX3_removePulse_28 31 rfl (Nat.le_of_ble_eq_true rfl) (Nat.le_of_ble_eq_true rfl) ?_
  refine g_aload_n X rfl dX3_removePulse_31 32 rfl ?_
  refine g_get X gC2 0 rfl 4 (by decide) q138 (fun _ h9 => h9) rfl dX3_removePulse_32 35 rfl ?_
  refine g_iload_n X rfl dX3_removePulse_35 36 rfl ?_
  refine g_iconst X 1 dX3_removePulse_36 37 rfl kI_1 ?_
  refine g_iadd X dX3_removePulse_37 38 rfl ?_
  refine g_aload_n X rfl dX3_removePulse_38 39 rfl ?_
  refine g_get X gC2 0 rfl 4 (by decide) q138 (fun _ h9 => h9) rfl dX3_removePulse_39 42 rfl ?_
  refine g_iload_n X rfl dX3_removePulse_42 43 rfl ?_
  refine g_aload_n X rfl dX3_removePulse_43 44 rfl ?_
  refine g_get X gC2 0 rfl 5 (by decide) q141 (fun _ h9 => h9) rfl dX3_removePulse_44 47 rfl ?_
  refine g_iload_n X rfl dX3_removePulse_47 48 rfl ?_
  refine g_isub X dX3_removePulse_48 49 rfl ?_
  obtain ⟨hcp, h⟩ := gcp_e h
  refine g_copyi X q276 4 4 rfl rfl hcp dX3_removePulse_49 52 rfl (Nat.le_of_ble_eq_true rfl) (Nat.le_of_ble_eq_true rfl) ?_
  cases h
  exact g_vret X dX3_removePulse_52 () rfl rfl (Nat.le_of_ble_eq_true rfl) (Nat.le_of_ble_eq_true rfl)
/-! LineEchoes$Line.insert(III)V -/
abbrev rm_X3_insert : Room := { frames := 1, cells := 0, slots := 0, locals := 60 }
def F_X3_insert (v_n : Int32) (v_lengths : Nat → Int32) (v_fractions : Nat → Int32) (x1 : Int32) (x2 : Int32) (x3 : Int32) : Option (Int32 × (Nat → Int32) × (Nat → Int32)) :=
  gcp x1 (x1 + 1) (v_n - x1) 8 8 <|
  gcp x1 (x1 + 1) (v_n - x1) 8 8 <|
  gin x1 8 <|
  gin x1 8 <|
  some (v_n + 1, upd (va_cpy v_lengths v_lengths x1.toNatClampNeg (x1 + 1).toNatClampNeg (v_n - x1).toNatClampNeg) x1.toNatClampNeg x2, upd (va_cpy v_fractions v_fractions x1.toNatClampNeg (x1 + 1).toNatClampNeg (v_n - x1).toNatClampNeg) x1.toNatClampNeg x3)
theorem met_X3_insert (l : Launch) (Z : gZt) (a0 : Nat) (a0_1 : Nat) (a0_2 : Nat) (a0_3 : Nat) (a0_4 : Nat) (v_n : Int32) (v_pulses : Int32) (v_front : Int32) (v_least : Int32) (v_window : Int32) (v_lengths : Nat → Int32) (v_fractions : Nat → Int32) (v_pulseTimes : Nat → Int32) (v_pulseEnergies : Nat → Int32) (x1 : Int32) (x2 : Int32) (x3 : Int32) (r_n : Int32) (r_lengths : Nat → Int32) (r_fractions : Nat → Int32) (h : F_X3_insert v_n v_lengths v_fractions x1 x2 x3 = some (r_n, r_lengths, r_fractions)) : Ct l yX3_insert (ws_ yX3_insert cX3_insert 4 none) rm_X3_insert Z [.ref a0, .int x1, .int x2, .int x3] [(a0, .inr (2, [.ref a0_1, .ref a0_2, .int v_n, .ref a0_3, .ref a0_4, .int v_pulses, .int v_front, .int v_least, .int v_window])), (a0_1, .inl (Z.2 0, 8, .inl v_lengths)), (a0_2, .inl (Z.2 0, 8, .inl v_fractions)), (a0_3, .inl (Z.2 0, 4, .inl v_pulseTimes)), (a0_4, .inl (Z.2 0, 4, .inl v_pulseEnergies))] [] (fun _ : Unit => (none : Option Value)) (fun _ : Unit => ([(a0, .inr (2, [.ref a0_1, .ref a0_2, .int r_n, .ref a0_3, .ref a0_4, .int v_pulses, .int v_front, .int v_least, .int v_window])), (a0_1, .inl (Z.2 0, 8, .inl r_lengths)), (a0_2, .inl (Z.2 0, 8, .inl r_fractions)), (a0_3, .inl (Z.2 0, 4, .inl v_pulseTimes)), (a0_4, .inl (Z.2 0, 4, .inl v_pulseEnergies))] : va_W)) := by
  refine Ct.of cX3_insert 4 none "LineEchoes$Line" [some (.ref a0), some (.int x1), some (.int x2), some (.int x3)] 0 (by decide) rfl (Nat.le_of_ble_eq_true rfl) rfl (fun p e s m args below meth c A X hin => ?_)
  unfold F_X3_insert at h
  refine g_aload_n X rfl dX3_insert_0 1 rfl ?_
  refine g_get X gC2 0 rfl 0 (by decide) q121 (fun _ h9 => h9) rfl dX3_insert_1 4 rfl ?_
  refine g_iload_n X rfl dX3_insert_4 5 rfl ?_
  refine g_aload_n X rfl dX3_insert_5 6 rfl ?_
  refine g_get X gC2 0 rfl 0 (by decide) q121 (fun _ h9 => h9) rfl dX3_insert_6 9 rfl ?_
  refine g_iload_n X rfl dX3_insert_9 10 rfl ?_
  refine g_iconst X 1 dX3_insert_10 11 rfl kI_1 ?_
  refine g_iadd X dX3_insert_11 12 rfl ?_
  refine g_aload_n X rfl dX3_insert_12 13 rfl ?_
  refine g_get X gC2 0 rfl 2 (by decide) q131 (fun _ h9 => h9) rfl dX3_insert_13 16 rfl ?_
  refine g_iload_n X rfl dX3_insert_16 17 rfl ?_
  refine g_isub X dX3_insert_17 18 rfl ?_
  obtain ⟨hcp, h⟩ := gcp_e h
  refine g_copyi X q276 1 1 rfl rfl hcp dX3_insert_18 21 rfl (Nat.le_of_ble_eq_true rfl) (Nat.le_of_ble_eq_true rfl) ?_
  refine g_aload_n X rfl dX3_insert_21 22 rfl ?_
  refine g_get X gC2 0 rfl 1 (by decide) q125 (fun _ h9 => h9) rfl dX3_insert_22 25 rfl ?_
  refine g_iload_n X rfl dX3_insert_25 26 rfl ?_
  refine g_aload_n X rfl dX3_insert_26 27 rfl ?_
  refine g_get X gC2 0 rfl 1 (by decide) q125 (fun _ h9 => h9) rfl dX3_insert_27 30 rfl ?_
  refine g_iload_n X rfl dX3_insert_30 31 rfl ?_
  refine g_iconst X 1 dX3_insert_31 32 rfl kI_1 ?_
  refine g_iadd X dX3_insert_32 33 rfl ?_
  refine g_aload_n X rfl dX3_insert_33 34 rfl ?_
  refine g_get X gC2 0 rfl 2 (by decide) q131 (fun _ h9 => h9) rfl dX3_insert_34 37 rfl ?_
  refine g_iload_n X rfl dX3_insert_37 38 rfl ?_
  refine g_isub X dX3_insert_38 39 rfl ?_
  obtain ⟨hcp, h⟩ := gcp_e h
  refine g_copyi X q276 2 2 rfl rfl hcp dX3_insert_39 42 rfl (Nat.le_of_ble_eq_true rfl) (Nat.le_of_ble_eq_true rfl) ?_
  refine g_aload_n X rfl dX3_insert_42 43 rfl ?_
  refine g_get X gC2 0 rfl 0 (by decide) q121 (fun _ h9 => h9) rfl dX3_insert_43 46 rfl ?_
  refine g_iload_n X rfl dX3_insert_46 47 rfl ?_
  refine g_iload_n X rfl dX3_insert_47 48 rfl ?_
  obtain ⟨hi, h⟩ := gin_e h
  refine g_iast X 1 rfl hi dX3_insert_48 49 rfl ?_
  refine g_aload_n X rfl dX3_insert_49 50 rfl ?_
  refine g_get X gC2 0 rfl 1 (by decide) q125 (fun _ h9 => h9) rfl dX3_insert_50 53 rfl ?_
  refine g_iload_n X rfl dX3_insert_53 54 rfl ?_
  refine g_iload_n X rfl dX3_insert_54 55 rfl ?_
  obtain ⟨hi, h⟩ := gin_e h
  refine g_iast X 2 rfl hi dX3_insert_55 56 rfl ?_
  refine g_aload_n X rfl dX3_insert_56 57 rfl ?_
  refine g_dup X dX3_insert_57 58 rfl rfl ?_
  refine g_get X gC2 0 rfl 2 (by decide) q131 (fun _ h9 => h9) rfl dX3_insert_58 61 rfl ?_
  refine g_iconst X 1 dX3_insert_61 62 rfl kI_1 ?_
  refine g_iadd X dX3_insert_62 63 rfl ?_
  refine g_put X gC2 0 rfl 2 (by decide) q131 (fun _ h9 => h9) rfl rfl rfl (Nat.le_of_ble_eq_true rfl) dX3_insert_63 66 rfl ?_
  refine g_wd [(a0, .inr (2, [.ref a0_1, .ref a0_2, .int (v_n + 1), .ref a0_3, .ref a0_4, .int v_pulses, .int v_front, .int v_least, .int v_window])), (a0_1, .inl (Z.2 0, 8, .inl (upd (va_cpy v_lengths v_lengths x1.toNatClampNeg (x1 + 1).toNatClampNeg (v_n - x1).toNatClampNeg) x1.toNatClampNeg x2))), (a0_2, .inl (Z.2 0, 8, .inl (upd (va_cpy v_fractions v_fractions x1.toNatClampNeg (x1 + 1).toNatClampNeg (v_n - x1).toNatClampNeg) x1.toNatClampNeg x3))), (a0_3, .inl (Z.2 0, 4, .inl v_pulseTimes)), (a0_4, .inl (Z.2 0, 4, .inl v_pulseEnergies))] rfl ?_
  cases h
  exact g_vret X dX3_insert_66 () rfl rfl (Nat.le_of_ble_eq_true rfl) (Nat.le_of_ble_eq_true rfl)
/-! LineEchoes$Line.remove(I)V -/
abbrev rm_X3_remove : Room := { frames := 1, cells := 0, slots := 0, locals := 60 }
def F_X3_remove (v_n : Int32) (v_lengths : Nat → Int32) (v_fractions : Nat → Int32) (x1 : Int32) : Option (Int32 × (Nat → Int32) × (Nat → Int32)) :=
  gcp (x1 + 1) x1 ((v_n - 1) - x1) 8 8 <|
  gcp (x1 + 1) x1 ((v_n - 1) - x1) 8 8 <|
  some (v_n - 1, va_cpy v_lengths v_lengths (x1 + 1).toNatClampNeg x1.toNatClampNeg ((v_n - 1) - x1).toNatClampNeg, va_cpy v_fractions v_fractions (x1 + 1).toNatClampNeg x1.toNatClampNeg ((v_n - 1) - x1).toNatClampNeg)
theorem met_X3_remove (l : Launch) (Z : gZt) (a0 : Nat) (a0_1 : Nat) (a0_2 : Nat) (a0_3 : Nat) (a0_4 : Nat) (v_n : Int32) (v_pulses : Int32) (v_front : Int32) (v_least : Int32) (v_window : Int32) (v_lengths : Nat → Int32) (v_fractions : Nat → Int32) (v_pulseTimes : Nat → Int32) (v_pulseEnergies : Nat → Int32) (x1 : Int32) (r_n : Int32) (r_lengths : Nat → Int32) (r_fractions : Nat → Int32) (h : F_X3_remove v_n v_lengths v_fractions x1 = some (r_n, r_lengths, r_fractions)) : Ct l yX3_remove (ws_ yX3_remove cX3_remove 2 none) rm_X3_remove Z [.ref a0, .int x1] [(a0, .inr (2, [.ref a0_1, .ref a0_2, .int v_n, .ref a0_3, .ref a0_4, .int v_pulses, .int v_front, .int v_least, .int v_window])), (a0_1, .inl (Z.2 0, 8, .inl v_lengths)), (a0_2, .inl (Z.2 0, 8, .inl v_fractions)), (a0_3, .inl (Z.2 0, 4, .inl v_pulseTimes)), (a0_4, .inl (Z.2 0, 4, .inl v_pulseEnergies))] [] (fun _ : Unit => (none : Option Value)) (fun _ : Unit => ([(a0, .inr (2, [.ref a0_1, .ref a0_2, .int r_n, .ref a0_3, .ref a0_4, .int v_pulses, .int v_front, .int v_least, .int v_window])), (a0_1, .inl (Z.2 0, 8, .inl r_lengths)), (a0_2, .inl (Z.2 0, 8, .inl r_fractions)), (a0_3, .inl (Z.2 0, 4, .inl v_pulseTimes)), (a0_4, .inl (Z.2 0, 4, .inl v_pulseEnergies))] : va_W)) := by
  refine Ct.of cX3_remove 2 none "LineEchoes$Line" [some (.ref a0), some (.int x1)] 0 (by decide) rfl (Nat.le_of_ble_eq_true rfl) rfl (fun p e s m args below meth c A X hin => ?_)
  unfold F_X3_remove at h
  refine g_aload_n X rfl dX3_remove_0 1 rfl ?_
  refine g_dup X dX3_remove_1 2 rfl rfl ?_
  refine g_get X gC2 0 rfl 2 (by decide) q131 (fun _ h9 => h9) rfl dX3_remove_2 5 rfl ?_
  refine g_iconst X 1 dX3_remove_5 6 rfl kI_1 ?_
  refine g_isub X dX3_remove_6 7 rfl ?_
  refine g_put X gC2 0 rfl 2 (by decide) q131 (fun _ h9 => h9) rfl rfl rfl (Nat.le_of_ble_eq_true rfl) dX3_remove_7 10 rfl ?_
  refine g_aload_n X rfl dX3_remove_10 11 rfl ?_
  refine g_get X gC2 0 rfl 0 (by decide) q121 (fun _ h9 => h9) rfl dX3_remove_11 14 rfl ?_
  refine g_iload_n X rfl dX3_remove_14 15 rfl ?_
  refine g_iconst X 1 dX3_remove_15 16 rfl kI_1 ?_
  refine g_iadd X dX3_remove_16 17 rfl ?_
  refine g_aload_n X rfl dX3_remove_17 18 rfl ?_
  refine g_get X gC2 0 rfl 0 (by decide) q121 (fun _ h9 => h9) rfl dX3_remove_18 21 rfl ?_
  refine g_iload_n X rfl dX3_remove_21 22 rfl ?_
  refine g_aload_n X rfl dX3_remove_22 23 rfl ?_
  refine g_get X gC2 0 rfl 2 (by decide) q131 (fun _ h9 => h9) rfl dX3_remove_23 26 rfl ?_
  refine g_iload_n X rfl dX3_remove_26 27 rfl ?_
  refine g_isub X dX3_remove_27 28 rfl ?_
  obtain ⟨hcp, h⟩ := gcp_e h
  refine g_copyi X q276 1 1 rfl rfl hcp dX3_remove_28 31 rfl (Nat.le_of_ble_eq_true rfl) (Nat.le_of_ble_eq_true rfl) ?_
  refine g_aload_n X rfl dX3_remove_31 32 rfl ?_
  refine g_get X gC2 0 rfl 1 (by decide) q125 (fun _ h9 => h9) rfl dX3_remove_32 35 rfl ?_
  refine g_iload_n X rfl dX3_remove_35 36 rfl ?_
  refine g_iconst X 1 dX3_remove_36 37 rfl kI_1 ?_
  refine g_iadd X dX3_remove_37 38 rfl ?_
  refine g_aload_n X rfl dX3_remove_38 39 rfl ?_
  refine g_get X gC2 0 rfl 1 (by decide) q125 (fun _ h9 => h9) rfl dX3_remove_39 42 rfl ?_
  refine g_iload_n X rfl dX3_remove_42 43 rfl ?_
  refine g_aload_n X rfl dX3_remove_43 44 rfl ?_
  refine g_get X gC2 0 rfl 2 (by decide) q131 (fun _ h9 => h9) rfl dX3_remove_44 47 rfl ?_
  refine g_iload_n X rfl dX3_remove_47 48 rfl ?_
  refine g_isub X dX3_remove_48 49 rfl ?_
  obtain ⟨hcp, h⟩ := gcp_e h
  refine g_copyi X q276 2 2 rfl rfl hcp dX3_remove_49 52 rfl (Nat.le_of_ble_eq_true rfl) (Nat.le_of_ble_eq_true rfl) ?_
  cases h
  exact g_vret X dX3_remove_52 () rfl rfl (Nat.le_of_ble_eq_true rfl) (Nat.le_of_ble_eq_true rfl)
/-! LineEchoes$Line.first()LLineEchoes$Line; -/
abbrev rm_X3_first : Room := { frames := 2, cells := 5, slots := 33, locals := 60 }
def F_X3_first : Option (Int32 × Int32 × Int32 × Int32 × Int32 × (Nat → Int32) × (Nat → Int32) × (Nat → Int32) × (Nat → Int32)) :=
  bd6 (F_X3_init) fun w2_least w3_window w4_o0 w5_o1 w6_o2 w7_o3 =>
  bd3 (F_X3_addPulse 0 w6_o2 w7_o3 0 100000) fun w12_pulses w13_pulseTimes w14_pulseEnergies =>
  some (0, w12_pulses, 0, w2_least, w3_window, w4_o0, w5_o1, w13_pulseTimes, w14_pulseEnergies)
theorem met_X3_first (l : Launch) (Z : gZt) (o0_2 : Int32) (o0_5 : Int32) (o0_6 : Int32) (o0_7 : Int32) (o0_8 : Int32) (o1 : Nat → Int32) (o2 : Nat → Int32) (o3 : Nat → Int32) (o4 : Nat → Int32) (h : F_X3_first = some (o0_2, o0_5, o0_6, o0_7, o0_8, o1, o2, o3, o4)) : Ct l yX3_first (ws_ yX3_first cX3_first 1 (some (.object "LineEchoes$Line"))) rm_X3_first Z [] [] [] (fun u : Nat × Nat × Nat × Nat × Nat => (some (.ref u.1) : Option Value)) (fun u : Nat × Nat × Nat × Nat × Nat => ([(u.1, .inr (2, [.ref u.2.1, .ref u.2.2.1, .int o0_2, .ref u.2.2.2.1, .ref u.2.2.2.2, .int o0_5, .int o0_6, .int o0_7, .int o0_8])), (u.2.1, .inl (Z.2 0, 8, .inl o1)), (u.2.2.1, .inl (Z.2 0, 8, .inl o2)), (u.2.2.2.1, .inl (Z.2 0, 4, .inl o3)), (u.2.2.2.2, .inl (Z.2 0, 4, .inl o4))] : va_W)) := by
  refine Ct.of cX3_first 1 (some (.object "LineEchoes$Line")) "LineEchoes$Line" [none] 1 (by decide) rfl (Nat.le_of_ble_eq_true rfl) rfl (fun p e s m args below meth c A X hin => ?_)
  unfold F_X3_first at h
  refine g_new X gC2 q115 q116 q71 [.null, .null, .int 0, .null, .null, .int 0, .int 0, .int 0, .int 0] gD2 dX3_first_0 3 rfl 1 9 rfl rfl (Nat.le_of_ble_eq_true rfl) (Nat.le_of_ble_eq_true rfl) (fun b1 => ?_)
  refine g_dup X dX3_first_3 4 rfl rfl ?_
  obtain ⟨w2_least, w3_window, w4_o0, w5_o1, w6_o2, w7_o3, hcl, h⟩ := bd6_e h
  refine g_callI0W X (met_X3_init l Z b1 0 0 0 0 0  w2_least w3_window w4_o0 w5_o1 w6_o2 w7_o3 hcl) rfl q119 q71 q117 q118 rfl md_X3_init ⟨(Nat.le_of_ble_eq_true rfl), (Nat.le_of_ble_eq_true rfl)⟩ rfl dX3_first_4 7 rfl 5 33 rfl rfl (Nat.le_of_ble_eq_true rfl) (Nat.le_of_ble_eq_true rfl) (st := [.ref b1]) rfl (Nat.le_of_ble_eq_true rfl) (fun _ => rfl) (fun u => ?_)
  obtain ⟨b8, b9, b10, b11⟩ := u
  refine g_astore_n X dX3_first_7 8 rfl (Nat.le_of_ble_eq_true rfl) rfl [some (.ref b1)] rfl ?_
  refine g_aload_n X rfl dX3_first_8 9 rfl ?_
  refine g_iconst X 0 dX3_first_9 10 rfl kI_0 ?_
  refine g_ldc X q174 dX3_first_10 12 rfl ?_
  obtain ⟨w12_pulses, w13_pulseTimes, w14_pulseEnergies, hcl, h⟩ := bd3_e h
  refine g_callV0W X (met_X3_addPulse l Z b1 b8 b9 b10 b11 0 0 0 w2_least w3_window w4_o0 w5_o1 w6_o2 w7_o3 0 100000 w12_pulses w13_pulseTimes w14_pulseEnergies hcl) rfl 0 gC2 rfl rfl (lw_V q175 q176 q177 q71 q178) md_X3_addPulse ⟨(Nat.le_of_ble_eq_true rfl), (Nat.le_of_ble_eq_true rfl)⟩ rfl dX3_first_12 15 rfl 5 33 rfl rfl (Nat.le_of_ble_eq_true rfl) (Nat.le_of_ble_eq_true rfl) (st := []) rfl (Nat.le_of_ble_eq_true rfl) (fun _ => rfl) (fun _ => ?_)
  refine g_aload_n X rfl dX3_first_15 16 rfl ?_
  cases h
  exact g_aret X dX3_first_16 (Or.inl ⟨_, rfl⟩) (b1, b8, b9, b10, b11) rfl rfl (Nat.le_of_ble_eq_true rfl) (Nat.le_of_ble_eq_true rfl)
/-! LineEchoes$Line.copy()LLineEchoes$Line; -/
abbrev rm_X3_copy : Room := { frames := 2, cells := 5, slots := 33, locals := 60 }
def F_X3_copy (v_n : Int32) (v_pulses : Int32) (v_front : Int32) (v_least : Int32) (v_window : Int32) (v_lengths : Nat → Int32) (v_fractions : Nat → Int32) (v_pulseTimes : Nat → Int32) (v_pulseEnergies : Nat → Int32) : Option (Int32 × Int32 × Int32 × Int32 × Int32 × (Nat → Int32) × (Nat → Int32) × (Nat → Int32) × (Nat → Int32)) :=
  bd6 (F_X3_init) fun w2_least w3_window w4_o0 w5_o1 w6_o2 w7_o3 =>
  gcp 0 0 v_n 8 8 <|
  gcp 0 0 v_n 8 8 <|
  gcp 0 0 v_pulses 4 4 <|
  gcp 0 0 v_pulses 4 4 <|
  bd3 (F_X3_setBench v_front v_least v_window) fun w12_front w13_least w14_window =>
  some (v_n, v_pulses, w12_front, w13_least, w14_window, va_cpy v_lengths w4_o0 (Int32.toNatClampNeg 0) (Int32.toNatClampNeg 0) v_n.toNatClampNeg, va_cpy v_fractions w5_o1 (Int32.toNatClampNeg 0) (Int32.toNatClampNeg 0) v_n.toNatClampNeg, va_cpy v_pulseTimes w6_o2 (Int32.toNatClampNeg 0) (Int32.toNatClampNeg 0) v_pulses.toNatClampNeg, va_cpy v_pulseEnergies w7_o3 (Int32.toNatClampNeg 0) (Int32.toNatClampNeg 0) v_pulses.toNatClampNeg)
theorem met_X3_copy (l : Launch) (Z : gZt) (a0 : Nat) (a0_1 : Nat) (a0_2 : Nat) (a0_3 : Nat) (a0_4 : Nat) (v_n : Int32) (v_pulses : Int32) (v_front : Int32) (v_least : Int32) (v_window : Int32) (v_lengths : Nat → Int32) (v_fractions : Nat → Int32) (v_pulseTimes : Nat → Int32) (v_pulseEnergies : Nat → Int32) (o0_2 : Int32) (o0_5 : Int32) (o0_6 : Int32) (o0_7 : Int32) (o0_8 : Int32) (o1 : Nat → Int32) (o2 : Nat → Int32) (o3 : Nat → Int32) (o4 : Nat → Int32) (h : F_X3_copy v_n v_pulses v_front v_least v_window v_lengths v_fractions v_pulseTimes v_pulseEnergies = some (o0_2, o0_5, o0_6, o0_7, o0_8, o1, o2, o3, o4)) : Ct l yX3_copy (ws_ yX3_copy cX3_copy 2 (some (.object "LineEchoes$Line"))) rm_X3_copy Z [.ref a0] [] [(a0, .inr (2, [.ref a0_1, .ref a0_2, .int v_n, .ref a0_3, .ref a0_4, .int v_pulses, .int v_front, .int v_least, .int v_window])), (a0_1, .inl (Z.2 0, 8, .inl v_lengths)), (a0_2, .inl (Z.2 0, 8, .inl v_fractions)), (a0_3, .inl (Z.2 0, 4, .inl v_pulseTimes)), (a0_4, .inl (Z.2 0, 4, .inl v_pulseEnergies))] (fun u : Nat × Nat × Nat × Nat × Nat => (some (.ref u.1) : Option Value)) (fun u : Nat × Nat × Nat × Nat × Nat => ([(u.1, .inr (2, [.ref u.2.1, .ref u.2.2.1, .int o0_2, .ref u.2.2.2.1, .ref u.2.2.2.2, .int o0_5, .int o0_6, .int o0_7, .int o0_8])), (u.2.1, .inl (Z.2 0, 8, .inl o1)), (u.2.2.1, .inl (Z.2 0, 8, .inl o2)), (u.2.2.2.1, .inl (Z.2 0, 4, .inl o3)), (u.2.2.2.2, .inl (Z.2 0, 4, .inl o4))] : va_W)) := by
  refine Ct.of cX3_copy 2 (some (.object "LineEchoes$Line")) "LineEchoes$Line" [some (.ref a0), none] 1 (by decide) rfl (Nat.le_of_ble_eq_true rfl) rfl (fun p e s m args below meth c A X hin => ?_)
  unfold F_X3_copy at h
  refine g_new X gC2 q115 q116 q71 [.null, .null, .int 0, .null, .null, .int 0, .int 0, .int 0, .int 0] gD2 dX3_copy_0 3 rfl 1 9 rfl rfl (Nat.le_of_ble_eq_true rfl) (Nat.le_of_ble_eq_true rfl) (fun b1 => ?_)
  refine g_dup X dX3_copy_3 4 rfl rfl ?_
  obtain ⟨w2_least, w3_window, w4_o0, w5_o1, w6_o2, w7_o3, hcl, h⟩ := bd6_e h
  refine g_callI0 X (met_X3_init l Z b1 0 0 0 0 0  w2_least w3_window w4_o0 w5_o1 w6_o2 w7_o3 hcl) [0] [] [] (wr := []) ⟨rfl, rfl, rfl, rfl, rfl, by decide, by decide⟩ q119 q71 q117 q118 rfl md_X3_init ⟨(Nat.le_of_ble_eq_true rfl), (Nat.le_of_ble_eq_true rfl)⟩ rfl dX3_copy_4 7 rfl 5 33 rfl rfl (Nat.le_of_ble_eq_true rfl) (Nat.le_of_ble_eq_true rfl) (st := [.ref b1]) rfl (Nat.le_of_ble_eq_true rfl) (fun _ => rfl) (fun u => ?_)
  obtain ⟨b8, b9, b10, b11⟩ := u
  refine g_astore_n X dX3_copy_7 8 rfl (Nat.le_of_ble_eq_true rfl) rfl [some (.ref a0), some (.ref b1)] rfl ?_
  refine g_aload_n X rfl dX3_copy_8 9 rfl ?_
  refine g_getR X gC2 0 rfl 0 (by decide) q121 (fun _ h9 => h9) rfl dX3_copy_9 12 rfl ?_
  refine g_iconst X 0 dX3_copy_12 13 rfl kI_0 ?_
  refine g_aload_n X rfl dX3_copy_13 14 rfl ?_
  refine g_get X gC2 0 rfl 0 (by decide) q121 (fun _ h9 => h9) rfl dX3_copy_14 17 rfl ?_
  refine g_iconst X 0 dX3_copy_17 18 rfl kI_0 ?_
  refine g_aload_n X rfl dX3_copy_18 19 rfl ?_
  refine g_getR X gC2 0 rfl 2 (by decide) q131 (fun _ h9 => h9) rfl dX3_copy_19 22 rfl ?_
  obtain ⟨hcp, h⟩ := gcp_e h
  refine g_copyiR X q276 1 1 rfl rfl hcp dX3_copy_22 25 rfl (Nat.le_of_ble_eq_true rfl) (Nat.le_of_ble_eq_true rfl) ?_
  refine g_aload_n X rfl dX3_copy_25 26 rfl ?_
  refine g_getR X gC2 0 rfl 1 (by decide) q125 (fun _ h9 => h9) rfl dX3_copy_26 29 rfl ?_
  refine g_iconst X 0 dX3_copy_29 30 rfl kI_0 ?_
  refine g_aload_n X rfl dX3_copy_30 31 rfl ?_
  refine g_get X gC2 0 rfl 1 (by decide) q125 (fun _ h9 => h9) rfl dX3_copy_31 34 rfl ?_
  refine g_iconst X 0 dX3_copy_34 35 rfl kI_0 ?_
  refine g_aload_n X rfl dX3_copy_35 36 rfl ?_
  refine g_getR X gC2 0 rfl 2 (by decide) q131 (fun _ h9 => h9) rfl dX3_copy_36 39 rfl ?_
  obtain ⟨hcp, h⟩ := gcp_e h
  refine g_copyiR X q276 2 2 rfl rfl hcp dX3_copy_39 42 rfl (Nat.le_of_ble_eq_true rfl) (Nat.le_of_ble_eq_true rfl) ?_
  refine g_wd [(b1, .inr (2, [.ref b8, .ref b9, .int 0, .ref b10, .ref b11, .int 0, .int 0, .int w2_least, .int w3_window])), (b8, .inl (Z.2 0, 8, .inl (va_cpy v_lengths w4_o0 (Int32.toNatClampNeg 0) (Int32.toNatClampNeg 0) v_n.toNatClampNeg))), (b9, .inl (Z.2 0, 8, .inl (va_cpy v_fractions w5_o1 (Int32.toNatClampNeg 0) (Int32.toNatClampNeg 0) v_n.toNatClampNeg))), (b10, .inl (Z.2 0, 4, .inl w6_o2)), (b11, .inl (Z.2 0, 4, .inl w7_o3))] rfl ?_
  refine g_aload_n X rfl dX3_copy_42 43 rfl ?_
  refine g_aload_n X rfl dX3_copy_43 44 rfl ?_
  refine g_getR X gC2 0 rfl 2 (by decide) q131 (fun _ h9 => h9) rfl dX3_copy_44 47 rfl ?_
  refine g_put X gC2 0 rfl 2 (by decide) q131 (fun _ h9 => h9) rfl rfl rfl (Nat.le_of_ble_eq_true rfl) dX3_copy_47 50 rfl ?_
  refine g_aload_n X rfl dX3_copy_50 51 rfl ?_
  refine g_getR X gC2 0 rfl 3 (by decide) q135 (fun _ h9 => h9) rfl dX3_copy_51 54 rfl ?_
  refine g_iconst X 0 dX3_copy_54 55 rfl kI_0 ?_
  refine g_aload_n X rfl dX3_copy_55 56 rfl ?_
  refine g_get X gC2 0 rfl 3 (by decide) q135 (fun _ h9 => h9) rfl dX3_copy_56 59 rfl ?_
  refine g_iconst X 0 dX3_copy_59 60 rfl kI_0 ?_
  refine g_aload_n X rfl dX3_copy_60 61 rfl ?_
  refine g_getR X gC2 0 rfl 5 (by decide) q141 (fun _ h9 => h9) rfl dX3_copy_61 64 rfl ?_
  obtain ⟨hcp, h⟩ := gcp_e h
  refine g_copyiR X q276 3 3 rfl rfl hcp dX3_copy_64 67 rfl (Nat.le_of_ble_eq_true rfl) (Nat.le_of_ble_eq_true rfl) ?_
  refine g_aload_n X rfl dX3_copy_67 68 rfl ?_
  refine g_getR X gC2 0 rfl 4 (by decide) q138 (fun _ h9 => h9) rfl dX3_copy_68 71 rfl ?_
  refine g_iconst X 0 dX3_copy_71 72 rfl kI_0 ?_
  refine g_aload_n X rfl dX3_copy_72 73 rfl ?_
  refine g_get X gC2 0 rfl 4 (by decide) q138 (fun _ h9 => h9) rfl dX3_copy_73 76 rfl ?_
  refine g_iconst X 0 dX3_copy_76 77 rfl kI_0 ?_
  refine g_aload_n X rfl dX3_copy_77 78 rfl ?_
  refine g_getR X gC2 0 rfl 5 (by decide) q141 (fun _ h9 => h9) rfl dX3_copy_78 81 rfl ?_
  obtain ⟨hcp, h⟩ := gcp_e h
  refine g_copyiR X q276 4 4 rfl rfl hcp dX3_copy_81 84 rfl (Nat.le_of_ble_eq_true rfl) (Nat.le_of_ble_eq_true rfl) ?_
  refine g_aload_n X rfl dX3_copy_84 85 rfl ?_
  refine g_aload_n X rfl dX3_copy_85 86 rfl ?_
  refine g_getR X gC2 0 rfl 5 (by decide) q141 (fun _ h9 => h9) rfl dX3_copy_86 89 rfl ?_
  refine g_put X gC2 0 rfl 5 (by decide) q141 (fun _ h9 => h9) rfl rfl rfl (Nat.le_of_ble_eq_true rfl) dX3_copy_89 92 rfl ?_
  refine g_aload_n X rfl dX3_copy_92 93 rfl ?_
  refine g_aload_n X rfl dX3_copy_93 94 rfl ?_
  refine g_getR X gC2 0 rfl 6 (by decide) q145 (fun _ h9 => h9) rfl dX3_copy_94 97 rfl ?_
  refine g_aload_n X rfl dX3_copy_97 98 rfl ?_
  refine g_getR X gC2 0 rfl 7 (by decide) q147 (fun _ h9 => h9) rfl dX3_copy_98 101 rfl ?_
  refine g_aload_n X rfl dX3_copy_101 102 rfl ?_
  refine g_getR X gC2 0 rfl 8 (by decide) q149 (fun _ h9 => h9) rfl dX3_copy_102 105 rfl ?_
  obtain ⟨w12_front, w13_least, w14_window, hcl, h⟩ := bd3_e h
  refine g_callV0 X (met_X3_setBench l Z b1 b8 b9 b10 b11 v_n v_pulses 0 w2_least w3_window (va_cpy v_lengths w4_o0 (Int32.toNatClampNeg 0) (Int32.toNatClampNeg 0) v_n.toNatClampNeg) (va_cpy v_fractions w5_o1 (Int32.toNatClampNeg 0) (Int32.toNatClampNeg 0) v_n.toNatClampNeg) (va_cpy v_pulseTimes w6_o2 (Int32.toNatClampNeg 0) (Int32.toNatClampNeg 0) v_pulses.toNatClampNeg) (va_cpy v_pulseEnergies w7_o3 (Int32.toNatClampNeg 0) (Int32.toNatClampNeg 0) v_pulses.toNatClampNeg) v_front v_least v_window w12_front w13_least w14_window hcl) [0, 1, 2, 3, 4] [] [] (wr := []) ⟨rfl, rfl, rfl, rfl, rfl, by decide, by decide⟩ 0 gC2 rfl rfl (lw_V q279 q280 q281 q71 q282) md_X3_setBench ⟨(Nat.le_of_ble_eq_true rfl), (Nat.le_of_ble_eq_true rfl)⟩ rfl dX3_copy_105 108 rfl 5 33 rfl rfl (Nat.le_of_ble_eq_true rfl) (Nat.le_of_ble_eq_true rfl) (st := []) rfl (Nat.le_of_ble_eq_true rfl) (fun _ => rfl) (fun _ => ?_)
  refine g_wd [(b1, .inr (2, [.ref b8, .ref b9, .int v_n, .ref b10, .ref b11, .int v_pulses, .int w12_front, .int w13_least, .int w14_window])), (b8, .inl (Z.2 0, 8, .inl (va_cpy v_lengths w4_o0 (Int32.toNatClampNeg 0) (Int32.toNatClampNeg 0) v_n.toNatClampNeg))), (b9, .inl (Z.2 0, 8, .inl (va_cpy v_fractions w5_o1 (Int32.toNatClampNeg 0) (Int32.toNatClampNeg 0) v_n.toNatClampNeg))), (b10, .inl (Z.2 0, 4, .inl (va_cpy v_pulseTimes w6_o2 (Int32.toNatClampNeg 0) (Int32.toNatClampNeg 0) v_pulses.toNatClampNeg))), (b11, .inl (Z.2 0, 4, .inl (va_cpy v_pulseEnergies w7_o3 (Int32.toNatClampNeg 0) (Int32.toNatClampNeg 0) v_pulses.toNatClampNeg)))] rfl ?_
  refine g_aload_n X rfl dX3_copy_108 109 rfl ?_
  cases h
  exact g_aret X dX3_copy_109 (Or.inl ⟨_, rfl⟩) (b1, b8, b9, b10, b11) rfl rfl (Nat.le_of_ble_eq_true rfl) (Nat.le_of_ble_eq_true rfl)
/-! LineEchoes$Line.forPeeling()LLineEchoes$Line; -/
abbrev rm_X3_forPeeling : Room := { frames := 2, cells := 5, slots := 33, locals := 60 }
def F_X3_forPeeling (v_front : Int32) (v_least : Int32) (v_window : Int32) (v_pulseEnergies : Nat → Int32) : Option (Int32 × Int32 × Int32 × Int32 × Int32 × (Nat → Int32) × (Nat → Int32) × (Nat → Int32) × (Nat → Int32)) :=
  bd6 (F_X3_init) fun w2_least w3_window w4_o0 w5_o1 w6_o2 w7_o3 =>
  gin 0 4 <|
  bd3 (F_X3_addPulse 0 w6_o2 w7_o3 0 (v_pulseEnergies (Int32.toNatClampNeg 0))) fun w12_pulses w13_pulseTimes w14_pulseEnergies =>
  bd3 (F_X3_setBench v_front v_least v_window) fun w15_front w16_least w17_window =>
  some (0, w12_pulses, w15_front, w16_least, w17_window, w4_o0, w5_o1, w13_pulseTimes, w14_pulseEnergies)
theorem met_X3_forPeeling (l : Launch) (Z : gZt) (a0 : Nat) (a0_1 : Nat) (a0_2 : Nat) (a0_3 : Nat) (a0_4 : Nat) (v_n : Int32) (v_pulses : Int32) (v_front : Int32) (v_least : Int32) (v_window : Int32) (v_lengths : Nat → Int32) (v_fractions : Nat → Int32) (v_pulseTimes : Nat → Int32) (v_pulseEnergies : Nat → Int32) (o0_2 : Int32) (o0_5 : Int32) (o0_6 : Int32) (o0_7 : Int32) (o0_8 : Int32) (o1 : Nat → Int32) (o2 : Nat → Int32) (o3 : Nat → Int32) (o4 : Nat → Int32) (h : F_X3_forPeeling v_front v_least v_window v_pulseEnergies = some (o0_2, o0_5, o0_6, o0_7, o0_8, o1, o2, o3, o4)) : Ct l yX3_forPeeling (ws_ yX3_forPeeling cX3_forPeeling 2 (some (.object "LineEchoes$Line"))) rm_X3_forPeeling Z [.ref a0] [] [(a0, .inr (2, [.ref a0_1, .ref a0_2, .int v_n, .ref a0_3, .ref a0_4, .int v_pulses, .int v_front, .int v_least, .int v_window])), (a0_1, .inl (Z.2 0, 8, .inl v_lengths)), (a0_2, .inl (Z.2 0, 8, .inl v_fractions)), (a0_3, .inl (Z.2 0, 4, .inl v_pulseTimes)), (a0_4, .inl (Z.2 0, 4, .inl v_pulseEnergies))] (fun u : Nat × Nat × Nat × Nat × Nat => (some (.ref u.1) : Option Value)) (fun u : Nat × Nat × Nat × Nat × Nat => ([(u.1, .inr (2, [.ref u.2.1, .ref u.2.2.1, .int o0_2, .ref u.2.2.2.1, .ref u.2.2.2.2, .int o0_5, .int o0_6, .int o0_7, .int o0_8])), (u.2.1, .inl (Z.2 0, 8, .inl o1)), (u.2.2.1, .inl (Z.2 0, 8, .inl o2)), (u.2.2.2.1, .inl (Z.2 0, 4, .inl o3)), (u.2.2.2.2, .inl (Z.2 0, 4, .inl o4))] : va_W)) := by
  refine Ct.of cX3_forPeeling 2 (some (.object "LineEchoes$Line")) "LineEchoes$Line" [some (.ref a0), none] 1 (by decide) rfl (Nat.le_of_ble_eq_true rfl) rfl (fun p e s m args below meth c A X hin => ?_)
  unfold F_X3_forPeeling at h
  refine g_new X gC2 q115 q116 q71 [.null, .null, .int 0, .null, .null, .int 0, .int 0, .int 0, .int 0] gD2 dX3_forPeeling_0 3 rfl 1 9 rfl rfl (Nat.le_of_ble_eq_true rfl) (Nat.le_of_ble_eq_true rfl) (fun b1 => ?_)
  refine g_dup X dX3_forPeeling_3 4 rfl rfl ?_
  obtain ⟨w2_least, w3_window, w4_o0, w5_o1, w6_o2, w7_o3, hcl, h⟩ := bd6_e h
  refine g_callI0 X (met_X3_init l Z b1 0 0 0 0 0  w2_least w3_window w4_o0 w5_o1 w6_o2 w7_o3 hcl) [0] [] [] (wr := []) ⟨rfl, rfl, rfl, rfl, rfl, by decide, by decide⟩ q119 q71 q117 q118 rfl md_X3_init ⟨(Nat.le_of_ble_eq_true rfl), (Nat.le_of_ble_eq_true rfl)⟩ rfl dX3_forPeeling_4 7 rfl 5 33 rfl rfl (Nat.le_of_ble_eq_true rfl) (Nat.le_of_ble_eq_true rfl) (st := [.ref b1]) rfl (Nat.le_of_ble_eq_true rfl) (fun _ => rfl) (fun u => ?_)
  obtain ⟨b8, b9, b10, b11⟩ := u
  refine g_astore_n X dX3_forPeeling_7 8 rfl (Nat.le_of_ble_eq_true rfl) rfl [some (.ref a0), some (.ref b1)] rfl ?_
  refine g_aload_n X rfl dX3_forPeeling_8 9 rfl ?_
  refine g_iconst X 0 dX3_forPeeling_9 10 rfl kI_0 ?_
  refine g_aload_n X rfl dX3_forPeeling_10 11 rfl ?_
  refine g_getR X gC2 0 rfl 4 (by decide) q138 (fun _ h9 => h9) rfl dX3_forPeeling_11 14 rfl ?_
  refine g_iconst X 0 dX3_forPeeling_14 15 rfl kI_0 ?_
  obtain ⟨hi, h⟩ := gin_e h
  refine g_ialdR X 4 rfl hi dX3_forPeeling_15 16 rfl ?_
  obtain ⟨w12_pulses, w13_pulseTimes, w14_pulseEnergies, hcl, h⟩ := bd3_e h
  refine g_callV0 X (met_X3_addPulse l Z b1 b8 b9 b10 b11 0 0 0 w2_least w3_window w4_o0 w5_o1 w6_o2 w7_o3 0 (v_pulseEnergies (Int32.toNatClampNeg 0)) w12_pulses w13_pulseTimes w14_pulseEnergies hcl) [0, 1, 2, 3, 4] [] [] (wr := []) ⟨rfl, rfl, rfl, rfl, rfl, by decide, by decide⟩ 0 gC2 rfl rfl (lw_V q175 q176 q177 q71 q178) md_X3_addPulse ⟨(Nat.le_of_ble_eq_true rfl), (Nat.le_of_ble_eq_true rfl)⟩ rfl dX3_forPeeling_16 19 rfl 5 33 rfl rfl (Nat.le_of_ble_eq_true rfl) (Nat.le_of_ble_eq_true rfl) (st := []) rfl (Nat.le_of_ble_eq_true rfl) (fun _ => rfl) (fun _ => ?_)
  refine g_wd [(b1, .inr (2, [.ref b8, .ref b9, .int 0, .ref b10, .ref b11, .int w12_pulses, .int 0, .int w2_least, .int w3_window])), (b8, .inl (Z.2 0, 8, .inl w4_o0)), (b9, .inl (Z.2 0, 8, .inl w5_o1)), (b10, .inl (Z.2 0, 4, .inl w13_pulseTimes)), (b11, .inl (Z.2 0, 4, .inl w14_pulseEnergies))] rfl ?_
  refine g_aload_n X rfl dX3_forPeeling_19 20 rfl ?_
  refine g_aload_n X rfl dX3_forPeeling_20 21 rfl ?_
  refine g_getR X gC2 0 rfl 6 (by decide) q145 (fun _ h9 => h9) rfl dX3_forPeeling_21 24 rfl ?_
  refine g_aload_n X rfl dX3_forPeeling_24 25 rfl ?_
  refine g_getR X gC2 0 rfl 7 (by decide) q147 (fun _ h9 => h9) rfl dX3_forPeeling_25 28 rfl ?_
  refine g_aload_n X rfl dX3_forPeeling_28 29 rfl ?_
  refine g_getR X gC2 0 rfl 8 (by decide) q149 (fun _ h9 => h9) rfl dX3_forPeeling_29 32 rfl ?_
  obtain ⟨w15_front, w16_least, w17_window, hcl, h⟩ := bd3_e h
  refine g_callV0 X (met_X3_setBench l Z b1 b8 b9 b10 b11 0 w12_pulses 0 w2_least w3_window w4_o0 w5_o1 w13_pulseTimes w14_pulseEnergies v_front v_least v_window w15_front w16_least w17_window hcl) [0, 1, 2, 3, 4] [] [] (wr := []) ⟨rfl, rfl, rfl, rfl, rfl, by decide, by decide⟩ 0 gC2 rfl rfl (lw_V q279 q280 q281 q71 q282) md_X3_setBench ⟨(Nat.le_of_ble_eq_true rfl), (Nat.le_of_ble_eq_true rfl)⟩ rfl dX3_forPeeling_32 35 rfl 5 33 rfl rfl (Nat.le_of_ble_eq_true rfl) (Nat.le_of_ble_eq_true rfl) (st := []) rfl (Nat.le_of_ble_eq_true rfl) (fun _ => rfl) (fun _ => ?_)
  refine g_aload_n X rfl dX3_forPeeling_35 36 rfl ?_
  cases h
  exact g_aret X dX3_forPeeling_36 (Or.inl ⟨_, rfl⟩) (b1, b8, b9, b10, b11) rfl rfl (Nat.le_of_ble_eq_true rfl) (Nat.le_of_ble_eq_true rfl)
/-! LineEchoes$Line.takeParts(LLineEchoes$Line;)V -/
abbrev rm_X3_takeParts : Room := { frames := 1, cells := 0, slots := 0, locals := 60 }
def F_X3_takeParts (v_lengths : Nat → Int32) (v_fractions : Nat → Int32) (v_f_n : Int32) (v_f_lengths : Nat → Int32) (v_f_fractions : Nat → Int32) : Option (Int32 × (Nat → Int32) × (Nat → Int32)) :=
  gcp 0 0 v_f_n 8 8 <|
  gcp 0 0 v_f_n 8 8 <|
  some (v_f_n, va_cpy v_f_lengths v_lengths (Int32.toNatClampNeg 0) (Int32.toNatClampNeg 0) v_f_n.toNatClampNeg, va_cpy v_f_fractions v_fractions (Int32.toNatClampNeg 0) (Int32.toNatClampNeg 0) v_f_n.toNatClampNeg)
theorem met_X3_takeParts (l : Launch) (Z : gZt) (a0 : Nat) (a0_1 : Nat) (a0_2 : Nat) (a0_3 : Nat) (a0_4 : Nat) (a1 : Nat) (a1_1 : Nat) (a1_2 : Nat) (a1_3 : Nat) (a1_4 : Nat) (v_n : Int32) (v_pulses : Int32) (v_front : Int32) (v_least : Int32) (v_window : Int32) (v_lengths : Nat → Int32) (v_fractions : Nat → Int32) (v_pulseTimes : Nat → Int32) (v_pulseEnergies : Nat → Int32) (v_f_n : Int32) (v_f_pulses : Int32) (v_f_front : Int32) (v_f_least : Int32) (v_f_window : Int32) (v_f_lengths : Nat → Int32) (v_f_fractions : Nat → Int32) (v_f_pulseTimes : Nat → Int32) (v_f_pulseEnergies : Nat → Int32) (r_n : Int32) (r_lengths : Nat → Int32) (r_fractions : Nat → Int32) (h : F_X3_takeParts v_lengths v_fractions v_f_n v_f_lengths v_f_fractions = some (r_n, r_lengths, r_fractions)) : Ct l yX3_takeParts (ws_ yX3_takeParts cX3_takeParts 2 none) rm_X3_takeParts Z [.ref a0, .ref a1] [(a0, .inr (2, [.ref a0_1, .ref a0_2, .int v_n, .ref a0_3, .ref a0_4, .int v_pulses, .int v_front, .int v_least, .int v_window])), (a0_1, .inl (Z.2 0, 8, .inl v_lengths)), (a0_2, .inl (Z.2 0, 8, .inl v_fractions)), (a0_3, .inl (Z.2 0, 4, .inl v_pulseTimes)), (a0_4, .inl (Z.2 0, 4, .inl v_pulseEnergies)), (a1, .inr (2, [.ref a1_1, .ref a1_2, .int v_f_n, .ref a1_3, .ref a1_4, .int v_f_pulses, .int v_f_front, .int v_f_least, .int v_f_window])), (a1_1, .inl (Z.2 0, 8, .inl v_f_lengths)), (a1_2, .inl (Z.2 0, 8, .inl v_f_fractions)), (a1_3, .inl (Z.2 0, 4, .inl v_f_pulseTimes)), (a1_4, .inl (Z.2 0, 4, .inl v_f_pulseEnergies))] [] (fun _ : Unit => (none : Option Value)) (fun _ : Unit => ([(a0, .inr (2, [.ref a0_1, .ref a0_2, .int r_n, .ref a0_3, .ref a0_4, .int v_pulses, .int v_front, .int v_least, .int v_window])), (a0_1, .inl (Z.2 0, 8, .inl r_lengths)), (a0_2, .inl (Z.2 0, 8, .inl r_fractions)), (a0_3, .inl (Z.2 0, 4, .inl v_pulseTimes)), (a0_4, .inl (Z.2 0, 4, .inl v_pulseEnergies)), (a1, .inr (2, [.ref a1_1, .ref a1_2, .int v_f_n, .ref a1_3, .ref a1_4, .int v_f_pulses, .int v_f_front, .int v_f_least, .int v_f_window])), (a1_1, .inl (Z.2 0, 8, .inl v_f_lengths)), (a1_2, .inl (Z.2 0, 8, .inl v_f_fractions)), (a1_3, .inl (Z.2 0, 4, .inl v_f_pulseTimes)), (a1_4, .inl (Z.2 0, 4, .inl v_f_pulseEnergies))] : va_W)) := by
  refine Ct.of cX3_takeParts 2 none "LineEchoes$Line" [some (.ref a0), some (.ref a1)] 0 (by decide) rfl (Nat.le_of_ble_eq_true rfl) rfl (fun p e s m args below meth c A X hin => ?_)
  unfold F_X3_takeParts at h
  refine g_aload_n X rfl dX3_takeParts_0 1 rfl ?_
  refine g_aload_n X rfl dX3_takeParts_1 2 rfl ?_
  refine g_get X gC2 5 rfl 2 (by decide) q131 (fun _ h9 => h9) rfl dX3_takeParts_2 5 rfl ?_
  refine g_put X gC2 0 rfl 2 (by decide) q131 (fun _ h9 => h9) rfl rfl rfl (Nat.le_of_ble_eq_true rfl) dX3_takeParts_5 8 rfl ?_
  refine g_aload_n X rfl dX3_takeParts_8 9 rfl ?_
  refine g_get X gC2 5 rfl 0 (by decide) q121 (fun _ h9 => h9) rfl dX3_takeParts_9 12 rfl ?_
  refine g_iconst X 0 dX3_takeParts_12 13 rfl kI_0 ?_
  refine g_aload_n X rfl dX3_takeParts_13 14 rfl ?_
  refine g_get X gC2 0 rfl 0 (by decide) q121 (fun _ h9 => h9) rfl dX3_takeParts_14 17 rfl ?_
  refine g_iconst X 0 dX3_takeParts_17 18 rfl kI_0 ?_
  refine g_aload_n X rfl dX3_takeParts_18 19 rfl ?_
  refine g_get X gC2 0 rfl 2 (by decide) q131 (fun _ h9 => h9) rfl dX3_takeParts_19 22 rfl ?_
  obtain ⟨hcp, h⟩ := gcp_e h
  refine g_copyi X q276 6 1 rfl rfl hcp dX3_takeParts_22 25 rfl (Nat.le_of_ble_eq_true rfl) (Nat.le_of_ble_eq_true rfl) ?_
  refine g_aload_n X rfl dX3_takeParts_25 26 rfl ?_
  refine g_get X gC2 5 rfl 1 (by decide) q125 (fun _ h9 => h9) rfl dX3_takeParts_26 29 rfl ?_
  refine g_iconst X 0 dX3_takeParts_29 30 rfl kI_0 ?_
  refine g_aload_n X rfl dX3_takeParts_30 31 rfl ?_
  refine g_get X gC2 0 rfl 1 (by decide) q125 (fun _ h9 => h9) rfl dX3_takeParts_31 34 rfl ?_
  refine g_iconst X 0 dX3_takeParts_34 35 rfl kI_0 ?_
  refine g_aload_n X rfl dX3_takeParts_35 36 rfl ?_
  refine g_get X gC2 0 rfl 2 (by decide) q131 (fun _ h9 => h9) rfl dX3_takeParts_36 39 rfl ?_
  obtain ⟨hcp, h⟩ := gcp_e h
  refine g_copyi X q276 7 2 rfl rfl hcp dX3_takeParts_39 42 rfl (Nat.le_of_ble_eq_true rfl) (Nat.le_of_ble_eq_true rfl) ?_
  cases h
  exact g_vret X dX3_takeParts_42 () rfl rfl (Nat.le_of_ble_eq_true rfl) (Nat.le_of_ble_eq_true rfl)
/-! LineEchoes$Line.swap(II[I)V -/
abbrev rm_X3_swap : Room := { frames := 0, cells := 0, slots := 0, locals := 0 }
def F_X3_swap (v_row : Nat → Int32) (x0 : Int32) (x1 : Int32) : Option ((Nat → Int32)) :=
  gin x0 8 <|
  gin x1 8 <|
  gin x0 8 <|
  gin x1 8 <|
  some (upd (upd v_row x0.toNatClampNeg (v_row x1.toNatClampNeg)) x1.toNatClampNeg (v_row x0.toNatClampNeg))
theorem met_X3_swap (l : Launch) (Z : gZt) (a0 : Nat) (v_row : Nat → Int32) (x0 : Int32) (x1 : Int32) (r_row : Nat → Int32) (h : F_X3_swap v_row x0 x1 = some r_row) : Ct l yX3_swap (ws_ yX3_swap cX3_swap 4 none) rm_X3_swap Z [.int x0, .int x1, .ref a0] [(a0, .inl (Z.2 0, 8, .inl v_row))] [] (fun _ : Unit => (none : Option Value)) (fun _ : Unit => ([(a0, .inl (Z.2 0, 8, .inl r_row))] : va_W)) := by
  refine Ct.of cX3_swap 4 none "LineEchoes$Line" [some (.int x0), some (.int x1), some (.ref a0), none] 1 (by decide) rfl (Nat.le_of_ble_eq_true rfl) rfl (fun p e s m args below meth c A X hin => ?_)
  unfold F_X3_swap at h
  refine g_aload_n X rfl dX3_swap_0 1 rfl ?_
  refine g_iload_n X rfl dX3_swap_1 2 rfl ?_
  obtain ⟨hi, h⟩ := gin_e h
  refine g_iald X 0 rfl hi dX3_swap_2 3 rfl ?_
  refine g_istore_n X dX3_swap_3 4 rfl (Nat.le_of_ble_eq_true rfl) rfl [some (.int x0), some (.int x1), some (.ref a0), some (.int (v_row x0.toNatClampNeg))] rfl ?_
  refine g_aload_n X rfl dX3_swap_4 5 rfl ?_
  refine g_iload_n X rfl dX3_swap_5 6 rfl ?_
  refine g_aload_n X rfl dX3_swap_6 7 rfl ?_
  refine g_iload_n X rfl dX3_swap_7 8 rfl ?_
  obtain ⟨hi, h⟩ := gin_e h
  refine g_iald X 0 rfl hi dX3_swap_8 9 rfl ?_
  obtain ⟨hi, h⟩ := gin_e h
  refine g_iast X 0 rfl hi dX3_swap_9 10 rfl ?_
  refine g_aload_n X rfl dX3_swap_10 11 rfl ?_
  refine g_iload_n X rfl dX3_swap_11 12 rfl ?_
  refine g_iload_n X rfl dX3_swap_12 13 rfl ?_
  obtain ⟨hi, h⟩ := gin_e h
  refine g_iast X 0 rfl hi dX3_swap_13 14 rfl ?_
  cases h
  exact g_vret X dX3_swap_14 () rfl rfl (Nat.le_of_ble_eq_true rfl) (Nat.le_of_ble_eq_true rfl)
/-! LineEchoes$Line.reverse()V -/
abbrev rm_X3_reverse : Room := { frames := 1, cells := 0, slots := 0, locals := 23 }
def B_X3_reverse_38 (K38 : (Int32) → (Nat → Int32) → (Nat → Int32) → (Int32) → Option ((Nat → Int32) × (Nat → Int32))) (v_n : Int32) (v_lengths : Nat → Int32) (v_fractions : Nat → Int32) (x1 : Int32) : Option ((Nat → Int32) × (Nat → Int32)) :=
  if ((v_n - 2) - x1) ≤ x1 then
    (some (v_lengths, v_fractions))
  else
    (bd1 (F_X3_swap v_fractions x1 ((v_n - 2) - x1)) fun w1_row =>
    K38 v_n v_lengths w1_row (x1 + 1))
def F_X3_reverse_38 : Nat → (Int32) → (Nat → Int32) → (Nat → Int32) → (Int32) → Option ((Nat → Int32) × (Nat → Int32))
  | 0 => fun _ _ _ _ => none
  | n + 1 => B_X3_reverse_38 (F_X3_reverse_38 n)
def B_X3_reverse_2 (K2 : (Int32) → (Nat → Int32) → (Nat → Int32) → (Int32) → Option ((Nat → Int32) × (Nat → Int32))) (v_n : Int32) (v_lengths : Nat → Int32) (v_fractions : Nat → Int32) (x1 : Int32) : Option ((Nat → Int32) × (Nat → Int32)) :=
  if ((v_n - 1) - x1) ≤ x1 then
    (F_X3_reverse_38 gFU v_n v_lengths v_fractions 0)
  else
    (bd1 (F_X3_swap v_lengths x1 ((v_n - 1) - x1)) fun w1_row =>
    K2 v_n w1_row v_fractions (x1 + 1))
def F_X3_reverse_2 : Nat → (Int32) → (Nat → Int32) → (Nat → Int32) → (Int32) → Option ((Nat → Int32) × (Nat → Int32))
  | 0 => fun _ _ _ _ => none
  | n + 1 => B_X3_reverse_2 (F_X3_reverse_2 n)
def F_X3_reverse (v_n : Int32) (v_lengths : Nat → Int32) (v_fractions : Nat → Int32) : Option ((Nat → Int32) × (Nat → Int32)) :=
  F_X3_reverse_2 gFU v_n v_lengths v_fractions 0
theorem w_X3_reverse_38 {p : Program} {l : Launch} {e : Env} {s : State} {m : MethodId} {args : Array Value} {below : List Frame} {meth : Method} {c : Code} {Z : gZt} {A : Nat → Prop} (a0 : Nat) (a0_1 : Nat) (a0_2 : Nat) (a0_3 : Nat) (a0_4 : Nat) (X : gX p s m args meth c Z A cX3_reverse "LineEchoes$Line" 2 none []) (r_lengths : Nat → Int32) (r_fractions : Nat → Int32)  : ∀ (n : Nat) (v_n : Int32) (v_pulses : Int32) (v_front : Int32) (v_least : Int32) (v_window : Int32) (v_lengths : Nat → Int32) (v_fractions : Nat → Int32) (v_pulseTimes : Nat → Int32) (v_pulseEnergies : Nat → Int32) (x1 : Int32), F_X3_reverse_38 n v_n v_lengths v_fractions x1 = some (r_lengths, r_fractions) → G p l e rm_X3_reverse s m args below meth c Z A 2 (MQ below (gPost Z A (fun _ : Unit => (none : Option Value)) (fun _ : Unit => ([(a0, .inr (2, [.ref a0_1, .ref a0_2, .int v_n, .ref a0_3, .ref a0_4, .int v_pulses, .int v_front, .int v_least, .int v_window])), (a0_1, .inl (Z.2 0, 8, .inl r_lengths)), (a0_2, .inl (Z.2 0, 8, .inl r_fractions)), (a0_3, .inl (Z.2 0, 4, .inl v_pulseTimes)), (a0_4, .inl (Z.2 0, 4, .inl v_pulseEnergies))] : va_W))) args s 0 0 A) [(a0, .inr (2, [.ref a0_1, .ref a0_2, .int v_n, .ref a0_3, .ref a0_4, .int v_pulses, .int v_front, .int v_least, .int v_window])), (a0_1, .inl (Z.2 0, 8, .inl v_lengths)), (a0_2, .inl (Z.2 0, 8, .inl v_fractions)), (a0_3, .inl (Z.2 0, 4, .inl v_pulseTimes)), (a0_4, .inl (Z.2 0, 4, .inl v_pulseEnergies))] 0 0 38 [some (.ref a0), some (.int x1)] [] := by
  intro n
  induction n with
  | zero =>
    intro v_n v_pulses v_front v_least v_window v_lengths v_fractions v_pulseTimes v_pulseEnergies x1 h
    cases h
  | succ n hK38 =>
    intro v_n v_pulses v_front v_least v_window v_lengths v_fractions v_pulseTimes v_pulseEnergies x1 h
    replace h : B_X3_reverse_38 (F_X3_reverse_38 n) v_n v_lengths v_fractions x1 = some (r_lengths, r_fractions) := h
    unfold B_X3_reverse_38 at h
    refine g_iload_n X rfl dX3_reverse_38 39 rfl ?_
    refine g_aload_n X rfl dX3_reverse_39 40 rfl ?_
    refine g_get X gC2 0 rfl 2 (by decide) q131 (fun _ h9 => h9) rfl dX3_reverse_40 43 rfl ?_
    refine g_iconst X 2 dX3_reverse_43 44 rfl kI_2 ?_
    refine g_isub X dX3_reverse_44 45 rfl ?_
    refine g_iload_n X rfl dX3_reverse_45 46 rfl ?_
    refine g_isub X dX3_reverse_46 47 rfl ?_
    refine g_icmp_ge X dX3_reverse_47 72 (by decide) 50 rfl (fun hc => ?_) (fun hc => ?_)
    · replace h := if_t hc h
      cases h
      exact g_vret X dX3_reverse_72 () rfl rfl (Nat.le_of_ble_eq_true rfl) (Nat.le_of_ble_eq_true rfl)
    · replace h := if_f hc h
      refine g_iload_n X rfl dX3_reverse_50 51 rfl ?_
      refine g_aload_n X rfl dX3_reverse_51 52 rfl ?_
      refine g_get X gC2 0 rfl 2 (by decide) q131 (fun _ h9 => h9) rfl dX3_reverse_52 55 rfl ?_
      refine g_iconst X 2 dX3_reverse_55 56 rfl kI_2 ?_
      refine g_isub X dX3_reverse_56 57 rfl ?_
      refine g_iload_n X rfl dX3_reverse_57 58 rfl ?_
      refine g_isub X dX3_reverse_58 59 rfl ?_
      refine g_aload_n X rfl dX3_reverse_59 60 rfl ?_
      refine g_get X gC2 0 rfl 1 (by decide) q125 (fun _ h9 => h9) rfl dX3_reverse_60 63 rfl ?_
      obtain ⟨w1_row, hcl, h⟩ := bd1_e h
      refine g_callS0 X (met_X3_swap l Z a0_2 v_fractions x1 ((v_n - 2) - x1) w1_row hcl) [2] [0, 1, 3, 4] [] (wr := [(a0, .inr (2, [.ref a0_1, .ref a0_2, .int v_n, .ref a0_3, .ref a0_4, .int v_pulses, .int v_front, .int v_least, .int v_window])), (a0_1, .inl (Z.2 0, 8, .inl v_lengths)), (a0_3, .inl (Z.2 0, 4, .inl v_pulseTimes)), (a0_4, .inl (Z.2 0, 4, .inl v_pulseEnergies))]) ⟨rfl, rfl, rfl, rfl, rfl, by decide, by decide⟩ (lw_S q287 q288 q71 q289) md_X3_swap ⟨(Nat.le_of_ble_eq_true rfl), (Nat.le_of_ble_eq_true rfl)⟩ rfl dX3_reverse_63 66 rfl 0 0 rfl rfl (Nat.le_of_ble_eq_true rfl) (Nat.le_of_ble_eq_true rfl) (st := []) rfl (Nat.le_of_ble_eq_true rfl) (fun _ => rfl) (fun _ => ?_)
      refine g_iinc X 1 rfl dX3_reverse_66 69 rfl kI_1 (Nat.le_of_ble_eq_true rfl) rfl [some (.ref a0), some (.int (x1 + 1))] rfl ?_
      refine g_goto X dX3_reverse_69 38 (by decide) ?_
      refine g_keep [0, 1, 4, 2, 3] [(a0, .inr (2, [.ref a0_1, .ref a0_2, .int v_n, .ref a0_3, .ref a0_4, .int v_pulses, .int v_front, .int v_least, .int v_window])), (a0_1, .inl (Z.2 0, 8, .inl v_lengths)), (a0_2, .inl (Z.2 0, 8, .inl w1_row)), (a0_3, .inl (Z.2 0, 4, .inl v_pulseTimes)), (a0_4, .inl (Z.2 0, 4, .inl v_pulseEnergies))] rfl rfl ?_
      exact hK38 v_n v_pulses v_front v_least v_window v_lengths w1_row v_pulseTimes v_pulseEnergies (x1 + 1) h
theorem w_X3_reverse_2 {p : Program} {l : Launch} {e : Env} {s : State} {m : MethodId} {args : Array Value} {below : List Frame} {meth : Method} {c : Code} {Z : gZt} {A : Nat → Prop} (a0 : Nat) (a0_1 : Nat) (a0_2 : Nat) (a0_3 : Nat) (a0_4 : Nat) (X : gX p s m args meth c Z A cX3_reverse "LineEchoes$Line" 2 none []) (r_lengths : Nat → Int32) (r_fractions : Nat → Int32)  : ∀ (n : Nat) (v_n : Int32) (v_pulses : Int32) (v_front : Int32) (v_least : Int32) (v_window : Int32) (v_lengths : Nat → Int32) (v_fractions : Nat → Int32) (v_pulseTimes : Nat → Int32) (v_pulseEnergies : Nat → Int32) (x1 : Int32), F_X3_reverse_2 n v_n v_lengths v_fractions x1 = some (r_lengths, r_fractions) → G p l e rm_X3_reverse s m args below meth c Z A 2 (MQ below (gPost Z A (fun _ : Unit => (none : Option Value)) (fun _ : Unit => ([(a0, .inr (2, [.ref a0_1, .ref a0_2, .int v_n, .ref a0_3, .ref a0_4, .int v_pulses, .int v_front, .int v_least, .int v_window])), (a0_1, .inl (Z.2 0, 8, .inl r_lengths)), (a0_2, .inl (Z.2 0, 8, .inl r_fractions)), (a0_3, .inl (Z.2 0, 4, .inl v_pulseTimes)), (a0_4, .inl (Z.2 0, 4, .inl v_pulseEnergies))] : va_W))) args s 0 0 A) [(a0, .inr (2, [.ref a0_1, .ref a0_2, .int v_n, .ref a0_3, .ref a0_4, .int v_pulses, .int v_front, .int v_least, .int v_window])), (a0_1, .inl (Z.2 0, 8, .inl v_lengths)), (a0_2, .inl (Z.2 0, 8, .inl v_fractions)), (a0_3, .inl (Z.2 0, 4, .inl v_pulseTimes)), (a0_4, .inl (Z.2 0, 4, .inl v_pulseEnergies))] 0 0 2 [some (.ref a0), some (.int x1)] [] := by
  intro n
  induction n with
  | zero =>
    intro v_n v_pulses v_front v_least v_window v_lengths v_fractions v_pulseTimes v_pulseEnergies x1 h
    cases h
  | succ n hK2 =>
    intro v_n v_pulses v_front v_least v_window v_lengths v_fractions v_pulseTimes v_pulseEnergies x1 h
    replace h : B_X3_reverse_2 (F_X3_reverse_2 n) v_n v_lengths v_fractions x1 = some (r_lengths, r_fractions) := h
    unfold B_X3_reverse_2 at h
    refine g_iload_n X rfl dX3_reverse_2 3 rfl ?_
    refine g_aload_n X rfl dX3_reverse_3 4 rfl ?_
    refine g_get X gC2 0 rfl 2 (by decide) q131 (fun _ h9 => h9) rfl dX3_reverse_4 7 rfl ?_
    refine g_iconst X 1 dX3_reverse_7 8 rfl kI_1 ?_
    refine g_isub X dX3_reverse_8 9 rfl ?_
    refine g_iload_n X rfl dX3_reverse_9 10 rfl ?_
    refine g_isub X dX3_reverse_10 11 rfl ?_
    refine g_icmp_ge X dX3_reverse_11 36 (by decide) 14 rfl (fun hc => ?_) (fun hc => ?_)
    · replace h := if_t hc h
      refine g_iconst X 0 dX3_reverse_36 37 rfl kI_0 ?_
      refine g_istore_n X dX3_reverse_37 38 rfl (Nat.le_of_ble_eq_true rfl) rfl [some (.ref a0), some (.int 0)] rfl ?_
      exact w_X3_reverse_38 a0 a0_1 a0_2 a0_3 a0_4  X  r_lengths r_fractions    gFU v_n v_pulses v_front v_least v_window v_lengths v_fractions v_pulseTimes v_pulseEnergies 0 h
    · replace h := if_f hc h
      refine g_iload_n X rfl dX3_reverse_14 15 rfl ?_
      refine g_aload_n X rfl dX3_reverse_15 16 rfl ?_
      refine g_get X gC2 0 rfl 2 (by decide) q131 (fun _ h9 => h9) rfl dX3_reverse_16 19 rfl ?_
      refine g_iconst X 1 dX3_reverse_19 20 rfl kI_1 ?_
      refine g_isub X dX3_reverse_20 21 rfl ?_
      refine g_iload_n X rfl dX3_reverse_21 22 rfl ?_
      refine g_isub X dX3_reverse_22 23 rfl ?_
      refine g_aload_n X rfl dX3_reverse_23 24 rfl ?_
      refine g_get X gC2 0 rfl 0 (by decide) q121 (fun _ h9 => h9) rfl dX3_reverse_24 27 rfl ?_
      obtain ⟨w1_row, hcl, h⟩ := bd1_e h
      refine g_callS0 X (met_X3_swap l Z a0_1 v_lengths x1 ((v_n - 1) - x1) w1_row hcl) [1] [0, 2, 3, 4] [] (wr := [(a0, .inr (2, [.ref a0_1, .ref a0_2, .int v_n, .ref a0_3, .ref a0_4, .int v_pulses, .int v_front, .int v_least, .int v_window])), (a0_2, .inl (Z.2 0, 8, .inl v_fractions)), (a0_3, .inl (Z.2 0, 4, .inl v_pulseTimes)), (a0_4, .inl (Z.2 0, 4, .inl v_pulseEnergies))]) ⟨rfl, rfl, rfl, rfl, rfl, by decide, by decide⟩ (lw_S q287 q288 q71 q289) md_X3_swap ⟨(Nat.le_of_ble_eq_true rfl), (Nat.le_of_ble_eq_true rfl)⟩ rfl dX3_reverse_27 30 rfl 0 0 rfl rfl (Nat.le_of_ble_eq_true rfl) (Nat.le_of_ble_eq_true rfl) (st := []) rfl (Nat.le_of_ble_eq_true rfl) (fun _ => rfl) (fun _ => ?_)
      refine g_iinc X 1 rfl dX3_reverse_30 33 rfl kI_1 (Nat.le_of_ble_eq_true rfl) rfl [some (.ref a0), some (.int (x1 + 1))] rfl ?_
      refine g_goto X dX3_reverse_33 2 (by decide) ?_
      refine g_keep [0, 4, 1, 2, 3] [(a0, .inr (2, [.ref a0_1, .ref a0_2, .int v_n, .ref a0_3, .ref a0_4, .int v_pulses, .int v_front, .int v_least, .int v_window])), (a0_1, .inl (Z.2 0, 8, .inl w1_row)), (a0_2, .inl (Z.2 0, 8, .inl v_fractions)), (a0_3, .inl (Z.2 0, 4, .inl v_pulseTimes)), (a0_4, .inl (Z.2 0, 4, .inl v_pulseEnergies))] rfl rfl ?_
      exact hK2 v_n v_pulses v_front v_least v_window w1_row v_fractions v_pulseTimes v_pulseEnergies (x1 + 1) h
theorem met_X3_reverse (l : Launch) (Z : gZt) (a0 : Nat) (a0_1 : Nat) (a0_2 : Nat) (a0_3 : Nat) (a0_4 : Nat) (v_n : Int32) (v_pulses : Int32) (v_front : Int32) (v_least : Int32) (v_window : Int32) (v_lengths : Nat → Int32) (v_fractions : Nat → Int32) (v_pulseTimes : Nat → Int32) (v_pulseEnergies : Nat → Int32) (r_lengths : Nat → Int32) (r_fractions : Nat → Int32) (h : F_X3_reverse v_n v_lengths v_fractions = some (r_lengths, r_fractions)) : Ct l yX3_reverse (ws_ yX3_reverse cX3_reverse 2 none) rm_X3_reverse Z [.ref a0] [(a0, .inr (2, [.ref a0_1, .ref a0_2, .int v_n, .ref a0_3, .ref a0_4, .int v_pulses, .int v_front, .int v_least, .int v_window])), (a0_1, .inl (Z.2 0, 8, .inl v_lengths)), (a0_2, .inl (Z.2 0, 8, .inl v_fractions)), (a0_3, .inl (Z.2 0, 4, .inl v_pulseTimes)), (a0_4, .inl (Z.2 0, 4, .inl v_pulseEnergies))] [] (fun _ : Unit => (none : Option Value)) (fun _ : Unit => ([(a0, .inr (2, [.ref a0_1, .ref a0_2, .int v_n, .ref a0_3, .ref a0_4, .int v_pulses, .int v_front, .int v_least, .int v_window])), (a0_1, .inl (Z.2 0, 8, .inl r_lengths)), (a0_2, .inl (Z.2 0, 8, .inl r_fractions)), (a0_3, .inl (Z.2 0, 4, .inl v_pulseTimes)), (a0_4, .inl (Z.2 0, 4, .inl v_pulseEnergies))] : va_W)) := by
  refine Ct.of cX3_reverse 2 none "LineEchoes$Line" [some (.ref a0), none] 1 (by decide) rfl (Nat.le_of_ble_eq_true rfl) rfl (fun p e s m args below meth c A X hin => ?_)
  unfold F_X3_reverse at h
  refine g_iconst X 0 dX3_reverse_0 1 rfl kI_0 ?_
  refine g_istore_n X dX3_reverse_1 2 rfl (Nat.le_of_ble_eq_true rfl) rfl [some (.ref a0), some (.int 0)] rfl ?_
  exact w_X3_reverse_2 a0 a0_1 a0_2 a0_3 a0_4  X  r_lengths r_fractions    gFU v_n v_pulses v_front v_least v_window v_lengths v_fractions v_pulseTimes v_pulseEnergies 0 h
/-! LineEchoes$Line.sum(I)I -/
abbrev rm_X3_sum : Room := { frames := 0, cells := 0, slots := 0, locals := 0 }
def B_X3_sum_4 (K4 : (Int32) → (Int32) → (Int32) → (Nat → Int32) → Option (Int32)) (x1 : Int32) (x2 : Int32) (x3 : Int32) (v_lengths : Nat → Int32) : Option (Int32) :=
  if x1 ≤ x3 then
    (some x2)
  else
    (gin x3 8 <|
    nm (x2 + (v_lengths x3.toNatClampNeg)) fun t1 =>
    K4 x1 t1 (x3 + 1) v_lengths)
def F_X3_sum_4 : Nat → (Int32) → (Int32) → (Int32) → (Nat → Int32) → Option (Int32)
  | 0 => fun _ _ _ _ => none
  | n + 1 => B_X3_sum_4 (F_X3_sum_4 n)
def F_X3_sum (v_lengths : Nat → Int32) (x1 : Int32) : Option (Int32) :=
  F_X3_sum_4 gFU x1 0 0 v_lengths
theorem w_X3_sum_4 {p : Program} {l : Launch} {e : Env} {s : State} {m : MethodId} {args : Array Value} {below : List Frame} {meth : Method} {c : Code} {Z : gZt} {A : Nat → Prop} (a0 : Nat) (a0_1 : Nat) (a0_2 : Nat) (a0_3 : Nat) (a0_4 : Nat) (v_n : Int32) (v_pulses : Int32) (v_front : Int32) (v_least : Int32) (v_window : Int32) (v_lengths : Nat → Int32) (v_fractions : Nat → Int32) (v_pulseTimes : Nat → Int32) (v_pulseEnergies : Nat → Int32) (X : gX p s m args meth c Z A cX3_sum "LineEchoes$Line" 4 (some .int) [(a0, .inr (2, [.ref a0_1, .ref a0_2, .int v_n, .ref a0_3, .ref a0_4, .int v_pulses, .int v_front, .int v_least, .int v_window])), (a0_1, .inl (Z.2 0, 8, .inl v_lengths)), (a0_2, .inl (Z.2 0, 8, .inl v_fractions)), (a0_3, .inl (Z.2 0, 4, .inl v_pulseTimes)), (a0_4, .inl (Z.2 0, 4, .inl v_pulseEnergies))]) (r : Int32)  : ∀ (n : Nat) (x1 : Int32) (x2 : Int32) (x3 : Int32), F_X3_sum_4 n x1 x2 x3 v_lengths = some r → G p l e rm_X3_sum s m args below meth c Z A 4 (MQ below (gPost Z A (fun _ : Unit => (some (.int r) : Option Value)) (fun _ : Unit => ([] : va_W))) args s 0 0 A) [] 0 0 4 [some (.ref a0), some (.int x1), some (.int x2), some (.int x3)] [] := by
  intro n
  induction n with
  | zero =>
    intro x1 x2 x3 h
    cases h
  | succ n hK4 =>
    intro x1 x2 x3 h
    replace h : B_X3_sum_4 (F_X3_sum_4 n) x1 x2 x3 v_lengths = some r := h
    unfold B_X3_sum_4 at h
    refine g_iload_n X rfl dX3_sum_4 5 rfl ?_
    refine g_iload_n X rfl dX3_sum_5 6 rfl ?_
    refine g_icmp_ge X dX3_sum_6 24 (by decide) 9 rfl (fun hc => ?_) (fun hc => ?_)
    · replace h := if_t hc h
      refine g_iload_n X rfl dX3_sum_24 25 rfl ?_
      cases h
      exact g_iret X dX3_sum_25 () rfl rfl (Nat.le_of_ble_eq_true rfl) (Nat.le_of_ble_eq_true rfl)
    · replace h := if_f hc h
      refine g_iload_n X rfl dX3_sum_9 10 rfl ?_
      refine g_aload_n X rfl dX3_sum_10 11 rfl ?_
      refine g_getR X gC2 0 rfl 0 (by decide) q121 (fun _ h9 => h9) rfl dX3_sum_11 14 rfl ?_
      refine g_iload_n X rfl dX3_sum_14 15 rfl ?_
      obtain ⟨hi, h⟩ := gin_e h
      refine g_ialdR X 1 rfl hi dX3_sum_15 16 rfl ?_
      refine g_iadd X dX3_sum_16 17 rfl ?_
      refine g_topi (fun t1 et1 => ?_)
      replace h := nm_at et1 h
      refine g_istore_n X dX3_sum_17 18 rfl (Nat.le_of_ble_eq_true rfl) rfl [some (.ref a0), some (.int x1), some (.int t1), some (.int x3)] rfl ?_
      refine g_iinc X 1 rfl dX3_sum_18 21 rfl kI_1 (Nat.le_of_ble_eq_true rfl) rfl [some (.ref a0), some (.int x1), some (.int t1), some (.int (x3 + 1))] rfl ?_
      refine g_goto X dX3_sum_21 4 (by decide) ?_
      exact hK4 x1 t1 (x3 + 1) h
theorem met_X3_sum (l : Launch) (Z : gZt) (a0 : Nat) (a0_1 : Nat) (a0_2 : Nat) (a0_3 : Nat) (a0_4 : Nat) (v_n : Int32) (v_pulses : Int32) (v_front : Int32) (v_least : Int32) (v_window : Int32) (v_lengths : Nat → Int32) (v_fractions : Nat → Int32) (v_pulseTimes : Nat → Int32) (v_pulseEnergies : Nat → Int32) (x1 : Int32) (r : Int32) (h : F_X3_sum v_lengths x1 = some r) : Ct l yX3_sum (ws_ yX3_sum cX3_sum 4 (some .int)) rm_X3_sum Z [.ref a0, .int x1] [] [(a0, .inr (2, [.ref a0_1, .ref a0_2, .int v_n, .ref a0_3, .ref a0_4, .int v_pulses, .int v_front, .int v_least, .int v_window])), (a0_1, .inl (Z.2 0, 8, .inl v_lengths)), (a0_2, .inl (Z.2 0, 8, .inl v_fractions)), (a0_3, .inl (Z.2 0, 4, .inl v_pulseTimes)), (a0_4, .inl (Z.2 0, 4, .inl v_pulseEnergies))] (fun _ : Unit => (some (.int r) : Option Value)) (fun _ : Unit => ([] : va_W)) := by
  refine Ct.of cX3_sum 4 (some .int) "LineEchoes$Line" [some (.ref a0), some (.int x1), none, none] 2 (by decide) rfl (Nat.le_of_ble_eq_true rfl) rfl (fun p e s m args below meth c A X hin => ?_)
  unfold F_X3_sum at h
  refine g_iconst X 0 dX3_sum_0 1 rfl kI_0 ?_
  refine g_istore_n X dX3_sum_1 2 rfl (Nat.le_of_ble_eq_true rfl) rfl [some (.ref a0), some (.int x1), some (.int 0), none] rfl ?_
  refine g_iconst X 0 dX3_sum_2 3 rfl kI_0 ?_
  refine g_istore_n X dX3_sum_3 4 rfl (Nat.le_of_ble_eq_true rfl) rfl [some (.ref a0), some (.int x1), some (.int 0), some (.int 0)] rfl ?_
  exact w_X3_sum_4 a0 a0_1 a0_2 a0_3 a0_4 v_n v_pulses v_front v_least v_window v_lengths v_fractions v_pulseTimes v_pulseEnergies X  r    gFU x1 0 0 h
/-! LineEchoes$Line.earliest()I -/
abbrev rm_X3_earliest : Room := { frames := 1, cells := 0, slots := 0, locals := 30 }
def B_X3_earliest_9 (K9 : (Int32) → (Int32) → (Int32) → (Nat → Int32) → Option (Int32)) (x1 : Int32) (x2 : Int32) (v_pulses : Int32) (v_pulseTimes : Nat → Int32) : Option (Int32) :=
  if v_pulses ≤ x2 then
    (some x1)
  else
    (gin x2 4 <|
    K9 (if (v_pulseTimes x2.toNatClampNeg) < x1 then v_pulseTimes x2.toNatClampNeg else x1) (x2 + 1) v_pulses v_pulseTimes)
def F_X3_earliest_9 : Nat → (Int32) → (Int32) → (Int32) → (Nat → Int32) → Option (Int32)
  | 0 => fun _ _ _ _ => none
  | n + 1 => B_X3_earliest_9 (F_X3_earliest_9 n)
def F_X3_earliest (v_pulses : Int32) (v_pulseTimes : Nat → Int32) : Option (Int32) :=
  gin 0 4 <|
  nm (v_pulseTimes (Int32.toNatClampNeg 0)) fun t1 =>
  F_X3_earliest_9 gFU t1 1 v_pulses v_pulseTimes
theorem w_X3_earliest_9 {p : Program} {l : Launch} {e : Env} {s : State} {m : MethodId} {args : Array Value} {below : List Frame} {meth : Method} {c : Code} {Z : gZt} {A : Nat → Prop} (a0 : Nat) (a0_1 : Nat) (a0_2 : Nat) (a0_3 : Nat) (a0_4 : Nat) (v_n : Int32) (v_pulses : Int32) (v_front : Int32) (v_least : Int32) (v_window : Int32) (v_lengths : Nat → Int32) (v_fractions : Nat → Int32) (v_pulseTimes : Nat → Int32) (v_pulseEnergies : Nat → Int32) (X : gX p s m args meth c Z A cX3_earliest "LineEchoes$Line" 3 (some .int) [(a0, .inr (2, [.ref a0_1, .ref a0_2, .int v_n, .ref a0_3, .ref a0_4, .int v_pulses, .int v_front, .int v_least, .int v_window])), (a0_1, .inl (Z.2 0, 8, .inl v_lengths)), (a0_2, .inl (Z.2 0, 8, .inl v_fractions)), (a0_3, .inl (Z.2 0, 4, .inl v_pulseTimes)), (a0_4, .inl (Z.2 0, 4, .inl v_pulseEnergies))]) (r : Int32)  : ∀ (n : Nat) (x1 : Int32) (x2 : Int32), F_X3_earliest_9 n x1 x2 v_pulses v_pulseTimes = some r → G p l e rm_X3_earliest s m args below meth c Z A 3 (MQ below (gPost Z A (fun _ : Unit => (some (.int r) : Option Value)) (fun _ : Unit => ([] : va_W))) args s 0 0 A) [] 0 0 9 [some (.ref a0), some (.int x1), some (.int x2)] [] := by
  intro n
  induction n with
  | zero =>
    intro x1 x2 h
    cases h
  | succ n hK9 =>
    intro x1 x2 h
    replace h : B_X3_earliest_9 (F_X3_earliest_9 n) x1 x2 v_pulses v_pulseTimes = some r := h
    unfold B_X3_earliest_9 at h
    refine g_iload_n X rfl dX3_earliest_9 10 rfl ?_
    refine g_aload_n X rfl dX3_earliest_10 11 rfl ?_
    refine g_getR X gC2 0 rfl 5 (by decide) q141 (fun _ h9 => h9) rfl dX3_earliest_11 14 rfl ?_
    refine g_icmp_ge X dX3_earliest_14 34 (by decide) 17 rfl (fun hc => ?_) (fun hc => ?_)
    · replace h := if_t hc h
      refine g_iload_n X rfl dX3_earliest_34 35 rfl ?_
      cases h
      exact g_iret X dX3_earliest_35 () rfl rfl (Nat.le_of_ble_eq_true rfl) (Nat.le_of_ble_eq_true rfl)
    · replace h := if_f hc h
      refine g_iload_n X rfl dX3_earliest_17 18 rfl ?_
      refine g_aload_n X rfl dX3_earliest_18 19 rfl ?_
      refine g_getR X gC2 0 rfl 3 (by decide) q135 (fun _ h9 => h9) rfl dX3_earliest_19 22 rfl ?_
      refine g_iload_n X rfl dX3_earliest_22 23 rfl ?_
      obtain ⟨hi, h⟩ := gin_e h
      refine g_ialdR X 3 rfl hi dX3_earliest_23 24 rfl ?_
      refine g_mmin X q1064 q562 q86 q563 dX3_earliest_24 27 rfl (Nat.le_of_ble_eq_true rfl) (Nat.le_of_ble_eq_true rfl) (Nat.le_of_ble_eq_true rfl) (Nat.le_of_ble_eq_true rfl) ?_
      refine g_istore_n X dX3_earliest_27 28 rfl (Nat.le_of_ble_eq_true rfl) rfl [some (.ref a0), some (.int (if (v_pulseTimes x2.toNatClampNeg) < x1 then v_pulseTimes x2.toNatClampNeg else x1)), some (.int x2)] rfl ?_
      refine g_iinc X 1 rfl dX3_earliest_28 31 rfl kI_1 (Nat.le_of_ble_eq_true rfl) rfl [some (.ref a0), some (.int (if (v_pulseTimes x2.toNatClampNeg) < x1 then v_pulseTimes x2.toNatClampNeg else x1)), some (.int (x2 + 1))] rfl ?_
      refine g_goto X dX3_earliest_31 9 (by decide) ?_
      exact hK9 (if (v_pulseTimes x2.toNatClampNeg) < x1 then v_pulseTimes x2.toNatClampNeg else x1) (x2 + 1) h
theorem met_X3_earliest (l : Launch) (Z : gZt) (a0 : Nat) (a0_1 : Nat) (a0_2 : Nat) (a0_3 : Nat) (a0_4 : Nat) (v_n : Int32) (v_pulses : Int32) (v_front : Int32) (v_least : Int32) (v_window : Int32) (v_lengths : Nat → Int32) (v_fractions : Nat → Int32) (v_pulseTimes : Nat → Int32) (v_pulseEnergies : Nat → Int32) (r : Int32) (h : F_X3_earliest v_pulses v_pulseTimes = some r) : Ct l yX3_earliest (ws_ yX3_earliest cX3_earliest 3 (some .int)) rm_X3_earliest Z [.ref a0] [] [(a0, .inr (2, [.ref a0_1, .ref a0_2, .int v_n, .ref a0_3, .ref a0_4, .int v_pulses, .int v_front, .int v_least, .int v_window])), (a0_1, .inl (Z.2 0, 8, .inl v_lengths)), (a0_2, .inl (Z.2 0, 8, .inl v_fractions)), (a0_3, .inl (Z.2 0, 4, .inl v_pulseTimes)), (a0_4, .inl (Z.2 0, 4, .inl v_pulseEnergies))] (fun _ : Unit => (some (.int r) : Option Value)) (fun _ : Unit => ([] : va_W)) := by
  refine Ct.of cX3_earliest 3 (some .int) "LineEchoes$Line" [some (.ref a0), none, none] 2 (by decide) rfl (Nat.le_of_ble_eq_true rfl) rfl (fun p e s m args below meth c A X hin => ?_)
  unfold F_X3_earliest at h
  refine g_aload_n X rfl dX3_earliest_0 1 rfl ?_
  refine g_getR X gC2 0 rfl 3 (by decide) q135 (fun _ h9 => h9) rfl dX3_earliest_1 4 rfl ?_
  refine g_iconst X 0 dX3_earliest_4 5 rfl kI_0 ?_
  obtain ⟨hi, h⟩ := gin_e h
  refine g_ialdR X 3 rfl hi dX3_earliest_5 6 rfl ?_
  refine g_topi (fun t1 et1 => ?_)
  replace h := nm_at et1 h
  refine g_istore_n X dX3_earliest_6 7 rfl (Nat.le_of_ble_eq_true rfl) rfl [some (.ref a0), some (.int t1), none] rfl ?_
  refine g_iconst X 1 dX3_earliest_7 8 rfl kI_1 ?_
  refine g_istore_n X dX3_earliest_8 9 rfl (Nat.le_of_ble_eq_true rfl) rfl [some (.ref a0), some (.int t1), some (.int 1)] rfl ?_
  exact w_X3_earliest_9 a0 a0_1 a0_2 a0_3 a0_4 v_n v_pulses v_front v_least v_window v_lengths v_fractions v_pulseTimes v_pulseEnergies X  r    gFU t1 1 h
/-! LineEchoes$Line.partOf(I)I -/
abbrev rm_X3_partOf : Room := { frames := 1, cells := 0, slots := 0, locals := 23 }
def F_X3_partOf_36 (K2 : (Int32) → (Int32) → (Int32) → (Nat → Int32) → Option (Int32)) (x1 : Int32) (x2 : Int32) (v_n : Int32) (v_lengths : Nat → Int32) : Option (Int32) :=
  K2 x1 (x2 + 1) v_n v_lengths
def B_X3_partOf_2 (K2 : (Int32) → (Int32) → (Int32) → (Nat → Int32) → Option (Int32)) (x1 : Int32) (x2 : Int32) (v_n : Int32) (v_lengths : Nat → Int32) : Option (Int32) :=
  if v_n ≤ x2 then
    (some (-1))
  else
    (bd1 (F_X3_sum v_lengths x2) fun r1 =>
    if x1 ≤ (2 * r1) then
      (F_X3_partOf_36 K2 x1 x2 v_n v_lengths)
    else
      (bd1 (F_X3_sum v_lengths (x2 + 1)) fun r2 =>
      if (2 * r2) < x1 then
        (F_X3_partOf_36 K2 x1 x2 v_n v_lengths)
      else
        (some x2)))
def F_X3_partOf_2 : Nat → (Int32) → (Int32) → (Int32) → (Nat → Int32) → Option (Int32)
  | 0 => fun _ _ _ _ => none
  | n + 1 => B_X3_partOf_2 (F_X3_partOf_2 n)
def F_X3_partOf (v_n : Int32) (v_lengths : Nat → Int32) (x1 : Int32) : Option (Int32) :=
  F_X3_partOf_2 gFU x1 0 v_n v_lengths
theorem w_X3_partOf_36 {p : Program} {l : Launch} {e : Env} {s : State} {m : MethodId} {args : Array Value} {below : List Frame} {meth : Method} {c : Code} {Z : gZt} {A : Nat → Prop} (a0 : Nat) (a0_1 : Nat) (a0_2 : Nat) (a0_3 : Nat) (a0_4 : Nat) (v_n : Int32) (v_pulses : Int32) (v_front : Int32) (v_least : Int32) (v_window : Int32) (v_lengths : Nat → Int32) (v_fractions : Nat → Int32) (v_pulseTimes : Nat → Int32) (v_pulseEnergies : Nat → Int32) (X : gX p s m args meth c Z A cX3_partOf "LineEchoes$Line" 3 (some .int) [(a0, .inr (2, [.ref a0_1, .ref a0_2, .int v_n, .ref a0_3, .ref a0_4, .int v_pulses, .int v_front, .int v_least, .int v_window])), (a0_1, .inl (Z.2 0, 8, .inl v_lengths)), (a0_2, .inl (Z.2 0, 8, .inl v_fractions)), (a0_3, .inl (Z.2 0, 4, .inl v_pulseTimes)), (a0_4, .inl (Z.2 0, 4, .inl v_pulseEnergies))]) (r : Int32) (K2 : (Int32) → (Int32) → (Int32) → (Nat → Int32) → Option (Int32)) (hK2 : ∀ (x1 : Int32) (x2 : Int32), K2 x1 x2 v_n v_lengths = some r → G p l e rm_X3_partOf s m args below meth c Z A 3 (MQ below (gPost Z A (fun _ : Unit => (some (.int r) : Option Value)) (fun _ : Unit => ([] : va_W))) args s 0 0 A) [] 0 0 2 [some (.ref a0), some (.int x1), some (.int x2)] []) (x1 : Int32) (x2 : Int32) (h : F_X3_partOf_36 K2 x1 x2 v_n v_lengths = some r) : G p l e rm_X3_partOf s m args below meth c Z A 3 (MQ below (gPost Z A (fun _ : Unit => (some (.int r) : Option Value)) (fun _ : Unit => ([] : va_W))) args s 0 0 A) [] 0 0 36 [some (.ref a0), some (.int x1), some (.int x2)] [] := by
  unfold F_X3_partOf_36 at h
  refine g_iinc X 1 rfl dX3_partOf_36 39 rfl kI_1 (Nat.le_of_ble_eq_true rfl) rfl [some (.ref a0), some (.int x1), some (.int (x2 + 1))] rfl ?_
  refine g_goto X dX3_partOf_39 2 (by decide) ?_
  exact hK2 x1 (x2 + 1) h
theorem w_X3_partOf_2 {p : Program} {l : Launch} {e : Env} {s : State} {m : MethodId} {args : Array Value} {below : List Frame} {meth : Method} {c : Code} {Z : gZt} {A : Nat → Prop} (a0 : Nat) (a0_1 : Nat) (a0_2 : Nat) (a0_3 : Nat) (a0_4 : Nat) (v_n : Int32) (v_pulses : Int32) (v_front : Int32) (v_least : Int32) (v_window : Int32) (v_lengths : Nat → Int32) (v_fractions : Nat → Int32) (v_pulseTimes : Nat → Int32) (v_pulseEnergies : Nat → Int32) (X : gX p s m args meth c Z A cX3_partOf "LineEchoes$Line" 3 (some .int) [(a0, .inr (2, [.ref a0_1, .ref a0_2, .int v_n, .ref a0_3, .ref a0_4, .int v_pulses, .int v_front, .int v_least, .int v_window])), (a0_1, .inl (Z.2 0, 8, .inl v_lengths)), (a0_2, .inl (Z.2 0, 8, .inl v_fractions)), (a0_3, .inl (Z.2 0, 4, .inl v_pulseTimes)), (a0_4, .inl (Z.2 0, 4, .inl v_pulseEnergies))]) (r : Int32)  : ∀ (n : Nat) (x1 : Int32) (x2 : Int32), F_X3_partOf_2 n x1 x2 v_n v_lengths = some r → G p l e rm_X3_partOf s m args below meth c Z A 3 (MQ below (gPost Z A (fun _ : Unit => (some (.int r) : Option Value)) (fun _ : Unit => ([] : va_W))) args s 0 0 A) [] 0 0 2 [some (.ref a0), some (.int x1), some (.int x2)] [] := by
  intro n
  induction n with
  | zero =>
    intro x1 x2 h
    cases h
  | succ n hK2 =>
    intro x1 x2 h
    replace h : B_X3_partOf_2 (F_X3_partOf_2 n) x1 x2 v_n v_lengths = some r := h
    unfold B_X3_partOf_2 at h
    refine g_iload_n X rfl dX3_partOf_2 3 rfl ?_
    refine g_aload_n X rfl dX3_partOf_3 4 rfl ?_
    refine g_getR X gC2 0 rfl 2 (by decide) q131 (fun _ h9 => h9) rfl dX3_partOf_4 7 rfl ?_
    refine g_icmp_ge X dX3_partOf_7 42 (by decide) 10 rfl (fun hc => ?_) (fun hc => ?_)
    · replace h := if_t hc h
      refine g_iconst X (-1) dX3_partOf_42 43 rfl kI_m1 ?_
      cases h
      exact g_iret X dX3_partOf_43 () rfl rfl (Nat.le_of_ble_eq_true rfl) (Nat.le_of_ble_eq_true rfl)
    · replace h := if_f hc h
      refine g_iload_n X rfl dX3_partOf_10 11 rfl ?_
      refine g_iconst X 2 dX3_partOf_11 12 rfl kI_2 ?_
      refine g_aload_n X rfl dX3_partOf_12 13 rfl ?_
      refine g_iload_n X rfl dX3_partOf_13 14 rfl ?_
      obtain ⟨r1, hcl, h⟩ := bd1_e h
      refine g_callV1W X (met_X3_sum l Z a0 a0_1 a0_2 a0_3 a0_4 v_n v_pulses v_front v_least v_window v_lengths v_fractions v_pulseTimes v_pulseEnergies x2 r1 hcl) rfl 0 gC2 rfl rfl (lw_V q1037 q291 q292 q71 q293) md_X3_sum ⟨(Nat.le_of_ble_eq_true rfl), (Nat.le_of_ble_eq_true rfl)⟩ rfl dX3_partOf_14 17 rfl 0 0 rfl rfl (Nat.le_of_ble_eq_true rfl) (Nat.le_of_ble_eq_true rfl) (st := [.int 2, .int x1]) rfl (Nat.le_of_ble_eq_true rfl) (fun _ => rfl) (fun _ => ?_)
      refine g_imul X dX3_partOf_17 18 rfl ?_
      refine g_icmp_le X dX3_partOf_18 36 (by decide) 21 rfl (fun hc => ?_) (fun hc => ?_)
      · replace h := if_t hc h
        exact w_X3_partOf_36 a0 a0_1 a0_2 a0_3 a0_4 v_n v_pulses v_front v_least v_window v_lengths v_fractions v_pulseTimes v_pulseEnergies X  r _ hK2  x1 x2 h
      · replace h := if_f hc h
        refine g_iload_n X rfl dX3_partOf_21 22 rfl ?_
        refine g_iconst X 2 dX3_partOf_22 23 rfl kI_2 ?_
        refine g_aload_n X rfl dX3_partOf_23 24 rfl ?_
        refine g_iload_n X rfl dX3_partOf_24 25 rfl ?_
        refine g_iconst X 1 dX3_partOf_25 26 rfl kI_1 ?_
        refine g_iadd X dX3_partOf_26 27 rfl ?_
        obtain ⟨r2, hcl, h⟩ := bd1_e h
        refine g_callV1W X (met_X3_sum l Z a0 a0_1 a0_2 a0_3 a0_4 v_n v_pulses v_front v_least v_window v_lengths v_fractions v_pulseTimes v_pulseEnergies (x2 + 1) r2 hcl) rfl 0 gC2 rfl rfl (lw_V q1037 q291 q292 q71 q293) md_X3_sum ⟨(Nat.le_of_ble_eq_true rfl), (Nat.le_of_ble_eq_true rfl)⟩ rfl dX3_partOf_27 30 rfl 0 0 rfl rfl (Nat.le_of_ble_eq_true rfl) (Nat.le_of_ble_eq_true rfl) (st := [.int 2, .int x1]) rfl (Nat.le_of_ble_eq_true rfl) (fun _ => rfl) (fun _ => ?_)
        refine g_imul X dX3_partOf_30 31 rfl ?_
        refine g_icmp_gt X dX3_partOf_31 36 (by decide) 34 rfl (fun hc => ?_) (fun hc => ?_)
        · replace h := if_t hc h
          exact w_X3_partOf_36 a0 a0_1 a0_2 a0_3 a0_4 v_n v_pulses v_front v_least v_window v_lengths v_fractions v_pulseTimes v_pulseEnergies X  r _ hK2  x1 x2 h
        · replace h := if_f hc h
          refine g_iload_n X rfl dX3_partOf_34 35 rfl ?_
          cases h
          exact g_iret X dX3_partOf_35 () rfl rfl (Nat.le_of_ble_eq_true rfl) (Nat.le_of_ble_eq_true rfl)
theorem met_X3_partOf (l : Launch) (Z : gZt) (a0 : Nat) (a0_1 : Nat) (a0_2 : Nat) (a0_3 : Nat) (a0_4 : Nat) (v_n : Int32) (v_pulses : Int32) (v_front : Int32) (v_least : Int32) (v_window : Int32) (v_lengths : Nat → Int32) (v_fractions : Nat → Int32) (v_pulseTimes : Nat → Int32) (v_pulseEnergies : Nat → Int32) (x1 : Int32) (r : Int32) (h : F_X3_partOf v_n v_lengths x1 = some r) : Ct l yX3_partOf (ws_ yX3_partOf cX3_partOf 3 (some .int)) rm_X3_partOf Z [.ref a0, .int x1] [] [(a0, .inr (2, [.ref a0_1, .ref a0_2, .int v_n, .ref a0_3, .ref a0_4, .int v_pulses, .int v_front, .int v_least, .int v_window])), (a0_1, .inl (Z.2 0, 8, .inl v_lengths)), (a0_2, .inl (Z.2 0, 8, .inl v_fractions)), (a0_3, .inl (Z.2 0, 4, .inl v_pulseTimes)), (a0_4, .inl (Z.2 0, 4, .inl v_pulseEnergies))] (fun _ : Unit => (some (.int r) : Option Value)) (fun _ : Unit => ([] : va_W)) := by
  refine Ct.of cX3_partOf 3 (some .int) "LineEchoes$Line" [some (.ref a0), some (.int x1), none] 1 (by decide) rfl (Nat.le_of_ble_eq_true rfl) rfl (fun p e s m args below meth c A X hin => ?_)
  unfold F_X3_partOf at h
  refine g_iconst X 0 dX3_partOf_0 1 rfl kI_0 ?_
  refine g_istore_n X dX3_partOf_1 2 rfl (Nat.le_of_ble_eq_true rfl) rfl [some (.ref a0), some (.int x1), some (.int 0)] rfl ?_
  exact w_X3_partOf_2 a0 a0_1 a0_2 a0_3 a0_4 v_n v_pulses v_front v_least v_window v_lengths v_fractions v_pulseTimes v_pulseEnergies X  r    gFU x1 0 h
/-! LineEchoes$Line.value(I)I -/
abbrev rm_X3_value : Room := { frames := 1, cells := 0, slots := 0, locals := 23 }
def F_X3_value (v_n : Int32) (v_pulses : Int32) (v_front : Int32) (v_least : Int32) (v_window : Int32) (v_lengths : Nat → Int32) (x1 : Int32) : Option (Int32) :=
  if x1 = 0 then
    (some v_n)
  else
    (if x1 = 1 then
      (some v_pulses)
    else
      (if x1 = 2 then
        (some v_front)
      else
        (if x1 = 3 then
          (some v_least)
        else
          (if x1 = 4 then
            (some v_window)
          else
            (bd1 (F_X3_sum v_lengths v_n) fun r1 =>
            some r1)))))
theorem met_X3_value (l : Launch) (Z : gZt) (a0 : Nat) (a0_1 : Nat) (a0_2 : Nat) (a0_3 : Nat) (a0_4 : Nat) (v_n : Int32) (v_pulses : Int32) (v_front : Int32) (v_least : Int32) (v_window : Int32) (v_lengths : Nat → Int32) (v_fractions : Nat → Int32) (v_pulseTimes : Nat → Int32) (v_pulseEnergies : Nat → Int32) (x1 : Int32) (r : Int32) (h : F_X3_value v_n v_pulses v_front v_least v_window v_lengths x1 = some r) : Ct l yX3_value (ws_ yX3_value cX3_value 2 (some .int)) rm_X3_value Z [.ref a0, .int x1] [] [(a0, .inr (2, [.ref a0_1, .ref a0_2, .int v_n, .ref a0_3, .ref a0_4, .int v_pulses, .int v_front, .int v_least, .int v_window])), (a0_1, .inl (Z.2 0, 8, .inl v_lengths)), (a0_2, .inl (Z.2 0, 8, .inl v_fractions)), (a0_3, .inl (Z.2 0, 4, .inl v_pulseTimes)), (a0_4, .inl (Z.2 0, 4, .inl v_pulseEnergies))] (fun _ : Unit => (some (.int r) : Option Value)) (fun _ : Unit => ([] : va_W)) := by
  refine Ct.of cX3_value 2 (some .int) "LineEchoes$Line" [some (.ref a0), some (.int x1)] 0 (by decide) rfl (Nat.le_of_ble_eq_true rfl) rfl (fun p e s m args below meth c A X hin => ?_)
  unfold F_X3_value at h
  refine g_iload_n X rfl dX3_value_0 1 rfl ?_
  by_cases hc0 : x1 = 0
  · replace h := if_t hc0 h
    refine g_tabIn X dX3_value_1 36 0 hc0 (by decide) (by decide) rfl (by decide) ?_
    refine g_aload_n X rfl dX3_value_36 37 rfl ?_
    refine g_getR X gC2 0 rfl 2 (by decide) q131 (fun _ h9 => h9) rfl dX3_value_37 40 rfl ?_
    cases h
    exact g_iret X dX3_value_40 () rfl rfl (Nat.le_of_ble_eq_true rfl) (Nat.le_of_ble_eq_true rfl)
  replace h := if_f hc0 h
  by_cases hc1 : x1 = 1
  · replace h := if_t hc1 h
    refine g_tabIn X dX3_value_1 41 1 hc1 (by decide) (by decide) rfl (by decide) ?_
    refine g_aload_n X rfl dX3_value_41 42 rfl ?_
    refine g_getR X gC2 0 rfl 5 (by decide) q141 (fun _ h9 => h9) rfl dX3_value_42 45 rfl ?_
    cases h
    exact g_iret X dX3_value_45 () rfl rfl (Nat.le_of_ble_eq_true rfl) (Nat.le_of_ble_eq_true rfl)
  replace h := if_f hc1 h
  by_cases hc2 : x1 = 2
  · replace h := if_t hc2 h
    refine g_tabIn X dX3_value_1 46 2 hc2 (by decide) (by decide) rfl (by decide) ?_
    refine g_aload_n X rfl dX3_value_46 47 rfl ?_
    refine g_getR X gC2 0 rfl 6 (by decide) q145 (fun _ h9 => h9) rfl dX3_value_47 50 rfl ?_
    cases h
    exact g_iret X dX3_value_50 () rfl rfl (Nat.le_of_ble_eq_true rfl) (Nat.le_of_ble_eq_true rfl)
  replace h := if_f hc2 h
  by_cases hc3 : x1 = 3
  · replace h := if_t hc3 h
    refine g_tabIn X dX3_value_1 51 3 hc3 (by decide) (by decide) rfl (by decide) ?_
    refine g_aload_n X rfl dX3_value_51 52 rfl ?_
    refine g_getR X gC2 0 rfl 7 (by decide) q147 (fun _ h9 => h9) rfl dX3_value_52 55 rfl ?_
    cases h
    exact g_iret X dX3_value_55 () rfl rfl (Nat.le_of_ble_eq_true rfl) (Nat.le_of_ble_eq_true rfl)
  replace h := if_f hc3 h
  by_cases hc4 : x1 = 4
  · replace h := if_t hc4 h
    refine g_tabIn X dX3_value_1 56 4 hc4 (by decide) (by decide) rfl (by decide) ?_
    refine g_aload_n X rfl dX3_value_56 57 rfl ?_
    refine g_getR X gC2 0 rfl 8 (by decide) q149 (fun _ h9 => h9) rfl dX3_value_57 60 rfl ?_
    cases h
    exact g_iret X dX3_value_60 () rfl rfl (Nat.le_of_ble_eq_true rfl) (Nat.le_of_ble_eq_true rfl)
  replace h := if_f hc4 h
  refine g_tabOut X dX3_value_1 61 (g_rng (lo := 0) (n := 5) (fun i hi => match i, hi with | 0, _ => lv_neT hc0 (by decide) | 1, _ => lv_neT hc1 (by decide) | 2, _ => lv_neT hc2 (by decide) | 3, _ => lv_neT hc3 (by decide) | 4, _ => lv_neT hc4 (by decide) | n + 5, hi => absurd hi (by omega)) (by decide)) (by decide) ?_
  refine g_aload_n X rfl dX3_value_61 62 rfl ?_
  refine g_aload_n X rfl dX3_value_62 63 rfl ?_
  refine g_getR X gC2 0 rfl 2 (by decide) q131 (fun _ h9 => h9) rfl dX3_value_63 66 rfl ?_
  obtain ⟨r1, hcl, h⟩ := bd1_e h
  refine g_callV1W X (met_X3_sum l Z a0 a0_1 a0_2 a0_3 a0_4 v_n v_pulses v_front v_least v_window v_lengths v_fractions v_pulseTimes v_pulseEnergies v_n r1 hcl) rfl 0 gC2 rfl rfl (lw_V q1037 q291 q292 q71 q293) md_X3_sum ⟨(Nat.le_of_ble_eq_true rfl), (Nat.le_of_ble_eq_true rfl)⟩ rfl dX3_value_66 69 rfl 0 0 rfl rfl (Nat.le_of_ble_eq_true rfl) (Nat.le_of_ble_eq_true rfl) (st := []) rfl (Nat.le_of_ble_eq_true rfl) (fun _ => rfl) (fun _ => ?_)
  cases h
  exact g_iret X dX3_value_69 () rfl rfl (Nat.le_of_ble_eq_true rfl) (Nat.le_of_ble_eq_true rfl)
/-! LineEchoes$Kept.<init>()V -/
abbrev rm_X4_init : Room := { frames := 1, cells := 1, slots := 201, locals := 40 }
def F_X4_init : Option ((Nat → Int64)) :=
  some (fun _ => 0)
theorem met_X4_init (l : Launch) (Z : gZt) (a0 : Nat) (o0 : Nat → Int64) (h : F_X4_init = some o0) : Ct l yX4_init (ws_ yX4_init cX4_init 1 none) rm_X4_init Z [.ref a0] [(a0, .inr (3, [.null]))] [] (fun b0 : Nat => (none : Option Value)) (fun b0 : Nat => ([(a0, .inr (3, [.ref b0])), (b0, .inl (Z.2 1, 201, .inr (.inl o0)))] : va_W)) := by
  refine Ct.of cX4_init 1 none "LineEchoes$Kept" [some (.ref a0)] 0 (by decide) rfl (Nat.le_of_ble_eq_true rfl) rfl (fun p e s m args below meth c A X hin => ?_)
  replace hin : True → meth.name = "<init>" := fun _ => hin rfl
  unfold F_X4_init at h
  refine g_aload_n X rfl dX4_init_0 1 rfl ?_
  refine g_objInit X q184 q104 q105 dX4_init_1 4 rfl (Nat.le_of_ble_eq_true rfl) (Nat.le_of_ble_eq_true rfl) ?_
  refine g_aload_n X rfl dX4_init_4 5 rfl ?_
  refine g_sipush X 201 dX4_init_5 8 rfl kS_201 ?_
  refine g_newa1 X q189 201 (by decide) rfl (Nat.le_of_ble_eq_true rfl) dX4_init_8 10 rfl 1 201 rfl rfl (Nat.le_of_ble_eq_true rfl) (Nat.le_of_ble_eq_true rfl) (fun b1 => ?_)
  refine g_putF X gC3 0 rfl 0 (by decide) q185 (fun _ h9 => h9) rfl (hin trivial) rfl rfl rfl (Nat.le_of_ble_eq_true rfl) dX4_init_10 13 rfl ?_
  cases h
  exact g_vret X dX4_init_13 b1 rfl rfl (Nat.le_of_ble_eq_true rfl) (Nat.le_of_ble_eq_true rfl)
/-! LineEchoes$Kept.at(I)J -/
abbrev rm_X4_at : Room := { frames := 0, cells := 0, slots := 0, locals := 0 }
def F_X4_at (v_energies : Nat → Int64) (x1 : Int32) : Option (Int64) :=
  gin x1 201 <|
  some (v_energies x1.toNatClampNeg)
theorem met_X4_at (l : Launch) (Z : gZt) (a0 : Nat) (a0_1 : Nat) (v_energies : Nat → Int64) (x1 : Int32) (r : Int64) (h : F_X4_at v_energies x1 = some r) : Ct l yX4_at (ws_ yX4_at cX4_at 2 (some .long)) rm_X4_at Z [.ref a0, .int x1] [] [(a0, .inr (3, [.ref a0_1])), (a0_1, .inl (Z.2 1, 201, .inr (.inl v_energies)))] (fun _ : Unit => (some (.long r) : Option Value)) (fun _ : Unit => ([] : va_W)) := by
  refine Ct.of cX4_at 2 (some .long) "LineEchoes$Kept" [some (.ref a0), some (.int x1)] 0 (by decide) rfl (Nat.le_of_ble_eq_true rfl) rfl (fun p e s m args below meth c A X hin => ?_)
  unfold F_X4_at at h
  refine g_aload_n X rfl dX4_at_0 1 rfl ?_
  refine g_getR X gC3 0 rfl 0 (by decide) q185 (fun _ h9 => h9) rfl dX4_at_1 4 rfl ?_
  refine g_iload_n X rfl dX4_at_4 5 rfl ?_
  obtain ⟨hi, h⟩ := gin_e h
  refine g_laldR X 1 rfl hi dX4_at_5 6 rfl ?_
  cases h
  exact g_lret X dX4_at_6 () rfl rfl (Nat.le_of_ble_eq_true rfl) (Nat.le_of_ble_eq_true rfl)
/-! java/util/Arrays.fill([JJ)V -/
abbrev rm_J8_fill1809 : Room := { frames := 0, cells := 0, slots := 0, locals := 0 }
def B_J8_fill1809_6 (K6 : (Nat → Int64) → (Int64) → (Int32) → (Int32) → Option ((Nat → Int64))) (v_a : Nat → Int64) (x1 : Int64) (x3 : Int32) (x4 : Int32) : Option ((Nat → Int64)) :=
  if x4 ≤ x3 then
    (some v_a)
  else
    (gin x3 1809 <|
    K6 (vp_updL v_a x3.toNatClampNeg x1) x1 (x3 + 1) x4)
def F_J8_fill1809_6 : Nat → (Nat → Int64) → (Int64) → (Int32) → (Int32) → Option ((Nat → Int64))
  | 0 => fun _ _ _ _ => none
  | n + 1 => B_J8_fill1809_6 (F_J8_fill1809_6 n)
def F_J8_fill1809 (v_a : Nat → Int64) (x1 : Int64) : Option ((Nat → Int64)) :=
  F_J8_fill1809_6 gFU v_a x1 0 1809
theorem w_J8_fill1809_6 {p : Program} {l : Launch} {e : Env} {s : State} {m : MethodId} {args : Array Value} {below : List Frame} {meth : Method} {c : Code} {Z : gZt} {A : Nat → Prop} (a0 : Nat) (X : gX p s m args meth c Z A cJ8_fill "java/util/Arrays" 5 none []) (r_a : Nat → Int64)  : ∀ (n : Nat) (v_a : Nat → Int64) (x1 : Int64) (x3 : Int32) (x4 : Int32), F_J8_fill1809_6 n v_a x1 x3 x4 = some r_a → G p l e rm_J8_fill1809 s m args below meth c Z A 5 (MQ below (gPost Z A (fun _ : Unit => (none : Option Value)) (fun _ : Unit => ([(a0, .inl (Z.2 1, 1809, .inr (.inl r_a)))] : va_W))) args s 0 0 A) [(a0, .inl (Z.2 1, 1809, .inr (.inl v_a)))] 0 0 6 [some (.ref a0), some (.long x1), none, some (.int x3), some (.int x4)] [] := by
  intro n
  induction n with
  | zero =>
    intro v_a x1 x3 x4 h
    cases h
  | succ n hK6 =>
    intro v_a x1 x3 x4 h
    replace h : B_J8_fill1809_6 (F_J8_fill1809_6 n) v_a x1 x3 x4 = some r_a := h
    unfold B_J8_fill1809_6 at h
    refine g_iload_n X rfl dJ8_fill_6 7 rfl ?_
    refine g_iload X rfl dJ8_fill_7 9 rfl ?_
    refine g_icmp_ge X dJ8_fill_9 22 (by decide) 12 rfl (fun hc => ?_) (fun hc => ?_)
    · replace h := if_t hc h
      cases h
      exact g_vret X dJ8_fill_22 () rfl rfl (Nat.le_of_ble_eq_true rfl) (Nat.le_of_ble_eq_true rfl)
    · replace h := if_f hc h
      refine g_aload_n X rfl dJ8_fill_12 13 rfl ?_
      refine g_iload_n X rfl dJ8_fill_13 14 rfl ?_
      refine g_lload_n X rfl dJ8_fill_14 15 rfl ?_
      obtain ⟨hi, h⟩ := gin_e h
      refine g_last X 0 rfl hi dJ8_fill_15 16 rfl ?_
      refine g_iinc X 1 rfl dJ8_fill_16 19 rfl kI_1 (Nat.le_of_ble_eq_true rfl) rfl [some (.ref a0), some (.long x1), none, some (.int (x3 + 1)), some (.int x4)] rfl ?_
      refine g_goto X dJ8_fill_19 6 (by decide) ?_
      exact hK6 (vp_updL v_a x3.toNatClampNeg x1) x1 (x3 + 1) x4 h
theorem met_J8_fill1809 (l : Launch) (Z : gZt) (a0 : Nat) (v_a : Nat → Int64) (x1 : Int64) (r_a : Nat → Int64) (h : F_J8_fill1809 v_a x1 = some r_a) : Ct l yJ8_fill (ws_ yJ8_fill cJ8_fill 5 none) rm_J8_fill1809 Z [.ref a0, .long x1] [(a0, .inl (Z.2 1, 1809, .inr (.inl v_a)))] [] (fun _ : Unit => (none : Option Value)) (fun _ : Unit => ([(a0, .inl (Z.2 1, 1809, .inr (.inl r_a)))] : va_W)) := by
  refine Ct.of cJ8_fill 5 none "java/util/Arrays" [some (.ref a0), some (.long x1), none, none, none] 2 (by decide) rfl (Nat.le_of_ble_eq_true rfl) rfl (fun p e s m args below meth c A X hin => ?_)
  unfold F_J8_fill1809 at h
  refine g_iconst X 0 dJ8_fill_0 1 rfl kI_0 ?_
  refine g_istore_n X dJ8_fill_1 2 rfl (Nat.le_of_ble_eq_true rfl) rfl [some (.ref a0), some (.long x1), none, some (.int 0), none] rfl ?_
  refine g_aload_n X rfl dJ8_fill_2 3 rfl ?_
  refine g_alen1 X 0 rfl 1809 rfl dJ8_fill_3 4 rfl ?_
  refine g_istore X dJ8_fill_4 6 rfl (Nat.le_of_ble_eq_true rfl) rfl [some (.ref a0), some (.long x1), none, some (.int 0), some (.int 1809)] rfl ?_
  exact w_J8_fill1809_6 a0  X  r_a    gFU v_a x1 0 1809 h
/-! java/util/Arrays.fill([JJ)V -/
abbrev rm_J8_fill201 : Room := { frames := 0, cells := 0, slots := 0, locals := 0 }
def B_J8_fill201_6 (K6 : (Nat → Int64) → (Int64) → (Int32) → (Int32) → Option ((Nat → Int64))) (v_a : Nat → Int64) (x1 : Int64) (x3 : Int32) (x4 : Int32) : Option ((Nat → Int64)) :=
  if x4 ≤ x3 then
    (some v_a)
  else
    (gin x3 201 <|
    K6 (vp_updL v_a x3.toNatClampNeg x1) x1 (x3 + 1) x4)
def F_J8_fill201_6 : Nat → (Nat → Int64) → (Int64) → (Int32) → (Int32) → Option ((Nat → Int64))
  | 0 => fun _ _ _ _ => none
  | n + 1 => B_J8_fill201_6 (F_J8_fill201_6 n)
def F_J8_fill201 (v_a : Nat → Int64) (x1 : Int64) : Option ((Nat → Int64)) :=
  F_J8_fill201_6 gFU v_a x1 0 201
theorem w_J8_fill201_6 {p : Program} {l : Launch} {e : Env} {s : State} {m : MethodId} {args : Array Value} {below : List Frame} {meth : Method} {c : Code} {Z : gZt} {A : Nat → Prop} (a0 : Nat) (X : gX p s m args meth c Z A cJ8_fill "java/util/Arrays" 5 none []) (r_a : Nat → Int64)  : ∀ (n : Nat) (v_a : Nat → Int64) (x1 : Int64) (x3 : Int32) (x4 : Int32), F_J8_fill201_6 n v_a x1 x3 x4 = some r_a → G p l e rm_J8_fill201 s m args below meth c Z A 5 (MQ below (gPost Z A (fun _ : Unit => (none : Option Value)) (fun _ : Unit => ([(a0, .inl (Z.2 1, 201, .inr (.inl r_a)))] : va_W))) args s 0 0 A) [(a0, .inl (Z.2 1, 201, .inr (.inl v_a)))] 0 0 6 [some (.ref a0), some (.long x1), none, some (.int x3), some (.int x4)] [] := by
  intro n
  induction n with
  | zero =>
    intro v_a x1 x3 x4 h
    cases h
  | succ n hK6 =>
    intro v_a x1 x3 x4 h
    replace h : B_J8_fill201_6 (F_J8_fill201_6 n) v_a x1 x3 x4 = some r_a := h
    unfold B_J8_fill201_6 at h
    refine g_iload_n X rfl dJ8_fill_6 7 rfl ?_
    refine g_iload X rfl dJ8_fill_7 9 rfl ?_
    refine g_icmp_ge X dJ8_fill_9 22 (by decide) 12 rfl (fun hc => ?_) (fun hc => ?_)
    · replace h := if_t hc h
      cases h
      exact g_vret X dJ8_fill_22 () rfl rfl (Nat.le_of_ble_eq_true rfl) (Nat.le_of_ble_eq_true rfl)
    · replace h := if_f hc h
      refine g_aload_n X rfl dJ8_fill_12 13 rfl ?_
      refine g_iload_n X rfl dJ8_fill_13 14 rfl ?_
      refine g_lload_n X rfl dJ8_fill_14 15 rfl ?_
      obtain ⟨hi, h⟩ := gin_e h
      refine g_last X 0 rfl hi dJ8_fill_15 16 rfl ?_
      refine g_iinc X 1 rfl dJ8_fill_16 19 rfl kI_1 (Nat.le_of_ble_eq_true rfl) rfl [some (.ref a0), some (.long x1), none, some (.int (x3 + 1)), some (.int x4)] rfl ?_
      refine g_goto X dJ8_fill_19 6 (by decide) ?_
      exact hK6 (vp_updL v_a x3.toNatClampNeg x1) x1 (x3 + 1) x4 h
theorem met_J8_fill201 (l : Launch) (Z : gZt) (a0 : Nat) (v_a : Nat → Int64) (x1 : Int64) (r_a : Nat → Int64) (h : F_J8_fill201 v_a x1 = some r_a) : Ct l yJ8_fill (ws_ yJ8_fill cJ8_fill 5 none) rm_J8_fill201 Z [.ref a0, .long x1] [(a0, .inl (Z.2 1, 201, .inr (.inl v_a)))] [] (fun _ : Unit => (none : Option Value)) (fun _ : Unit => ([(a0, .inl (Z.2 1, 201, .inr (.inl r_a)))] : va_W)) := by
  refine Ct.of cJ8_fill 5 none "java/util/Arrays" [some (.ref a0), some (.long x1), none, none, none] 2 (by decide) rfl (Nat.le_of_ble_eq_true rfl) rfl (fun p e s m args below meth c A X hin => ?_)
  unfold F_J8_fill201 at h
  refine g_iconst X 0 dJ8_fill_0 1 rfl kI_0 ?_
  refine g_istore_n X dJ8_fill_1 2 rfl (Nat.le_of_ble_eq_true rfl) rfl [some (.ref a0), some (.long x1), none, some (.int 0), none] rfl ?_
  refine g_aload_n X rfl dJ8_fill_2 3 rfl ?_
  refine g_alen1 X 0 rfl 201 rfl dJ8_fill_3 4 rfl ?_
  refine g_istore X dJ8_fill_4 6 rfl (Nat.le_of_ble_eq_true rfl) rfl [some (.ref a0), some (.long x1), none, some (.int 0), some (.int 201)] rfl ?_
  exact w_J8_fill201_6 a0  X  r_a    gFU v_a x1 0 201 h
