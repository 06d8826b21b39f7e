/-! 30.words (printed by gen/system.py) -/
set_option maxRecDepth 100000
theorem md_J7_equals : gMd yJ7_equals 1 := by unfold gMd; decide +kernel
theorem md_J7_hashCode : gMd yJ7_hashCode 0 := by unfold gMd; decide +kernel
/-! LineEchoes.numbersOf(Ljava/lang/String;)I -/
abbrev rm_X1_numbersOf : Room := { frames := 4, cells := 0, slots := 0, locals := 90 }
def F_X1_numbersOf_195 (v_hash : Int32) (v_hz : Int32) (x2 : Int32) : Option (Int32 × Int32 × Int32) :=
  if x2 = 0 then
    (some (3, v_hash, v_hz))
  else
    (if x2 = 1 then
      (some (3, v_hash, v_hz))
    else
      (if x2 = 2 then
        (some (2, v_hash, v_hz))
      else
        (if x2 = 3 then
          (some (2, v_hash, v_hz))
        else
          (if x2 = 4 then
            (some (1, v_hash, v_hz))
          else
            (if x2 = 5 then
              (some (0, v_hash, v_hz))
            else
              (if x2 = 6 then
                (some (0, v_hash, v_hz))
              else
                (if x2 = 7 then
                  (some (0, v_hash, v_hz))
                else
                  (some ((-1), v_hash, v_hz)))))))))
def F_X1_numbersOf (v_hash : Int32) (v_hz : Int32) (v_sb : Nat → Int32) (v_slen : Nat) : Option (Int32 × Int32 × Int32) :=
  bd3 (F_J7_hashCode v_hash v_hz v_sb v_slen) fun r1 w2_hash w3_hz =>
  if r1 = 98882 then
    (bd1 (F_J7_equals v_sb v_slen ([99, 117, 116])) fun r4 =>
    if r4 = 0 then
      (F_X1_numbersOf_195 w2_hash w3_hz (-1))
    else
      (F_X1_numbersOf_195 w2_hash w3_hz 4))
  else
    (if r1 = 113762 then
      (bd1 (F_J7_equals v_sb v_slen ([115, 101, 116])) fun r5 =>
      if r5 = 0 then
        (F_X1_numbersOf_195 w2_hash w3_hz (-1))
      else
        (F_X1_numbersOf_195 w2_hash w3_hz 0))
    else
      (if r1 = 3327647 then
        (bd1 (F_J7_equals v_sb v_slen ([108, 111, 111, 107])) fun r6 =>
        if r6 = 0 then
          (F_X1_numbersOf_195 w2_hash w3_hz (-1))
        else
          (F_X1_numbersOf_195 w2_hash w3_hz 6))
      else
        (if r1 = 3433459 then
          (bd1 (F_J7_equals v_sb v_slen ([112, 97, 114, 116])) fun r7 =>
          if r7 = 0 then
            (F_X1_numbersOf_195 w2_hash w3_hz (-1))
          else
            (F_X1_numbersOf_195 w2_hash w3_hz 2))
        else
          (if r1 = 92670896 then
            (bd1 (F_J7_equals v_sb v_slen ([97, 100, 111, 112, 116])) fun r8 =>
            if r8 = 0 then
              (F_X1_numbersOf_195 w2_hash w3_hz (-1))
            else
              (F_X1_numbersOf_195 w2_hash w3_hz 7))
          else
            (if r1 = 107027353 then
              (bd1 (F_J7_equals v_sb v_slen ([112, 117, 108, 115, 101])) fun r9 =>
              if r9 = 0 then
                (F_X1_numbersOf_195 w2_hash w3_hz (-1))
              else
                (F_X1_numbersOf_195 w2_hash w3_hz 3))
            else
              (if r1 = 109627663 then
                (bd1 (F_J7_equals v_sb v_slen ([115, 111, 117, 110, 100])) fun r10 =>
                if r10 = 0 then
                  (F_X1_numbersOf_195 w2_hash w3_hz (-1))
                else
                  (F_X1_numbersOf_195 w2_hash w3_hz 5))
              else
                (if r1 = 109648666 then
                  (bd1 (F_J7_equals v_sb v_slen ([115, 112, 108, 105, 116])) fun r11 =>
                  if r11 = 0 then
                    (F_X1_numbersOf_195 w2_hash w3_hz (-1))
                  else
                    (F_X1_numbersOf_195 w2_hash w3_hz 1))
                else
                  (F_X1_numbersOf_195 w2_hash w3_hz (-1)))))))))
theorem w_X1_numbersOf_195 {p : Program} {l : Launch} {e : Env} {s : State} {m : MethodId} {args : Array Value} {below : List Frame} {meth : Method} {c : Code} {Z : gZt} {A : Nat → Prop} (a0 : Nat) (a1 : Nat) (v_sb : Nat → Int32) (v_slen : Nat) (X : gX p s m args meth c Z A cX1_numbersOf "LineEchoes" 3 (some .int) [(a1, .inl (Z.2 2, v_slen, .inl v_sb))]) (r : Int32) (r_hash : Int32) (r_hz : Int32)  (v_hash : Int32) (v_hz : Int32) (x2 : Int32) (h : F_X1_numbersOf_195 v_hash v_hz x2 = some (r, r_hash, r_hz)) : G p l e rm_X1_numbersOf s m args below meth c Z A 3 (MQ below (gPost Z A (fun _ : Unit => (some (.int r) : Option Value)) (fun _ : Unit => ([(a0, .inr (8, [.ref a1, .int 0, .int r_hash, .int r_hz]))] : va_W))) args s 0 0 A) [(a0, .inr (8, [.ref a1, .int 0, .int v_hash, .int v_hz]))] 0 0 195 [none, none, some (.int x2)] [] := by
  unfold F_X1_numbersOf_195 at h
  refine g_iload_n X rfl dX1_numbersOf_195 196 rfl ?_
  by_cases hc0 : x2 = 0
  · replace h := if_t hc0 h
    refine g_tabIn X dX1_numbersOf_196 244 0 hc0 (by decide) (by decide) rfl (by decide) ?_
    refine g_iconst X 3 dX1_numbersOf_244 245 rfl kI_3 ?_
    cases h
    exact g_iret X dX1_numbersOf_245 () rfl rfl (Nat.le_of_ble_eq_true rfl) (Nat.le_of_ble_eq_true rfl)
  replace h := if_f hc0 h
  by_cases hc1 : x2 = 1
  · replace h := if_t hc1 h
    refine g_tabIn X dX1_numbersOf_196 244 1 hc1 (by decide) (by decide) rfl (by decide) ?_
    refine g_iconst X 3 dX1_numbersOf_244 245 rfl kI_3 ?_
    cases h
    exact g_iret X dX1_numbersOf_245 () rfl rfl (Nat.le_of_ble_eq_true rfl) (Nat.le_of_ble_eq_true rfl)
  replace h := if_f hc1 h
  by_cases hc2 : x2 = 2
  · replace h := if_t hc2 h
    refine g_tabIn X dX1_numbersOf_196 246 2 hc2 (by decide) (by decide) rfl (by decide) ?_
    refine g_iconst X 2 dX1_numbersOf_246 247 rfl kI_2 ?_
    cases h
    exact g_iret X dX1_numbersOf_247 () rfl rfl (Nat.le_of_ble_eq_true rfl) (Nat.le_of_ble_eq_true rfl)
  replace h := if_f hc2 h
  by_cases hc3 : x2 = 3
  · replace h := if_t hc3 h
    refine g_tabIn X dX1_numbersOf_196 246 3 hc3 (by decide) (by decide) rfl (by decide) ?_
    refine g_iconst X 2 dX1_numbersOf_246 247 rfl kI_2 ?_
    cases h
    exact g_iret X dX1_numbersOf_247 () rfl rfl (Nat.le_of_ble_eq_true rfl) (Nat.le_of_ble_eq_true rfl)
  replace h := if_f hc3 h
  by_cases hc4 : x2 = 4
  · replace h := if_t hc4 h
    refine g_tabIn X dX1_numbersOf_196 248 4 hc4 (by decide) (by decide) rfl (by decide) ?_
    refine g_iconst X 1 dX1_numbersOf_248 249 rfl kI_1 ?_
    cases h
    exact g_iret X dX1_numbersOf_249 () rfl rfl (Nat.le_of_ble_eq_true rfl) (Nat.le_of_ble_eq_true rfl)
  replace h := if_f hc4 h
  by_cases hc5 : x2 = 5
  · replace h := if_t hc5 h
    refine g_tabIn X dX1_numbersOf_196 250 5 hc5 (by decide) (by decide) rfl (by decide) ?_
    refine g_iconst X 0 dX1_numbersOf_250 251 rfl kI_0 ?_
    cases h
    exact g_iret X dX1_numbersOf_251 () rfl rfl (Nat.le_of_ble_eq_true rfl) (Nat.le_of_ble_eq_true rfl)
  replace h := if_f hc5 h
  by_cases hc6 : x2 = 6
  · replace h := if_t hc6 h
    refine g_tabIn X dX1_numbersOf_196 250 6 hc6 (by decide) (by decide) rfl (by decide) ?_
    refine g_iconst X 0 dX1_numbersOf_250 251 rfl kI_0 ?_
    cases h
    exact g_iret X dX1_numbersOf_251 () rfl rfl (Nat.le_of_ble_eq_true rfl) (Nat.le_of_ble_eq_true rfl)
  replace h := if_f hc6 h
  by_cases hc7 : x2 = 7
  · replace h := if_t hc7 h
    refine g_tabIn X dX1_numbersOf_196 250 7 hc7 (by decide) (by decide) rfl (by decide) ?_
    refine g_iconst X 0 dX1_numbersOf_250 251 rfl kI_0 ?_
    cases h
    exact g_iret X dX1_numbersOf_251 () rfl rfl (Nat.le_of_ble_eq_true rfl) (Nat.le_of_ble_eq_true rfl)
  replace h := if_f hc7 h
  refine g_tabOut X dX1_numbersOf_196 252 (g_rng (lo := 0) (n := 8) (fun i hi => match i, hi with | 0, _ => lv_neT hc0 (by decide) | 1, _ => lv_neT hc1 (by decide) | 2, _ => lv_neT hc2 (by decide) | 3, _ => lv_neT hc3 (by decide) | 4, _ => lv_neT hc4 (by decide) | 5, _ => lv_neT hc5 (by decide) | 6, _ => lv_neT hc6 (by decide) | 7, _ => lv_neT hc7 (by decide) | n + 8, hi => absurd hi (by omega)) (by decide)) (by decide) ?_
  refine g_iconst X (-1) dX1_numbersOf_252 253 rfl kI_m1 ?_
  cases h
  exact g_iret X dX1_numbersOf_253 () rfl rfl (Nat.le_of_ble_eq_true rfl) (Nat.le_of_ble_eq_true rfl)
theorem met_X1_numbersOf (l : Launch) (Z : gZt) (a0 : Nat) (a1 : Nat) (v_hash : Int32) (v_hz : Int32) (v_sb : Nat → Int32) (v_slen : Nat) (r : Int32) (r_hash : Int32) (r_hz : Int32) (h : F_X1_numbersOf v_hash v_hz v_sb v_slen = some (r, r_hash, r_hz)) : Ct l yX1_numbersOf (ws_ yX1_numbersOf cX1_numbersOf 3 (some .int)) rm_X1_numbersOf Z [.ref a0] [(a0, .inr (8, [.ref a1, .int 0, .int v_hash, .int v_hz]))] [(a1, .inl (Z.2 2, v_slen, .inl v_sb))] (fun _ : Unit => (some (.int r) : Option Value)) (fun _ : Unit => ([(a0, .inr (8, [.ref a1, .int 0, .int r_hash, .int r_hz]))] : va_W)) := by
  refine Ct.of cX1_numbersOf 3 (some .int) "LineEchoes" [some (.ref a0), none, none] 2 (by decide) rfl (Nat.le_of_ble_eq_true rfl) rfl (fun p e s m args below meth c A X hin => ?_)
  unfold F_X1_numbersOf at h
  refine g_aload_n X rfl dX1_numbersOf_0 1 rfl ?_
  refine g_astore_n X dX1_numbersOf_1 2 rfl (Nat.le_of_ble_eq_true rfl) rfl [some (.ref a0), some (.ref a0), none] rfl ?_
  refine g_iconst X (-1) dX1_numbersOf_2 3 rfl kI_m1 ?_
  refine g_istore_n X dX1_numbersOf_3 4 rfl (Nat.le_of_ble_eq_true rfl) rfl [some (.ref a0), some (.ref a0), some (.int (-1))] rfl ?_
  refine g_aload_n X rfl dX1_numbersOf_4 5 rfl ?_
  obtain ⟨r1, w2_hash, w3_hz, hcl, h⟩ := bd3_e h
  refine g_callV1W X (met_J7_hashCode l Z a0 a1 v_hash v_hz v_sb v_slen  r1 w2_hash w3_hz hcl) rfl 0 gC8 rfl rfl (lw_V q826 q827 q828 q83 q829) md_J7_hashCode ⟨(Nat.le_of_ble_eq_true rfl), (Nat.le_of_ble_eq_true rfl)⟩ rfl dX1_numbersOf_5 8 rfl 0 0 rfl rfl (Nat.le_of_ble_eq_true rfl) (Nat.le_of_ble_eq_true rfl) (st := []) rfl (Nat.le_of_ble_eq_true rfl) (fun _ => rfl) (fun _ => ?_)
  by_cases hc0 : r1 = 98882
  · replace h := if_t hc0 h
    refine g_look (off := 132) X dX1_numbersOf_8 140 (by decide) (by rw [hc0] <;> rfl) (by decide) ?_
    refine g_aload_n X rfl dX1_numbersOf_140 141 rfl ?_
    refine g_ldcS X 4 rfl dX1_numbersOf_141 143 rfl ?_
    refine g_neK X 0 4 rfl rfl (fun hne => ?_)
    obtain ⟨r4, hcl, h⟩ := bd1_e h
    refine g_callV1 X (met_J7_equals l Z a0 a1 w2_hash w3_hz v_sb v_slen  [99, 117, 116] 4 rfl hne r4 hcl) [] [0] [0, 1] (wr := [(a0, .inr (8, [.ref a1, .int 0, .int w2_hash, .int w3_hz]))]) ⟨rfl, rfl, rfl, rfl, rfl, by decide, by decide⟩ 0 gC8 rfl rfl (lw_V q888 q889 q890 q83 q891) md_J7_equals ⟨(Nat.le_of_ble_eq_true rfl), (Nat.le_of_ble_eq_true rfl)⟩ rfl dX1_numbersOf_143 146 rfl 0 0 rfl rfl (Nat.le_of_ble_eq_true rfl) (Nat.le_of_ble_eq_true rfl) (st := []) rfl (Nat.le_of_ble_eq_true rfl) (fun _ => rfl) (fun _ => ?_)
    refine g_if_eq X dX1_numbersOf_146 195 (by decide) 149 rfl (fun hc => ?_) (fun hc => ?_)
    · replace h := if_t hc h
      refine g_kill (j := 0) [none, some (.ref a0), some (.int (-1))] rfl ?_
      refine g_kill (j := 1) [none, none, some (.int (-1))] rfl ?_
      exact w_X1_numbersOf_195 a0 a1 v_sb v_slen X  r r_hash r_hz    w2_hash w3_hz (-1) h
    · replace h := if_f hc h
      refine g_iconst X 4 dX1_numbersOf_149 150 rfl kI_4 ?_
      refine g_istore_n X dX1_numbersOf_150 151 rfl (Nat.le_of_ble_eq_true rfl) rfl [some (.ref a0), some (.ref a0), some (.int 4)] rfl ?_
      refine g_goto X dX1_numbersOf_151 195 (by decide) ?_
      refine g_kill (j := 0) [none, some (.ref a0), some (.int 4)] rfl ?_
      refine g_kill (j := 1) [none, none, some (.int 4)] rfl ?_
      exact w_X1_numbersOf_195 a0 a1 v_sb v_slen X  r r_hash r_hz    w2_hash w3_hz 4 h
  replace h := if_f hc0 h
  by_cases hc1 : r1 = 113762
  · replace h := if_t hc1 h
    refine g_look (off := 76) X dX1_numbersOf_8 84 (by decide) (by rw [hc1] <;> rfl) (by decide) ?_
    refine g_aload_n X rfl dX1_numbersOf_84 85 rfl ?_
    refine g_ldcS X 0 rfl dX1_numbersOf_85 87 rfl ?_
    refine g_neK X 0 0 rfl rfl (fun hne => ?_)
    obtain ⟨r5, hcl, h⟩ := bd1_e h
    refine g_callV1 X (met_J7_equals l Z a0 a1 w2_hash w3_hz v_sb v_slen  [115, 101, 116] 0 rfl hne r5 hcl) [] [0] [0, 1] (wr := [(a0, .inr (8, [.ref a1, .int 0, .int w2_hash, .int w3_hz]))]) ⟨rfl, rfl, rfl, rfl, rfl, by decide, by decide⟩ 0 gC8 rfl rfl (lw_V q888 q889 q890 q83 q891) md_J7_equals ⟨(Nat.le_of_ble_eq_true rfl), (Nat.le_of_ble_eq_true rfl)⟩ rfl dX1_numbersOf_87 90 rfl 0 0 rfl rfl (Nat.le_of_ble_eq_true rfl) (Nat.le_of_ble_eq_true rfl) (st := []) rfl (Nat.le_of_ble_eq_true rfl) (fun _ => rfl) (fun _ => ?_)
    refine g_if_eq X dX1_numbersOf_90 195 (by decide) 93 rfl (fun hc => ?_) (fun hc => ?_)
    · replace h := if_t hc h
      refine g_kill (j := 0) [none, some (.ref a0), some (.int (-1))] rfl ?_
      refine g_kill (j := 1) [none, none, some (.int (-1))] rfl ?_
      exact w_X1_numbersOf_195 a0 a1 v_sb v_slen X  r r_hash r_hz    w2_hash w3_hz (-1) h
    · replace h := if_f hc h
      refine g_iconst X 0 dX1_numbersOf_93 94 rfl kI_0 ?_
      refine g_istore_n X dX1_numbersOf_94 95 rfl (Nat.le_of_ble_eq_true rfl) rfl [some (.ref a0), some (.ref a0), some (.int 0)] rfl ?_
      refine g_goto X dX1_numbersOf_95 195 (by decide) ?_
      refine g_kill (j := 0) [none, some (.ref a0), some (.int 0)] rfl ?_
      refine g_kill (j := 1) [none, none, some (.int 0)] rfl ?_
      exact w_X1_numbersOf_195 a0 a1 v_sb v_slen X  r r_hash r_hz    w2_hash w3_hz 0 h
  replace h := if_f hc1 h
  by_cases hc2 : r1 = 3327647
  · replace h := if_t hc2 h
    refine g_look (off := 160) X dX1_numbersOf_8 168 (by decide) (by rw [hc2] <;> rfl) (by decide) ?_
    refine g_aload_n X rfl dX1_numbersOf_168 169 rfl ?_
    refine g_ldcS X 6 rfl dX1_numbersOf_169 171 rfl ?_
    refine g_neK X 0 6 rfl rfl (fun hne => ?_)
    obtain ⟨r6, hcl, h⟩ := bd1_e h
    refine g_callV1 X (met_J7_equals l Z a0 a1 w2_hash w3_hz v_sb v_slen  [108, 111, 111, 107] 6 rfl hne r6 hcl) [] [0] [0, 1] (wr := [(a0, .inr (8, [.ref a1, .int 0, .int w2_hash, .int w3_hz]))]) ⟨rfl, rfl, rfl, rfl, rfl, by decide, by decide⟩ 0 gC8 rfl rfl (lw_V q888 q889 q890 q83 q891) md_J7_equals ⟨(Nat.le_of_ble_eq_true rfl), (Nat.le_of_ble_eq_true rfl)⟩ rfl dX1_numbersOf_171 174 rfl 0 0 rfl rfl (Nat.le_of_ble_eq_true rfl) (Nat.le_of_ble_eq_true rfl) (st := []) rfl (Nat.le_of_ble_eq_true rfl) (fun _ => rfl) (fun _ => ?_)
    refine g_if_eq X dX1_numbersOf_174 195 (by decide) 177 rfl (fun hc => ?_) (fun hc => ?_)
    · replace h := if_t hc h
      refine g_kill (j := 0) [none, some (.ref a0), some (.int (-1))] rfl ?_
      refine g_kill (j := 1) [none, none, some (.int (-1))] rfl ?_
      exact w_X1_numbersOf_195 a0 a1 v_sb v_slen X  r r_hash r_hz    w2_hash w3_hz (-1) h
    · replace h := if_f hc h
      refine g_bipush X 6 dX1_numbersOf_177 179 rfl kB_6 ?_
      refine g_istore_n X dX1_numbersOf_179 180 rfl (Nat.le_of_ble_eq_true rfl) rfl [some (.ref a0), some (.ref a0), some (.int 6)] rfl ?_
      refine g_goto X dX1_numbersOf_180 195 (by decide) ?_
      refine g_kill (j := 0) [none, some (.ref a0), some (.int 6)] rfl ?_
      refine g_kill (j := 1) [none, none, some (.int 6)] rfl ?_
      exact w_X1_numbersOf_195 a0 a1 v_sb v_slen X  r r_hash r_hz    w2_hash w3_hz 6 h
  replace h := if_f hc2 h
  by_cases hc3 : r1 = 3433459
  · replace h := if_t hc3 h
    refine g_look (off := 104) X dX1_numbersOf_8 112 (by decide) (by rw [hc3] <;> rfl) (by decide) ?_
    refine g_aload_n X rfl dX1_numbersOf_112 113 rfl ?_
    refine g_ldcS X 2 rfl dX1_numbersOf_113 115 rfl ?_
    refine g_neK X 0 2 rfl rfl (fun hne => ?_)
    obtain ⟨r7, hcl, h⟩ := bd1_e h
    refine g_callV1 X (met_J7_equals l Z a0 a1 w2_hash w3_hz v_sb v_slen  [112, 97, 114, 116] 2 rfl hne r7 hcl) [] [0] [0, 1] (wr := [(a0, .inr (8, [.ref a1, .int 0, .int w2_hash, .int w3_hz]))]) ⟨rfl, rfl, rfl, rfl, rfl, by decide, by decide⟩ 0 gC8 rfl rfl (lw_V q888 q889 q890 q83 q891) md_J7_equals ⟨(Nat.le_of_ble_eq_true rfl), (Nat.le_of_ble_eq_true rfl)⟩ rfl dX1_numbersOf_115 118 rfl 0 0 rfl rfl (Nat.le_of_ble_eq_true rfl) (Nat.le_of_ble_eq_true rfl) (st := []) rfl (Nat.le_of_ble_eq_true rfl) (fun _ => rfl) (fun _ => ?_)
    refine g_if_eq X dX1_numbersOf_118 195 (by decide) 121 rfl (fun hc => ?_) (fun hc => ?_)
    · replace h := if_t hc h
      refine g_kill (j := 0) [none, some (.ref a0), some (.int (-1))] rfl ?_
      refine g_kill (j := 1) [none, none, some (.int (-1))] rfl ?_
      exact w_X1_numbersOf_195 a0 a1 v_sb v_slen X  r r_hash r_hz    w2_hash w3_hz (-1) h
    · replace h := if_f hc h
      refine g_iconst X 2 dX1_numbersOf_121 122 rfl kI_2 ?_
      refine g_istore_n X dX1_numbersOf_122 123 rfl (Nat.le_of_ble_eq_true rfl) rfl [some (.ref a0), some (.ref a0), some (.int 2)] rfl ?_
      refine g_goto X dX1_numbersOf_123 195 (by decide) ?_
      refine g_kill (j := 0) [none, some (.ref a0), some (.int 2)] rfl ?_
      refine g_kill (j := 1) [none, none, some (.int 2)] rfl ?_
      exact w_X1_numbersOf_195 a0 a1 v_sb v_slen X  r r_hash r_hz    w2_hash w3_hz 2 h
  replace h := if_f hc3 h
  by_cases hc4 : r1 = 92670896
  · replace h := if_t hc4 h
    refine g_look (off := 175) X dX1_numbersOf_8 183 (by decide) (by rw [hc4] <;> rfl) (by decide) ?_
    refine g_aload_n X rfl dX1_numbersOf_183 184 rfl ?_
    refine g_ldcS X 7 rfl dX1_numbersOf_184 186 rfl ?_
    refine g_neK X 0 7 rfl rfl (fun hne => ?_)
    obtain ⟨r8, hcl, h⟩ := bd1_e h
    refine g_callV1 X (met_J7_equals l Z a0 a1 w2_hash w3_hz v_sb v_slen  [97, 100, 111, 112, 116] 7 rfl hne r8 hcl) [] [0] [0, 1] (wr := [(a0, .inr (8, [.ref a1, .int 0, .int w2_hash, .int w3_hz]))]) ⟨rfl, rfl, rfl, rfl, rfl, by decide, by decide⟩ 0 gC8 rfl rfl (lw_V q888 q889 q890 q83 q891) md_J7_equals ⟨(Nat.le_of_ble_eq_true rfl), (Nat.le_of_ble_eq_true rfl)⟩ rfl dX1_numbersOf_186 189 rfl 0 0 rfl rfl (Nat.le_of_ble_eq_true rfl) (Nat.le_of_ble_eq_true rfl) (st := []) rfl (Nat.le_of_ble_eq_true rfl) (fun _ => rfl) (fun _ => ?_)
    refine g_if_eq X dX1_numbersOf_189 195 (by decide) 192 rfl (fun hc => ?_) (fun hc => ?_)
    · replace h := if_t hc h
      refine g_kill (j := 0) [none, some (.ref a0), some (.int (-1))] rfl ?_
      refine g_kill (j := 1) [none, none, some (.int (-1))] rfl ?_
      exact w_X1_numbersOf_195 a0 a1 v_sb v_slen X  r r_hash r_hz    w2_hash w3_hz (-1) h
    · replace h := if_f hc h
      refine g_bipush X 7 dX1_numbersOf_192 194 rfl kB_7 ?_
      refine g_istore_n X dX1_numbersOf_194 195 rfl (Nat.le_of_ble_eq_true rfl) rfl [some (.ref a0), some (.ref a0), some (.int 7)] rfl ?_
      refine g_kill (j := 0) [none, some (.ref a0), some (.int 7)] rfl ?_
      refine g_kill (j := 1) [none, none, some (.int 7)] rfl ?_
      exact w_X1_numbersOf_195 a0 a1 v_sb v_slen X  r r_hash r_hz    w2_hash w3_hz 7 h
  replace h := if_f hc4 h
  by_cases hc5 : r1 = 107027353
  · replace h := if_t hc5 h
    refine g_look (off := 118) X dX1_numbersOf_8 126 (by decide) (by rw [hc5] <;> rfl) (by decide) ?_
    refine g_aload_n X rfl dX1_numbersOf_126 127 rfl ?_
    refine g_ldcS X 3 rfl dX1_numbersOf_127 129 rfl ?_
    refine g_neK X 0 3 rfl rfl (fun hne => ?_)
    obtain ⟨r9, hcl, h⟩ := bd1_e h
    refine g_callV1 X (met_J7_equals l Z a0 a1 w2_hash w3_hz v_sb v_slen  [112, 117, 108, 115, 101] 3 rfl hne r9 hcl) [] [0] [0, 1] (wr := [(a0, .inr (8, [.ref a1, .int 0, .int w2_hash, .int w3_hz]))]) ⟨rfl, rfl, rfl, rfl, rfl, by decide, by decide⟩ 0 gC8 rfl rfl (lw_V q888 q889 q890 q83 q891) md_J7_equals ⟨(Nat.le_of_ble_eq_true rfl), (Nat.le_of_ble_eq_true rfl)⟩ rfl dX1_numbersOf_129 132 rfl 0 0 rfl rfl (Nat.le_of_ble_eq_true rfl) (Nat.le_of_ble_eq_true rfl) (st := []) rfl (Nat.le_of_ble_eq_true rfl) (fun _ => rfl) (fun _ => ?_)
    refine g_if_eq X dX1_numbersOf_132 195 (by decide) 135 rfl (fun hc => ?_) (fun hc => ?_)
    · replace h := if_t hc h
      refine g_kill (j := 0) [none, some (.ref a0), some (.int (-1))] rfl ?_
      refine g_kill (j := 1) [none, none, some (.int (-1))] rfl ?_
      exact w_X1_numbersOf_195 a0 a1 v_sb v_slen X  r r_hash r_hz    w2_hash w3_hz (-1) h
    · replace h := if_f hc h
      refine g_iconst X 3 dX1_numbersOf_135 136 rfl kI_3 ?_
      refine g_istore_n X dX1_numbersOf_136 137 rfl (Nat.le_of_ble_eq_true rfl) rfl [some (.ref a0), some (.ref a0), some (.int 3)] rfl ?_
      refine g_goto X dX1_numbersOf_137 195 (by decide) ?_
      refine g_kill (j := 0) [none, some (.ref a0), some (.int 3)] rfl ?_
      refine g_kill (j := 1) [none, none, some (.int 3)] rfl ?_
      exact w_X1_numbersOf_195 a0 a1 v_sb v_slen X  r r_hash r_hz    w2_hash w3_hz 3 h
  replace h := if_f hc5 h
  by_cases hc6 : r1 = 109627663
  · replace h := if_t hc6 h
    refine g_look (off := 146) X dX1_numbersOf_8 154 (by decide) (by rw [hc6] <;> rfl) (by decide) ?_
    refine g_aload_n X rfl dX1_numbersOf_154 155 rfl ?_
    refine g_ldcS X 5 rfl dX1_numbersOf_155 157 rfl ?_
    refine g_neK X 0 5 rfl rfl (fun hne => ?_)
    obtain ⟨r10, hcl, h⟩ := bd1_e h
    refine g_callV1 X (met_J7_equals l Z a0 a1 w2_hash w3_hz v_sb v_slen  [115, 111, 117, 110, 100] 5 rfl hne r10 hcl) [] [0] [0, 1] (wr := [(a0, .inr (8, [.ref a1, .int 0, .int w2_hash, .int w3_hz]))]) ⟨rfl, rfl, rfl, rfl, rfl, by decide, by decide⟩ 0 gC8 rfl rfl (lw_V q888 q889 q890 q83 q891) md_J7_equals ⟨(Nat.le_of_ble_eq_true rfl), (Nat.le_of_ble_eq_true rfl)⟩ rfl dX1_numbersOf_157 160 rfl 0 0 rfl rfl (Nat.le_of_ble_eq_true rfl) (Nat.le_of_ble_eq_true rfl) (st := []) rfl (Nat.le_of_ble_eq_true rfl) (fun _ => rfl) (fun _ => ?_)
    refine g_if_eq X dX1_numbersOf_160 195 (by decide) 163 rfl (fun hc => ?_) (fun hc => ?_)
    · replace h := if_t hc h
      refine g_kill (j := 0) [none, some (.ref a0), some (.int (-1))] rfl ?_
      refine g_kill (j := 1) [none, none, some (.int (-1))] rfl ?_
      exact w_X1_numbersOf_195 a0 a1 v_sb v_slen X  r r_hash r_hz    w2_hash w3_hz (-1) h
    · replace h := if_f hc h
      refine g_iconst X 5 dX1_numbersOf_163 164 rfl kI_5 ?_
      refine g_istore_n X dX1_numbersOf_164 165 rfl (Nat.le_of_ble_eq_true rfl) rfl [some (.ref a0), some (.ref a0), some (.int 5)] rfl ?_
      refine g_goto X dX1_numbersOf_165 195 (by decide) ?_
      refine g_kill (j := 0) [none, some (.ref a0), some (.int 5)] rfl ?_
      refine g_kill (j := 1) [none, none, some (.int 5)] rfl ?_
      exact w_X1_numbersOf_195 a0 a1 v_sb v_slen X  r r_hash r_hz    w2_hash w3_hz 5 h
  replace h := if_f hc6 h
  by_cases hc7 : r1 = 109648666
  · replace h := if_t hc7 h
    refine g_look (off := 90) X dX1_numbersOf_8 98 (by decide) (by rw [hc7] <;> rfl) (by decide) ?_
    refine g_aload_n X rfl dX1_numbersOf_98 99 rfl ?_
    refine g_ldcS X 1 rfl dX1_numbersOf_99 101 rfl ?_
    refine g_neK X 0 1 rfl rfl (fun hne => ?_)
    obtain ⟨r11, hcl, h⟩ := bd1_e h
    refine g_callV1 X (met_J7_equals l Z a0 a1 w2_hash w3_hz v_sb v_slen  [115, 112, 108, 105, 116] 1 rfl hne r11 hcl) [] [0] [0, 1] (wr := [(a0, .inr (8, [.ref a1, .int 0, .int w2_hash, .int w3_hz]))]) ⟨rfl, rfl, rfl, rfl, rfl, by decide, by decide⟩ 0 gC8 rfl rfl (lw_V q888 q889 q890 q83 q891) md_J7_equals ⟨(Nat.le_of_ble_eq_true rfl), (Nat.le_of_ble_eq_true rfl)⟩ rfl dX1_numbersOf_101 104 rfl 0 0 rfl rfl (Nat.le_of_ble_eq_true rfl) (Nat.le_of_ble_eq_true rfl) (st := []) rfl (Nat.le_of_ble_eq_true rfl) (fun _ => rfl) (fun _ => ?_)
    refine g_if_eq X dX1_numbersOf_104 195 (by decide) 107 rfl (fun hc => ?_) (fun hc => ?_)
    · replace h := if_t hc h
      refine g_kill (j := 0) [none, some (.ref a0), some (.int (-1))] rfl ?_
      refine g_kill (j := 1) [none, none, some (.int (-1))] rfl ?_
      exact w_X1_numbersOf_195 a0 a1 v_sb v_slen X  r r_hash r_hz    w2_hash w3_hz (-1) h
    · replace h := if_f hc h
      refine g_iconst X 1 dX1_numbersOf_107 108 rfl kI_1 ?_
      refine g_istore_n X dX1_numbersOf_108 109 rfl (Nat.le_of_ble_eq_true rfl) rfl [some (.ref a0), some (.ref a0), some (.int 1)] rfl ?_
      refine g_goto X dX1_numbersOf_109 195 (by decide) ?_
      refine g_kill (j := 0) [none, some (.ref a0), some (.int 1)] rfl ?_
      refine g_kill (j := 1) [none, none, some (.int 1)] rfl ?_
      exact w_X1_numbersOf_195 a0 a1 v_sb v_slen X  r r_hash r_hz    w2_hash w3_hz 1 h
  replace h := if_f hc7 h
  refine g_look (off := 187) X dX1_numbersOf_8 195 (by decide) ((lv_osw hc0 (by decide)).trans ((lv_osw hc1 (by decide)).trans ((lv_osw hc2 (by decide)).trans ((lv_osw hc3 (by decide)).trans ((lv_osw hc4 (by decide)).trans ((lv_osw hc5 (by decide)).trans ((lv_osw hc6 (by decide)).trans ((lv_osw hc7 (by decide)).trans rfl)))))))) (by decide) ?_
  refine g_kill (j := 0) [none, some (.ref a0), some (.int (-1))] rfl ?_
  refine g_kill (j := 1) [none, none, some (.int (-1))] rfl ?_
  exact w_X1_numbersOf_195 a0 a1 v_sb v_slen X  r r_hash r_hz    w2_hash w3_hz (-1) h
