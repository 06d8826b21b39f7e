/-! 24.benchx (printed by gen/system.py) -/
set_option maxRecDepth 100000
theorem md_X1_inRange : gMd yX1_inRange 3 := by unfold gMd; decide +kernel
theorem md_X1_requireArgument : gMd yX1_requireArgument 2 := by unfold gMd; decide +kernel
theorem md_X1_requireIndex : gMd yX1_requireIndex 2 := by unfold gMd; decide +kernel
theorem md_X1_requireState : gMd yX1_requireState 2 := by unfold gMd; decide +kernel
theorem md_X2_requirePart : gMd yX2_requirePart 1 := by unfold gMd; decide +kernel
theorem md_X2_requireRoom : gMd yX2_requireRoom 0 := by unfold gMd; decide +kernel
theorem md_X2_requireValues : gMd yX2_requireValues 2 := by unfold gMd; decide +kernel
/-! LineEchoes.inRange(JJJ)Z -/
abbrev rm_X1_inRange : Room := { frames := 0, cells := 0, slots := 0, locals := 0 }
def F_X1_inRange (x0 : Int64) (x2 : Int64) (x4 : Int64) : Option (Int32) :=
  some (if x0 < x2 then (0 : Int32) else (if x4 < x0 then (0 : Int32) else 1))
theorem met_X1_inRange (l : Launch) (Z : gZt) (x0 : Int64) (x2 : Int64) (x4 : Int64) (r : Int32) (h : F_X1_inRange x0 x2 x4 = some r) : Ct l yX1_inRange (ws_ yX1_inRange cX1_inRange 6 (some .boolean)) rm_X1_inRange Z [.long x0, .long x2, .long x4] [] [] (fun _ : Unit => (some (.int r) : Option Value)) (fun _ : Unit => ([] : va_W)) := by
  refine Ct.of cX1_inRange 6 (some .boolean) "LineEchoes" [some (.long x0), none, some (.long x2), none, some (.long x4), none] 0 (by decide) rfl (Nat.le_of_ble_eq_true rfl) rfl (fun p e s m args below meth c A X hin => ?_)
  unfold F_X1_inRange at h
  refine g_lload_n X rfl dX1_inRange_0 1 rfl ?_
  refine g_lload_n X rfl dX1_inRange_1 2 rfl ?_
  refine g_seli 18 [] (b := x0 < x2) 0 (if x4 < x0 then (0 : Int32) else 1) ?_ (fun hc K => ?_) (fun hc K => ?_)
  · cases h
    exact g_zret X dX1_inRange_18 (gb_if gb_0 (gb_if gb_0 gb_1)) () rfl rfl (Nat.le_of_ble_eq_true rfl) (Nat.le_of_ble_eq_true rfl)
  · refine g_lcmp_lt X dX1_inRange_2 3 rfl dX1_inRange_3 17 (by decide) 6 rfl (fun _ => ?_) (fun hn => absurd hc hn)
    refine g_iconst X 0 dX1_inRange_17 18 rfl kI_0 ?_
    exact K
  · refine g_lcmp_lt X dX1_inRange_2 3 rfl dX1_inRange_3 17 (by decide) 6 rfl (fun hn => absurd hn hc) (fun _ => ?_)
    refine g_lload_n X rfl dX1_inRange_6 7 rfl ?_
    refine g_lload X rfl dX1_inRange_7 9 rfl ?_
    refine g_lcmp_gt X dX1_inRange_9 10 rfl dX1_inRange_10 17 (by decide) 13 rfl (fun hc => ?_) (fun hc => ?_)
    · replace K := gsel_ti hc K
      refine g_iconst X 0 dX1_inRange_17 18 rfl kI_0 ?_
      exact K
    · replace K := gsel_fi hc K
      refine g_iconst X 1 dX1_inRange_13 14 rfl kI_1 ?_
      refine g_goto X dX1_inRange_14 18 (by decide) ?_
      exact K
/-! LineEchoes.requireIndex(ZLjava/lang/String;)V -/
abbrev rm_X1_requireIndex : Room := { frames := 7, cells := 1, slots := 6, locals := 100 }
def F_X1_requireIndex (x0 : Int32) : Option ((Unit) ⊕ Nat) :=
  if x0 = 0 then
    (some (.inr 0))
  else
    (some (.inl ()))
theorem met_X1_requireIndex (l : Launch) (hl : l.stackTraces = false) (Z : gZt) (a1 : Nat) (x0 : Int32) (o : (Unit) ⊕ Nat) (h : F_X1_requireIndex x0 = some o) : Cx l yX1_requireIndex (ws_ yX1_requireIndex cX1_requireIndex 2 none) rm_X1_requireIndex Z [.int x0, .ref a1] [] [] [] (fun x : Unit => (fun _ : Unit => (none : Option Value))) (fun x : Unit => (fun _ : Unit => ([] : va_W))) o := by
  refine Cx.of cX1_requireIndex 2 none "LineEchoes" [some (.int x0), some (.ref a1)] 0 (by decide) rfl (Nat.le_of_ble_eq_true rfl) rfl (fun p e s m args below meth c A X Xt => ?_)
  unfold F_X1_requireIndex at h
  refine g_iload_n X rfl dX1_requireIndex_0 1 rfl ?_
  refine g_if_ne X dX1_requireIndex_1 13 (by decide) 4 rfl (fun hc => ?_) (fun hc => ?_)
  · replace h := if_f hc h
    obtain rfl := Option.some.inj h
    exact g_retI (g_vret X dX1_requireIndex_13 () rfl rfl (Nat.le_of_ble_eq_true rfl) (Nat.le_of_ble_eq_true rfl))
  · replace h := if_t hc h
    obtain rfl := Option.some.inj h
    exact g_throwL X Xt hl (jl := 1) (by decide) (by decide) q911 q81 gxwI gxaI gxoI rfl dX1_requireIndex_4 dX1_requireIndex_7 dX1_requireIndex_8 dX1_requireIndex_9 dX1_requireIndex_12 (Nat.le_of_ble_eq_true rfl) (Nat.le_of_ble_eq_true rfl) (Nat.le_of_ble_eq_true rfl) (Nat.le_of_ble_eq_true rfl) (Nat.le_of_ble_eq_true rfl) (Nat.le_of_ble_eq_true rfl) [] rfl rfl
/-! LineEchoes.requireArgument(ZLjava/lang/String;)V -/
abbrev rm_X1_requireArgument : Room := { frames := 7, cells := 1, slots := 6, locals := 100 }
def F_X1_requireArgument (x0 : Int32) : Option ((Unit) ⊕ Nat) :=
  if x0 = 0 then
    (some (.inr 1))
  else
    (some (.inl ()))
theorem met_X1_requireArgument (l : Launch) (hl : l.stackTraces = false) (Z : gZt) (a1 : Nat) (x0 : Int32) (o : (Unit) ⊕ Nat) (h : F_X1_requireArgument x0 = some o) : Cx l yX1_requireArgument (ws_ yX1_requireArgument cX1_requireArgument 2 none) rm_X1_requireArgument Z [.int x0, .ref a1] [] [] [] (fun x : Unit => (fun _ : Unit => (none : Option Value))) (fun x : Unit => (fun _ : Unit => ([] : va_W))) o := by
  refine Cx.of cX1_requireArgument 2 none "LineEchoes" [some (.int x0), some (.ref a1)] 0 (by decide) rfl (Nat.le_of_ble_eq_true rfl) rfl (fun p e s m args below meth c A X Xt => ?_)
  unfold F_X1_requireArgument at h
  refine g_iload_n X rfl dX1_requireArgument_0 1 rfl ?_
  refine g_if_ne X dX1_requireArgument_1 13 (by decide) 4 rfl (fun hc => ?_) (fun hc => ?_)
  · replace h := if_f hc h
    obtain rfl := Option.some.inj h
    exact g_retI (g_vret X dX1_requireArgument_13 () rfl rfl (Nat.le_of_ble_eq_true rfl) (Nat.le_of_ble_eq_true rfl))
  · replace h := if_t hc h
    obtain rfl := Option.some.inj h
    exact g_throwL X Xt hl (jl := 1) (by decide) (by decide) q930 q79 gxwA gxaA gxoA rfl dX1_requireArgument_4 dX1_requireArgument_7 dX1_requireArgument_8 dX1_requireArgument_9 dX1_requireArgument_12 (Nat.le_of_ble_eq_true rfl) (Nat.le_of_ble_eq_true rfl) (Nat.le_of_ble_eq_true rfl) (Nat.le_of_ble_eq_true rfl) (Nat.le_of_ble_eq_true rfl) (Nat.le_of_ble_eq_true rfl) [] rfl rfl
/-! LineEchoes.requireState(ZLjava/lang/String;)V -/
abbrev rm_X1_requireState : Room := { frames := 7, cells := 1, slots := 6, locals := 100 }
def F_X1_requireState (x0 : Int32) : Option ((Unit) ⊕ Nat) :=
  if x0 = 0 then
    (some (.inr 2))
  else
    (some (.inl ()))
theorem met_X1_requireState (l : Launch) (hl : l.stackTraces = false) (Z : gZt) (a1 : Nat) (x0 : Int32) (o : (Unit) ⊕ Nat) (h : F_X1_requireState x0 = some o) : Cx l yX1_requireState (ws_ yX1_requireState cX1_requireState 2 none) rm_X1_requireState Z [.int x0, .ref a1] [] [] [] (fun x : Unit => (fun _ : Unit => (none : Option Value))) (fun x : Unit => (fun _ : Unit => ([] : va_W))) o := by
  refine Cx.of cX1_requireState 2 none "LineEchoes" [some (.int x0), some (.ref a1)] 0 (by decide) rfl (Nat.le_of_ble_eq_true rfl) rfl (fun p e s m args below meth c A X Xt => ?_)
  unfold F_X1_requireState at h
  refine g_iload_n X rfl dX1_requireState_0 1 rfl ?_
  refine g_if_ne X dX1_requireState_1 13 (by decide) 4 rfl (fun hc => ?_) (fun hc => ?_)
  · replace h := if_f hc h
    obtain rfl := Option.some.inj h
    exact g_retI (g_vret X dX1_requireState_13 () rfl rfl (Nat.le_of_ble_eq_true rfl) (Nat.le_of_ble_eq_true rfl))
  · replace h := if_t hc h
    obtain rfl := Option.some.inj h
    exact g_throwL X Xt hl (jl := 1) (by decide) (by decide) q931 q80 gxwS gxaS gxoS rfl dX1_requireState_4 dX1_requireState_7 dX1_requireState_8 dX1_requireState_9 dX1_requireState_12 (Nat.le_of_ble_eq_true rfl) (Nat.le_of_ble_eq_true rfl) (Nat.le_of_ble_eq_true rfl) (Nat.le_of_ble_eq_true rfl) (Nat.le_of_ble_eq_true rfl) (Nat.le_of_ble_eq_true rfl) [] rfl rfl
/-! LineEchoes$Bench.requirePart(I)V -/
abbrev rm_X2_requirePart : Room := { frames := 8, cells := 1, slots := 6, locals := 121 }
def F_X2_requirePart (v_n : Int32) (x1 : Int32) : Option ((Unit) ⊕ Nat) :=
  bd1 (F_X1_inRange x1.toInt64 0 ((v_n - 1).toInt64)) fun r1 =>
  bc0 (F_X1_requireIndex r1) (
  some (.inl ())) gthr
theorem met_X2_requirePart (l : Launch) (hl : l.stackTraces = false) (Z : gZt) (a0 : Nat) (a1 : Nat) (a1_1 : Nat) (a1_2 : Nat) (a1_3 : Nat) (a1_4 : Nat) (a2 : Nat) (a3 : Nat) (v_n : Int32) (v_pulses : Int32) (v_front : Int32) (v_least : Int32) (v_window : Int32) (v_lengths : Nat → Int32) (v_fractions : Nat → Int32) (v_pulseTimes : Nat → Int32) (v_pulseEnergies : Nat → Int32) (x1 : Int32) (o : (Unit) ⊕ Nat) (h : F_X2_requirePart v_n x1 = some o) : Cx l yX2_requirePart (ws_ yX2_requirePart cX2_requirePart 2 none) rm_X2_requirePart Z [.ref a0, .int x1] [] [(a0, .inr (1, [.ref a1, .ref a2, .ref a3])), (a1, .inr (2, [.ref a1_1, .ref a1_2, .int v_n, .ref a1_3, .ref a1_4, .int v_pulses, .int v_front, .int v_least, .int v_window])), (a1_1, .inl (Z.2 0, 8, .inl v_lengths)), (a1_2, .inl (Z.2 0, 8, .inl v_fractions)), (a1_3, .inl (Z.2 0, 4, .inl v_pulseTimes)), (a1_4, .inl (Z.2 0, 4, .inl v_pulseEnergies))] [] (fun x : Unit => (fun _ : Unit => (none : Option Value))) (fun x : Unit => (fun _ : Unit => ([] : va_W))) o := by
  refine Cx.of cX2_requirePart 2 none "LineEchoes$Bench" [some (.ref a0), some (.int x1)] 0 (by decide) rfl (Nat.le_of_ble_eq_true rfl) rfl (fun p e s m args below meth c A X Xt => ?_)
  unfold F_X2_requirePart at h
  refine g_iload_n X rfl dX2_requirePart_0 1 rfl ?_
  refine g_i2l X dX2_requirePart_1 2 rfl ?_
  refine g_lconst X 0 dX2_requirePart_2 3 rfl rfl ?_
  refine g_aload_n X rfl dX2_requirePart_3 4 rfl ?_
  refine g_getR X gC1 0 rfl 0 (by decide) q190 (fun _ h9 => h9) rfl dX2_requirePart_4 7 rfl ?_
  refine g_getRN X gC2 1 rfl 2 (by decide) q130 (fun _ h9 => h9) rfl dX2_requirePart_7 10 rfl ?_
  refine g_iconst X 1 dX2_requirePart_10 11 rfl kI_1 ?_
  refine g_isub X dX2_requirePart_11 12 rfl ?_
  refine g_i2l X dX2_requirePart_12 13 rfl ?_
  obtain ⟨r1, hcl, h⟩ := bd1_e h
  refine g_callSN1Z X (met_X1_inRange l Z   x1.toInt64 0 ((v_n - 1).toInt64) r1 hcl) q489 q69 q948 q488 md_X1_inRange ⟨(Nat.le_of_ble_eq_true rfl), (Nat.le_of_ble_eq_true rfl)⟩ rfl dX2_requirePart_13 16 rfl 0 0 rfl rfl (Nat.le_of_ble_eq_true rfl) (Nat.le_of_ble_eq_true rfl) (st := []) rfl (Nat.le_of_ble_eq_true rfl) (fun _ => rfl) (fun _ => ?_)
  refine g_ldcS X 22 rfl dX2_requirePart_16 18 rfl ?_
  rcases bc0_e h with ⟨k9, hcl, hg⟩ | ⟨hcl, h⟩
  · obtain rfl := Option.some.inj (show some (Sum.inr k9) = some _ from hg)
    exact g_xoSN X (met_X1_requireIndex l hl Z (gSK Z 22)  r1 _ hcl).thr [] [] [] (wr := []) ⟨rfl, rfl, rfl, rfl, rfl, by decide, by decide⟩ q989 q69 q987 q988 md_X1_requireIndex ⟨(Nat.le_of_ble_eq_true rfl), (Nat.le_of_ble_eq_true rfl)⟩ rfl dX2_requirePart_18 Xt [] (Nat.le_of_ble_eq_true rfl) (Nat.le_of_ble_eq_true rfl) (st := []) rfl (Nat.le_of_ble_eq_true rfl) rfl rfl (Nat.le_of_ble_eq_true rfl) (Nat.le_of_ble_eq_true rfl)
  refine g_callSN0Z X (met_X1_requireIndex l hl Z (gSK Z 22)  r1 _ hcl).ret q989 q69 q987 q988 md_X1_requireIndex ⟨(Nat.le_of_ble_eq_true rfl), (Nat.le_of_ble_eq_true rfl)⟩ rfl dX2_requirePart_18 21 rfl 1 6 rfl rfl (Nat.le_of_ble_eq_true rfl) (Nat.le_of_ble_eq_true rfl) (st := []) rfl (Nat.le_of_ble_eq_true rfl) (fun _ => rfl) (fun _ => ?_)
  obtain rfl := Option.some.inj h
  exact g_retI (g_vret X dX2_requirePart_21 () rfl rfl (Nat.le_of_ble_eq_true rfl) (Nat.le_of_ble_eq_true rfl))
/-! LineEchoes$Bench.requireValues(II)V -/
abbrev rm_X2_requireValues : Room := { frames := 8, cells := 1, slots := 6, locals := 121 }
def F_X2_requireValues_29 (s0 : Int32) : Option ((Unit) ⊕ Nat) :=
  bc0 (F_X1_requireArgument s0) (
  some (.inl ())) gthr
def F_X2_requireValues_28 : Option ((Unit) ⊕ Nat) :=
  F_X2_requireValues_29 0
def F_X2_requireValues (x0 : Int32) (x1 : Int32) : Option ((Unit) ⊕ Nat) :=
  bd1 (F_X1_inRange x0.toInt64 1 20) fun r1 =>
  if r1 = 0 then
    (F_X2_requireValues_28)
  else
    (bd1 (F_X1_inRange x1.toInt64 0 1000) fun r2 =>
    if r2 = 0 then
      (F_X2_requireValues_28)
    else
      (F_X2_requireValues_29 1))
theorem w_X2_requireValues_29 {p : Program} {l : Launch} {e : Env} {s : State} {m : MethodId} {args : Array Value} {below : List Frame} {meth : Method} {c : Code} {Z : gZt} {A : Nat → Prop} (X : gX p s m args meth c Z A cX2_requireValues "LineEchoes$Bench" 2 none []) (Xt : gXt c) (hl : l.stackTraces = false) (o : (Unit) ⊕ Nat)  (s0 : Int32) (h : F_X2_requireValues_29 s0 = some o) : G p l e rm_X2_requireValues s m args below meth c Z A 2 (vx_MQ below (gQc Z A (fun x : Unit => (fun _ : Unit => (none : Option Value))) (fun x : Unit => (fun _ : Unit => ([] : va_W))) o) (gXc Z A [] o) args s 1 6 A) [] 0 0 29 [none, none] [.int s0] := by
  unfold F_X2_requireValues_29 at h
  refine g_ldcS X 20 rfl dX2_requireValues_29 31 rfl ?_
  rcases bc0_e h with ⟨k9, hcl, hg⟩ | ⟨hcl, h⟩
  · obtain rfl := Option.some.inj (show some (Sum.inr k9) = some _ from hg)
    exact g_xoSN X (met_X1_requireArgument l hl Z (gSK Z 20)  s0 _ hcl).thr [] [] [] (wr := []) ⟨rfl, rfl, rfl, rfl, rfl, by decide, by decide⟩ q953 q69 q951 q952 md_X1_requireArgument ⟨(Nat.le_of_ble_eq_true rfl), (Nat.le_of_ble_eq_true rfl)⟩ rfl dX2_requireValues_31 Xt [] (Nat.le_of_ble_eq_true rfl) (Nat.le_of_ble_eq_true rfl) (st := []) rfl (Nat.le_of_ble_eq_true rfl) rfl rfl (Nat.le_of_ble_eq_true rfl) (Nat.le_of_ble_eq_true rfl)
  refine g_callSN0Z X (met_X1_requireArgument l hl Z (gSK Z 20)  s0 _ hcl).ret q953 q69 q951 q952 md_X1_requireArgument ⟨(Nat.le_of_ble_eq_true rfl), (Nat.le_of_ble_eq_true rfl)⟩ rfl dX2_requireValues_31 34 rfl 1 6 rfl rfl (Nat.le_of_ble_eq_true rfl) (Nat.le_of_ble_eq_true rfl) (st := []) rfl (Nat.le_of_ble_eq_true rfl) (fun _ => rfl) (fun _ => ?_)
  obtain rfl := Option.some.inj h
  exact g_retI (g_vret X dX2_requireValues_34 () rfl rfl (Nat.le_of_ble_eq_true rfl) (Nat.le_of_ble_eq_true rfl))
theorem w_X2_requireValues_28 {p : Program} {l : Launch} {e : Env} {s : State} {m : MethodId} {args : Array Value} {below : List Frame} {meth : Method} {c : Code} {Z : gZt} {A : Nat → Prop} (X : gX p s m args meth c Z A cX2_requireValues "LineEchoes$Bench" 2 none []) (Xt : gXt c) (hl : l.stackTraces = false) (o : (Unit) ⊕ Nat)  (h : F_X2_requireValues_28 = some o) : G p l e rm_X2_requireValues s m args below meth c Z A 2 (vx_MQ below (gQc Z A (fun x : Unit => (fun _ : Unit => (none : Option Value))) (fun x : Unit => (fun _ : Unit => ([] : va_W))) o) (gXc Z A [] o) args s 1 6 A) [] 0 0 28 [none, none] [] := by
  unfold F_X2_requireValues_28 at h
  refine g_iconst X 0 dX2_requireValues_28 29 rfl kI_0 ?_
  exact w_X2_requireValues_29   X Xt hl  _    0 h
theorem met_X2_requireValues (l : Launch) (hl : l.stackTraces = false) (Z : gZt) (x0 : Int32) (x1 : Int32) (o : (Unit) ⊕ Nat) (h : F_X2_requireValues x0 x1 = some o) : Cx l yX2_requireValues (ws_ yX2_requireValues cX2_requireValues 2 none) rm_X2_requireValues Z [.int x0, .int x1] [] [] [] (fun x : Unit => (fun _ : Unit => (none : Option Value))) (fun x : Unit => (fun _ : Unit => ([] : va_W))) o := by
  refine Cx.of cX2_requireValues 2 none "LineEchoes$Bench" [some (.int x0), some (.int x1)] 0 (by decide) rfl (Nat.le_of_ble_eq_true rfl) rfl (fun p e s m args below meth c A X Xt => ?_)
  unfold F_X2_requireValues at h
  refine g_iload_n X rfl dX2_requireValues_0 1 rfl ?_
  refine g_i2l X dX2_requireValues_1 2 rfl ?_
  refine g_lconst X 1 dX2_requireValues_2 3 rfl rfl ?_
  refine g_ldc2 X q947 dX2_requireValues_3 6 rfl ?_
  obtain ⟨r1, hcl, h⟩ := bd1_e h
  refine g_callSN1Z X (met_X1_inRange l Z   x0.toInt64 1 20 r1 hcl) q489 q69 q948 q488 md_X1_inRange ⟨(Nat.le_of_ble_eq_true rfl), (Nat.le_of_ble_eq_true rfl)⟩ rfl dX2_requireValues_6 9 rfl 0 0 rfl rfl (Nat.le_of_ble_eq_true rfl) (Nat.le_of_ble_eq_true rfl) (st := []) rfl (Nat.le_of_ble_eq_true rfl) (fun _ => rfl) (fun _ => ?_)
  refine g_if_eq X dX2_requireValues_9 28 (by decide) 12 rfl (fun hc => ?_) (fun hc => ?_)
  · replace h := if_t hc h
    refine g_kill (j := 0) [none, some (.int x1)] rfl ?_
    refine g_kill (j := 1) [none, none] rfl ?_
    exact w_X2_requireValues_28   X Xt hl  _     h
  · replace h := if_f hc h
    refine g_iload_n X rfl dX2_requireValues_12 13 rfl ?_
    refine g_i2l X dX2_requireValues_13 14 rfl ?_
    refine g_lconst X 0 dX2_requireValues_14 15 rfl rfl ?_
    refine g_ldc2 X q949 dX2_requireValues_15 18 rfl ?_
    obtain ⟨r2, hcl, h⟩ := bd1_e h
    refine g_callSN1Z X (met_X1_inRange l Z   x1.toInt64 0 1000 r2 hcl) q489 q69 q948 q488 md_X1_inRange ⟨(Nat.le_of_ble_eq_true rfl), (Nat.le_of_ble_eq_true rfl)⟩ rfl dX2_requireValues_18 21 rfl 0 0 rfl rfl (Nat.le_of_ble_eq_true rfl) (Nat.le_of_ble_eq_true rfl) (st := []) rfl (Nat.le_of_ble_eq_true rfl) (fun _ => rfl) (fun _ => ?_)
    refine g_if_eq X dX2_requireValues_21 28 (by decide) 24 rfl (fun hc => ?_) (fun hc => ?_)
    · replace h := if_t hc h
      refine g_kill (j := 0) [none, some (.int x1)] rfl ?_
      refine g_kill (j := 1) [none, none] rfl ?_
      exact w_X2_requireValues_28   X Xt hl  _     h
    · replace h := if_f hc h
      refine g_iconst X 1 dX2_requireValues_24 25 rfl kI_1 ?_
      refine g_goto X dX2_requireValues_25 29 (by decide) ?_
      refine g_kill (j := 0) [none, some (.int x1)] rfl ?_
      refine g_kill (j := 1) [none, none] rfl ?_
      exact w_X2_requireValues_29   X Xt hl  _    1 h
/-! LineEchoes$Bench.requireRoom()V -/
abbrev rm_X2_requireRoom : Room := { frames := 8, cells := 1, slots := 6, locals := 121 }
def F_X2_requireRoom (v_n : Int32) : Option ((Unit) ⊕ Nat) :=
  bc0 (F_X1_requireState (if 8 ≤ v_n then (0 : Int32) else 1)) (
  some (.inl ())) gthr
theorem met_X2_requireRoom (l : Launch) (hl : l.stackTraces = false) (Z : gZt) (a0 : Nat) (a1 : Nat) (a1_1 : Nat) (a1_2 : Nat) (a1_3 : Nat) (a1_4 : Nat) (a2 : Nat) (a3 : Nat) (v_n : Int32) (v_pulses : Int32) (v_front : Int32) (v_least : Int32) (v_window : Int32) (v_lengths : Nat → Int32) (v_fractions : Nat → Int32) (v_pulseTimes : Nat → Int32) (v_pulseEnergies : Nat → Int32) (o : (Unit) ⊕ Nat) (h : F_X2_requireRoom v_n = some o) : Cx l yX2_requireRoom (ws_ yX2_requireRoom cX2_requireRoom 1 none) rm_X2_requireRoom Z [.ref a0] [] [(a0, .inr (1, [.ref a1, .ref a2, .ref a3])), (a1, .inr (2, [.ref a1_1, .ref a1_2, .int v_n, .ref a1_3, .ref a1_4, .int v_pulses, .int v_front, .int v_least, .int v_window])), (a1_1, .inl (Z.2 0, 8, .inl v_lengths)), (a1_2, .inl (Z.2 0, 8, .inl v_fractions)), (a1_3, .inl (Z.2 0, 4, .inl v_pulseTimes)), (a1_4, .inl (Z.2 0, 4, .inl v_pulseEnergies))] [] (fun x : Unit => (fun _ : Unit => (none : Option Value))) (fun x : Unit => (fun _ : Unit => ([] : va_W))) o := by
  refine Cx.of cX2_requireRoom 1 none "LineEchoes$Bench" [some (.ref a0)] 0 (by decide) rfl (Nat.le_of_ble_eq_true rfl) rfl (fun p e s m args below meth c A X Xt => ?_)
  unfold F_X2_requireRoom at h
  refine g_aload_n X rfl dX2_requireRoom_0 1 rfl ?_
  refine g_getR X gC1 0 rfl 0 (by decide) q190 (fun _ h9 => h9) rfl dX2_requireRoom_1 4 rfl ?_
  refine g_getRN X gC2 1 rfl 2 (by decide) q130 (fun _ h9 => h9) rfl dX2_requireRoom_4 7 rfl ?_
  refine g_bipush X 8 dX2_requireRoom_7 9 rfl kB_8 ?_
  refine g_seli 17 [] (b := 8 ≤ v_n) 0 1 ?_ (fun hc K => ?_) (fun hc K => ?_)
  · refine g_ldcS X 21 rfl dX2_requireRoom_17 19 rfl ?_
    rcases bc0_e h with ⟨k9, hcl, hg⟩ | ⟨hcl, h⟩
    · obtain rfl := Option.some.inj (show some (Sum.inr k9) = some _ from hg)
      exact g_xoSN X (met_X1_requireState l hl Z (gSK Z 21)  (if 8 ≤ v_n then (0 : Int32) else 1) _ hcl).thr [] [] [] (wr := []) ⟨rfl, rfl, rfl, rfl, rfl, by decide, by decide⟩ q962 q69 q960 q961 md_X1_requireState ⟨(Nat.le_of_ble_eq_true rfl), (Nat.le_of_ble_eq_true rfl)⟩ rfl dX2_requireRoom_19 Xt [] (Nat.le_of_ble_eq_true rfl) (Nat.le_of_ble_eq_true rfl) (st := []) rfl (Nat.le_of_ble_eq_true rfl) rfl rfl (Nat.le_of_ble_eq_true rfl) (Nat.le_of_ble_eq_true rfl)
    refine g_callSN0Z X (met_X1_requireState l hl Z (gSK Z 21)  (if 8 ≤ v_n then (0 : Int32) else 1) _ hcl).ret q962 q69 q960 q961 md_X1_requireState ⟨(Nat.le_of_ble_eq_true rfl), (Nat.le_of_ble_eq_true rfl)⟩ rfl dX2_requireRoom_19 22 rfl 1 6 rfl rfl (Nat.le_of_ble_eq_true rfl) (Nat.le_of_ble_eq_true rfl) (st := []) rfl (Nat.le_of_ble_eq_true rfl) (fun _ => rfl) (fun _ => ?_)
    obtain rfl := Option.some.inj h
    exact g_retI (g_vret X dX2_requireRoom_22 () rfl rfl (Nat.le_of_ble_eq_true rfl) (Nat.le_of_ble_eq_true rfl))
  · refine g_icmp_ge X dX2_requireRoom_9 16 (by decide) 12 rfl (fun _ => ?_) (fun hn => absurd hc hn)
    refine g_iconst X 0 dX2_requireRoom_16 17 rfl kI_0 ?_
    exact K
  · refine g_icmp_ge X dX2_requireRoom_9 16 (by decide) 12 rfl (fun hn => absurd hn hc) (fun _ => ?_)
    refine g_iconst X 1 dX2_requireRoom_12 13 rfl kI_1 ?_
    refine g_goto X dX2_requireRoom_13 17 (by decide) ?_
    exact K
/-! LineEchoes$Bench.addPart(II)I -/
abbrev rm_X2_addPart : Room := { frames := 9, cells := 2, slots := 12, locals := 142 }
def F_X2_addPart (v_n : Int32) (v_lengths : Nat → Int32) (v_fractions : Nat → Int32) (x1 : Int32) (x2 : Int32) : Option ((Int32 × Int32 × (Nat → Int32) × (Nat → Int32)) ⊕ Nat) :=
  bc0 (F_X2_requireValues x1 x2) (
  bc0 (F_X2_requireRoom v_n) (
  bd3 (F_X3_insert v_n v_lengths v_fractions v_n x1 x2) fun w1_n w2_lengths w3_fractions =>
  some (.inl (w1_n, w1_n, w2_lengths, w3_fractions))) gthr) gthr
theorem met_X2_addPart (l : Launch) (hl : l.stackTraces = false) (Z : gZt) (a1 : Nat) (a1_1 : Nat) (a1_2 : Nat) (a1_3 : Nat) (a1_4 : Nat) (a0 : Nat) (a2 : Nat) (a3 : Nat) (v_n : Int32) (v_pulses : Int32) (v_front : Int32) (v_least : Int32) (v_window : Int32) (v_lengths : Nat → Int32) (v_fractions : Nat → Int32) (v_pulseTimes : Nat → Int32) (v_pulseEnergies : Nat → Int32) (x1 : Int32) (x2 : Int32) (o : (Int32 × Int32 × (Nat → Int32) × (Nat → Int32)) ⊕ Nat) (h : F_X2_addPart v_n v_lengths v_fractions x1 x2 = some o) : Cx l yX2_addPart (ws_ yX2_addPart cX2_addPart 3 (some .int)) rm_X2_addPart Z [.ref a0, .int x1, .int x2] [(a1, .inr (2, [.ref a1_1, .ref a1_2, .int v_n, .ref a1_3, .ref a1_4, .int v_pulses, .int v_front, .int v_least, .int v_window])), (a1_1, .inl (Z.2 0, 8, .inl v_lengths)), (a1_2, .inl (Z.2 0, 8, .inl v_fractions)), (a1_3, .inl (Z.2 0, 4, .inl v_pulseTimes)), (a1_4, .inl (Z.2 0, 4, .inl v_pulseEnergies))] [(a0, .inr (1, [.ref a1, .ref a2, .ref a3]))] [(a1, .inr (2, [.ref a1_1, .ref a1_2, .int v_n, .ref a1_3, .ref a1_4, .int v_pulses, .int v_front, .int v_least, .int v_window])), (a1_1, .inl (Z.2 0, 8, .inl v_lengths)), (a1_2, .inl (Z.2 0, 8, .inl v_fractions)), (a1_3, .inl (Z.2 0, 4, .inl v_pulseTimes)), (a1_4, .inl (Z.2 0, 4, .inl v_pulseEnergies))] (fun x : Int32 × Int32 × (Nat → Int32) × (Nat → Int32) => (fun _ : Unit => (some (.int x.1) : Option Value))) (fun x : Int32 × Int32 × (Nat → Int32) × (Nat → Int32) => (fun _ : Unit => ([(a1, .inr (2, [.ref a1_1, .ref a1_2, .int x.2.1, .ref a1_3, .ref a1_4, .int v_pulses, .int v_front, .int v_least, .int v_window])), (a1_1, .inl (Z.2 0, 8, .inl x.2.2.1)), (a1_2, .inl (Z.2 0, 8, .inl x.2.2.2)), (a1_3, .inl (Z.2 0, 4, .inl v_pulseTimes)), (a1_4, .inl (Z.2 0, 4, .inl v_pulseEnergies))] : va_W))) o := by
  refine Cx.of cX2_addPart 3 (some .int) "LineEchoes$Bench" [some (.ref a0), some (.int x1), some (.int x2)] 0 (by decide) rfl (Nat.le_of_ble_eq_true rfl) rfl (fun p e s m args below meth c A X Xt => ?_)
  unfold F_X2_addPart at h
  refine g_iload_n X rfl dX2_addPart_0 1 rfl ?_
  refine g_iload_n X rfl dX2_addPart_1 2 rfl ?_
  rcases bc0_e h with ⟨k9, hcl, hg⟩ | ⟨hcl, h⟩
  · obtain rfl := Option.some.inj (show some (Sum.inr k9) = some _ from hg)
    exact g_xoS X (met_X2_requireValues l hl Z   x1 x2 _ hcl).thr [] [0, 1, 2, 3, 4] [] (wr := [(a1, .inr (2, [.ref a1_1, .ref a1_2, .int v_n, .ref a1_3, .ref a1_4, .int v_pulses, .int v_front, .int v_least, .int v_window])), (a1_1, .inl (Z.2 0, 8, .inl v_lengths)), (a1_2, .inl (Z.2 0, 8, .inl v_fractions)), (a1_3, .inl (Z.2 0, 4, .inl v_pulseTimes)), (a1_4, .inl (Z.2 0, 4, .inl v_pulseEnergies))]) ⟨rfl, rfl, rfl, rfl, rfl, by decide, by decide⟩ (lw_S q944 q945 q70 q946) md_X2_requireValues ⟨(Nat.le_of_ble_eq_true rfl), (Nat.le_of_ble_eq_true rfl)⟩ rfl dX2_addPart_2 Xt [0, 1, 2, 3, 4] (Nat.le_of_ble_eq_true rfl) (Nat.le_of_ble_eq_true rfl) (st := []) rfl (Nat.le_of_ble_eq_true rfl) rfl rfl (Nat.le_of_ble_eq_true rfl) (Nat.le_of_ble_eq_true rfl)
  refine g_callS0Z X (met_X2_requireValues l hl Z   x1 x2 _ hcl).ret (lw_S q944 q945 q70 q946) md_X2_requireValues ⟨(Nat.le_of_ble_eq_true rfl), (Nat.le_of_ble_eq_true rfl)⟩ rfl dX2_addPart_2 5 rfl 1 6 rfl rfl (Nat.le_of_ble_eq_true rfl) (Nat.le_of_ble_eq_true rfl) (st := []) rfl (Nat.le_of_ble_eq_true rfl) (fun _ => rfl) (fun _ => ?_)
  refine g_aload_n X rfl dX2_addPart_5 6 rfl ?_
  rcases bc0_e h with ⟨k9, hcl, hg⟩ | ⟨hcl, h⟩
  · obtain rfl := Option.some.inj (show some (Sum.inr k9) = some _ from hg)
    exact g_xoV X (met_X2_requireRoom l hl Z a0 a1 a1_1 a1_2 a1_3 a1_4 a2 a3 v_n v_pulses v_front v_least v_window v_lengths v_fractions v_pulseTimes v_pulseEnergies  _ hcl).thr [] [0, 1, 2, 3, 4] [5, 0, 1, 2, 3, 4] (wr := [(a1, .inr (2, [.ref a1_1, .ref a1_2, .int v_n, .ref a1_3, .ref a1_4, .int v_pulses, .int v_front, .int v_least, .int v_window])), (a1_1, .inl (Z.2 0, 8, .inl v_lengths)), (a1_2, .inl (Z.2 0, 8, .inl v_fractions)), (a1_3, .inl (Z.2 0, 4, .inl v_pulseTimes)), (a1_4, .inl (Z.2 0, 4, .inl v_pulseEnergies))]) ⟨rfl, rfl, rfl, rfl, rfl, by decide, by decide⟩ 5 gC1 rfl rfl (lw_V q955 q957 qs14 q70 q958) md_X2_requireRoom ⟨(Nat.le_of_ble_eq_true rfl), (Nat.le_of_ble_eq_true rfl)⟩ rfl dX2_addPart_6 Xt [0, 1, 2, 3, 4] (Nat.le_of_ble_eq_true rfl) (Nat.le_of_ble_eq_true rfl) (st := []) rfl (Nat.le_of_ble_eq_true rfl) rfl rfl (Nat.le_of_ble_eq_true rfl) (Nat.le_of_ble_eq_true rfl)
  refine g_callV0 X (met_X2_requireRoom l hl Z a0 a1 a1_1 a1_2 a1_3 a1_4 a2 a3 v_n v_pulses v_front v_least v_window v_lengths v_fractions v_pulseTimes v_pulseEnergies  _ hcl).ret [] [0, 1, 2, 3, 4] [5, 0, 1, 2, 3, 4] (wr := [(a1, .inr (2, [.ref a1_1, .ref a1_2, .int v_n, .ref a1_3, .ref a1_4, .int v_pulses, .int v_front, .int v_least, .int v_window])), (a1_1, .inl (Z.2 0, 8, .inl v_lengths)), (a1_2, .inl (Z.2 0, 8, .inl v_fractions)), (a1_3, .inl (Z.2 0, 4, .inl v_pulseTimes)), (a1_4, .inl (Z.2 0, 4, .inl v_pulseEnergies))]) ⟨rfl, rfl, rfl, rfl, rfl, by decide, by decide⟩ 5 gC1 rfl rfl (lw_V q955 q957 qs14 q70 q958) md_X2_requireRoom ⟨(Nat.le_of_ble_eq_true rfl), (Nat.le_of_ble_eq_true rfl)⟩ rfl dX2_addPart_6 9 rfl 2 12 rfl rfl (Nat.le_of_ble_eq_true rfl) (Nat.le_of_ble_eq_true rfl) (st := []) rfl (Nat.le_of_ble_eq_true rfl) (fun _ => rfl) (fun _ => ?_)
  refine g_aload_n X rfl dX2_addPart_9 10 rfl ?_
  refine g_getR X gC1 0 rfl 0 (by decide) q190 (fun _ h9 => h9) rfl dX2_addPart_10 13 rfl ?_
  refine g_aload_n X rfl dX2_addPart_13 14 rfl ?_
  refine g_getR X gC1 0 rfl 0 (by decide) q190 (fun _ h9 => h9) rfl dX2_addPart_14 17 rfl ?_
  refine g_getN X gC2 0 rfl 2 (by decide) q130 (fun _ h9 => h9) rfl dX2_addPart_17 20 rfl ?_
  refine g_iload_n X rfl dX2_addPart_20 21 rfl ?_
  refine g_iload_n X rfl dX2_addPart_21 22 rfl ?_
  obtain ⟨w1_n, w2_lengths, w3_fractions, hcl, h⟩ := bd3_e h
  refine g_callV0 X (met_X3_insert l Z a1 a1_1 a1_2 a1_3 a1_4 v_n v_pulses v_front v_least v_window v_lengths v_fractions v_pulseTimes v_pulseEnergies v_n x1 x2 w1_n w2_lengths w3_fractions hcl) [0, 1, 2, 3, 4] [] [] (wr := []) ⟨rfl, rfl, rfl, rfl, rfl, by decide, by decide⟩ 0 gC2 rfl rfl (lw_V q977 q428 q429 q71 q430) md_X3_insert ⟨(Nat.le_of_ble_eq_true rfl), (Nat.le_of_ble_eq_true rfl)⟩ rfl dX2_addPart_22 25 rfl 2 12 rfl rfl (Nat.le_of_ble_eq_true rfl) (Nat.le_of_ble_eq_true rfl) (st := []) rfl (Nat.le_of_ble_eq_true rfl) (fun _ => rfl) (fun _ => ?_)
  refine g_aload_n X rfl dX2_addPart_25 26 rfl ?_
  refine g_getR X gC1 0 rfl 0 (by decide) q190 (fun _ h9 => h9) rfl dX2_addPart_26 29 rfl ?_
  refine g_getN X gC2 0 rfl 2 (by decide) q130 (fun _ h9 => h9) rfl dX2_addPart_29 32 rfl ?_
  obtain rfl := Option.some.inj h
  exact g_retI (g_iret X dX2_addPart_32 () rfl rfl (Nat.le_of_ble_eq_true rfl) (Nat.le_of_ble_eq_true rfl))
/-! LineEchoes$Bench.setPart(III)I -/
abbrev rm_X2_setPart : Room := { frames := 9, cells := 2, slots := 12, locals := 142 }
def F_X2_setPart (v_n : Int32) (v_lengths : Nat → Int32) (v_fractions : Nat → Int32) (x1 : Int32) (x2 : Int32) (x3 : Int32) : Option ((Int32 × (Nat → Int32) × (Nat → Int32)) ⊕ Nat) :=
  bc0 (F_X2_requirePart v_n x1) (
  bc0 (F_X2_requireValues x2 x3) (
  gin x1 8 <|
  gin x1 8 <|
  gin x1 8 <|
  some (.inl (v_fractions x1.toNatClampNeg, upd v_lengths x1.toNatClampNeg x2, upd v_fractions x1.toNatClampNeg x3))) gthr) gthr
theorem met_X2_setPart (l : Launch) (hl : l.stackTraces = false) (Z : gZt) (a1 : Nat) (a1_1 : Nat) (a1_2 : Nat) (a1_3 : Nat) (a1_4 : Nat) (a0 : Nat) (a2 : Nat) (a3 : Nat) (v_n : Int32) (v_pulses : Int32) (v_front : Int32) (v_least : Int32) (v_window : Int32) (v_lengths : Nat → Int32) (v_fractions : Nat → Int32) (v_pulseTimes : Nat → Int32) (v_pulseEnergies : Nat → Int32) (x1 : Int32) (x2 : Int32) (x3 : Int32) (o : (Int32 × (Nat → Int32) × (Nat → Int32)) ⊕ Nat) (h : F_X2_setPart v_n v_lengths v_fractions x1 x2 x3 = some o) : Cx l yX2_setPart (ws_ yX2_setPart cX2_setPart 5 (some .int)) rm_X2_setPart Z [.ref a0, .int x1, .int x2, .int x3] [(a1, .inr (2, [.ref a1_1, .ref a1_2, .int v_n, .ref a1_3, .ref a1_4, .int v_pulses, .int v_front, .int v_least, .int v_window])), (a1_1, .inl (Z.2 0, 8, .inl v_lengths)), (a1_2, .inl (Z.2 0, 8, .inl v_fractions)), (a1_3, .inl (Z.2 0, 4, .inl v_pulseTimes)), (a1_4, .inl (Z.2 0, 4, .inl v_pulseEnergies))] [(a0, .inr (1, [.ref a1, .ref a2, .ref a3]))] [(a1, .inr (2, [.ref a1_1, .ref a1_2, .int v_n, .ref a1_3, .ref a1_4, .int v_pulses, .int v_front, .int v_least, .int v_window])), (a1_1, .inl (Z.2 0, 8, .inl v_lengths)), (a1_2, .inl (Z.2 0, 8, .inl v_fractions)), (a1_3, .inl (Z.2 0, 4, .inl v_pulseTimes)), (a1_4, .inl (Z.2 0, 4, .inl v_pulseEnergies))] (fun x : Int32 × (Nat → Int32) × (Nat → Int32) => (fun _ : Unit => (some (.int x.1) : Option Value))) (fun x : Int32 × (Nat → Int32) × (Nat → Int32) => (fun _ : Unit => ([(a1, .inr (2, [.ref a1_1, .ref a1_2, .int v_n, .ref a1_3, .ref a1_4, .int v_pulses, .int v_front, .int v_least, .int v_window])), (a1_1, .inl (Z.2 0, 8, .inl x.2.1)), (a1_2, .inl (Z.2 0, 8, .inl x.2.2)), (a1_3, .inl (Z.2 0, 4, .inl v_pulseTimes)), (a1_4, .inl (Z.2 0, 4, .inl v_pulseEnergies))] : va_W))) o := by
  refine Cx.of cX2_setPart 5 (some .int) "LineEchoes$Bench" [some (.ref a0), some (.int x1), some (.int x2), some (.int x3), none] 1 (by decide) rfl (Nat.le_of_ble_eq_true rfl) rfl (fun p e s m args below meth c A X Xt => ?_)
  unfold F_X2_setPart at h
  refine g_aload_n X rfl dX2_setPart_0 1 rfl ?_
  refine g_iload_n X rfl dX2_setPart_1 2 rfl ?_
  rcases bc0_e h with ⟨k9, hcl, hg⟩ | ⟨hcl, h⟩
  · obtain rfl := Option.some.inj (show some (Sum.inr k9) = some _ from hg)
    exact g_xoV X (met_X2_requirePart l hl Z a0 a1 a1_1 a1_2 a1_3 a1_4 a2 a3 v_n v_pulses v_front v_least v_window v_lengths v_fractions v_pulseTimes v_pulseEnergies x1 _ hcl).thr [] [0, 1, 2, 3, 4] [5, 0, 1, 2, 3, 4] (wr := [(a1, .inr (2, [.ref a1_1, .ref a1_2, .int v_n, .ref a1_3, .ref a1_4, .int v_pulses, .int v_front, .int v_least, .int v_window])), (a1_1, .inl (Z.2 0, 8, .inl v_lengths)), (a1_2, .inl (Z.2 0, 8, .inl v_fractions)), (a1_3, .inl (Z.2 0, 4, .inl v_pulseTimes)), (a1_4, .inl (Z.2 0, 4, .inl v_pulseEnergies))]) ⟨rfl, rfl, rfl, rfl, rfl, by decide, by decide⟩ 5 gC1 rfl rfl (lw_V q982 q983 q984 q70 q985) md_X2_requirePart ⟨(Nat.le_of_ble_eq_true rfl), (Nat.le_of_ble_eq_true rfl)⟩ rfl dX2_setPart_2 Xt [0, 1, 2, 3, 4] (Nat.le_of_ble_eq_true rfl) (Nat.le_of_ble_eq_true rfl) (st := []) rfl (Nat.le_of_ble_eq_true rfl) rfl rfl (Nat.le_of_ble_eq_true rfl) (Nat.le_of_ble_eq_true rfl)
  refine g_callV0 X (met_X2_requirePart l hl Z a0 a1 a1_1 a1_2 a1_3 a1_4 a2 a3 v_n v_pulses v_front v_least v_window v_lengths v_fractions v_pulseTimes v_pulseEnergies x1 _ hcl).ret [] [0, 1, 2, 3, 4] [5, 0, 1, 2, 3, 4] (wr := [(a1, .inr (2, [.ref a1_1, .ref a1_2, .int v_n, .ref a1_3, .ref a1_4, .int v_pulses, .int v_front, .int v_least, .int v_window])), (a1_1, .inl (Z.2 0, 8, .inl v_lengths)), (a1_2, .inl (Z.2 0, 8, .inl v_fractions)), (a1_3, .inl (Z.2 0, 4, .inl v_pulseTimes)), (a1_4, .inl (Z.2 0, 4, .inl v_pulseEnergies))]) ⟨rfl, rfl, rfl, rfl, rfl, by decide, by decide⟩ 5 gC1 rfl rfl (lw_V q982 q983 q984 q70 q985) md_X2_requirePart ⟨(Nat.le_of_ble_eq_true rfl), (Nat.le_of_ble_eq_true rfl)⟩ rfl dX2_setPart_2 5 rfl 1 6 rfl rfl (Nat.le_of_ble_eq_true rfl) (Nat.le_of_ble_eq_true rfl) (st := []) rfl (Nat.le_of_ble_eq_true rfl) (fun _ => rfl) (fun _ => ?_)
  refine g_iload_n X rfl dX2_setPart_5 6 rfl ?_
  refine g_iload_n X rfl dX2_setPart_6 7 rfl ?_
  rcases bc0_e h with ⟨k9, hcl, hg⟩ | ⟨hcl, h⟩
  · obtain rfl := Option.some.inj (show some (Sum.inr k9) = some _ from hg)
    exact g_xoS X (met_X2_requireValues l hl Z   x2 x3 _ hcl).thr [] [0, 1, 2, 3, 4] [] (wr := [(a1, .inr (2, [.ref a1_1, .ref a1_2, .int v_n, .ref a1_3, .ref a1_4, .int v_pulses, .int v_front, .int v_least, .int v_window])), (a1_1, .inl (Z.2 0, 8, .inl v_lengths)), (a1_2, .inl (Z.2 0, 8, .inl v_fractions)), (a1_3, .inl (Z.2 0, 4, .inl v_pulseTimes)), (a1_4, .inl (Z.2 0, 4, .inl v_pulseEnergies))]) ⟨rfl, rfl, rfl, rfl, rfl, by decide, by decide⟩ (lw_S q944 q945 q70 q946) md_X2_requireValues ⟨(Nat.le_of_ble_eq_true rfl), (Nat.le_of_ble_eq_true rfl)⟩ rfl dX2_setPart_7 Xt [0, 1, 2, 3, 4] (Nat.le_of_ble_eq_true rfl) (Nat.le_of_ble_eq_true rfl) (st := []) rfl (Nat.le_of_ble_eq_true rfl) rfl rfl (Nat.le_of_ble_eq_true rfl) (Nat.le_of_ble_eq_true rfl)
  refine g_callS0Z X (met_X2_requireValues l hl Z   x2 x3 _ hcl).ret (lw_S q944 q945 q70 q946) md_X2_requireValues ⟨(Nat.le_of_ble_eq_true rfl), (Nat.le_of_ble_eq_true rfl)⟩ rfl dX2_setPart_7 10 rfl 2 12 rfl rfl (Nat.le_of_ble_eq_true rfl) (Nat.le_of_ble_eq_true rfl) (st := []) rfl (Nat.le_of_ble_eq_true rfl) (fun _ => rfl) (fun _ => ?_)
  refine g_aload_n X rfl dX2_setPart_10 11 rfl ?_
  refine g_getR X gC1 0 rfl 0 (by decide) q190 (fun _ h9 => h9) rfl dX2_setPart_11 14 rfl ?_
  refine g_getN X gC2 0 rfl 1 (by decide) q128 (fun _ h9 => h9) rfl dX2_setPart_14 17 rfl ?_
  refine g_iload_n X rfl dX2_setPart_17 18 rfl ?_
  obtain ⟨hi, h⟩ := gin_e h
  refine g_iald X 2 rfl hi dX2_setPart_18 19 rfl ?_
  refine g_istore X dX2_setPart_19 21 rfl (Nat.le_of_ble_eq_true rfl) rfl [some (.ref a0), some (.int x1), some (.int x2), some (.int x3), some (.int (v_fractions x1.toNatClampNeg))] rfl ?_
  refine g_aload_n X rfl dX2_setPart_21 22 rfl ?_
  refine g_getR X gC1 0 rfl 0 (by decide) q190 (fun _ h9 => h9) rfl dX2_setPart_22 25 rfl ?_
  refine g_getN X gC2 0 rfl 0 (by decide) q122 (fun _ h9 => h9) rfl dX2_setPart_25 28 rfl ?_
  refine g_iload_n X rfl dX2_setPart_28 29 rfl ?_
  refine g_iload_n X rfl dX2_setPart_29 30 rfl ?_
  obtain ⟨hi, h⟩ := gin_e h
  refine g_iast X 1 rfl hi dX2_setPart_30 31 rfl ?_
  refine g_aload_n X rfl dX2_setPart_31 32 rfl ?_
  refine g_getR X gC1 0 rfl 0 (by decide) q190 (fun _ h9 => h9) rfl dX2_setPart_32 35 rfl ?_
  refine g_getN X gC2 0 rfl 1 (by decide) q128 (fun _ h9 => h9) rfl dX2_setPart_35 38 rfl ?_
  refine g_iload_n X rfl dX2_setPart_38 39 rfl ?_
  refine g_iload_n X rfl dX2_setPart_39 40 rfl ?_
  obtain ⟨hi, h⟩ := gin_e h
  refine g_iast X 2 rfl hi dX2_setPart_40 41 rfl ?_
  refine g_iload X rfl dX2_setPart_41 43 rfl ?_
  obtain rfl := Option.some.inj h
  exact g_retI (g_iret X dX2_setPart_43 () rfl rfl (Nat.le_of_ble_eq_true rfl) (Nat.le_of_ble_eq_true rfl))
/-! LineEchoes$Bench.removePart(I)I -/
abbrev rm_X2_removePart : Room := { frames := 9, cells := 1, slots := 6, locals := 142 }
def F_X2_removePart (v_n : Int32) (v_lengths : Nat → Int32) (v_fractions : Nat → Int32) (x1 : Int32) : Option ((Int32 × Int32 × (Nat → Int32) × (Nat → Int32)) ⊕ Nat) :=
  bc0 (F_X2_requirePart v_n x1) (
  bd3 (F_X3_remove v_n v_lengths v_fractions x1) fun w1_n w2_lengths w3_fractions =>
  some (.inl (w1_n, w1_n, w2_lengths, w3_fractions))) gthr
theorem met_X2_removePart (l : Launch) (hl : l.stackTraces = false) (Z : gZt) (a1 : Nat) (a1_1 : Nat) (a1_2 : Nat) (a1_3 : Nat) (a1_4 : Nat) (a0 : Nat) (a2 : Nat) (a3 : Nat) (v_n : Int32) (v_pulses : Int32) (v_front : Int32) (v_least : Int32) (v_window : Int32) (v_lengths : Nat → Int32) (v_fractions : Nat → Int32) (v_pulseTimes : Nat → Int32) (v_pulseEnergies : Nat → Int32) (x1 : Int32) (o : (Int32 × Int32 × (Nat → Int32) × (Nat → Int32)) ⊕ Nat) (h : F_X2_removePart v_n v_lengths v_fractions x1 = some o) : Cx l yX2_removePart (ws_ yX2_removePart cX2_removePart 2 (some .int)) rm_X2_removePart Z [.ref a0, .int x1] [(a1, .inr (2, [.ref a1_1, .ref a1_2, .int v_n, .ref a1_3, .ref a1_4, .int v_pulses, .int v_front, .int v_least, .int v_window])), (a1_1, .inl (Z.2 0, 8, .inl v_lengths)), (a1_2, .inl (Z.2 0, 8, .inl v_fractions)), (a1_3, .inl (Z.2 0, 4, .inl v_pulseTimes)), (a1_4, .inl (Z.2 0, 4, .inl v_pulseEnergies))] [(a0, .inr (1, [.ref a1, .ref a2, .ref a3]))] [(a1, .inr (2, [.ref a1_1, .ref a1_2, .int v_n, .ref a1_3, .ref a1_4, .int v_pulses, .int v_front, .int v_least, .int v_window])), (a1_1, .inl (Z.2 0, 8, .inl v_lengths)), (a1_2, .inl (Z.2 0, 8, .inl v_fractions)), (a1_3, .inl (Z.2 0, 4, .inl v_pulseTimes)), (a1_4, .inl (Z.2 0, 4, .inl v_pulseEnergies))] (fun x : Int32 × Int32 × (Nat → Int32) × (Nat → Int32) => (fun _ : Unit => (some (.int x.1) : Option Value))) (fun x : Int32 × Int32 × (Nat → Int32) × (Nat → Int32) => (fun _ : Unit => ([(a1, .inr (2, [.ref a1_1, .ref a1_2, .int x.2.1, .ref a1_3, .ref a1_4, .int v_pulses, .int v_front, .int v_least, .int v_window])), (a1_1, .inl (Z.2 0, 8, .inl x.2.2.1)), (a1_2, .inl (Z.2 0, 8, .inl x.2.2.2)), (a1_3, .inl (Z.2 0, 4, .inl v_pulseTimes)), (a1_4, .inl (Z.2 0, 4, .inl v_pulseEnergies))] : va_W))) o := by
  refine Cx.of cX2_removePart 2 (some .int) "LineEchoes$Bench" [some (.ref a0), some (.int x1)] 0 (by decide) rfl (Nat.le_of_ble_eq_true rfl) rfl (fun p e s m args below meth c A X Xt => ?_)
  unfold F_X2_removePart at h
  refine g_aload_n X rfl dX2_removePart_0 1 rfl ?_
  refine g_iload_n X rfl dX2_removePart_1 2 rfl ?_
  rcases bc0_e h with ⟨k9, hcl, hg⟩ | ⟨hcl, h⟩
  · obtain rfl := Option.some.inj (show some (Sum.inr k9) = some _ from hg)
    exact g_xoV X (met_X2_requirePart l hl Z a0 a1 a1_1 a1_2 a1_3 a1_4 a2 a3 v_n v_pulses v_front v_least v_window v_lengths v_fractions v_pulseTimes v_pulseEnergies x1 _ hcl).thr [] [0, 1, 2, 3, 4] [5, 0, 1, 2, 3, 4] (wr := [(a1, .inr (2, [.ref a1_1, .ref a1_2, .int v_n, .ref a1_3, .ref a1_4, .int v_pulses, .int v_front, .int v_least, .int v_window])), (a1_1, .inl (Z.2 0, 8, .inl v_lengths)), (a1_2, .inl (Z.2 0, 8, .inl v_fractions)), (a1_3, .inl (Z.2 0, 4, .inl v_pulseTimes)), (a1_4, .inl (Z.2 0, 4, .inl v_pulseEnergies))]) ⟨rfl, rfl, rfl, rfl, rfl, by decide, by decide⟩ 5 gC1 rfl rfl (lw_V q982 q983 q984 q70 q985) md_X2_requirePart ⟨(Nat.le_of_ble_eq_true rfl), (Nat.le_of_ble_eq_true rfl)⟩ rfl dX2_removePart_2 Xt [0, 1, 2, 3, 4] (Nat.le_of_ble_eq_true rfl) (Nat.le_of_ble_eq_true rfl) (st := []) rfl (Nat.le_of_ble_eq_true rfl) rfl rfl (Nat.le_of_ble_eq_true rfl) (Nat.le_of_ble_eq_true rfl)
  refine g_callV0 X (met_X2_requirePart l hl Z a0 a1 a1_1 a1_2 a1_3 a1_4 a2 a3 v_n v_pulses v_front v_least v_window v_lengths v_fractions v_pulseTimes v_pulseEnergies x1 _ hcl).ret [] [0, 1, 2, 3, 4] [5, 0, 1, 2, 3, 4] (wr := [(a1, .inr (2, [.ref a1_1, .ref a1_2, .int v_n, .ref a1_3, .ref a1_4, .int v_pulses, .int v_front, .int v_least, .int v_window])), (a1_1, .inl (Z.2 0, 8, .inl v_lengths)), (a1_2, .inl (Z.2 0, 8, .inl v_fractions)), (a1_3, .inl (Z.2 0, 4, .inl v_pulseTimes)), (a1_4, .inl (Z.2 0, 4, .inl v_pulseEnergies))]) ⟨rfl, rfl, rfl, rfl, rfl, by decide, by decide⟩ 5 gC1 rfl rfl (lw_V q982 q983 q984 q70 q985) md_X2_requirePart ⟨(Nat.le_of_ble_eq_true rfl), (Nat.le_of_ble_eq_true rfl)⟩ rfl dX2_removePart_2 5 rfl 1 6 rfl rfl (Nat.le_of_ble_eq_true rfl) (Nat.le_of_ble_eq_true rfl) (st := []) rfl (Nat.le_of_ble_eq_true rfl) (fun _ => rfl) (fun _ => ?_)
  refine g_aload_n X rfl dX2_removePart_5 6 rfl ?_
  refine g_getR X gC1 0 rfl 0 (by decide) q190 (fun _ h9 => h9) rfl dX2_removePart_6 9 rfl ?_
  refine g_iload_n X rfl dX2_removePart_9 10 rfl ?_
  obtain ⟨w1_n, w2_lengths, w3_fractions, hcl, h⟩ := bd3_e h
  refine g_callV0 X (met_X3_remove l Z a1 a1_1 a1_2 a1_3 a1_4 v_n v_pulses v_front v_least v_window v_lengths v_fractions v_pulseTimes v_pulseEnergies x1 w1_n w2_lengths w3_fractions hcl) [0, 1, 2, 3, 4] [] [] (wr := []) ⟨rfl, rfl, rfl, rfl, rfl, by decide, by decide⟩ 0 gC2 rfl rfl (lw_V q1005 q436 q437 q71 q438) md_X3_remove ⟨(Nat.le_of_ble_eq_true rfl), (Nat.le_of_ble_eq_true rfl)⟩ rfl dX2_removePart_10 13 rfl 1 6 rfl rfl (Nat.le_of_ble_eq_true rfl) (Nat.le_of_ble_eq_true rfl) (st := []) rfl (Nat.le_of_ble_eq_true rfl) (fun _ => rfl) (fun _ => ?_)
  refine g_aload_n X rfl dX2_removePart_13 14 rfl ?_
  refine g_getR X gC1 0 rfl 0 (by decide) q190 (fun _ h9 => h9) rfl dX2_removePart_14 17 rfl ?_
  refine g_getN X gC2 0 rfl 2 (by decide) q130 (fun _ h9 => h9) rfl dX2_removePart_17 20 rfl ?_
  obtain rfl := Option.some.inj h
  exact g_retI (g_iret X dX2_removePart_20 () rfl rfl (Nat.le_of_ble_eq_true rfl) (Nat.le_of_ble_eq_true rfl))
/-! LineEchoes$Bench.splitPart(III)I -/
abbrev rm_X2_splitPart : Room := { frames := 9, cells := 3, slots := 18, locals := 142 }
def F_X2_splitPart_43 (v_n : Int32) (v_lengths : Nat → Int32) (v_fractions : Nat → Int32) (x1 : Int32) (x2 : Int32) (x3 : Int32) (s0 : Int32) : Option ((Int32 × Int32 × (Nat → Int32) × (Nat → Int32)) ⊕ Nat) :=
  bc0 (F_X1_requireArgument s0) (
  bc0 (F_X2_requireRoom v_n) (
  gin x1 8 <|
  nm ((v_lengths x1.toNatClampNeg) - x2) fun t1 =>
  gin x1 8 <|
  bd3 (F_X3_insert v_n (upd v_lengths x1.toNatClampNeg t1) v_fractions x1 x2 x3) fun w2_n w3_lengths w4_fractions =>
  some (.inl (w2_n, w2_n, w3_lengths, w4_fractions))) gthr) gthr
def F_X2_splitPart_42 (v_n : Int32) (v_lengths : Nat → Int32) (v_fractions : Nat → Int32) (x1 : Int32) (x2 : Int32) (x3 : Int32) : Option ((Int32 × Int32 × (Nat → Int32) × (Nat → Int32)) ⊕ Nat) :=
  F_X2_splitPart_43 v_n v_lengths v_fractions x1 x2 x3 0
def F_X2_splitPart (v_n : Int32) (v_lengths : Nat → Int32) (v_fractions : Nat → Int32) (x1 : Int32) (x2 : Int32) (x3 : Int32) : Option ((Int32 × Int32 × (Nat → Int32) × (Nat → Int32)) ⊕ Nat) :=
  bc0 (F_X2_requirePart v_n x1) (
  gin x1 8 <|
  bd1 (F_X1_inRange x2.toInt64 1 (((v_lengths x1.toNatClampNeg) - 1).toInt64)) fun r1 =>
  if r1 = 0 then
    (F_X2_splitPart_42 v_n v_lengths v_fractions x1 x2 x3)
  else
    (bd1 (F_X1_inRange x3.toInt64 0 1000) fun r2 =>
    if r2 = 0 then
      (F_X2_splitPart_42 v_n v_lengths v_fractions x1 x2 x3)
    else
      (F_X2_splitPart_43 v_n v_lengths v_fractions x1 x2 x3 1))) gthr
theorem w_X2_splitPart_43 {p : Program} {l : Launch} {e : Env} {s : State} {m : MethodId} {args : Array Value} {below : List Frame} {meth : Method} {c : Code} {Z : gZt} {A : Nat → Prop} (a1 : Nat) (a1_1 : Nat) (a1_2 : Nat) (a1_3 : Nat) (a1_4 : Nat) (a0 : Nat) (a2 : Nat) (a3 : Nat) (X : gX p s m args meth c Z A cX2_splitPart "LineEchoes$Bench" 4 (some .int) [(a0, .inr (1, [.ref a1, .ref a2, .ref a3]))]) (Xt : gXt c) (hl : l.stackTraces = false) (o : (Int32 × Int32 × (Nat → Int32) × (Nat → Int32)) ⊕ Nat)  (v_n : Int32) (v_pulses : Int32) (v_front : Int32) (v_least : Int32) (v_window : Int32) (v_lengths : Nat → Int32) (v_fractions : Nat → Int32) (v_pulseTimes : Nat → Int32) (v_pulseEnergies : Nat → Int32) (x1 : Int32) (x2 : Int32) (x3 : Int32) (s0 : Int32) (h : F_X2_splitPart_43 v_n v_lengths v_fractions x1 x2 x3 s0 = some o) : G p l e rm_X2_splitPart s m args below meth c Z A 4 (vx_MQ below (gQc Z A (fun x : Int32 × Int32 × (Nat → Int32) × (Nat → Int32) => (fun _ : Unit => (some (.int x.1) : Option Value))) (fun x : Int32 × Int32 × (Nat → Int32) × (Nat → Int32) => (fun _ : Unit => ([(a1, .inr (2, [.ref a1_1, .ref a1_2, .int x.2.1, .ref a1_3, .ref a1_4, .int v_pulses, .int v_front, .int v_least, .int v_window])), (a1_1, .inl (Z.2 0, 8, .inl x.2.2.1)), (a1_2, .inl (Z.2 0, 8, .inl x.2.2.2)), (a1_3, .inl (Z.2 0, 4, .inl v_pulseTimes)), (a1_4, .inl (Z.2 0, 4, .inl v_pulseEnergies))] : va_W))) o) (gXc Z A [(a1, .inr (2, [.ref a1_1, .ref a1_2, .int v_n, .ref a1_3, .ref a1_4, .int v_pulses, .int v_front, .int v_least, .int v_window])), (a1_1, .inl (Z.2 0, 8, .inl v_lengths)), (a1_2, .inl (Z.2 0, 8, .inl v_fractions)), (a1_3, .inl (Z.2 0, 4, .inl v_pulseTimes)), (a1_4, .inl (Z.2 0, 4, .inl v_pulseEnergies))] o) args s 3 18 A) [(a1, .inr (2, [.ref a1_1, .ref a1_2, .int v_n, .ref a1_3, .ref a1_4, .int v_pulses, .int v_front, .int v_least, .int v_window])), (a1_1, .inl (Z.2 0, 8, .inl v_lengths)), (a1_2, .inl (Z.2 0, 8, .inl v_fractions)), (a1_3, .inl (Z.2 0, 4, .inl v_pulseTimes)), (a1_4, .inl (Z.2 0, 4, .inl v_pulseEnergies))] 1 6 43 [some (.ref a0), some (.int x1), some (.int x2), some (.int x3)] [.int s0] := by
  unfold F_X2_splitPart_43 at h
  refine g_ldcS X 23 rfl dX2_splitPart_43 45 rfl ?_
  rcases bc0_e h with ⟨k9, hcl, hg⟩ | ⟨hcl, h⟩
  · obtain rfl := Option.some.inj (show some (Sum.inr k9) = some _ from hg)
    exact g_xoSN X (met_X1_requireArgument l hl Z (gSK Z 23)  s0 _ hcl).thr [] [0, 1, 2, 3, 4] [] (wr := [(a1, .inr (2, [.ref a1_1, .ref a1_2, .int v_n, .ref a1_3, .ref a1_4, .int v_pulses, .int v_front, .int v_least, .int v_window])), (a1_1, .inl (Z.2 0, 8, .inl v_lengths)), (a1_2, .inl (Z.2 0, 8, .inl v_fractions)), (a1_3, .inl (Z.2 0, 4, .inl v_pulseTimes)), (a1_4, .inl (Z.2 0, 4, .inl v_pulseEnergies))]) ⟨rfl, rfl, rfl, rfl, rfl, by decide, by decide⟩ q953 q69 q951 q952 md_X1_requireArgument ⟨(Nat.le_of_ble_eq_true rfl), (Nat.le_of_ble_eq_true rfl)⟩ rfl dX2_splitPart_45 Xt [0, 1, 2, 3, 4] (Nat.le_of_ble_eq_true rfl) (Nat.le_of_ble_eq_true rfl) (st := []) rfl (Nat.le_of_ble_eq_true rfl) rfl rfl (Nat.le_of_ble_eq_true rfl) (Nat.le_of_ble_eq_true rfl)
  refine g_callSN0Z X (met_X1_requireArgument l hl Z (gSK Z 23)  s0 _ hcl).ret q953 q69 q951 q952 md_X1_requireArgument ⟨(Nat.le_of_ble_eq_true rfl), (Nat.le_of_ble_eq_true rfl)⟩ rfl dX2_splitPart_45 48 rfl 2 12 rfl rfl (Nat.le_of_ble_eq_true rfl) (Nat.le_of_ble_eq_true rfl) (st := []) rfl (Nat.le_of_ble_eq_true rfl) (fun _ => rfl) (fun _ => ?_)
  refine g_aload_n X rfl dX2_splitPart_48 49 rfl ?_
  rcases bc0_e h with ⟨k9, hcl, hg⟩ | ⟨hcl, h⟩
  · obtain rfl := Option.some.inj (show some (Sum.inr k9) = some _ from hg)
    exact g_xoV X (met_X2_requireRoom l hl Z a0 a1 a1_1 a1_2 a1_3 a1_4 a2 a3 v_n v_pulses v_front v_least v_window v_lengths v_fractions v_pulseTimes v_pulseEnergies  _ hcl).thr [] [0, 1, 2, 3, 4] [5, 0, 1, 2, 3, 4] (wr := [(a1, .inr (2, [.ref a1_1, .ref a1_2, .int v_n, .ref a1_3, .ref a1_4, .int v_pulses, .int v_front, .int v_least, .int v_window])), (a1_1, .inl (Z.2 0, 8, .inl v_lengths)), (a1_2, .inl (Z.2 0, 8, .inl v_fractions)), (a1_3, .inl (Z.2 0, 4, .inl v_pulseTimes)), (a1_4, .inl (Z.2 0, 4, .inl v_pulseEnergies))]) ⟨rfl, rfl, rfl, rfl, rfl, by decide, by decide⟩ 5 gC1 rfl rfl (lw_V q955 q957 qs14 q70 q958) md_X2_requireRoom ⟨(Nat.le_of_ble_eq_true rfl), (Nat.le_of_ble_eq_true rfl)⟩ rfl dX2_splitPart_49 Xt [0, 1, 2, 3, 4] (Nat.le_of_ble_eq_true rfl) (Nat.le_of_ble_eq_true rfl) (st := []) rfl (Nat.le_of_ble_eq_true rfl) rfl rfl (Nat.le_of_ble_eq_true rfl) (Nat.le_of_ble_eq_true rfl)
  refine g_callV0 X (met_X2_requireRoom l hl Z a0 a1 a1_1 a1_2 a1_3 a1_4 a2 a3 v_n v_pulses v_front v_least v_window v_lengths v_fractions v_pulseTimes v_pulseEnergies  _ hcl).ret [] [0, 1, 2, 3, 4] [5, 0, 1, 2, 3, 4] (wr := [(a1, .inr (2, [.ref a1_1, .ref a1_2, .int v_n, .ref a1_3, .ref a1_4, .int v_pulses, .int v_front, .int v_least, .int v_window])), (a1_1, .inl (Z.2 0, 8, .inl v_lengths)), (a1_2, .inl (Z.2 0, 8, .inl v_fractions)), (a1_3, .inl (Z.2 0, 4, .inl v_pulseTimes)), (a1_4, .inl (Z.2 0, 4, .inl v_pulseEnergies))]) ⟨rfl, rfl, rfl, rfl, rfl, by decide, by decide⟩ 5 gC1 rfl rfl (lw_V q955 q957 qs14 q70 q958) md_X2_requireRoom ⟨(Nat.le_of_ble_eq_true rfl), (Nat.le_of_ble_eq_true rfl)⟩ rfl dX2_splitPart_49 52 rfl 3 18 rfl rfl (Nat.le_of_ble_eq_true rfl) (Nat.le_of_ble_eq_true rfl) (st := []) rfl (Nat.le_of_ble_eq_true rfl) (fun _ => rfl) (fun _ => ?_)
  refine g_aload_n X rfl dX2_splitPart_52 53 rfl ?_
  refine g_getR X gC1 0 rfl 0 (by decide) q190 (fun _ h9 => h9) rfl dX2_splitPart_53 56 rfl ?_
  refine g_getN X gC2 0 rfl 0 (by decide) q122 (fun _ h9 => h9) rfl dX2_splitPart_56 59 rfl ?_
  refine g_iload_n X rfl dX2_splitPart_59 60 rfl ?_
  refine g_dup2 X dX2_splitPart_60 61 rfl rfl rfl ?_
  obtain ⟨hi, h⟩ := gin_e h
  refine g_iald X 1 rfl hi dX2_splitPart_61 62 rfl ?_
  refine g_iload_n X rfl dX2_splitPart_62 63 rfl ?_
  refine g_isub X dX2_splitPart_63 64 rfl ?_
  refine g_topi (fun t1 et1 => ?_)
  replace h := nm_at et1 h
  obtain ⟨hi, h⟩ := gin_e h
  refine g_iast X 1 rfl hi dX2_splitPart_64 65 rfl ?_
  refine g_wd [(a1, .inr (2, [.ref a1_1, .ref a1_2, .int v_n, .ref a1_3, .ref a1_4, .int v_pulses, .int v_front, .int v_least, .int v_window])), (a1_1, .inl (Z.2 0, 8, .inl (upd v_lengths x1.toNatClampNeg t1))), (a1_2, .inl (Z.2 0, 8, .inl v_fractions)), (a1_3, .inl (Z.2 0, 4, .inl v_pulseTimes)), (a1_4, .inl (Z.2 0, 4, .inl v_pulseEnergies))] rfl ?_
  refine g_aload_n X rfl dX2_splitPart_65 66 rfl ?_
  refine g_getR X gC1 0 rfl 0 (by decide) q190 (fun _ h9 => h9) rfl dX2_splitPart_66 69 rfl ?_
  refine g_iload_n X rfl dX2_splitPart_69 70 rfl ?_
  refine g_iload_n X rfl dX2_splitPart_70 71 rfl ?_
  refine g_iload_n X rfl dX2_splitPart_71 72 rfl ?_
  obtain ⟨w2_n, w3_lengths, w4_fractions, hcl, h⟩ := bd3_e h
  refine g_callV0 X (met_X3_insert l Z a1 a1_1 a1_2 a1_3 a1_4 v_n v_pulses v_front v_least v_window (upd v_lengths x1.toNatClampNeg t1) v_fractions v_pulseTimes v_pulseEnergies x1 x2 x3 w2_n w3_lengths w4_fractions hcl) [0, 1, 2, 3, 4] [] [] (wr := []) ⟨rfl, rfl, rfl, rfl, rfl, by decide, by decide⟩ 0 gC2 rfl rfl (lw_V q977 q428 q429 q71 q430) md_X3_insert ⟨(Nat.le_of_ble_eq_true rfl), (Nat.le_of_ble_eq_true rfl)⟩ rfl dX2_splitPart_72 75 rfl 3 18 rfl rfl (Nat.le_of_ble_eq_true rfl) (Nat.le_of_ble_eq_true rfl) (st := []) rfl (Nat.le_of_ble_eq_true rfl) (fun _ => rfl) (fun _ => ?_)
  refine g_aload_n X rfl dX2_splitPart_75 76 rfl ?_
  refine g_getR X gC1 0 rfl 0 (by decide) q190 (fun _ h9 => h9) rfl dX2_splitPart_76 79 rfl ?_
  refine g_getN X gC2 0 rfl 2 (by decide) q130 (fun _ h9 => h9) rfl dX2_splitPart_79 82 rfl ?_
  obtain rfl := Option.some.inj h
  exact g_retI (g_iret X dX2_splitPart_82 () rfl rfl (Nat.le_of_ble_eq_true rfl) (Nat.le_of_ble_eq_true rfl))
theorem w_X2_splitPart_42 {p : Program} {l : Launch} {e : Env} {s : State} {m : MethodId} {args : Array Value} {below : List Frame} {meth : Method} {c : Code} {Z : gZt} {A : Nat → Prop} (a1 : Nat) (a1_1 : Nat) (a1_2 : Nat) (a1_3 : Nat) (a1_4 : Nat) (a0 : Nat) (a2 : Nat) (a3 : Nat) (X : gX p s m args meth c Z A cX2_splitPart "LineEchoes$Bench" 4 (some .int) [(a0, .inr (1, [.ref a1, .ref a2, .ref a3]))]) (Xt : gXt c) (hl : l.stackTraces = false) (o : (Int32 × Int32 × (Nat → Int32) × (Nat → Int32)) ⊕ Nat)  (v_n : Int32) (v_pulses : Int32) (v_front : Int32) (v_least : Int32) (v_window : Int32) (v_lengths : Nat → Int32) (v_fractions : Nat → Int32) (v_pulseTimes : Nat → Int32) (v_pulseEnergies : Nat → Int32) (x1 : Int32) (x2 : Int32) (x3 : Int32) (h : F_X2_splitPart_42 v_n v_lengths v_fractions x1 x2 x3 = some o) : G p l e rm_X2_splitPart s m args below meth c Z A 4 (vx_MQ below (gQc Z A (fun x : Int32 × Int32 × (Nat → Int32) × (Nat → Int32) => (fun _ : Unit => (some (.int x.1) : Option Value))) (fun x : Int32 × Int32 × (Nat → Int32) × (Nat → Int32) => (fun _ : Unit => ([(a1, .inr (2, [.ref a1_1, .ref a1_2, .int x.2.1, .ref a1_3, .ref a1_4, .int v_pulses, .int v_front, .int v_least, .int v_window])), (a1_1, .inl (Z.2 0, 8, .inl x.2.2.1)), (a1_2, .inl (Z.2 0, 8, .inl x.2.2.2)), (a1_3, .inl (Z.2 0, 4, .inl v_pulseTimes)), (a1_4, .inl (Z.2 0, 4, .inl v_pulseEnergies))] : va_W))) o) (gXc Z A [(a1, .inr (2, [.ref a1_1, .ref a1_2, .int v_n, .ref a1_3, .ref a1_4, .int v_pulses, .int v_front, .int v_least, .int v_window])), (a1_1, .inl (Z.2 0, 8, .inl v_lengths)), (a1_2, .inl (Z.2 0, 8, .inl v_fractions)), (a1_3, .inl (Z.2 0, 4, .inl v_pulseTimes)), (a1_4, .inl (Z.2 0, 4, .inl v_pulseEnergies))] o) args s 3 18 A) [(a1, .inr (2, [.ref a1_1, .ref a1_2, .int v_n, .ref a1_3, .ref a1_4, .int v_pulses, .int v_front, .int v_least, .int v_window])), (a1_1, .inl (Z.2 0, 8, .inl v_lengths)), (a1_2, .inl (Z.2 0, 8, .inl v_fractions)), (a1_3, .inl (Z.2 0, 4, .inl v_pulseTimes)), (a1_4, .inl (Z.2 0, 4, .inl v_pulseEnergies))] 1 6 42 [some (.ref a0), some (.int x1), some (.int x2), some (.int x3)] [] := by
  unfold F_X2_splitPart_42 at h
  refine g_iconst X 0 dX2_splitPart_42 43 rfl kI_0 ?_
  exact w_X2_splitPart_43 a1 a1_1 a1_2 a1_3 a1_4 a0 a2 a3  X Xt hl  _    v_n v_pulses v_front v_least v_window v_lengths v_fractions v_pulseTimes v_pulseEnergies x1 x2 x3 0 h
theorem met_X2_splitPart (l : Launch) (hl : l.stackTraces = false) (Z : gZt) (a1 : Nat) (a1_1 : Nat) (a1_2 : Nat) (a1_3 : Nat) (a1_4 : Nat) (a0 : Nat) (a2 : Nat) (a3 : Nat) (v_n : Int32) (v_pulses : Int32) (v_front : Int32) (v_least : Int32) (v_window : Int32) (v_lengths : Nat → Int32) (v_fractions : Nat → Int32) (v_pulseTimes : Nat → Int32) (v_pulseEnergies : Nat → Int32) (x1 : Int32) (x2 : Int32) (x3 : Int32) (o : (Int32 × Int32 × (Nat → Int32) × (Nat → Int32)) ⊕ Nat) (h : F_X2_splitPart v_n v_lengths v_fractions x1 x2 x3 = some o) : Cx l yX2_splitPart (ws_ yX2_splitPart cX2_splitPart 4 (some .int)) rm_X2_splitPart Z [.ref a0, .int x1, .int x2, .int x3] [(a1, .inr (2, [.ref a1_1, .ref a1_2, .int v_n, .ref a1_3, .ref a1_4, .int v_pulses, .int v_front, .int v_least, .int v_window])), (a1_1, .inl (Z.2 0, 8, .inl v_lengths)), (a1_2, .inl (Z.2 0, 8, .inl v_fractions)), (a1_3, .inl (Z.2 0, 4, .inl v_pulseTimes)), (a1_4, .inl (Z.2 0, 4, .inl v_pulseEnergies))] [(a0, .inr (1, [.ref a1, .ref a2, .ref a3]))] [(a1, .inr (2, [.ref a1_1, .ref a1_2, .int v_n, .ref a1_3, .ref a1_4, .int v_pulses, .int v_front, .int v_least, .int v_window])), (a1_1, .inl (Z.2 0, 8, .inl v_lengths)), (a1_2, .inl (Z.2 0, 8, .inl v_fractions)), (a1_3, .inl (Z.2 0, 4, .inl v_pulseTimes)), (a1_4, .inl (Z.2 0, 4, .inl v_pulseEnergies))] (fun x : Int32 × Int32 × (Nat → Int32) × (Nat → Int32) => (fun _ : Unit => (some (.int x.1) : Option Value))) (fun x : Int32 × Int32 × (Nat → Int32) × (Nat → Int32) => (fun _ : Unit => ([(a1, .inr (2, [.ref a1_1, .ref a1_2, .int x.2.1, .ref a1_3, .ref a1_4, .int v_pulses, .int v_front, .int v_least, .int v_window])), (a1_1, .inl (Z.2 0, 8, .inl x.2.2.1)), (a1_2, .inl (Z.2 0, 8, .inl x.2.2.2)), (a1_3, .inl (Z.2 0, 4, .inl v_pulseTimes)), (a1_4, .inl (Z.2 0, 4, .inl v_pulseEnergies))] : va_W))) o := by
  refine Cx.of cX2_splitPart 4 (some .int) "LineEchoes$Bench" [some (.ref a0), some (.int x1), some (.int x2), some (.int x3)] 0 (by decide) rfl (Nat.le_of_ble_eq_true rfl) rfl (fun p e s m args below meth c A X Xt => ?_)
  unfold F_X2_splitPart at h
  refine g_aload_n X rfl dX2_splitPart_0 1 rfl ?_
  refine g_iload_n X rfl dX2_splitPart_1 2 rfl ?_
  rcases bc0_e h with ⟨k9, hcl, hg⟩ | ⟨hcl, h⟩
  · obtain rfl := Option.some.inj (show some (Sum.inr k9) = some _ from hg)
    exact g_xoV X (met_X2_requirePart l hl Z a0 a1 a1_1 a1_2 a1_3 a1_4 a2 a3 v_n v_pulses v_front v_least v_window v_lengths v_fractions v_pulseTimes v_pulseEnergies x1 _ hcl).thr [] [0, 1, 2, 3, 4] [5, 0, 1, 2, 3, 4] (wr := [(a1, .inr (2, [.ref a1_1, .ref a1_2, .int v_n, .ref a1_3, .ref a1_4, .int v_pulses, .int v_front, .int v_least, .int v_window])), (a1_1, .inl (Z.2 0, 8, .inl v_lengths)), (a1_2, .inl (Z.2 0, 8, .inl v_fractions)), (a1_3, .inl (Z.2 0, 4, .inl v_pulseTimes)), (a1_4, .inl (Z.2 0, 4, .inl v_pulseEnergies))]) ⟨rfl, rfl, rfl, rfl, rfl, by decide, by decide⟩ 5 gC1 rfl rfl (lw_V q982 q983 q984 q70 q985) md_X2_requirePart ⟨(Nat.le_of_ble_eq_true rfl), (Nat.le_of_ble_eq_true rfl)⟩ rfl dX2_splitPart_2 Xt [0, 1, 2, 3, 4] (Nat.le_of_ble_eq_true rfl) (Nat.le_of_ble_eq_true rfl) (st := []) rfl (Nat.le_of_ble_eq_true rfl) rfl rfl (Nat.le_of_ble_eq_true rfl) (Nat.le_of_ble_eq_true rfl)
  refine g_callV0 X (met_X2_requirePart l hl Z a0 a1 a1_1 a1_2 a1_3 a1_4 a2 a3 v_n v_pulses v_front v_least v_window v_lengths v_fractions v_pulseTimes v_pulseEnergies x1 _ hcl).ret [] [0, 1, 2, 3, 4] [5, 0, 1, 2, 3, 4] (wr := [(a1, .inr (2, [.ref a1_1, .ref a1_2, .int v_n, .ref a1_3, .ref a1_4, .int v_pulses, .int v_front, .int v_least, .int v_window])), (a1_1, .inl (Z.2 0, 8, .inl v_lengths)), (a1_2, .inl (Z.2 0, 8, .inl v_fractions)), (a1_3, .inl (Z.2 0, 4, .inl v_pulseTimes)), (a1_4, .inl (Z.2 0, 4, .inl v_pulseEnergies))]) ⟨rfl, rfl, rfl, rfl, rfl, by decide, by decide⟩ 5 gC1 rfl rfl (lw_V q982 q983 q984 q70 q985) md_X2_requirePart ⟨(Nat.le_of_ble_eq_true rfl), (Nat.le_of_ble_eq_true rfl)⟩ rfl dX2_splitPart_2 5 rfl 1 6 rfl rfl (Nat.le_of_ble_eq_true rfl) (Nat.le_of_ble_eq_true rfl) (st := []) rfl (Nat.le_of_ble_eq_true rfl) (fun _ => rfl) (fun _ => ?_)
  refine g_iload_n X rfl dX2_splitPart_5 6 rfl ?_
  refine g_i2l X dX2_splitPart_6 7 rfl ?_
  refine g_lconst X 1 dX2_splitPart_7 8 rfl rfl ?_
  refine g_aload_n X rfl dX2_splitPart_8 9 rfl ?_
  refine g_getR X gC1 0 rfl 0 (by decide) q190 (fun _ h9 => h9) rfl dX2_splitPart_9 12 rfl ?_
  refine g_getN X gC2 0 rfl 0 (by decide) q122 (fun _ h9 => h9) rfl dX2_splitPart_12 15 rfl ?_
  refine g_iload_n X rfl dX2_splitPart_15 16 rfl ?_
  obtain ⟨hi, h⟩ := gin_e h
  refine g_iald X 1 rfl hi dX2_splitPart_16 17 rfl ?_
  refine g_iconst X 1 dX2_splitPart_17 18 rfl kI_1 ?_
  refine g_isub X dX2_splitPart_18 19 rfl ?_
  refine g_i2l X dX2_splitPart_19 20 rfl ?_
  obtain ⟨r1, hcl, h⟩ := bd1_e h
  refine g_callSN1Z X (met_X1_inRange l Z   x2.toInt64 1 (((v_lengths x1.toNatClampNeg) - 1).toInt64) r1 hcl) q489 q69 q948 q488 md_X1_inRange ⟨(Nat.le_of_ble_eq_true rfl), (Nat.le_of_ble_eq_true rfl)⟩ rfl dX2_splitPart_20 23 rfl 1 6 rfl rfl (Nat.le_of_ble_eq_true rfl) (Nat.le_of_ble_eq_true rfl) (st := []) rfl (Nat.le_of_ble_eq_true rfl) (fun _ => rfl) (fun _ => ?_)
  refine g_if_eq X dX2_splitPart_23 42 (by decide) 26 rfl (fun hc => ?_) (fun hc => ?_)
  · replace h := if_t hc h
    exact w_X2_splitPart_42 a1 a1_1 a1_2 a1_3 a1_4 a0 a2 a3  X Xt hl  _    v_n v_pulses v_front v_least v_window v_lengths v_fractions v_pulseTimes v_pulseEnergies x1 x2 x3 h
  · replace h := if_f hc h
    refine g_iload_n X rfl dX2_splitPart_26 27 rfl ?_
    refine g_i2l X dX2_splitPart_27 28 rfl ?_
    refine g_lconst X 0 dX2_splitPart_28 29 rfl rfl ?_
    refine g_ldc2 X q949 dX2_splitPart_29 32 rfl ?_
    obtain ⟨r2, hcl, h⟩ := bd1_e h
    refine g_callSN1Z X (met_X1_inRange l Z   x3.toInt64 0 1000 r2 hcl) q489 q69 q948 q488 md_X1_inRange ⟨(Nat.le_of_ble_eq_true rfl), (Nat.le_of_ble_eq_true rfl)⟩ rfl dX2_splitPart_32 35 rfl 1 6 rfl rfl (Nat.le_of_ble_eq_true rfl) (Nat.le_of_ble_eq_true rfl) (st := []) rfl (Nat.le_of_ble_eq_true rfl) (fun _ => rfl) (fun _ => ?_)
    refine g_if_eq X dX2_splitPart_35 42 (by decide) 38 rfl (fun hc => ?_) (fun hc => ?_)
    · replace h := if_t hc h
      exact w_X2_splitPart_42 a1 a1_1 a1_2 a1_3 a1_4 a0 a2 a3  X Xt hl  _    v_n v_pulses v_front v_least v_window v_lengths v_fractions v_pulseTimes v_pulseEnergies x1 x2 x3 h
    · replace h := if_f hc h
      refine g_iconst X 1 dX2_splitPart_38 39 rfl kI_1 ?_
      refine g_goto X dX2_splitPart_39 43 (by decide) ?_
      exact w_X2_splitPart_43 a1 a1_1 a1_2 a1_3 a1_4 a0 a2 a3  X Xt hl  _    v_n v_pulses v_front v_least v_window v_lengths v_fractions v_pulseTimes v_pulseEnergies x1 x2 x3 1 h
/-! LineEchoes$Bench.addPulse(II)I -/
abbrev rm_X2_addPulse : Room := { frames := 8, cells := 2, slots := 12, locals := 121 }
def F_X2_addPulse_29 (v_pulses : Int32) (v_pulseTimes : Nat → Int32) (v_pulseEnergies : Nat → Int32) (x1 : Int32) (x2 : Int32) (s0 : Int32) : Option ((Int32 × Int32 × (Nat → Int32) × (Nat → Int32)) ⊕ Nat) :=
  bc0 (F_X1_requireArgument s0) (
  bc0 (F_X1_requireState (if 4 ≤ v_pulses then (0 : Int32) else 1)) (
  bd3 (F_X3_addPulse v_pulses v_pulseTimes v_pulseEnergies x1 x2) fun w1_pulses w2_pulseTimes w3_pulseEnergies =>
  some (.inl (w1_pulses, w1_pulses, w2_pulseTimes, w3_pulseEnergies))) gthr) gthr
def F_X2_addPulse_28 (v_pulses : Int32) (v_pulseTimes : Nat → Int32) (v_pulseEnergies : Nat → Int32) (x1 : Int32) (x2 : Int32) : Option ((Int32 × Int32 × (Nat → Int32) × (Nat → Int32)) ⊕ Nat) :=
  F_X2_addPulse_29 v_pulses v_pulseTimes v_pulseEnergies x1 x2 0
def F_X2_addPulse (v_pulses : Int32) (v_pulseTimes : Nat → Int32) (v_pulseEnergies : Nat → Int32) (x1 : Int32) (x2 : Int32) : Option ((Int32 × Int32 × (Nat → Int32) × (Nat → Int32)) ⊕ Nat) :=
  bd1 (F_X1_inRange x1.toInt64 0 100) fun r1 =>
  if r1 = 0 then
    (F_X2_addPulse_28 v_pulses v_pulseTimes v_pulseEnergies x1 x2)
  else
    (bd1 (F_X1_inRange x2.toInt64 1 1000000) fun r2 =>
    if r2 = 0 then
      (F_X2_addPulse_28 v_pulses v_pulseTimes v_pulseEnergies x1 x2)
    else
      (F_X2_addPulse_29 v_pulses v_pulseTimes v_pulseEnergies x1 x2 1))
theorem w_X2_addPulse_29 {p : Program} {l : Launch} {e : Env} {s : State} {m : MethodId} {args : Array Value} {below : List Frame} {meth : Method} {c : Code} {Z : gZt} {A : Nat → Prop} (a1 : Nat) (a1_1 : Nat) (a1_2 : Nat) (a1_3 : Nat) (a1_4 : Nat) (a0 : Nat) (a2 : Nat) (a3 : Nat) (X : gX p s m args meth c Z A cX2_addPulse "LineEchoes$Bench" 3 (some .int) [(a0, .inr (1, [.ref a1, .ref a2, .ref a3]))]) (Xt : gXt c) (hl : l.stackTraces = false) (o : (Int32 × Int32 × (Nat → Int32) × (Nat → Int32)) ⊕ Nat)  (v_n : Int32) (v_pulses : Int32) (v_front : Int32) (v_least : Int32) (v_window : Int32) (v_lengths : Nat → Int32) (v_fractions : Nat → Int32) (v_pulseTimes : Nat → Int32) (v_pulseEnergies : Nat → Int32) (x1 : Int32) (x2 : Int32) (s0 : Int32) (h : F_X2_addPulse_29 v_pulses v_pulseTimes v_pulseEnergies x1 x2 s0 = some o) : G p l e rm_X2_addPulse s m args below meth c Z A 3 (vx_MQ below (gQc Z A (fun x : Int32 × Int32 × (Nat → Int32) × (Nat → Int32) => (fun _ : Unit => (some (.int x.1) : Option Value))) (fun x : Int32 × Int32 × (Nat → Int32) × (Nat → Int32) => (fun _ : Unit => ([(a1, .inr (2, [.ref a1_1, .ref a1_2, .int v_n, .ref a1_3, .ref a1_4, .int x.2.1, .int v_front, .int v_least, .int v_window])), (a1_1, .inl (Z.2 0, 8, .inl v_lengths)), (a1_2, .inl (Z.2 0, 8, .inl v_fractions)), (a1_3, .inl (Z.2 0, 4, .inl x.2.2.1)), (a1_4, .inl (Z.2 0, 4, .inl x.2.2.2))] : va_W))) o) (gXc Z A [(a1, .inr (2, [.ref a1_1, .ref a1_2, .int v_n, .ref a1_3, .ref a1_4, .int v_pulses, .int v_front, .int v_least, .int v_window])), (a1_1, .inl (Z.2 0, 8, .inl v_lengths)), (a1_2, .inl (Z.2 0, 8, .inl v_fractions)), (a1_3, .inl (Z.2 0, 4, .inl v_pulseTimes)), (a1_4, .inl (Z.2 0, 4, .inl v_pulseEnergies))] o) args s 2 12 A) [(a1, .inr (2, [.ref a1_1, .ref a1_2, .int v_n, .ref a1_3, .ref a1_4, .int v_pulses, .int v_front, .int v_least, .int v_window])), (a1_1, .inl (Z.2 0, 8, .inl v_lengths)), (a1_2, .inl (Z.2 0, 8, .inl v_fractions)), (a1_3, .inl (Z.2 0, 4, .inl v_pulseTimes)), (a1_4, .inl (Z.2 0, 4, .inl v_pulseEnergies))] 0 0 29 [some (.ref a0), some (.int x1), some (.int x2)] [.int s0] := by
  unfold F_X2_addPulse_29 at h
  refine g_ldcS X 24 rfl dX2_addPulse_29 31 rfl ?_
  rcases bc0_e h with ⟨k9, hcl, hg⟩ | ⟨hcl, h⟩
  · obtain rfl := Option.some.inj (show some (Sum.inr k9) = some _ from hg)
    exact g_xoSN X (met_X1_requireArgument l hl Z (gSK Z 24)  s0 _ hcl).thr [] [0, 1, 2, 3, 4] [] (wr := [(a1, .inr (2, [.ref a1_1, .ref a1_2, .int v_n, .ref a1_3, .ref a1_4, .int v_pulses, .int v_front, .int v_least, .int v_window])), (a1_1, .inl (Z.2 0, 8, .inl v_lengths)), (a1_2, .inl (Z.2 0, 8, .inl v_fractions)), (a1_3, .inl (Z.2 0, 4, .inl v_pulseTimes)), (a1_4, .inl (Z.2 0, 4, .inl v_pulseEnergies))]) ⟨rfl, rfl, rfl, rfl, rfl, by decide, by decide⟩ q953 q69 q951 q952 md_X1_requireArgument ⟨(Nat.le_of_ble_eq_true rfl), (Nat.le_of_ble_eq_true rfl)⟩ rfl dX2_addPulse_31 Xt [0, 1, 2, 3, 4] (Nat.le_of_ble_eq_true rfl) (Nat.le_of_ble_eq_true rfl) (st := []) rfl (Nat.le_of_ble_eq_true rfl) rfl rfl (Nat.le_of_ble_eq_true rfl) (Nat.le_of_ble_eq_true rfl)
  refine g_callSN0Z X (met_X1_requireArgument l hl Z (gSK Z 24)  s0 _ hcl).ret q953 q69 q951 q952 md_X1_requireArgument ⟨(Nat.le_of_ble_eq_true rfl), (Nat.le_of_ble_eq_true rfl)⟩ rfl dX2_addPulse_31 34 rfl 1 6 rfl rfl (Nat.le_of_ble_eq_true rfl) (Nat.le_of_ble_eq_true rfl) (st := []) rfl (Nat.le_of_ble_eq_true rfl) (fun _ => rfl) (fun _ => ?_)
  refine g_aload_n X rfl dX2_addPulse_34 35 rfl ?_
  refine g_getR X gC1 0 rfl 0 (by decide) q190 (fun _ h9 => h9) rfl dX2_addPulse_35 38 rfl ?_
  refine g_getN X gC2 0 rfl 5 (by decide) q143 (fun _ h9 => h9) rfl dX2_addPulse_38 41 rfl ?_
  refine g_iconst X 4 dX2_addPulse_41 42 rfl kI_4 ?_
  refine g_seli 50 [] (b := 4 ≤ v_pulses) 0 1 ?_ (fun hc K => ?_) (fun hc K => ?_)
  · refine g_ldcS X 25 rfl dX2_addPulse_50 52 rfl ?_
    rcases bc0_e h with ⟨k9, hcl, hg⟩ | ⟨hcl, h⟩
    · obtain rfl := Option.some.inj (show some (Sum.inr k9) = some _ from hg)
      exact g_xoSN X (met_X1_requireState l hl Z (gSK Z 25)  (if 4 ≤ v_pulses then (0 : Int32) else 1) _ hcl).thr [] [0, 1, 2, 3, 4] [] (wr := [(a1, .inr (2, [.ref a1_1, .ref a1_2, .int v_n, .ref a1_3, .ref a1_4, .int v_pulses, .int v_front, .int v_least, .int v_window])), (a1_1, .inl (Z.2 0, 8, .inl v_lengths)), (a1_2, .inl (Z.2 0, 8, .inl v_fractions)), (a1_3, .inl (Z.2 0, 4, .inl v_pulseTimes)), (a1_4, .inl (Z.2 0, 4, .inl v_pulseEnergies))]) ⟨rfl, rfl, rfl, rfl, rfl, by decide, by decide⟩ q962 q69 q960 q961 md_X1_requireState ⟨(Nat.le_of_ble_eq_true rfl), (Nat.le_of_ble_eq_true rfl)⟩ rfl dX2_addPulse_52 Xt [0, 1, 2, 3, 4] (Nat.le_of_ble_eq_true rfl) (Nat.le_of_ble_eq_true rfl) (st := []) rfl (Nat.le_of_ble_eq_true rfl) rfl rfl (Nat.le_of_ble_eq_true rfl) (Nat.le_of_ble_eq_true rfl)
    refine g_callSN0Z X (met_X1_requireState l hl Z (gSK Z 25)  (if 4 ≤ v_pulses then (0 : Int32) else 1) _ hcl).ret q962 q69 q960 q961 md_X1_requireState ⟨(Nat.le_of_ble_eq_true rfl), (Nat.le_of_ble_eq_true rfl)⟩ rfl dX2_addPulse_52 55 rfl 2 12 rfl rfl (Nat.le_of_ble_eq_true rfl) (Nat.le_of_ble_eq_true rfl) (st := []) rfl (Nat.le_of_ble_eq_true rfl) (fun _ => rfl) (fun _ => ?_)
    refine g_aload_n X rfl dX2_addPulse_55 56 rfl ?_
    refine g_getR X gC1 0 rfl 0 (by decide) q190 (fun _ h9 => h9) rfl dX2_addPulse_56 59 rfl ?_
    refine g_iload_n X rfl dX2_addPulse_59 60 rfl ?_
    refine g_iload_n X rfl dX2_addPulse_60 61 rfl ?_
    obtain ⟨w1_pulses, w2_pulseTimes, w3_pulseEnergies, hcl, h⟩ := bd3_e h
    refine g_callV0 X (met_X3_addPulse l Z a1 a1_1 a1_2 a1_3 a1_4 v_n v_pulses v_front v_least v_window v_lengths v_fractions v_pulseTimes v_pulseEnergies x1 x2 w1_pulses w2_pulseTimes w3_pulseEnergies hcl) [0, 1, 2, 3, 4] [] [] (wr := []) ⟨rfl, rfl, rfl, rfl, rfl, by decide, by decide⟩ 0 gC2 rfl rfl (lw_V q1019 q176 q177 q71 q178) md_X3_addPulse ⟨(Nat.le_of_ble_eq_true rfl), (Nat.le_of_ble_eq_true rfl)⟩ rfl dX2_addPulse_61 64 rfl 2 12 rfl rfl (Nat.le_of_ble_eq_true rfl) (Nat.le_of_ble_eq_true rfl) (st := []) rfl (Nat.le_of_ble_eq_true rfl) (fun _ => rfl) (fun _ => ?_)
    refine g_aload_n X rfl dX2_addPulse_64 65 rfl ?_
    refine g_getR X gC1 0 rfl 0 (by decide) q190 (fun _ h9 => h9) rfl dX2_addPulse_65 68 rfl ?_
    refine g_getN X gC2 0 rfl 5 (by decide) q143 (fun _ h9 => h9) rfl dX2_addPulse_68 71 rfl ?_
    obtain rfl := Option.some.inj h
    exact g_retI (g_iret X dX2_addPulse_71 () rfl rfl (Nat.le_of_ble_eq_true rfl) (Nat.le_of_ble_eq_true rfl))
  · refine g_icmp_ge X dX2_addPulse_42 49 (by decide) 45 rfl (fun _ => ?_) (fun hn => absurd hc hn)
    refine g_iconst X 0 dX2_addPulse_49 50 rfl kI_0 ?_
    exact K
  · refine g_icmp_ge X dX2_addPulse_42 49 (by decide) 45 rfl (fun hn => absurd hn hc) (fun _ => ?_)
    refine g_iconst X 1 dX2_addPulse_45 46 rfl kI_1 ?_
    refine g_goto X dX2_addPulse_46 50 (by decide) ?_
    exact K
theorem w_X2_addPulse_28 {p : Program} {l : Launch} {e : Env} {s : State} {m : MethodId} {args : Array Value} {below : List Frame} {meth : Method} {c : Code} {Z : gZt} {A : Nat → Prop} (a1 : Nat) (a1_1 : Nat) (a1_2 : Nat) (a1_3 : Nat) (a1_4 : Nat) (a0 : Nat) (a2 : Nat) (a3 : Nat) (X : gX p s m args meth c Z A cX2_addPulse "LineEchoes$Bench" 3 (some .int) [(a0, .inr (1, [.ref a1, .ref a2, .ref a3]))]) (Xt : gXt c) (hl : l.stackTraces = false) (o : (Int32 × Int32 × (Nat → Int32) × (Nat → Int32)) ⊕ Nat)  (v_n : Int32) (v_pulses : Int32) (v_front : Int32) (v_least : Int32) (v_window : Int32) (v_lengths : Nat → Int32) (v_fractions : Nat → Int32) (v_pulseTimes : Nat → Int32) (v_pulseEnergies : Nat → Int32) (x1 : Int32) (x2 : Int32) (h : F_X2_addPulse_28 v_pulses v_pulseTimes v_pulseEnergies x1 x2 = some o) : G p l e rm_X2_addPulse s m args below meth c Z A 3 (vx_MQ below (gQc Z A (fun x : Int32 × Int32 × (Nat → Int32) × (Nat → Int32) => (fun _ : Unit => (some (.int x.1) : Option Value))) (fun x : Int32 × Int32 × (Nat → Int32) × (Nat → Int32) => (fun _ : Unit => ([(a1, .inr (2, [.ref a1_1, .ref a1_2, .int v_n, .ref a1_3, .ref a1_4, .int x.2.1, .int v_front, .int v_least, .int v_window])), (a1_1, .inl (Z.2 0, 8, .inl v_lengths)), (a1_2, .inl (Z.2 0, 8, .inl v_fractions)), (a1_3, .inl (Z.2 0, 4, .inl x.2.2.1)), (a1_4, .inl (Z.2 0, 4, .inl x.2.2.2))] : va_W))) o) (gXc Z A [(a1, .inr (2, [.ref a1_1, .ref a1_2, .int v_n, .ref a1_3, .ref a1_4, .int v_pulses, .int v_front, .int v_least, .int v_window])), (a1_1, .inl (Z.2 0, 8, .inl v_lengths)), (a1_2, .inl (Z.2 0, 8, .inl v_fractions)), (a1_3, .inl (Z.2 0, 4, .inl v_pulseTimes)), (a1_4, .inl (Z.2 0, 4, .inl v_pulseEnergies))] o) args s 2 12 A) [(a1, .inr (2, [.ref a1_1, .ref a1_2, .int v_n, .ref a1_3, .ref a1_4, .int v_pulses, .int v_front, .int v_least, .int v_window])), (a1_1, .inl (Z.2 0, 8, .inl v_lengths)), (a1_2, .inl (Z.2 0, 8, .inl v_fractions)), (a1_3, .inl (Z.2 0, 4, .inl v_pulseTimes)), (a1_4, .inl (Z.2 0, 4, .inl v_pulseEnergies))] 0 0 28 [some (.ref a0), some (.int x1), some (.int x2)] [] := by
  unfold F_X2_addPulse_28 at h
  refine g_iconst X 0 dX2_addPulse_28 29 rfl kI_0 ?_
  exact w_X2_addPulse_29 a1 a1_1 a1_2 a1_3 a1_4 a0 a2 a3  X Xt hl  _    v_n v_pulses v_front v_least v_window v_lengths v_fractions v_pulseTimes v_pulseEnergies x1 x2 0 h
theorem met_X2_addPulse (l : Launch) (hl : l.stackTraces = false) (Z : gZt) (a1 : Nat) (a1_1 : Nat) (a1_2 : Nat) (a1_3 : Nat) (a1_4 : Nat) (a0 : Nat) (a2 : Nat) (a3 : Nat) (v_n : Int32) (v_pulses : Int32) (v_front : Int32) (v_least : Int32) (v_window : Int32) (v_lengths : Nat → Int32) (v_fractions : Nat → Int32) (v_pulseTimes : Nat → Int32) (v_pulseEnergies : Nat → Int32) (x1 : Int32) (x2 : Int32) (o : (Int32 × Int32 × (Nat → Int32) × (Nat → Int32)) ⊕ Nat) (h : F_X2_addPulse v_pulses v_pulseTimes v_pulseEnergies x1 x2 = some o) : Cx l yX2_addPulse (ws_ yX2_addPulse cX2_addPulse 3 (some .int)) rm_X2_addPulse Z [.ref a0, .int x1, .int x2] [(a1, .inr (2, [.ref a1_1, .ref a1_2, .int v_n, .ref a1_3, .ref a1_4, .int v_pulses, .int v_front, .int v_least, .int v_window])), (a1_1, .inl (Z.2 0, 8, .inl v_lengths)), (a1_2, .inl (Z.2 0, 8, .inl v_fractions)), (a1_3, .inl (Z.2 0, 4, .inl v_pulseTimes)), (a1_4, .inl (Z.2 0, 4, .inl v_pulseEnergies))] [(a0, .inr (1, [.ref a1, .ref a2, .ref a3]))] [(a1, .inr (2, [.ref a1_1, .ref a1_2, .int v_n, .ref a1_3, .ref a1_4, .int v_pulses, .int v_front, .int v_least, .int v_window])), (a1_1, .inl (Z.2 0, 8, .inl v_lengths)), (a1_2, .inl (Z.2 0, 8, .inl v_fractions)), (a1_3, .inl (Z.2 0, 4, .inl v_pulseTimes)), (a1_4, .inl (Z.2 0, 4, .inl v_pulseEnergies))] (fun x : Int32 × Int32 × (Nat → Int32) × (Nat → Int32) => (fun _ : Unit => (some (.int x.1) : Option Value))) (fun x : Int32 × Int32 × (Nat → Int32) × (Nat → Int32) => (fun _ : Unit => ([(a1, .inr (2, [.ref a1_1, .ref a1_2, .int v_n, .ref a1_3, .ref a1_4, .int x.2.1, .int v_front, .int v_least, .int v_window])), (a1_1, .inl (Z.2 0, 8, .inl v_lengths)), (a1_2, .inl (Z.2 0, 8, .inl v_fractions)), (a1_3, .inl (Z.2 0, 4, .inl x.2.2.1)), (a1_4, .inl (Z.2 0, 4, .inl x.2.2.2))] : va_W))) o := by
  refine Cx.of cX2_addPulse 3 (some .int) "LineEchoes$Bench" [some (.ref a0), some (.int x1), some (.int x2)] 0 (by decide) rfl (Nat.le_of_ble_eq_true rfl) rfl (fun p e s m args below meth c A X Xt => ?_)
  unfold F_X2_addPulse at h
  refine g_iload_n X rfl dX2_addPulse_0 1 rfl ?_
  refine g_i2l X dX2_addPulse_1 2 rfl ?_
  refine g_lconst X 0 dX2_addPulse_2 3 rfl rfl ?_
  refine g_ldc2 X q1015 dX2_addPulse_3 6 rfl ?_
  obtain ⟨r1, hcl, h⟩ := bd1_e h
  refine g_callSN1Z X (met_X1_inRange l Z   x1.toInt64 0 100 r1 hcl) q489 q69 q948 q488 md_X1_inRange ⟨(Nat.le_of_ble_eq_true rfl), (Nat.le_of_ble_eq_true rfl)⟩ rfl dX2_addPulse_6 9 rfl 0 0 rfl rfl (Nat.le_of_ble_eq_true rfl) (Nat.le_of_ble_eq_true rfl) (st := []) rfl (Nat.le_of_ble_eq_true rfl) (fun _ => rfl) (fun _ => ?_)
  refine g_if_eq X dX2_addPulse_9 28 (by decide) 12 rfl (fun hc => ?_) (fun hc => ?_)
  · replace h := if_t hc h
    exact w_X2_addPulse_28 a1 a1_1 a1_2 a1_3 a1_4 a0 a2 a3  X Xt hl  _    v_n v_pulses v_front v_least v_window v_lengths v_fractions v_pulseTimes v_pulseEnergies x1 x2 h
  · replace h := if_f hc h
    refine g_iload_n X rfl dX2_addPulse_12 13 rfl ?_
    refine g_i2l X dX2_addPulse_13 14 rfl ?_
    refine g_lconst X 1 dX2_addPulse_14 15 rfl rfl ?_
    refine g_ldc2 X q1016 dX2_addPulse_15 18 rfl ?_
    obtain ⟨r2, hcl, h⟩ := bd1_e h
    refine g_callSN1Z X (met_X1_inRange l Z   x2.toInt64 1 1000000 r2 hcl) q489 q69 q948 q488 md_X1_inRange ⟨(Nat.le_of_ble_eq_true rfl), (Nat.le_of_ble_eq_true rfl)⟩ rfl dX2_addPulse_18 21 rfl 0 0 rfl rfl (Nat.le_of_ble_eq_true rfl) (Nat.le_of_ble_eq_true rfl) (st := []) rfl (Nat.le_of_ble_eq_true rfl) (fun _ => rfl) (fun _ => ?_)
    refine g_if_eq X dX2_addPulse_21 28 (by decide) 24 rfl (fun hc => ?_) (fun hc => ?_)
    · replace h := if_t hc h
      exact w_X2_addPulse_28 a1 a1_1 a1_2 a1_3 a1_4 a0 a2 a3  X Xt hl  _    v_n v_pulses v_front v_least v_window v_lengths v_fractions v_pulseTimes v_pulseEnergies x1 x2 h
    · replace h := if_f hc h
      refine g_iconst X 1 dX2_addPulse_24 25 rfl kI_1 ?_
      refine g_goto X dX2_addPulse_25 29 (by decide) ?_
      exact w_X2_addPulse_29 a1 a1_1 a1_2 a1_3 a1_4 a0 a2 a3  X Xt hl  _    v_n v_pulses v_front v_least v_window v_lengths v_fractions v_pulseTimes v_pulseEnergies x1 x2 1 h
