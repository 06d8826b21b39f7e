/-! LineEchoes.run (printed by gen/loops.py) -/
set_option maxRecDepth 100000
theorem perm3 (P Q E B : va_W) : ((P ++ Q) ++ E ++ B).Perm ((P ++ (B ++ Q)) ++ E) := by
  refine (perm1 (P ++ Q) E B).trans (List.Perm.append_right E ?_)
  rw [List.append_assoc]
  exact List.Perm.append_left P List.perm_append_comm
theorem perm4 (P E B C : va_W) : (P ++ E ++ (B ++ C)).Perm ((P ++ B) ++ (E ++ C)) := by
  rw [List.append_assoc, List.append_assoc]
  exact List.Perm.append_left P (List.perm_append_comm_assoc E B C)
theorem perm5 (P B R U X : va_W) : ((P ++ (B ++ (R ++ U))) ++ X).Perm ((X ++ R) ++ (P ++ (B ++ U))) := by
  refine List.perm_append_comm.trans ?_
  rw [List.append_assoc X R]
  refine List.Perm.append_left X ?_
  rw [← List.append_assoc P B (R ++ U), ← List.append_assoc P B U]
  exact List.perm_append_comm_assoc (P ++ B) R U
theorem gq_ro {wd rs : va_W} {q : Nat × va_E} {i : Nat} (h : rs[i]? = some q) : (wd ++ rs)[wd.length + i]? = some q := by
  rw [List.getElem?_append_right (by omega), Nat.add_sub_cancel_left]
  exact h
def B_RD (v_scriptLength : Int32) (v_script : Nat → Int32) (K : Int32 → Int32 → (Nat → Int32) → Int32 → Option Int32) (v_at v_fault : Int32) (v_numbers : Nat → Int32) (x2 : Int32) : Option Int32 :=
  if x2 = 0 then some v_fault else
  match F_X9_next0 v_at v_fault v_scriptLength v_script with
  | some (r9, at9) => K at9 v_fault v_numbers r9
  | none => bd8 (F_X9_next1 v_at v_fault v_numbers v_scriptLength v_script) fun r9 at9 fl9 nm9 h29 h39 wb9 wl9 => K at9 fl9 nm9 r9
def F_RD (v_scriptLength : Int32) (v_script : Nat → Int32) : Nat → Int32 → Int32 → (Nat → Int32) → Int32 → Option Int32
  | 0 => fun _ _ _ _ => none
  | n + 1 => B_RD v_scriptLength v_script (F_RD v_scriptLength v_script n)
abbrev rm_X1_run : Room := { frames := 16, cells := 2100, slots := 91000, locals := 330 }
set_option maxHeartbeats 4000000 in
theorem rd_loop {p : Program} {l : Launch} {e : Env} {s : State} {m : MethodId} {args : Array Value} {below : List Frame} {meth : Method} {c : Code} {Z : gZt} {A : Nat → Prop} {Q : State → Prop} (a4 : Nat) (a4_1 : Nat) (a4_2 : Nat) (a4_3 : Nat) (a1 : Nat) (a9 : Nat) (a7 : Nat) (a8 : Nat) (rd nm : Nat) (v_depth : Int32) (v_scriptLength : Int32) (v_script : Nat → Int32) (v_saved : Nat → Option Nat) (v_brought : Int64) (v_left : Int64) (v_dropped : Int64) (v_away : Int64) (v_mergings : Int32) (v_drops : Int32) (v_fromNear : Nat → Int64) (v_fromFar : Nat → Int64) (v_echoes : Nat → Int64) (v_line : Option Nat) (rt ro : va_W) (X : gX p s m args meth c Z A cX1_run "LineEchoes" 4 (some .int) ((a8, .inl (Z.2 2, 120, .inl v_script)) :: rt ++ ro)) (r_f : Int32) : ∀ (N : Nat) (wz : Option Nat) (E : va_W) (k n : Nat) (v_at v_fault : Int32) (v_numbers : Nat → Int32) (x2 : Int32) (hk : k + 24 * N ≤ 750) (hn : n + 1300 * N ≤ 40400) (h : F_RD v_scriptLength v_script N v_at v_fault v_numbers x2 = some r_f) (KK : ∀ (wz : Option Nat) (E : va_W) (v_at : Int32) (v_numbers : Nat → Int32) (x2 : Int32), G p l e rm_X1_run s m args below meth c Z A 4 Q ([(a1, .inr (0, [.ref a9, .ref a7, .int v_depth, .ref a8, .int v_scriptLength, .ref a4])), (a7, .inl (Z.2 3, 3, .inr (.inr (.inr (.inr v_saved))))), (a4, .inr (4, [.ref a4_1, .ref a4_2, .ref a4_3, (va_rf v_line), .long v_brought, .long v_left, .long v_dropped, .long v_away, .int v_mergings, .int v_drops])), (a4_1, .inl (Z.2 1, 1809, .inr (.inl v_fromNear))), (a4_2, .inl (Z.2 1, 1809, .inr (.inl v_fromFar))), (a4_3, .inl (Z.2 1, 201, .inr (.inl v_echoes))), (rd, .inr (7, [.int v_at, .int r_f, (va_rf wz), .ref nm, .ref a1])), (nm, .inl (Z.2 0, 3, .inl v_numbers))] ++ E) 750 40400 23 [some (.ref a1), some (.ref rd), some (.int x2), none] []), G p l e rm_X1_run s m args below meth c Z A 4 Q ([(a1, .inr (0, [.ref a9, .ref a7, .int v_depth, .ref a8, .int v_scriptLength, .ref a4])), (a7, .inl (Z.2 3, 3, .inr (.inr (.inr (.inr v_saved))))), (a4, .inr (4, [.ref a4_1, .ref a4_2, .ref a4_3, (va_rf v_line), .long v_brought, .long v_left, .long v_dropped, .long v_away, .int v_mergings, .int v_drops])), (a4_1, .inl (Z.2 1, 1809, .inr (.inl v_fromNear))), (a4_2, .inl (Z.2 1, 1809, .inr (.inl v_fromFar))), (a4_3, .inl (Z.2 1, 201, .inr (.inl v_echoes))), (rd, .inr (7, [.int v_at, .int v_fault, (va_rf wz), .ref nm, .ref a1])), (nm, .inl (Z.2 0, 3, .inl v_numbers))] ++ E) k n 11 [some (.ref a1), some (.ref rd), some (.int x2), none] [] := by
  intro N
  induction N with
  | zero =>
    intro wz E k n v_at v_fault v_numbers x2 hk hn h KK
    cases h
  | succ N ih =>
    intro wz E k n v_at v_fault v_numbers x2 hk hn h KK
    replace h : B_RD v_scriptLength v_script (F_RD v_scriptLength v_script N) v_at v_fault v_numbers x2 = some r_f := h
    unfold B_RD at h
    refine g_iload_n X rfl dX1_run_11 12 rfl ?_
    refine g_if_eq X dX1_run_12 23 (by decide) 15 rfl (fun hc => ?_) (fun hc => ?_)
    · replace h := if_t hc h
      obtain rfl := Option.some.inj h
      refine g_more 750 40400 (by omega) (by omega) ?_
      exact KK wz E v_at v_numbers x2
    replace h := if_f hc h
    refine g_aload_n X rfl dX1_run_15 16 rfl ?_
    split at h
    · rename_i r9 at9 hq0
      obtain ⟨isO, h4⟩ := g4_ext (bl := 8) (base := [(a1, .inr (0, [.ref a9, .ref a7, .int v_depth, .ref a8, .int v_scriptLength, .ref a4])), (a7, .inl (Z.2 3, 3, .inr (.inr (.inr (.inr v_saved))))), (a4, .inr (4, [.ref a4_1, .ref a4_2, .ref a4_3, (va_rf v_line), .long v_brought, .long v_left, .long v_dropped, .long v_away, .int v_mergings, .int v_drops])), (a4_1, .inl (Z.2 1, 1809, .inr (.inl v_fromNear))), (a4_2, .inl (Z.2 1, 1809, .inr (.inl v_fromFar))), (a4_3, .inl (Z.2 1, 201, .inr (.inl v_echoes))), (rd, .inr (7, [.int v_at, .int v_fault, (va_rf wz), .ref nm, .ref a1])), (nm, .inl (Z.2 0, 3, .inl v_numbers))]) (E := E) (rs := (a8, .inl (Z.2 2, 120, .inl v_script)) :: rt ++ ro) (wc := [(rd, .inr (7, [.int v_at, .int v_fault, (va_rf wz), .ref nm, .ref a1]))]) (wr := [(a1, .inr (0, [.ref a9, .ref a7, .int v_depth, .ref a8, .int v_scriptLength, .ref a4])), (a7, .inl (Z.2 3, 3, .inr (.inr (.inr (.inr v_saved))))), (a4, .inr (4, [.ref a4_1, .ref a4_2, .ref a4_3, (va_rf v_line), .long v_brought, .long v_left, .long v_dropped, .long v_away, .int v_mergings, .int v_drops])), (a4_1, .inl (Z.2 1, 1809, .inr (.inl v_fromNear))), (a4_2, .inl (Z.2 1, 1809, .inr (.inl v_fromFar))), (a4_3, .inl (Z.2 1, 201, .inr (.inl v_echoes))), (nm, .inl (Z.2 0, 3, .inl v_numbers))]) (rc := [(a1, .inr (0, [.ref a9, .ref a7, .int v_depth, .ref a8, .int v_scriptLength, .ref a4])), (a8, .inl (Z.2 2, 120, .inl v_script))]) [6] [0, 1, 2, 3, 4, 5, 7] rfl rfl rfl rfl (by decide) rfl (by decide) (List.forall_mem_cons.mpr ⟨Or.inl (List.Mem.head _), List.forall_mem_cons.mpr ⟨Or.inr (List.mem_append_right E (List.mem_append_left ro (List.mem_of_getElem? (i := 0) rfl))), List.forall_mem_nil _⟩⟩)
      refine g_callV1 X (met_X9_next0 l Z rd a1 a8 nm a9 a7 a4 v_at v_fault wz v_depth v_scriptLength v_script r9 at9 hq0) _ _ isO h4 6 gC7 rfl rfl (lw_V q475 q476 q477 q97 q478) md_X9_next ⟨(Nat.le_of_ble_eq_true rfl), (Nat.le_of_ble_eq_true rfl)⟩ rfl dX1_run_16 19 rfl k n rfl rfl (show k ≤ 2100 by omega) (show n ≤ 91000 by omega) (st := []) rfl (Nat.le_of_ble_eq_true rfl) (fun _ => rfl) (fun _ => ?_)
      refine g_istore_n X dX1_run_19 20 rfl (Nat.le_of_ble_eq_true rfl) rfl [some (.ref a1), some (.ref rd), some (.int r9), none] rfl ?_
      refine g_goto X dX1_run_20 11 (by decide) ?_
      refine g_perm _ (perm3 [(a1, .inr (0, [.ref a9, .ref a7, .int v_depth, .ref a8, .int v_scriptLength, .ref a4])), (a7, .inl (Z.2 3, 3, .inr (.inr (.inr (.inr v_saved))))), (a4, .inr (4, [.ref a4_1, .ref a4_2, .ref a4_3, (va_rf v_line), .long v_brought, .long v_left, .long v_dropped, .long v_away, .int v_mergings, .int v_drops])), (a4_1, .inl (Z.2 1, 1809, .inr (.inl v_fromNear))), (a4_2, .inl (Z.2 1, 1809, .inr (.inl v_fromFar))), (a4_3, .inl (Z.2 1, 201, .inr (.inl v_echoes)))] [(nm, .inl (Z.2 0, 3, .inl v_numbers))] E [(rd, .inr (7, [.int at9, .int v_fault, (va_rf wz), .ref nm, .ref a1]))]) ?_
      exact ih wz E k n at9 v_fault v_numbers r9 (by omega) (by omega) h KK
    · obtain ⟨r9, at9, fl9, nm9, h29, h39, wb9, wl9, hq1, h⟩ := bd8_e h
      obtain ⟨isO, h4⟩ := g4_ext (bl := 8) (base := [(a1, .inr (0, [.ref a9, .ref a7, .int v_depth, .ref a8, .int v_scriptLength, .ref a4])), (a7, .inl (Z.2 3, 3, .inr (.inr (.inr (.inr v_saved))))), (a4, .inr (4, [.ref a4_1, .ref a4_2, .ref a4_3, (va_rf v_line), .long v_brought, .long v_left, .long v_dropped, .long v_away, .int v_mergings, .int v_drops])), (a4_1, .inl (Z.2 1, 1809, .inr (.inl v_fromNear))), (a4_2, .inl (Z.2 1, 1809, .inr (.inl v_fromFar))), (a4_3, .inl (Z.2 1, 201, .inr (.inl v_echoes))), (rd, .inr (7, [.int v_at, .int v_fault, (va_rf wz), .ref nm, .ref a1])), (nm, .inl (Z.2 0, 3, .inl v_numbers))]) (E := E) (rs := (a8, .inl (Z.2 2, 120, .inl v_script)) :: rt ++ ro) (wc := [(rd, .inr (7, [.int v_at, .int v_fault, (va_rf wz), .ref nm, .ref a1])), (nm, .inl (Z.2 0, 3, .inl v_numbers))]) (wr := [(a1, .inr (0, [.ref a9, .ref a7, .int v_depth, .ref a8, .int v_scriptLength, .ref a4])), (a7, .inl (Z.2 3, 3, .inr (.inr (.inr (.inr v_saved))))), (a4, .inr (4, [.ref a4_1, .ref a4_2, .ref a4_3, (va_rf v_line), .long v_brought, .long v_left, .long v_dropped, .long v_away, .int v_mergings, .int v_drops])), (a4_1, .inl (Z.2 1, 1809, .inr (.inl v_fromNear))), (a4_2, .inl (Z.2 1, 1809, .inr (.inl v_fromFar))), (a4_3, .inl (Z.2 1, 201, .inr (.inl v_echoes)))]) (rc := [(a1, .inr (0, [.ref a9, .ref a7, .int v_depth, .ref a8, .int v_scriptLength, .ref a4])), (a8, .inl (Z.2 2, 120, .inl v_script))]) [6, 7] [0, 1, 2, 3, 4, 5] rfl rfl rfl rfl (by decide) rfl (by decide) (List.forall_mem_cons.mpr ⟨Or.inl (List.Mem.head _), List.forall_mem_cons.mpr ⟨Or.inr (List.mem_append_right E (List.mem_append_left ro (List.mem_of_getElem? (i := 0) rfl))), List.forall_mem_nil _⟩⟩)
      refine g_callV1 X (met_X9_next1 l Z rd nm a1 a8 a9 a7 a4 v_at v_fault wz v_numbers v_depth v_scriptLength v_script r9 at9 fl9 nm9 h29 h39 wb9 wl9 hq1) _ _ isO h4 6 gC7 rfl rfl (lw_V q475 q476 q477 q97 q478) md_X9_next ⟨(Nat.le_of_ble_eq_true rfl), (Nat.le_of_ble_eq_true rfl)⟩ rfl dX1_run_16 19 rfl (k + 24) (n + 1300) rfl rfl (show k + 24 ≤ 2100 by omega) (show n + 1300 ≤ 91000 by omega) (st := []) rfl (Nat.le_of_ble_eq_true rfl) (fun _ => rfl) (fun u => ?_)
      obtain ⟨w6, w61⟩ := u
      refine g_istore_n X dX1_run_19 20 rfl (Nat.le_of_ble_eq_true rfl) rfl [some (.ref a1), some (.ref rd), some (.int r9), none] rfl ?_
      refine g_goto X dX1_run_20 11 (by decide) ?_
      refine g_perm _ (perm4 [(a1, .inr (0, [.ref a9, .ref a7, .int v_depth, .ref a8, .int v_scriptLength, .ref a4])), (a7, .inl (Z.2 3, 3, .inr (.inr (.inr (.inr v_saved))))), (a4, .inr (4, [.ref a4_1, .ref a4_2, .ref a4_3, (va_rf v_line), .long v_brought, .long v_left, .long v_dropped, .long v_away, .int v_mergings, .int v_drops])), (a4_1, .inl (Z.2 1, 1809, .inr (.inl v_fromNear))), (a4_2, .inl (Z.2 1, 1809, .inr (.inl v_fromFar))), (a4_3, .inl (Z.2 1, 201, .inr (.inl v_echoes)))] E [(rd, .inr (7, [.int at9, .int fl9, (.ref w6), .ref nm, .ref a1])), (nm, .inl (Z.2 0, 3, .inl nm9))] [(w6, .inr (8, [.ref w61, .int 0, .int h29, .int h39])), (w61, .inl (Z.2 2, wl9, .inl wb9))]) ?_
      exact ih (some w6) (E ++ [(w6, .inr (8, [.ref w61, .int 0, .int h29, .int h39])), (w61, .inl (Z.2 2, wl9, .inl wb9))]) (k + 24) (n + 1300) at9 fl9 nm9 r9 (by omega) (by omega) h KK
