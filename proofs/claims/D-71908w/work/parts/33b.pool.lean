/-! POOLS: worlds with a list of cells that nothing is known of but what lies in it -/
set_option maxRecDepth 100000
theorem gD_nodup {A : Nat → Prop} {wd : va_W} (h : va_D A wd) : (wd.map Prod.fst).Nodup := by
  refine List.pairwise_iff_getElem.mpr fun i j hi hj hij e => ?_
  have hj' : j < wd.length := by simpa using hj
  have hi' : i < wd.length := by omega
  rw [List.getElem_map, List.getElem_map] at e
  have := h.1 i j _ _ (List.getElem?_eq_getElem hi') (List.getElem?_eq_getElem hj') e
  omega
theorem gD_of {A : Nat → Prop} {wd : va_W} (hn : (wd.map Prod.fst).Nodup) (hA : ∀ q ∈ wd, A q.1) : va_D A wd := by
  refine ⟨fun i j p q hi hj e => ?_, fun i q hi => hA q (List.mem_of_getElem? hi)⟩
  have hn2 := List.pairwise_iff_getElem.mp hn
  obtain ⟨hi', e1⟩ := List.getElem?_eq_some_iff.mp hi
  obtain ⟨hj', e2⟩ := List.getElem?_eq_some_iff.mp hj
  rcases Nat.lt_trichotomy i j with h | h | h
  · refine absurd ?_ (hn2 i j (by simpa using hi') (by simpa using hj') h)
    rw [List.getElem_map, List.getElem_map, e1, e2]
    exact e
  · exact h
  · refine absurd ?_ (hn2 j i (by simpa using hj') (by simpa using hi') h)
    rw [List.getElem_map, List.getElem_map, e1, e2]
    exact e.symm
theorem va_nd_to : ∀ (l : List Nat), va_nd l = true → l.Nodup
  | [], _ => List.nodup_nil
  | a :: l, h => by
    rw [va_nd, Bool.and_eq_true, decide_eq_true_eq] at h
    exact List.nodup_cons.mpr ⟨h.1, va_nd_to l h.2⟩
theorem gP_mem {D : va_G} {cl : List vw_C} {wd wd2 : va_W} {H : Heap} (h : va_P D cl wd H) (hs : ∀ q ∈ wd2, q ∈ wd) : va_P D cl wd2 H := by
  intro k q hq
  obtain ⟨j, hj⟩ := List.mem_iff_getElem?.mp (hs q (List.mem_of_getElem? hq))
  exact h j q hj
section GPOOL
variable {p : Program} {l : Launch} {e : Env} {R : Room} {s : State} {m : MethodId} {args : Array Value} {below : List Frame} {meth : Method} {c : Code} {Z : gZt} {A : Nat → Prop} {nL : Nat} {Q : State → Prop} {wd : va_W} {k n pc : Nat} {L : List (Option Value)} {st : List Value}
/-- the order of the cells does not count -/
theorem g_perm (wd2 : va_W) (h : wd.Perm wd2) (kk : G p l e R s m args below meth c Z A nL Q wd2 k n pc L st) : G p l e R s m args below meth c Z A nL Q wd k n pc L st := fun H locs ls hP hD hS hl =>
  kk H locs ls (gP_mem hP fun q hq => h.mem_iff.mpr hq) (gD_of ((h.map Prod.fst).nodup_iff.mp (gD_nodup hD)) fun q hq => by
    obtain ⟨j, hj⟩ := List.mem_iff_getElem?.mp (h.mem_iff.mpr hq)
    exact hD.2 j q hj) hS hl
end GPOOL
/-- a callee over a base; what it reads alone lies anywhere -/
theorem g4_ext {base E rs wc wr rc : va_W} (isC isR : List Nat) (hC : isC.map (fun i => base[i]?) = wc.map some) (hR : isR.map (fun i => base[i]?) = wr.map some) (nC : va_nd isC = true) (nR : va_nd isR = true) (d1 : ∀ i ∈ isR, i ∉ isC) {bl : Nat} (hbl : base.length = bl) (hb : ∀ i ∈ isR, i < bl) (hO : ∀ q ∈ rc, q ∈ wr ∨ q ∈ E ++ rs) :
    ∃ isO, gAt4 (base ++ E) rs wc (wr ++ E) rc isC (isR ++ (List.range E.length).map (fun i => i + base.length)) isO := by
  subst hbl
  have hcl : ∀ i ∈ isC, i < base.length := by
    intro i hi
    obtain ⟨j, hj⟩ := List.mem_iff_getElem?.mp hi
    have h8 : (isC.map (fun i => base[i]?))[j]? = some (base[i]?) := by rw [List.getElem?_map, hj]; rfl
    rw [hC, List.getElem?_map] at h8
    cases hq : wc[j]? with
    | none => rw [hq] at h8; cases h8
    | some z =>
      rw [hq] at h8
      exact (List.getElem?_eq_some_iff.mp (Option.some.inj h8).symm).1
  have hfind : ∀ q ∈ rc, ∃ i, (base ++ E ++ rs)[i]? = some q ∧ i ∉ isC := by
    intro q hq
    rcases hO q hq with h | h
    · obtain ⟨j, hj⟩ := List.mem_iff_getElem?.mp h
      have h8 : (isR.map (fun i => base[i]?))[j]? = some (some q) := by rw [hR, List.getElem?_map, hj]; rfl
      rw [List.getElem?_map] at h8
      cases hi : isR[j]? with
      | none => rw [hi] at h8; cases h8
      | some i =>
        rw [hi] at h8
        have h9 : base[i]? = some q := Option.some.inj h8
        have hm := List.mem_of_getElem? hi
        exact ⟨i, by rw [List.append_assoc, List.getElem?_append_left (hb i hm)]; exact h9, d1 i hm⟩
    · obtain ⟨j, hj⟩ := List.mem_iff_getElem?.mp h
      refine ⟨base.length + j, ?_, fun hm => ?_⟩
      · rw [List.append_assoc, List.getElem?_append_right (by omega), Nat.add_sub_cancel_left]
        exact hj
      · have := hcl _ hm
        omega
  have hlist : ∀ (rc0 : va_W), (∀ q ∈ rc0, q ∈ rc) → ∃ isO : List Nat, isO.map (fun i => (base ++ E ++ rs)[i]?) = rc0.map some ∧ ∀ i ∈ isO, i ∉ isC := by
    intro rc0
    induction rc0 with
    | nil => intro _; exact ⟨[], rfl, fun i h => absurd h List.not_mem_nil⟩
    | cons q t ih =>
      intro hs
      obtain ⟨isO, h1, h2⟩ := ih (fun z hz => hs z (List.mem_cons_of_mem _ hz))
      obtain ⟨i, h3, h4⟩ := hfind q (hs q List.mem_cons_self)
      refine ⟨i :: isO, ?_, fun j hj => ?_⟩
      · rw [List.map_cons, List.map_cons, h3, h1]
      · rcases List.mem_cons.mp hj with h | h
        · rw [h]; exact h4
        · exact h2 j h
  obtain ⟨isO, h1, h2⟩ := hlist rc (fun q h => h)
  refine ⟨isO, ?_, ?_, h1, nC, ?_, ?_, h2⟩
  · rw [← hC]
    apply List.map_congr_left
    intro i hi
    exact List.getElem?_append_left (hcl i hi)
  · rw [List.map_append, List.map_append]
    congr 1
    · rw [← hR]
      apply List.map_congr_left
      intro i hi
      exact List.getElem?_append_left (hb i hi)
    · apply List.ext_getElem?
      intro i
      rw [List.getElem?_map, List.getElem?_map, List.getElem?_map]
      by_cases h : i < E.length
      · rw [List.getElem?_range h]
        show some ((base ++ E)[i + base.length]?) = _
        rw [List.getElem?_append_right (by omega), Nat.add_sub_cancel]
        simp [h]
      · rw [List.getElem?_eq_none (by simp; omega), List.getElem?_eq_none (by omega)]
        rfl
  · refine va_nd_of _ (List.nodup_append.mpr ⟨va_nd_to _ nR, ?_, fun i h1 j h2 => ?_⟩)
    · exact List.pairwise_map.mpr (List.Pairwise.imp (fun h h9 => h (by omega)) List.nodup_range)
    · obtain ⟨j0, -, rfl⟩ := List.mem_map.mp h2
      have := hb i h1
      omega
  · intro i hi hc
    rcases List.mem_append.mp hi with h | h
    · exact d1 i h hc
    · obtain ⟨j, -, rfl⟩ := List.mem_map.mp h
      have := hcl _ hc
      omega
