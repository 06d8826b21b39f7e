/-! ARRAYS OF REFERENCES, copies out of what is read alone (printed by gen/refs.py) -/
set_option maxRecDepth 100000
section GREFV
variable {p : Program} {l : Launch} {e : Env} {R : Room} {s : State} {m : MethodId} {args : Array Value} {below : List Frame} {meth : Method} {c : Code} {H : Heap} {locs : List Loc} {cells slots : Nat} {Q : State → Prop}
variable {cc : ByteArray} {pc : Nat} {ls : Array Slot} {rest : List Value} {D : va_G} {cl : List vw_C} {A : Nat → Prop} {a : Nat} {tys : List (ClassId × FieldType)} {ws : va_W} {H0 : Heap}
theorem gv_copyiR {cc : ByteArray} (hexec : p.tables.exec = Jvm.exec) (hb : c.code = cc) (hml : c.maxLocals = ls.size) {own : String} {index : Nat} (hown : s.vm.findClass own = some m.cls) (hlink : (Cond.methodLink own index arraycopyName).before args s = true) (hnat : (Cond.native arraycopyName).before args s = true) (hstat : (Cond.static arraycopyName).before args s = true) (hini : (Cond.initialized "java/lang/System").before args s = true)
    (hK : va_K D cl tys s) (hP : va_P D cl ws H) (hD : va_D A ws) (hS : va_S A H0 H locs) (q1 t0 t1 : Nat) {a0 : Nat} {c0 c1 : ClassId} {n0 n1 : Nat} {f g : Nat → Int32} {ty : FieldType} (hc0 : H[a0]? = some (vp_cell c0 (n0, .inl f))) (ha1 : ws[q1]? = some (a, .inl (c1, n1, .inl g))) (ht0 : tys[t0]? = some (c0, ty)) (ht1 : tys[t1]? = some (c1, ty)) (hprim : refKind ty = false)
    {sp dp n : Int32} (h1 : ¬ sp < 0) (h2 : ¬ dp < 0) (h3 : ¬ n < 0) (h4 : sp.toNatClampNeg + n.toNatClampNeg ≤ n0) (h5 : dp.toNatClampNeg + n.toNatClampNeg ≤ n1) (hfit : ∀ i, i < n.toNatClampNeg → fits ty (.int (f (sp.toNatClampNeg + i))) = true)
    (hframes : 1 ≤ R.frames) (hlocals : (rest.map fun v => v.category).sum + (nativeFrameWords "java/lang/System" "arraycopy" 5 + 11) ≤ R.locals) (hdg : decode cc pc = .ok (.invokestatic index, 3))
    (kk : ∀ (H1 : Heap) (locs1 : List Loc), va_P D cl (ws.set q1 (a, .inl (c1, n1, .inl (va_cpy f g sp.toNatClampNeg dp.toNatClampNeg n.toNatClampNeg)))) H1 → va_D A (ws.set q1 (a, .inl (c1, n1, .inl (va_cpy f g sp.toNatClampNeg dp.toNatClampNeg n.toNatClampNeg)))) → va_S A H0 H1 locs1 → W p l e R s m args below meth c H1 locs1 cells slots Q (F0 m (pc + 3) ls rest)) : W p l e R s m args below meth c H locs cells slots Q (F0 m pc ls (.int n :: .int dp :: .ref a :: .int sp :: .ref a0 :: rest)) := by
  have nn : ∀ z : Int32, ¬ z < 0 → z.toInt = (z.toNatClampNeg : Int) := by
    intro z hz
    have hz0 : (0 : Int) ≤ z.toInt := by
      have := Int32.not_lt.mp hz
      simpa using Int32.le_iff_toInt_le.mp this
    show z.toInt = ((z.toInt.toNat : Nat) : Int)
    omega
  intro T hT X
  have hc1 : H[a]? = some (vp_cell c1 (n1, .inl g)) := hP q1 _ ha1
  obtain ⟨-, k0, hk0, cm0, hkk0⟩ := (hK.2 t0 _ ht0).1 n0 (fun j => .int (f j))
  obtain ⟨-, k1, hk1, cm1, hkk1⟩ := (hK.2 t1 _ ht1).1 n1 (fun j => .int (g j))
  obtain ⟨vm', X', step⟩ := X.arraycopy hexec hown hlink hnat hstat hini (src := a0) (dst := a) (cs := vp_cell c0 (n0, .inl f)) (cd := vp_cell c1 (n1, .inl g)) (srcPos := sp) (destPos := dp) (n := n) (by rw [hT]; exact hc0) (by rw [hT]; exact hc1)
    (fun _ h => by cases h) (fun _ h => by cases h) (fun h => by cases h) (fun h => by cases h) hk0 hk1 hkk0 hkk1 (by simp [hprim]) h1 h2 h3
    (by rw [nn sp h1, nn n h3]; show ¬ _ > ((arrV c0 n0 (fun j => .int (f j))).slots.size : Int); rw [arrV_size]; omega)
    (by rw [nn dp h2, nn n h3]; show ¬ _ > ((arrV c1 n1 (fun j => .int (g j))).slots.size : Int); rw [arrV_size]; omega)
    (fun vm₁ _ i hi => by
      have e : (vp_cell c0 (n0, .inl f)).slots.getD (sp.toNatClampNeg + i) .null = .int (f (sp.toNatClampNeg + i)) := by
        show (arrV c0 n0 (fun j => .int (f j))).slots.getD _ _ = _
        rw [Array.getD_eq_getD_getElem?, arrV_read _ _ (by omega)]
        rfl
      refine ⟨?_, ?_⟩
      · rw [e]
        exact hfit i hi
      · rw [e]
        exact trivial)
    (g := F0 m pc ls (.int n :: .int dp :: .ref a :: .int sp :: .ref a0 :: rest)) rfl (by rw [hml]) (rest := rest) rfl (by rw [hb]; exact hdg) hframes (by show 2 * 0 + _ + _ ≤ _; omega)
  have e1 : copied (vp_cell c0 (n0, .inl f)) (vp_cell c1 (n1, .inl g)) sp dp n = vp_cell c1 (n1, .inl (va_cpy f g sp.toNatClampNeg dp.toNatClampNeg n.toNatClampNeg)) := va_copied (fun z => .int z) c0 c1 f g h4
  rw [e1] at X' step
  have hl : a < H.size := (Array.getElem?_eq_some_iff.mp hc1).1
  have hheap : ((T.setVm vm').setCell a (vp_cell c1 (n1, .inl (va_cpy f g sp.toNatClampNeg dp.toNatClampNeg n.toNatClampNeg)))).heap = H.setIfInBounds a (vp_cell c1 (n1, .inl (va_cpy f g sp.toNatClampNeg dp.toNatClampNeg n.toNatClampNeg))) := by rw [← hT]; rfl
  have oq : ∀ q : Nat, q ≠ a → (H.setIfInBounds a (vp_cell c1 (n1, .inl (va_cpy f g sp.toNatClampNeg dp.toNatClampNeg n.toNatClampNeg))))[q]? = H[q]? := fun q hq => by simp [Array.getElem?_setIfInBounds, Ne.symm hq]
  obtain ⟨t, a1, b1⟩ := kk _ _ (hP.set hD ha1 (show (H.setIfInBounds a _)[a]? = some _ by simp [Array.getElem?_setIfInBounds, hl]) oq) (hD.set ha1) ⟨by simp; exact hS.1, fun q g1 g2 => by
      rw [oq q (fun e => g2 (by rw [e]; exact hD.2 q1 _ ha1))]
      exact hS.2.1 q g1 g2, fun q hq => by
      rcases List.mem_append.mp hq with h | h
      · exact hS.2.2 q h
      · obtain ⟨z, -, hz⟩ := List.mem_map.mp h
        rw [← hz]
        exact hD.2 q1 _ ha1⟩ _ hheap X'
  exact ⟨t, step t a1, b1⟩

end GREFV
section GREF
variable {p : Program} {l : Launch} {e : Env} {R : Room} {s : State} {m : MethodId} {args : Array Value} {below : List Frame} {meth : Method} {c : Code} {Z : gZt} {A : Nat → Prop} {cc : ByteArray} {own : String} {nL : Nat} {ret : Option FieldType} {rs : va_W} {Q : State → Prop} {wd : va_W} {k n pc : Nat} {L : List (Option Value)} {st : List Value}
theorem g_copyiR (X : gX p s m args meth c Z A cc own nL ret rs) {ix : Nat} (hlk : Cond.methodLink own ix arraycopyName ∈ lw_all) (q0 q1 : Nat) {a0 a1 n0 n1 : Nat} {f g : Nat → Int32} (ha0 : rs[q0]? = some (a0, .inl (Z.2 0, n0, .inl f))) (ha1 : wd[q1]? = some (a1, .inl (Z.2 0, n1, .inl g))) {sp dp w : Int32} (hc : gcpP sp dp w n0 n1) (hd : decode cc pc = .ok (.invokestatic ix, 3)) (pc' : Nat) (hp : pc + 3 = pc') (hf : 1 ≤ R.frames) (hlo : (st.map fun v => v.category).sum + (nativeFrameWords "java/lang/System" "arraycopy" 5 + 11) ≤ R.locals)
    (kk : G p l e R s m args below meth c Z A nL Q (wd.set q1 (a1, .inl (Z.2 0, n1, .inl (va_cpy f g sp.toNatClampNeg dp.toNatClampNeg w.toNatClampNeg)))) k n pc' L st) : G p l e R s m args below meth c Z A nL Q wd k n pc L (.int w :: .int dp :: .ref a1 :: .int sp :: .ref a0 :: st) := by
  subst hp
  exact fun H locs ls hP hD hS hl => gv_copyiR X.1 X.2.1 (by rw [X.2.2.2.1]; exact hl.1.symm) X.ow (X.ts _ hlk) (X.ts _ q278) (X.ts _ q277) (X.ts _ q75) X.K hP hD hS q1 0 0 (X.ro hS q0 _ ha0) ha1 rfl rfl rfl hc.1 hc.2.1 hc.2.2.1 hc.2.2.2.1 hc.2.2.2.2 (fun _ _ => rfl) hf hlo hd (fun H locs hP hD hS => kk H locs ls hP hD hS hl)
/-- an array of benches: a place read -/
theorem g_aldq (X : gX p s m args meth c Z A cc own nL ret rs) (q0 : Nat) {a N : Nat} {f : Nat → Option Nat} (ha : wd[q0]? = some (a, .inl (Z.2 3, N, .inr (.inr (.inr (.inr f)))))) {i : Int32} (hin : vp_in i N) (hd : decode cc pc = .ok (.aaload, 1)) (pc' : Nat) (hp : pc + 1 = pc') (kk : G p l e R s m args below meth c Z A nL Q wd k n pc' L (va_rf (f i.toNatClampNeg) :: st)) : G p l e R s m args below meth c Z A nL Q wd k n pc L (.int i :: .ref a :: st) := by
  subst hp
  exact fun H locs ls hP hD hS hl => va_aldq (C := "LineEchoes$Bench") X.1 X.2.1 X.K hP q0 3 ha rfl hin hd (kk H locs ls hP hD hS hl)
theorem gAny {s : State} {Z : gZt} {H : Heap} {ws : va_W} {q0 v : Nat} {fs : List Value} (hK : va_K Z.1 gCl (gTy Z) s) (hP : va_P Z.1 gCl ws H) (he : ws[q0]? = some (v, .inr (1, fs))) : va_Any "LineEchoes$Bench" s H v :=
  va_rAny hK hP he (ci := 1) rfl (fun comp c0 h1 h2 => by
    have hcls := (hK.1 1 _ rfl).2
    have e1 : comp = Z.1.1 1 := Option.some.inj (h1.symm.trans hcls.1)
    have e2 : c0 = Z.1.1 1 := Option.some.inj (h2.symm.trans hcls.1)
    rw [e1, e2]
    exact va_assign hcls)
/-- an array of benches: a bench stored -/
theorem g_astq (X : gX p s m args meth c Z A cc own nL ret rs) (q0 qk : Nat) {a N v : Nat} {fs : List Value} {f : Nat → Option Nat} (ha : wd[q0]? = some (a, .inl (Z.2 3, N, .inr (.inr (.inr (.inr f)))))) (hv : (wd ++ rs)[qk]? = some (v, .inr (1, fs))) {i : Int32} (hin : vp_in i N) (hd : decode cc pc = .ok (.aastore, 1)) (pc' : Nat) (hp : pc + 1 = pc') (kk : G p l e R s m args below meth c Z A nL Q (wd.set q0 (a, .inl (Z.2 3, N, .inr (.inr (.inr (.inr (va_up f i.toNatClampNeg (some v)))))))) k n pc' L st) : G p l e R s m args below meth c Z A nL Q wd k n pc L (.ref v :: .int i :: .ref a :: st) := by
  subst hp
  exact fun H locs ls hP hD hS hl => va_astqM (E := "LineEchoes$Bench") X.1 X.2.1 X.K hP hD hS q0 3 ha rfl (gAny X.K (hP.app (X.ro hS)) hv) hin hd (fun H locs hP hD hS => kk H locs ls hP hD hS hl)
/-- what an array of benches holds stands among what is read alone -/
def gSv (f : Nat → Option Nat) (N : Nat) (ro : va_W) : Prop := ∀ i, i < N → ∀ y, f i = some y → ∃ fs : List Value, (y, (.inr (1, fs) : va_E)) ∈ ro
theorem gSv.app {f : Nat → Option Nat} {N : Nat} {ro : va_W} (xs : va_W) (h : gSv f N ro) : gSv f N (xs ++ ro) := fun i hi y hy => by
  obtain ⟨fs, hm⟩ := h i hi y hy
  exact ⟨fs, List.mem_append_right _ hm⟩
theorem g_copyq (X : gX p s m args meth c Z A cc own nL ret rs) {ix : Nat} (hlk : Cond.methodLink own ix arraycopyName ∈ lw_all) (q0 : Nat) {a0 n0 : Nat} {f : Nat → Option Nat} (ha0 : wd[q0]? = some (a0, .inl (Z.2 3, n0, .inr (.inr (.inr (.inr f)))))) {sp dp w : Int32} (hc : gcpP sp dp w n0 n0) (hsv : gSv f n0 rs) (hd : decode cc pc = .ok (.invokestatic ix, 3)) (pc' : Nat) (hp : pc + 3 = pc') (hf : 1 ≤ R.frames) (hlo : (st.map fun v => v.category).sum + (nativeFrameWords "java/lang/System" "arraycopy" 5 + 11) ≤ R.locals)
    (kk : G p l e R s m args below meth c Z A nL Q (wd.set q0 (a0, .inl (Z.2 3, n0, .inr (.inr (.inr (.inr (va_cpy f f sp.toNatClampNeg dp.toNatClampNeg w.toNatClampNeg))))))) k n pc' L st) : G p l e R s m args below meth c Z A nL Q wd k n pc L (.int w :: .int dp :: .ref a0 :: .int sp :: .ref a0 :: st) := by
  subst hp
  intro H locs ls hP hD hS hl
  refine va_copyM (E0 := "LineEchoes$Bench") (E1 := "LineEchoes$Bench") X.1 X.2.1 (by rw [X.2.2.2.1]; exact hl.1.symm) X.ow (X.ts _ hlk) (X.ts _ q278) (X.ts _ q277) (X.ts _ q75) X.K hP hD hS q0 q0 3 3 ha0 ha0 rfl rfl hc.1 hc.2.1 hc.2.2.1 hc.2.2.2.1 hc.2.2.2.2 (fun i hi y hy => ?_) hf hlo hd (fun H locs hP hD hS => kk H locs ls hP hD hS hl)
  obtain ⟨fs, hm⟩ := hsv _ (by have := hc.2.2.2.1; omega) y hy
  obtain ⟨j, hj⟩ := List.mem_iff_getElem?.mp hm
  exact gAny X.K (X.ro hS) hj
theorem g_anew (X : gX p s m args meth c Z A cc own nL ret rs) {ix : Nat} (hq : Cond.classLink own ix "LineEchoes$Bench" ∈ lw_all) {i : Int32} (N : Nat) (hi : ¬ i < 0) (hN : i.toNatClampNeg = N) (hb : N * 4 ≤ 536870912) (hd : decode cc pc = .ok (.anewarray ix, 3)) (pc' : Nat) (hp : pc + 3 = pc') (k' n' : Nat) (hk : k + 1 = k') (hn : n + N = n') (hc : k' ≤ R.cells) (hs : n' ≤ R.slots) (kk : ∀ q : Nat, G p l e R s m args below meth c Z A nL Q (wd ++ [(q, .inl (Z.2 3, N, .inr (.inr (.inr (.inr (fun _ => none))))))]) k' n' pc' L (.ref q :: st)) : G p l e R s m args below meth c Z A nL Q wd k n pc L (.int i :: st) := by
  subst hp; subst hk; subst hn
  intro H locs ls hP hD hS hl
  refine va_newq X.1 X.2.1 X.ow (X.ts _ hq) X.kk.2.2.1 X.K hP hD hS X.new hi hN hb hc hs hd (fun q cA H1 hK1 hP1 hD1 hS1 => ?_)
  have e : cA = Z.2 3 := by
    obtain ⟨-, kA, comp, -, -, -, f1⟩ := hK1.2 4 (cA, .object "LineEchoes$Bench") rfl
    obtain ⟨-, kA2, comp2, -, -, -, g1⟩ := hK1.2 3 (Z.2 3, .object "LineEchoes$Bench") rfl
    exact Option.some.inj (f1.symm.trans g1)
  subst e
  exact kk q H1 locs ls hP1 hD1 hS1 hl
end GREF
/-- a callee that reads all that the caller reads alone, beside its own -/
theorem gAt4_tail {wd rs wc wr rc ro : va_W} {isC isR isO : List Nat} (h : gAt4 wd rs wc wr rc isC isR isO) : gAt4 wd (rs ++ ro) wc wr (rc ++ ro) isC isR (isO ++ (List.range ro.length).map (fun i => i + (wd ++ rs).length)) := by
  obtain ⟨h1, h2, h3, h4, h5, h6, h7⟩ := h
  refine ⟨h1, h2, ?_, h4, h5, h6, ?_⟩
  · rw [List.map_append, List.map_append]
    congr 1
    · rw [← h3]
      apply List.map_congr_left
      intro i hi
      have hlt : i < (wd ++ rs).length := by
        have h9 : (isO.map (fun i => (wd ++ rs)[i]?)) = rc.map some := h3
        obtain ⟨j, hj⟩ := List.mem_iff_getElem?.mp hi
        have h8 : (isO.map (fun i => (wd ++ rs)[i]?))[j]? = some ((wd ++ rs)[i]?) := by rw [List.getElem?_map, hj]; rfl
        rw [h9, List.getElem?_map] at h8
        cases hq : rc[j]? with
        | none => rw [hq] at h8; cases h8
        | some z =>
          rw [hq] at h8
          exact (List.getElem?_eq_some_iff.mp (Option.some.inj h8).symm).1
      show (wd ++ (rs ++ ro))[i]? = (wd ++ rs)[i]?
      rw [← List.append_assoc, List.getElem?_append_left hlt]
    · apply List.ext_getElem?
      intro i
      rw [List.getElem?_map, List.getElem?_map, List.getElem?_map]
      by_cases h : i < ro.length
      · rw [List.getElem?_range h]
        show some ((wd ++ (rs ++ ro))[i + (wd ++ rs).length]?) = _
        rw [← List.append_assoc, List.getElem?_append_right (by omega), Nat.add_sub_cancel]
        simp [h]
      · rw [List.getElem?_eq_none (by simp; omega), List.getElem?_eq_none (by omega)]
        rfl
  · intro i hi hc
    rcases List.mem_append.mp hi with h | h
    · exact h7 i h hc
    · obtain ⟨j, -, rfl⟩ := List.mem_map.mp h
      obtain ⟨z, hz⟩ := List.mem_iff_getElem?.mp hc
      have h8 : (isC.map (fun i => wd[i]?))[z]? = some (wd[j + (wd ++ rs).length]?) := by rw [List.getElem?_map, hz]; rfl
      rw [h1, List.getElem?_map, List.getElem?_eq_none (l := wd) (by simp; omega)] at h8
      cases hq : wc[z]? with
      | none => rw [hq] at h8; cases h8
      | some z => rw [hq] at h8; cases h8

