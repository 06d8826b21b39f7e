/-! EXCEPTIONS: throw new E(text), the text out of a local (turned from vx_throwS); contracts of methods that throw -/
set_option maxRecDepth 100000
section GVX
variable {p : Program} {l : Launch} {e : Env} {R : Room} {s : State} {m : MethodId} {args : Array Value} {below : List Frame} {meth : Method} {c : Code} {H : Heap} {locs : List Loc} {cells slots : Nat} {free : Addr → Prop} {ls : Array Slot} {rest : List Value} {Qc : Array Value → State → Outcome → State → Prop} {XC : String → State → State → Prop}
set_option maxHeartbeats 4000000 in
theorem gv_throwL {cc : ByteArray} {pc : Nat} (hexec : p.tables.exec = Jvm.exec) (hb : c.code = cc) (hl : l.stackTraces = false) {own cls : String} {jl : Fin 4} {names : List String} {ik ic mc ms sa : Nat} {A : Nat → Prop}
    (hown : s.vm.findClass own = some m.cls) (hcls : Bundle.fit cls = true) (hnames : ∀ n ∈ names, Bundle.fit n = true)
    (hk : (Cond.classLink own ik cls).before args s = true) (hini : (Cond.initialized cls).before args s = true) (hlv : ls[(jl : Nat)]? = some (.val (.ref sa))) (hat : ∀ w ∈ vx_atS own ic cls names, w.before args s = true)
    (hgood : ∀ w ∈ Cond.classLink own ik cls :: Cond.initialized cls :: vx_atS own ic cls names, vx_ot w = true)
    (hU : vx_Zq Bundle.tN "UNASSIGNED_STACK" Bundle.steD A s s.heap) (hN : vx_Zq Bundle.tN "SUPPRESSED_SENTINEL" Bundle.listD A s s.heap) (hS : va_S A s.heap H locs) (hsize : ls.size = c.maxLocals)
    (d0 : decode cc pc = .ok (.new ik, 3)) (d3 : decode cc (pc + 3) = .ok (.dup, 1)) (d4 : decode cc (pc + 4) = .ok (.aload_n jl, 1)) (d6 : decode cc (pc + 5) = .ok (.invokespecial ic, 3)) (d9 : decode cc (pc + 8) = .ok (.athrow, 1))
    (hout : ∀ x ∈ c.exceptionTable.toList, covers x (pc + 8) = false)
    (hRframes : names.length + 3 < R.frames) (hRlocals : (rest.map fun v => v.category).sum + (13 * (names.length + 1) + 43) ≤ R.locals) (hRcells : cells + 1 ≤ R.cells) (hRslots : slots + 6 ≤ R.slots) (hlocks : meth.locks = false)
    (hx : ∀ t : State, s.vm.Alike t.vm → H.size ≤ t.heap.size → (∀ q : Nat, q < H.size → t.heap[q]? = H[q]?) → XC cls s t)
    (hf : ∀ z ∈ locs, free z.base) (hc : cells + 1 ≤ mc) (hs : slots + 6 ≤ ms) :
    W p l e R s m args below meth c H locs cells slots (vx_MQ below Qc XC args s mc ms free) (F0 m pc ls rest) := by
  intro T hT X
  have htr : e.platform.stackTraces = false := (show e.platform.stackTraces = l.stackTraces by rw [X.admits.platform]).trans hl
  have Y := vx_rebase X (R' := { frames := R.frames, locals := R.locals, cells := 1, slots := 6 }) (Nat.le_refl _) (Nat.le_refl _) hRcells hRslots
  obtain ⟨s', hA⟩ : ∃ z, z = (T.setVm s.vm).setFrames (.invoking m args :: below) := ⟨_, rfl⟩
  rw [← hA] at Y
  have hvm : s'.vm = s.vm := by rw [hA]; rfl
  have hhp : s'.heap = H := by rw [hA]; exact hT
  have hW0 : s.WarmedH s'.vm := by rw [hvm]; exact State.WarmedH.refl s
  have hat' : ∀ w ∈ vx_atS own ic cls names, w.before args s' = true := fun w hw => vx_ot_at hW0 hvm.symm (hgood w (List.mem_cons_of_mem _ (List.mem_cons_of_mem _ hw))) (hat w hw)
  have hk' : (Cond.classLink own ik cls).before args s' = true := vx_ot_at hW0 hvm.symm (hgood _ List.mem_cons_self) hk
  have hini' : (Cond.initialized cls).before args s' = true := vx_ot_at hW0 hvm.symm (hgood _ (List.mem_cons_of_mem _ List.mem_cons_self)) hini
  have hU' : vx_Zq Bundle.tN "UNASSIGNED_STACK" Bundle.steD A s' s'.heap := by rw [hhp]; exact vx_Zq.moved hW0.alike (hU.kept hS.2.1)
  have hN' : vx_Zq Bundle.tN "SUPPRESSED_SENTINEL" Bundle.listD A s' s'.heap := by rw [hhp]; exact vx_Zq.moved hW0.alike (hN.kept hS.2.1)
  have h : ∀ w ∈ Bundle.ownAtoms own ic cls names, w.before args s' = true := vx_own hat' (vx_isRefq hU'.1) (vx_isRefq hN'.1) hU'.2.word hN'.2.word
  have hown' : s'.vm.findClass own = some m.cls := by rw [hvm]; exact hown
  have hins : (Cond.instantiable cls 6).before args s' = true := h _ (by simp [Bundle.ownAtoms])
  obtain ⟨vm₁, cX, kX, hfX, hkX, -, -, X₁, st1⟩ := Y.newCold hexec (own := own) (C := cls) (index := ik) (n := 6) hown' hk' hins hini'
    (g := F0 m pc ls rest) rfl (by rw [hb]; exact d0) (Nat.le_refl _) (Nat.le_refl _)
  generalize hT1 : (T.setVm vm₁).pushCell { cls := cX, slots := kX.instanceTypes.map defaultValue, vm := .none } = T1 at X₁ st1
  have hcat : (Value.ref T.heap.size).category = 1 := rfl
  have hcellA : T1.heap[T.heap.size]? = some (freshCell cX kX) := by rw [← hT1]; exact State.heap_pushCell_size _ _
  have d3' : decode c.code (pc + 3) = .ok (.dup, 1) := by rw [hb]; exact d3
  have d4' : decode c.code (pc + 4) = .ok (.aload_n jl, 1) := by rw [hb]; exact d4
  obtain ⟨U, hsteps, hrun, hend, hW, hsame, ce, hce, hO⟩ := X₁.ctorThrowS hexec htr (own := own) (cls := cls) (names := names) (ic := ic) hown' hcls hnames h (fun x hx => nomatch hx) hfX hkX hcellA (by rw [hhp, hT]; exact Nat.le_refl _) (msg := .ref sa) rfl
    (g := { method := m, pc := pc + 5, locals := ls, stack := .ref sa :: .ref T.heap.size :: .ref T.heap.size :: rest, locked := none }) rfl hsize rfl rfl (rest := rest) rfl
    (by rw [hb]; exact d6) (by rw [hb]; exact d9) hout hRframes (by simp only [List.map_cons, List.sum_cons, hcat]; omega) hlocks
  obtain ⟨f1, f2⟩ := vx_frame hsame
  rw [hhp] at f1 f2
  have hWs : s.WarmedH U.vm := State.WarmedH.trans hW0 hW
  have hcl : s.vm.findClass cls = some ce.cls := by
    have h9 := hO.cls
    rw [hvm] at h9
    exact h9
  have hall : s.sameButNew ({ U with vm := s.vm } : State) locs mc ms := by
    subst hA
    obtain ⟨e1, e2⟩ := hsame
    rw [State.setFrames_setFrames] at e1
    have h2 : (T.setVm s.vm).sameButNew ({ U with vm := s.vm } : State) [] (0 + 1) (0 + 6) := ⟨e1, e2⟩
    have h3 := X.same.trans h2
    rw [List.append_nil] at h3
    exact h3.mono hc hs
  refine ⟨U, ?_, .threw T.heap.size, hrun, hend, Or.inr ⟨T.heap.size, rfl, cls, ce, locs, hx U hWs.alike f1 (fun q hq => f2 q hq (fun z hz => nomatch hz)), hce, hO.vm, hcl, hWs, hall, hf⟩⟩
  refine st1 _ ?_
  show Steps p.tables e below (T1.setTop { method := m, pc := pc + 3, locals := ls, stack := .ref T.heap.size :: rest, locked := none }) _
  jvm_step X₁.here [X₁.here.top, hexec, d3', Value.category]
  exact (by
    jvm_step X₁.here [X₁.here.top, hexec, d4', hlv, Value.isRef]
    exact hsteps)
end GVX
theorem gw_in (ws : List Cond) (ps : List Nat) (hp : ws = ps.filterMap (fun i => lw_tbl[i]?)) : ∀ w ∈ ws, w ∈ lw_tbl := by
  intro w h
  rw [hp] at h
  obtain ⟨i, -, hi⟩ := List.mem_filterMap.mp h
  exact List.mem_of_getElem? hi
theorem gX.at_ {p : Program} {s : State} {m : MethodId} {args : Array Value} {meth : Method} {c : Code} {Z : gZt} {A : Nat → Prop} {cc : ByteArray} {own : String} {nL : Nat} {ret : Option FieldType} {rs : va_W} (X : gX p s m args meth c Z A cc own nL ret rs) {ws : List Cond} (h1 : ∀ w ∈ ws, w ∈ lw_tbl) (h2 : ws.all (fun w => goodWord w || gNst w) = true) : ∀ w ∈ ws, w.before args s = true := by
  intro w hw
  have h3 := List.all_eq_true.mp h2 w hw
  rcases Bool.or_eq_true_iff.mp h3 with h | h
  · exact X.ts w (lw_g (h1 w hw) h)
  · exact X.nst (h1 w hw) h
theorem gxwI : ∀ w ∈ vx_atS "LineEchoes" 3 "java/lang/IndexOutOfBoundsException" ["java/lang/RuntimeException", "java/lang/Exception"], w ∈ lw_tbl := gw_in _ [76, 676, 685, 690, 693, 695, 677, 678, 104, 105, 679, 684, 691, 786, 666, 787, 668, 788, 670, 680, 682, 672, 782, 783, 785, 672, 916, 917, 918, 776, 658, 776, 777, 778, 779, 660, 779, 780, 781, 782, 662, 998, 990, 991, 992, 689, 993, 994, 995, 996, 784, 674, 997] (by decide +kernel)
theorem gxaI : (vx_atS "LineEchoes" 3 "java/lang/IndexOutOfBoundsException" ["java/lang/RuntimeException", "java/lang/Exception"]).all (fun w => goodWord w || gNst w) = true := by decide +kernel
theorem gxoI : ∀ w ∈ Cond.classLink "LineEchoes" 1 "java/lang/IndexOutOfBoundsException" :: Cond.initialized "java/lang/IndexOutOfBoundsException" :: vx_atS "LineEchoes" 3 "java/lang/IndexOutOfBoundsException" ["java/lang/RuntimeException", "java/lang/Exception"], vx_ot w = true := by decide +kernel
theorem gxwA : ∀ w ∈ vx_atS "LineEchoes" 9 "java/lang/IllegalArgumentException" ["java/lang/RuntimeException", "java/lang/Exception"], w ∈ lw_tbl := gw_in _ [76, 676, 685, 690, 693, 695, 677, 678, 104, 105, 679, 684, 691, 786, 666, 787, 668, 788, 670, 680, 682, 672, 782, 783, 785, 672, 773, 774, 775, 776, 658, 776, 777, 778, 779, 660, 779, 780, 781, 782, 662, 954, 655, 656, 663, 664, 665, 667, 669, 671, 784, 674, 673] (by decide +kernel)
theorem gxaA : (vx_atS "LineEchoes" 9 "java/lang/IllegalArgumentException" ["java/lang/RuntimeException", "java/lang/Exception"]).all (fun w => goodWord w || gNst w) = true := by decide +kernel
theorem gxoA : ∀ w ∈ Cond.classLink "LineEchoes" 7 "java/lang/IllegalArgumentException" :: Cond.initialized "java/lang/IllegalArgumentException" :: vx_atS "LineEchoes" 9 "java/lang/IllegalArgumentException" ["java/lang/RuntimeException", "java/lang/Exception"], vx_ot w = true := by decide +kernel
theorem gxwS : ∀ w ∈ vx_atS "LineEchoes" 12 "java/lang/IllegalStateException" ["java/lang/RuntimeException", "java/lang/Exception"], w ∈ lw_tbl := gw_in _ [76, 676, 685, 690, 693, 695, 677, 678, 104, 105, 679, 684, 691, 786, 666, 787, 668, 788, 670, 680, 682, 672, 782, 783, 785, 672, 972, 973, 974, 776, 658, 776, 777, 778, 779, 660, 779, 780, 781, 782, 662, 971, 963, 964, 965, 688, 966, 967, 968, 969, 784, 674, 970] (by decide +kernel)
theorem gxaS : (vx_atS "LineEchoes" 12 "java/lang/IllegalStateException" ["java/lang/RuntimeException", "java/lang/Exception"]).all (fun w => goodWord w || gNst w) = true := by decide +kernel
theorem gxoS : ∀ w ∈ Cond.classLink "LineEchoes" 10 "java/lang/IllegalStateException" :: Cond.initialized "java/lang/IllegalStateException" :: vx_atS "LineEchoes" 12 "java/lang/IllegalStateException" ["java/lang/RuntimeException", "java/lang/Exception"], vx_ot w = true := by decide +kernel
/-! contracts of methods that throw -/
def gPostX (Z : gZt) (A : Nat → Prop) (E0 : String) (wx : va_W) : String → State → State → Prop := fun E st t => E = E0 ∧ va_P Z.1 gCl wx t.heap ∧ va_D A wx ∧ va_F A st t
def gQc (Z : gZt) (A : Nat → Prop) {T S : Type} (rv : T → S → Option Value) (wd' : T → S → va_W) (o : T ⊕ Nat) : Array Value → State → Outcome → State → Prop := match o with
  | .inl x => gPost Z A (rv x) (wd' x)
  | .inr _ => fun _ _ _ _ => False
def gXc (Z : gZt) (A : Nat → Prop) {T : Type} (wd : va_W) (o : T ⊕ Nat) : String → State → State → Prop := match o with
  | .inl _ => fun _ _ _ => False
  | .inr k => gPostX Z A (gXn k) wd
def Cx (l : Launch) (y : MethodName) (ws : List Cond) (rm : Room) (Z : gZt) (avs : List Value) (wd rs wx : va_W) {T S : Type} (rv : T → S → Option Value) (wd' : T → S → va_W) (o : T ⊕ Nat) : Prop := ∀ sz : Nat, vx_Met l y ws rm (va_Pc avs (gPre Z wd rs sz)) (gQc Z (va_A wd sz) rv wd' o) (gXc Z (va_A wd sz) wx o) rm.cells rm.slots (va_A wd sz)
/-- it throws, the world wx then -/
def CtX (l : Launch) (y : MethodName) (ws : List Cond) (rm : Room) (Z : gZt) (avs : List Value) (wd rs wx : va_W) (E0 : String) : Prop := ∀ sz : Nat, vx_Met l y ws rm (va_Pc avs (gPre Z wd rs sz)) (fun _ _ _ _ => False) (gPostX Z (va_A wd sz) E0 wx) rm.cells rm.slots (va_A wd sz)
theorem Cx.ret {l : Launch} {y : MethodName} {ws : List Cond} {rm : Room} {Z : gZt} {avs : List Value} {wd rs wx : va_W} {T S : Type} {rv : T → S → Option Value} {wd' : T → S → va_W} {x : T} (h : Cx l y ws rm Z avs wd rs wx rv wd' (.inl x)) : Ct l y ws rm Z avs wd rs (rv x) (wd' x) := by
  intro sz p e h1 h2 h3 s m args below h4 h5 h6 h7
  obtain ⟨n, o, g1, g2, g3, g4⟩ := h sz p e h1 h2 h3 s m args below h4 h5 h6 h7
  refine ⟨n, o, g1, g2, g3, ?_⟩
  rcases g4 with g4 | ⟨q, -, E, ce, L, hf, -⟩
  · exact g4
  · exact hf.elim
theorem Cx.thr {l : Launch} {y : MethodName} {ws : List Cond} {rm : Room} {Z : gZt} {avs : List Value} {wd rs wx : va_W} {T S : Type} {rv : T → S → Option Value} {wd' : T → S → va_W} {k : Nat} (h : Cx l y ws rm Z avs wd rs wx rv wd' (.inr k)) : CtX l y ws rm Z avs wd rs wx (gXn k) := h
theorem Cx.of {l : Launch} {y : MethodName} {rm : Room} {Z : gZt} {avs : List Value} {wd rs wx : va_W} {T S : Type} {rv : T → S → Option Value} {wd' : T → S → va_W} {o : T ⊕ Nat} (cc : ByteArray) (maxL : Nat) (ret : Option FieldType) (own : String) (L0 : List (Option Value)) (j : Nat) (hy : plainName y.cls = true) (hown : y.cls = own) (hlen : (lg_sl avs).length ≤ maxL) (hL : gA avs ++ List.replicate j none = L0)
    (body : ∀ (p : Program) (e : Env) (s : State) (m : MethodId) (args : Array Value) (below : List Frame) (meth : Method) (c : Code) (A : Nat → Prop), gX p s m args meth c Z A cc own maxL ret rs → (∀ x ∈ c.exceptionTable.toList, False) → G p l e rm s m args below meth c Z A maxL (vx_MQ below (gQc Z A rv wd' o) (gXc Z A wx o) args s rm.cells rm.slots A) wd 0 0 0 L0 []) : Cx l y (ws_ y cc maxL ret) rm Z avs wd rs wx rv wd' o := by
  intro sz
  refine vx_ofW (cc := cc) (maxL := maxL) (ret := ret) hy rfl ?_
  intro p e s m args below meth c s₁ B hml ht hv
  obtain ⟨rfl, hsz, hP, hD0, hK, hE, hR, hN⟩ := hv
  subst hsz
  have hts := atoms_spec (ws := ws_ y cc maxL ret) B.pre
  have hts : ∀ w ∈ lw_all, w.before _ s = true := fun w h => hts w (List.mem_cons_of_mem _ h)
  have hfc : s.vm.findClass own = some m.cls := by rw [← hown]; exact findClass_of_methodNamed B.named
  have key := body p e s m avs.toArray below meth c (va_A wd s.heap.size) ⟨B.exec, B.bytes, B.returns, hml, hfc, hts, B.notSynchronized, hK, hE, fun q h => Or.inr h, hR, fun k q hk ha => by
    rcases ha with ⟨k2, e2, h2⟩ | h2
    · exact hN k k2 q (q.1, e2) hk h2 rfl
    · have := (hR k q hk).lt
      omega⟩ ht
  rw [lg_entry_eq]
  exact key s.heap [] _ hP hD0.self va_S.rf (gA_gl (lv_entry avs hlen) hL)
section GXR
variable {p : Program} {l : Launch} {e : Env} {R : Room} {s : State} {m : MethodId} {args : Array Value} {below : List Frame} {meth : Method} {c : Code} {Z : gZt} {A : Nat → Prop} {cc : ByteArray} {own : String} {nL : Nat} {ret : Option FieldType} {rs : va_W} {Q : State → Prop} {wd : va_W} {k n pc : Nat} {L : List (Option Value)} {st : List Value}
theorem g_retX {Qc : Array Value → State → Outcome → State → Prop} {XC : String → State → State → Prop} {mc ms : Nat} (h : G p l e R s m args below meth c Z A nL (MQ below Qc args s mc ms A) wd k n pc L st) : G p l e R s m args below meth c Z A nL (vx_MQ below Qc XC args s mc ms A) wd k n pc L st := fun H locs ls hP hD hS hl => vx_ret (h H locs ls hP hD hS hl)
/-- a String constant -/
theorem g_ldcS (X : gX p s m args meth c Z A cc own nL ret rs) (i : Nat) {ix : Nat} {tx : String} (hq : gStr[i]? = some (own, ix, tx)) (hd : decode cc pc = .ok (.ldc ix, 2)) (pc' : Nat) (hp : pc + 2 = pc') (kk : G p l e R s m args below meth c Z A nL Q wd k n pc' L (.ref (gSK Z i) :: st)) : G p l e R s m args below meth c Z A nL Q wd k n pc L st := by
  subst hp
  have hr := X.kk.2.2.2.2.2.2.2.2.2.1 i _ hq
  intro H locs ls hP hD hS hl T hT X9
  obtain ⟨t, a, b⟩ := kk H locs ls hP hD hS hl T hT X9
  exact ⟨t, X9.ldcString X.1 (own := own) (text := tx) (index := ix) (a := gSK Z i) X.ow hr.1 hr.2 (g := F0 m pc ls st) rfl (by rw [X.2.1]; exact hd) t a, b⟩
/-- throw new E(text), the text out of a local: it leaves the method -/
theorem g_throwL (X : gX p s m args meth c Z A cc own nL ret rs) (Xt : ∀ x ∈ c.exceptionTable.toList, False) (hl : l.stackTraces = false) {cls : String} {jl : Fin 4} {names : List String} {ik ic sa : Nat} (hcls : Bundle.fit cls = true) (hnames : ∀ n ∈ names, Bundle.fit n = true) (hkk : Cond.classLink own ik cls ∈ lw_all) (hini : Cond.initialized cls ∈ lw_all) (hw1 : ∀ w ∈ vx_atS own ic cls names, w ∈ lw_tbl) (hw2 : (vx_atS own ic cls names).all (fun w => goodWord w || gNst w) = true) (hgood : ∀ w ∈ Cond.classLink own ik cls :: Cond.initialized cls :: vx_atS own ic cls names, vx_ot w = true)
    (hlv : L[(jl : Nat)]? = some (some (.ref sa))) (d0 : decode cc pc = .ok (.new ik, 3)) (d3 : decode cc (pc + 3) = .ok (.dup, 1)) (d4 : decode cc (pc + 4) = .ok (.aload_n jl, 1)) (d6 : decode cc (pc + 5) = .ok (.invokespecial ic, 3)) (d9 : decode cc (pc + 8) = .ok (.athrow, 1))
    (hRf : names.length + 3 < R.frames) (hRl : (st.map fun v => v.category).sum + (13 * (names.length + 1) + 43) ≤ R.locals) {mc ms : Nat} (hk : k + 1 ≤ mc) (hn : n + 6 ≤ ms) (hRc : k + 1 ≤ R.cells) (hRs : n + 6 ≤ R.slots) {Qc : Array Value → State → Outcome → State → Prop} {wd0 : va_W} (isK : List Nat) (hK0 : isK.map (fun i => wd[i]?) = wd0.map some) (hnK : va_nd isK = true) : G p l e R s m args below meth c Z A nL (vx_MQ below Qc (gPostX Z A cls wd0) args s mc ms A) wd k n pc L st := by
  intro H locs ls hP hD hS hlo
  refine gv_throwL (A := A) X.1 X.2.1 hl X.ow hcls hnames (X.ts _ hkk) (X.ts _ hini) (gl_at hlo hlv) (X.at_ hw1 hw2) hgood X.E.2.1 X.E.2.2.1 hS (by rw [X.2.2.2.1]; exact hlo.1) d0 d3 d4 d6 d9 (fun x hx => (Xt x hx).elim) hRf hRl hRc hRs X.locks ?_ hS.2.2 hk hn
  intro t ha hz hq
  have hPt : va_P Z.1 gCl wd t.heap := hP.kept fun j q hj => hq q.1 (hP j q hj).lt
  exact ⟨rfl, gsel_P hPt hK0, hD.sub isK hnK hK0, Nat.le_trans hS.1 hz, fun q h1 h2 => (hq q (Nat.lt_of_lt_of_le h1 hS.1)).trans (hS.2.1 q h1 h2)⟩
/-- a callee has thrown, and nothing here catches it -/
theorem g_xout (X : gX p s m args meth c Z A cc own nL ret rs) (Xt : ∀ x ∈ c.exceptionTable.toList, False) {wc wr rc wx : va_W} {isC isR isO : List Nat} (h4 : gAt4 wd rs wc wr rc isC isR isO) {wd0 : va_W} {isK : List Nat} (hK0 : isK.map (fun i => (wr ++ wx)[i]?) = wd0.map some) (hnK : va_nd isK = true) {st0 : List Value} {rm : Room} {E0 : String} {mc ms : Nat} {Qc : Array Value → State → Outcome → State → Prop}
    (hrun : ∀ (H : Heap) (locs : List Loc) (ls : Array Slot), va_P Z.1 gCl wd H → va_D A wd → va_S A s.heap H locs → gl ls nL L → vx_Run p l e R s m args below meth c H locs k n rm.cells rm.slots (F0 m pc ls st0) st (fun _ _ _ => False) (gPostX Z (va_A wc H.size) E0 wx) (va_A wc H.size))
    (hk : k + rm.cells ≤ mc) (hn : n + rm.slots ≤ ms) : G p l e R s m args below meth c Z A nL (vx_MQ below Qc (gPostX Z A E0 wd0) args s mc ms A) wd k n pc L st0 := by
  obtain ⟨hC, hR, hO, nC, nR, d1, d2⟩ := h4
  intro H locs ls hP hD hS hl T hT X9
  rcases hrun H locs ls hP hD hS hl T hT X9 with ⟨v, st₀, t, T', L2, h0, X', hL2, e1, e2, hq, sst⟩ | ⟨q, st₀, t, T', L2, E, ce, h0, X', hL2, e1, e2, ⟨rfl, hp, hd, hz, hkk⟩, hce, hcv, hcl, sst⟩
  · exact hq.elim
  · rw [h0] at hz hkk
    have hF : ∀ q, va_A wc H.size q → A q := va_free hD hS X.new isC hC
    obtain ⟨hPn, hDn⟩ := va_join hP hD isC isR hC hR nR d1 hkk hF hp hd
    have hS' : va_S A s.heap T'.heap (locs ++ L2) := ⟨Nat.le_trans hS.1 (by rw [e1]; exact hz), fun q h1 h2 => by rw [e1, hkk q (Nat.lt_of_lt_of_le h1 hS.1) (fun z => h2 (hF q z))]; exact hS.2.1 q h1 h2, fun q hq => by
      rcases List.mem_append.mp hq with h | h
      · exact hS.2.2 q h
      · exact hF _ (hL2 q h)⟩
    have w : vx_W p l e R s m args below meth c T'.heap (locs ++ L2) (k + rm.cells) (n + rm.slots) (vx_MQ below Qc (gPostX Z A E wd0) args s mc ms A) (F0 m pc ls st) q := vx_out (fun x hx => (Xt x hx).elim) X.locks (by rw [e1]; exact hce) hcv hcl (fun t9 ht9 ha9 => ⟨rfl, by rw [ht9, e1]; exact gsel_P hPn hK0, hDn.sub isK hnK hK0, hS'.F ht9⟩) hS'.2.2 hk hn
    obtain ⟨t2, a1, b1⟩ := w T' rfl X'
    exact ⟨t2, sst.trans a1, b1⟩
/-- a callee has thrown, and a row of this method's table takes it -/
theorem g_xcatch (X : gX p s m args meth c Z A cc own nL ret rs) {wc wr rc wx : va_W} {isC isR isO : List Nat} (h4 : gAt4 wd rs wc wr rc isC isR isO) {st0 : List Value} {rm : Room} {E0 name : String} {Hd : Nat}
    (hrun : ∀ (H : Heap) (locs : List Loc) (ls : Array Slot), va_P Z.1 gCl wd H → va_D A wd → va_S A s.heap H locs → gl ls nL L → vx_Run p l e R s m args below meth c H locs k n rm.cells rm.slots (F0 m pc ls st0) st (fun _ _ _ => False) (gPostX Z (va_A wc H.size) E0 wx) (va_A wc H.size))
    (pre : List ExceptionTableEntry) (x : ExceptionTableEntry) (suf : List ExceptionTableEntry) (hsplit : c.exceptionTable.toList = pre ++ x :: suf)
    (hpass : ∀ z ∈ pre, covers z pc = false ∨ (z.catchType ≠ 0 ∧ ∃ nm : String, Cond.classLink own z.catchType nm ∈ lw_all ∧ va_Nc E0 nm s)) (hcov : covers x pc = true) (h0x : x.catchType ≠ 0) (hlink : Cond.classLink own x.catchType name ∈ lw_all) (hcast : Cond.castable E0 name ∈ lw_tbl) (hh : x.handlerPc = Hd)
    (k' n' : Nat) (hk : k + rm.cells = k') (hn : n + rm.slots = n') (kk : ∀ q : Nat, G p l e R s m args below meth c Z A nL Q (wr ++ wx) k' n' Hd L [.ref q]) : G p l e R s m args below meth c Z A nL Q wd k n pc L st0 := by
  subst hk; subst hn; subst hh
  obtain ⟨hC, hR, hO, nC, nR, d1, d2⟩ := h4
  intro H locs ls hP hD hS hl T hT X9
  rcases hrun H locs ls hP hD hS hl T hT X9 with ⟨v, st₀, t, T', L2, h0, X', hL2, e1, e2, hq, sst⟩ | ⟨q, st₀, t, T', L2, E, ce, h0, X', hL2, e1, e2, ⟨rfl, hp, hd, hz, hkk⟩, hce, hcv, hcl, sst⟩
  · exact hq.elim
  · rw [h0] at hz hkk
    have hF : ∀ q, va_A wc H.size q → A q := va_free hD hS X.new isC hC
    obtain ⟨hPn, hDn⟩ := va_join hP hD isC isR hC hR nR d1 hkk hF hp hd
    have hS' : va_S A s.heap T'.heap (locs ++ L2) := ⟨Nat.le_trans hS.1 (by rw [e1]; exact hz), fun q h1 h2 => by rw [e1, hkk q (Nat.lt_of_lt_of_le h1 hS.1) (fun z => h2 (hF q z))]; exact hS.2.1 q h1 h2, fun q hq => by
      rcases List.mem_append.mp hq with h | h
      · exact hS.2.2 q h
      · exact hF _ (hL2 q h)⟩
    have w : vx_W p l e R s m args below meth c T'.heap (locs ++ L2) (k + rm.cells) (n + rm.slots) Q (F0 m pc ls st) q := vx_catch X.ow pre x suf hsplit (fun z hz => by
      rcases hpass z hz with h | ⟨h1, nm, h2, h3⟩
      · exact Or.inl h
      · exact Or.inr ⟨h1, nm, X.ts _ h2, h3⟩) hcov h0x (X.ts _ hlink) (X.nst hcast rfl) (by rw [e1]; exact hce) hcv hcl (kk q T'.heap (locs ++ L2) ls (by rw [e1]; exact hPn) hDn hS' hl)
    obtain ⟨t2, a1, b1⟩ := w T' rfl X'
    exact ⟨t2, sst.trans a1, b1⟩
end GXR

