/-! CONTRACTS over G: Ct (a method that returns), its calls -/
set_option maxRecDepth 100000
theorem gsel {is : List Nat} {ws w : va_W} (h : is.map (fun i => ws[i]?) = w.map some) {k : Nat} {q : Nat × va_E} (hq : w[k]? = some q) : ∃ i, is[k]? = some i ∧ ws[i]? = some q := by
  have h1 : (is.map (fun i => ws[i]?))[k]? = some (some q) := by rw [h, List.getElem?_map, hq]; rfl
  rw [List.getElem?_map] at h1
  cases hi : is[k]? with
  | none => rw [hi] at h1; cases h1
  | some i => rw [hi] at h1; exact ⟨i, rfl, Option.some.inj h1⟩
theorem gsel_P {D : va_G} {cl : List vw_C} {is : List Nat} {ws w : va_W} {H : Heap} (hP : va_P D cl ws H) (h : is.map (fun i => ws[i]?) = w.map some) : va_P D cl w H := by
  intro k q hq
  obtain ⟨i, -, h2⟩ := gsel h hq
  exact hP i q h2
/-- the start of a contract: wd may be written, rs is read alone -/
def gPre (Z : gZt) (wd rs : va_W) (sz : Nat) (U : State) : Prop := U.heap.size = sz ∧ va_P Z.1 gCl wd U.heap ∧ va_D (fun _ => True) wd ∧ gK Z U ∧ gE Z (va_A wd sz) U U.heap ∧ va_P Z.1 gCl rs U.heap ∧ ∀ (i j : Nat) (p q : Nat × va_E), rs[i]? = some p → wd[j]? = some q → p.1 ≠ q.1
theorem gPre_blind {Z : gZt} {avs : List Value} {wd rs : va_W} {sz : Nat} : FrameBlind (va_Pc avs (gPre Z wd rs sz)) := fun a U g mk q => by
  obtain ⟨q0, q1, qP, qD, qK, qE, qR, qN⟩ := q
  exact ⟨q0, q1, qP, qD, qK.calling, gE.moved (u := U) (U := U.calling g mk a) (Vm.Alike.refl U.vm) qE, qR, qN⟩
/-- its end -/
def gPost (Z : gZt) (A : Nat → Prop) {S : Type} (rv : S → Option Value) (wd' : S → va_W) : Array Value → State → Outcome → State → Prop := fun _ st oc t => (∃ u : S, oc = .returned (rv u) ∧ va_P Z.1 gCl (wd' u) t.heap ∧ va_D A (wd' u)) ∧ va_F A st t
def Ct (l : Launch) (y : MethodName) (ws : List Cond) (rm : Room) (Z : gZt) (avs : List Value) (wd rs : va_W) {S : Type} (rv : S → Option Value) (wd' : S → va_W) : Prop := ∀ sz : Nat, Met l y ws rm (va_Pc avs (gPre Z wd rs sz)) (gPost Z (va_A wd sz) rv wd') rm.cells rm.slots (va_A wd sz)
def gA : List Value → List (Option Value)
  | [] => []
  | v :: t => if v.category = 2 then some v :: none :: gA t else some v :: gA t
theorem gA_args : ∀ (vs : List Value) (k i : Nat) (v : Value), (gA vs)[i]? = some (some v) → (k + i, v) ∈ lv_args k vs
  | [], k, i, v, h => by simp [gA] at h
  | w :: t, k, i, v, h => by
    rw [gA] at h
    rw [lv_args]
    by_cases hc : w.category = 2
    · rw [if_pos hc] at h
      rw [if_pos hc]
      match i, h with
      | 0, h =>
        rw [List.getElem?_cons_zero] at h
        cases h
        exact List.mem_cons_self
      | 1, h =>
        rw [List.getElem?_cons_succ, List.getElem?_cons_zero] at h
        cases h
      | j + 2, h =>
        rw [List.getElem?_cons_succ, List.getElem?_cons_succ] at h
        have := gA_args t (k + 2) j v h
        rw [show k + (j + 2) = k + 2 + j by omega]
        exact List.mem_cons_of_mem _ this
    · rw [if_neg hc] at h
      rw [if_neg hc]
      match i, h with
      | 0, h =>
        rw [List.getElem?_cons_zero] at h
        cases h
        exact List.mem_cons_self
      | j + 1, h =>
        rw [List.getElem?_cons_succ] at h
        have := gA_args t (k + 1) j v h
        rw [show k + (j + 1) = k + 1 + j by omega]
        exact List.mem_cons_of_mem _ this
theorem gA_gl {ls : Array Slot} {nL j : Nat} {vs : List Value} {L : List (Option Value)} (h : lv_has ls nL (lv_args 0 vs)) (hL : gA vs ++ List.replicate j none = L) : gl ls nL L := by
  refine gl_less h fun i v hi => ?_
  rw [← hL] at hi
  by_cases hl : i < (gA vs).length
  · rw [List.getElem?_append_left hl] at hi
    have := gA_args vs 0 i v hi
    rw [Nat.zero_add] at this
    exact this
  · rw [List.getElem?_append_right (by omega)] at hi
    have := List.eq_of_mem_replicate (List.mem_of_getElem? hi)
    cases this
theorem Ct.of {l : Launch} {y : MethodName} {rm : Room} {Z : gZt} {avs : List Value} {wd rs : va_W} {S : Type} {rv : S → Option Value} {wd' : S → va_W} (cc : ByteArray) (maxL : Nat) (ret : Option FieldType) (own : String) (L0 : List (Option Value)) (j : Nat) (hy : plainName y.cls = true) (hown : y.cls = own) (hlen : (lg_sl avs).length ≤ maxL) (hL : gA avs ++ List.replicate j none = L0)
    (body : ∀ (p : Program) (e : Env) (s : State) (m : MethodId) (args : Array Value) (below : List Frame) (meth : Method) (c : Code) (A : Nat → Prop), gX p s m args meth c Z A cc own maxL ret rs → (y.name = "<init>" → meth.name = "<init>") → G p l e rm s m args below meth c Z A maxL (MQ below (gPost Z A rv wd') args s rm.cells rm.slots A) wd 0 0 0 L0 []) : Ct l y (ws_ y cc maxL ret) rm Z avs wd rs rv wd' := by
  intro sz
  refine Met.ofW (cc := cc) (maxL := maxL) (ret := ret) hy rfl ?_
  intro p e s m args below meth c s₁ B hml hv
  obtain ⟨rfl, hsz, hP, hD0, hK, hE, hR, hN⟩ := hv
  subst hsz
  have hts := atoms_spec (ws := ws_ y cc maxL ret) B.pre
  have hts : ∀ w ∈ lw_all, w.before _ s = true := fun w h => hts w (List.mem_cons_of_mem _ h)
  have hfc : s.vm.findClass own = some m.cls := by rw [← hown]; exact findClass_of_methodNamed B.named
  have hin : y.name = "<init>" → meth.name = "<init>" := fun h => (name_of_methodNamed B.named B.method).1.trans h
  have key := body p e s m avs.toArray below meth c (va_A wd s.heap.size) ⟨B.exec, B.bytes, B.returns, hml, hfc, hts, B.notSynchronized, hK, hE, fun q h => Or.inr h, hR, fun k q hk ha => by
    rcases ha with ⟨k2, e2, h2⟩ | h2
    · exact hN k k2 q (q.1, e2) hk h2 rfl
    · have := (hR k q hk).lt
      omega⟩ hin
  rw [lg_entry_eq]
  exact key s.heap [] _ hP hD0.self va_S.rf (gA_gl (lv_entry avs hlen) hL)
section GCALL
variable {p : Program} {l : Launch} {e : Env} {R : Room} {s : State} {m : MethodId} {args : Array Value} {below : List Frame} {meth : Method} {c : Code} {Z : gZt} {A : Nat → Prop} {cc : ByteArray} {own : String} {nL : Nat} {ret : Option FieldType} {rs : va_W} {Q : State → Prop} {wd : va_W} {k n pc : Nat} {L : List (Option Value)} {st : List Value}
theorem gX.locks (X : gX p s m args meth c Z A cc own nL ret rs) : meth.locks = false := X.2.2.2.2.2.2.1
theorem gX.E (X : gX p s m args meth c Z A cc own nL ret rs)   : gE Z A s s.heap := X.2.2.2.2.2.2.2.2.1
theorem gX.fix (X : gX p s m args meth c Z A cc own nL ret rs) : CallFix p m c cc nL s args lw_all own := ⟨X.1, X.2.1, X.2.2.2.1, X.ow, X.ts⟩
/-! the ends -/
variable {S : Type} {rv : S → Option Value} {wd' : S → va_W} {mc ms : Nat}
theorem g_iret (X : gX p s m args meth c Z A cc own nL (some .int) rs) (hd : decode cc pc = .ok (.ireturn, 1)) {v : Int32} (u : S) (hr : rv u = some (.int v)) (hw : wd' u = wd) (hk : k ≤ mc) (hn : n ≤ ms) : G p l e R s m args below meth c Z A nL (MQ below (gPost Z A rv wd') args s mc ms A) wd k n pc L [.int v] := fun H locs ls hP hD hS hl =>
  W.widen hk hn (W.iret X.1 X.2.1 X.2.2.1 (fun t ht hW => ⟨⟨u, by rw [hr], by rw [hw, ht]; exact hP, by rw [hw]; exact hD⟩, hS.F ht⟩) hS.2.2 hd (hlocks := X.locks))
theorem g_zret {ty : FieldType} (X : gX p s m args meth c Z A cc own nL (some ty) rs) (hd : decode cc pc = .ok (.ireturn, 1)) {v : Int32} (hz : narrow ty (.int v) = .int v) (u : S) (hr : rv u = some (.int v)) (hw : wd' u = wd) (hk : k ≤ mc) (hn : n ≤ ms) : G p l e R s m args below meth c Z A nL (MQ below (gPost Z A rv wd') args s mc ms A) wd k n pc L [.int v] := fun H locs ls hP hD hS hl =>
  W.widen hk hn (W.zret X.1 X.2.1 X.2.2.1 hz (fun t ht hW => ⟨⟨u, by rw [hr], by rw [hw, ht]; exact hP, by rw [hw]; exact hD⟩, hS.F ht⟩) hS.2.2 hd (hlocks := X.locks))
theorem g_lret (X : gX p s m args meth c Z A cc own nL (some .long) rs) (hd : decode cc pc = .ok (.lreturn, 1)) {v : Int64} (u : S) (hr : rv u = some (.long v)) (hw : wd' u = wd) (hk : k ≤ mc) (hn : n ≤ ms) : G p l e R s m args below meth c Z A nL (MQ below (gPost Z A rv wd') args s mc ms A) wd k n pc L [.long v] := fun H locs ls hP hD hS hl =>
  W.widen hk hn (W.lret X.1 X.2.1 X.2.2.1 (fun t ht hW => ⟨⟨u, by rw [hr], by rw [hw, ht]; exact hP, by rw [hw]; exact hD⟩, hS.F ht⟩) hS.2.2 hd (hlocks := X.locks))
theorem g_vret (X : gX p s m args meth c Z A cc own nL none rs) (hd : decode cc pc = .ok (.return_, 1)) (u : S) (hr : rv u = none) (hw : wd' u = wd) (hk : k ≤ mc) (hn : n ≤ ms) : G p l e R s m args below meth c Z A nL (MQ below (gPost Z A rv wd') args s mc ms A) wd k n pc L [] := fun H locs ls hP hD hS hl =>
  W.widen hk hn (W.vret X.1 X.2.1 X.2.2.1 (fun t ht hW => ⟨⟨u, by rw [hr], by rw [hw, ht]; exact hP, by rw [hw]; exact hD⟩, hS.F ht⟩) hS.2.2 hd (hlocks := X.locks))
theorem g_aret {rt : FieldType} (X : gX p s m args meth c Z A cc own nL (some rt) rs) (hd : decode cc pc = .ok (.areturn, 1)) (hrt : (∃ n, rt = .object n) ∨ ∃ t, rt = .array t) {a : Nat} (u : S) (hr : rv u = some (.ref a)) (hw : wd' u = wd) (hk : k ≤ mc) (hn : n ≤ ms) : G p l e R s m args below meth c Z A nL (MQ below (gPost Z A rv wd') args s mc ms A) wd k n pc L [.ref a] := fun H locs ls hP hD hS hl =>
  W.widen hk hn (W.aret X.1 X.2.1 X.2.2.1 hrt (Or.inr ⟨a, rfl⟩) (fun t ht hW => ⟨⟨u, by rw [hr], by rw [hw, ht]; exact hP, by rw [hw]; exact hD⟩, hS.F ht⟩) hS.2.2 hd (hlocks := X.locks))
/-! new cells -/
theorem g_new (X : gX p s m args meth c Z A cc own nL ret rs) {ci : Nat} {C : String} {T : u_T} {N ix : Nat} {ty : Nat → FieldType} (hC : gC ci C T N ty) (hq : Cond.classLink own ix C ∈ lw_all) (hi : Cond.instantiable C N ∈ lw_all) (hini : Cond.initialized C ∈ lw_all) (fs : List Value) (hfs : ∀ j, j < N → defaultValue (ty j) = vp_V fs j) (hd : decode cc pc = .ok (.new ix, 3)) (pc' : Nat) (hp : pc + 3 = pc') (k' n' : Nat) (hk : k + 1 = k') (hn : n + N = n') (hc : k' ≤ R.cells) (hs : n' ≤ R.slots)
    (kk : ∀ q : Nat, G p l e R s m args below meth c Z A nL Q (wd ++ [(q, .inr (ci, fs))]) k' n' pc' L (.ref q :: st)) : G p l e R s m args below meth c Z A nL Q wd k n pc L st := by
  subst hp; subst hk; subst hn
  exact fun H locs ls hP hD hS hl => va_new (D := Z.1) X.1 X.2.1 X.ts hC.2.1 ty hC.2.2.1 X.ow (X.ts _ hq) (X.ts _ hi) (X.ts _ hini) X.K hP hD hS X.new hC.1 hfs hc hs hd (fun q H hP hD hS => kk q H locs ls hP hD hS hl)
theorem g_newaX (X : gX p s m args meth c Z A cc own nL ret rs) {at_ : ArrayType} {cA : ClassId} {ty : FieldType} (hty : newarray.typeOf at_ = ty) (hRA : s.vm.findClass ("[" ++ ty.toString) = some cA) (harr : Cond.arrayClass ty ∈ lw_all) {i : Int32} {N : Nat} {a0 : vp_A} (ha : vp_cell cA a0 = arrV cA N (fun _ => defaultValue ty)) (hi : ¬ i < 0) (hN : i.toNatClampNeg = N) (hb : N * componentBytes ty ≤ 536870912) (hd : decode cc pc = .ok (.newarray at_, 2)) (pc' : Nat) (hp : pc + 2 = pc') (k' n' : Nat) (hk : k + 1 = k') (hn : n + N = n') (hc : k' ≤ R.cells) (hs : n' ≤ R.slots)
    (kk : ∀ q : Nat, G p l e R s m args below meth c Z A nL Q (wd ++ [(q, .inl (cA, a0))]) k' n' pc' L (.ref q :: st)) : G p l e R s m args below meth c Z A nL Q wd k n pc L (.int i :: st) := by
  subst hp; subst hk; subst hn; subst hty
  intro H locs ls hP hD hS hl
  refine va_newaK X.1 X.2.1 (X.ts _ harr) rfl hd rfl hi hN hb hc hs rfl fun H1 cB e1 z1 o1 _ hNm => ?_
  have hcb : cA = cB := Option.some.inj (hRA.symm.trans hNm)
  subst hcb
  have hk : ∀ (k : Nat) (x : Nat × va_E), wd[k]? = some x → H1[x.1]? = H[x.1]? := fun k x hx => o1 x.1 ((hP k x hx).lt)
  refine kk H.size H1 locs ls ((hP.kept hk).app (fun k x hx => ?_)) (hD.push hP rfl (X.new _ hS.1)) ⟨Nat.le_trans hS.1 (by omega), fun x h1 h2 => (o1 x (Nat.lt_of_lt_of_le h1 hS.1)).trans (hS.2.1 x h1 h2), hS.2.2⟩ hl
  have hz : k < 1 := (List.getElem?_eq_some_iff.mp hx).1
  rw [show k = 0 by omega] at hx
  cases hx
  show H1[H.size]? = some (vp_cell _ _)
  rw [ha]
  exact e1
/-! calls -/
/-- where a callee stands: its cells wc are the caller's at isC, the rest wr at isR; what it reads alone, rc, is at isO of (the caller's world, what the caller reads alone) -/
def gAt4 (wd rs wc wr rc : va_W) (isC isR isO : List Nat) : Prop := isC.map (fun i => wd[i]?) = wc.map some ∧ isR.map (fun i => wd[i]?) = wr.map some ∧ isO.map (fun i => (wd ++ rs)[i]?) = rc.map some ∧ va_nd isC = true ∧ va_nd isR = true ∧ (∀ i ∈ isR, i ∉ isC) ∧ ∀ i ∈ isO, i ∉ isC
theorem g_pre (X : gX p s m args meth c Z A cc own nL ret rs) {wc wr rc : va_W} {isC isR isO : List Nat} (h4 : gAt4 wd rs wc wr rc isC isR isO) {H : Heap} {locs : List Loc} (hP : va_P Z.1 gCl wd H) (hD : va_D A wd) (hS : va_S A s.heap H locs) {U : State} (hU : U.heap = H) (hW : s.WarmedH U.vm) : gPre Z wc rc H.size U := by
  obtain ⟨hC, hR, hO, nC, nR, d1, d2⟩ := h4
  have hF := va_free hD hS X.new isC hC
  have hE : gE Z A s H := X.E.kept (fun a h1 h2 => hS.2.1 a h1 h2)
  have hro := X.ro hS
  have hPr : va_P Z.1 gCl (wd ++ rs) H := hP.app hro
  have hDc : va_D A wc := hD.sub isC nC hC
  refine ⟨by rw [hU], by rw [hU]; exact gsel_P hP hC, hDc.weaken (fun _ _ _ _ => trivial), gK.warm hW X.2.2.2.2.2.2.2.1, ?_, by rw [hU]; exact gsel_P hPr hO, ?_⟩
  · rw [hU]
    exact gE.moved hW.alike (hE.narrow hF)
  · intro i j a b ha hb hab
    obtain ⟨i1, h1, h2⟩ := gsel hO ha
    obtain ⟨j1, h3, h4⟩ := gsel hC hb
    by_cases hl : i1 < wd.length
    · rw [List.getElem?_append_left hl] at h2
      have := hD.1 i1 j1 a b h2 h4 hab
      subst this
      exact d2 i1 (List.mem_of_getElem? h1) (List.mem_of_getElem? h3)
    · rw [List.getElem?_append_right (by omega)] at h2
      have hb2 := hD.2 j1 b h4
      rw [← hab] at hb2
      exact X.2.2.2.2.2.2.2.2.2.2.2 _ a h2 hb2
theorem g_back (X : gX p s m args meth c Z A cc own nL ret rs) {wc wr rc : va_W} {isC isR isO : List Nat} (h4 : gAt4 wd rs wc wr rc isC isR isO) {st0 : List Value} {rm : Room} {a : Array Value}
    (hrun : ∀ (H : Heap) (locs : List Loc) (ls : Array Slot), va_P Z.1 gCl wd H → va_D A wd → va_S A s.heap H locs → gl ls nL L → va_Run p l e R s m args below meth c H locs k n rm.cells rm.slots (F0 m pc ls st0) st (gPost Z (va_A wc H.size) rv wd' a) (va_A wc H.size))
    (kk : ∀ u : S, G p l e R s m args below meth c Z A nL Q (wr ++ wd' u) (k + rm.cells) (n + rm.slots) (pc + 3) L ((rv u).toList ++ st)) : G p l e R s m args below meth c Z A nL Q wd k n pc L st0 := by
  obtain ⟨hC, hR, hO, nC, nR, d1, d2⟩ := h4
  intro H locs ls hP hD hS hl T hT X'
  obtain ⟨v, st₀, t, T', L2, h0, X'', hL2, e1, e2, ⟨⟨u, hv, hp, hd⟩, hz, hk⟩, sst⟩ := hrun H locs ls hP hD hS hl T hT X'
  cases hv
  rw [h0] at hz hk
  have hF : ∀ q, va_A wc H.size q → A q := va_free hD hS X.new isC hC
  obtain ⟨hPn, hDn⟩ := va_join hP hD isC isR hC hR nR d1 hk hF hp hd
  obtain ⟨t2, a1, b1⟩ := kk u T'.heap (locs ++ L2) ls (by rw [e1]; exact hPn) hDn ⟨Nat.le_trans hS.1 (by rw [e1]; exact hz), fun q h1 h2 => by rw [e1, hk q (Nat.lt_of_lt_of_le h1 hS.1) (fun z => h2 (hF q z))]; exact hS.2.1 q h1 h2, fun q hq => by
      rcases List.mem_append.mp hq with h | h
      · exact hS.2.2 q h
      · exact hF _ (hL2 q h)⟩ hl T' rfl X''
  exact ⟨t2, sst t2 a1, b1⟩
/-- the numbers of a method's descriptor, once a method -/
def gMd (y : MethodName) (n : Nat) : Prop := y.cls ≠ "java/lang/invoke/MethodHandle" ∧ y.cls ≠ "java/lang/invoke/VarHandle" ∧ (parseMethodDescriptor y.desc).map (fun d => d.parameters.length) = some n
def gRm (R rm : Room) (maxL : Nat) : Prop := rm.frames + 1 ≤ R.frames ∧ 8 + (maxL + 11) + rm.locals ≤ R.locals
theorem g_callS (X : gX p s m args meth c Z A cc own nL ret rs) {y : MethodName} {bytes : ByteArray} {maxL ix N : Nat} {rt : Option FieldType} {rm : Room} {As : List Value} {wc rc : va_W} (hM : Ct l y (ws_ y bytes maxL rt) rm Z As wc rc rv wd') (isC isR isO : List Nat) {wr : va_W} (h4 : gAt4 wd rs wc wr rc isC isR isO) (hg : GoodIn lw_all (va_wsS own ix y (ws_ y bytes maxL rt))) (hmd : gMd y N) (hR : gRm R rm maxL) (hn : As.length = N) (hd : decode cc pc = .ok (.invokestatic ix, 3)) (pc' : Nat) (hp : pc + 3 = pc') (k' n' : Nat) (hk : k + rm.cells = k') (hs : n + rm.slots = n') (hkk : k' ≤ R.cells) (hss : n' ≤ R.slots) {st0 : List Value} (hst : st0 = As.reverse ++ st) (hcat : (st.map fun v => v.category).sum ≤ 8)
    (kk : ∀ u : S, G p l e R s m args below meth c Z A nL Q (wr ++ wd' u) k' n' pc' L ((rv u).toList ++ st)) : G p l e R s m args below meth c Z A nL Q wd k n pc L st0 := by
  subst hp; subst hk; subst hs
  refine g_back X h4 (a := As.toArray) (fun H locs ls hP hD hS hl => ?_) kk
  exact va_runS X.fix (hM H.size) (va_cwS N X.ts hg rfl rfl rfl hmd hR) ⟨gPre_blind, fun U hU hW => ⟨rfl, g_pre X h4 hP hD hS hU hW⟩⟩ rfl hn hl.1 hst (lv_room hcat) hd ⟨hkk, hss⟩
theorem g_callV (X : gX p s m args meth c Z A cc own nL ret rs) {y : MethodName} {bytes : ByteArray} {maxL ix N b : Nat} {C : String} {rt : Option FieldType} {rm : Room} {As : List Value} {wc rc : va_W} (hM : Ct l y (ws_ y bytes maxL rt) rm Z (.ref b :: As) wc rc rv wd') (isC isR isO : List Nat) {wr : va_W} (h4 : gAt4 wd rs wc wr rc isC isR isO) (q0 : Nat) {ci : Nat} {T : u_T} {M : Nat} {ty : Nat → FieldType} {fs : List Value} (hC : gC ci C T M ty) (hq : (wd ++ rs)[q0]? = some (b, .inr (ci, fs))) (hcl : y.cls = C) (hg : GoodIn lw_all (wsV own ix C y (ws_ y bytes maxL rt))) (hmd : gMd y N) (hR : gRm R rm maxL) (hn : As.length = N) (hd : decode cc pc = .ok (.invokevirtual ix, 3)) (pc' : Nat) (hp : pc + 3 = pc') (k' n' : Nat) (hk : k + rm.cells = k') (hs : n + rm.slots = n') (hkk : k' ≤ R.cells) (hss : n' ≤ R.slots) {st0 : List Value} (hst : st0 = As.reverse ++ .ref b :: st) (hcat : (st.map fun v => v.category).sum ≤ 8)
    (kk : ∀ u : S, G p l e R s m args below meth c Z A nL Q (wr ++ wd' u) k' n' pc' L ((rv u).toList ++ st)) : G p l e R s m args below meth c Z A nL Q wd k n pc L st0 := by
  subst hp; subst hk; subst hs
  refine g_back X h4 (a := (Value.ref b :: As).toArray) (fun H locs ls hP hD hS hl => ?_) kk
  exact va_runV X.fix (hM H.size) (cwV N X.ts hg rfl rfl rfl ⟨hcl, hmd⟩ hR) ⟨gPre_blind, va_recv X.K (hP.app (X.ro hS)) hC.1 hq, fun U hU hW => ⟨rfl, g_pre X h4 hP hD hS hU hW⟩⟩ rfl hn hl.1 hst (lv_room hcat) hd ⟨hkk, hss⟩
theorem g_callI (X : gX p s m args meth c Z A cc own nL ret rs) {y : MethodName} {bytes : ByteArray} {maxL ix N b : Nat} {rm : Room} {As : List Value} {wc rc : va_W} (hM : Ct l y (ws_ y bytes maxL none) rm Z (.ref b :: As) wc rc rv wd') (isC isR isO : List Nat) {wr : va_W} (h4 : gAt4 wd rs wc wr rc isC isR isO) (hg : Cond.code y bytes maxL none ∈ lw_all) (hini : Cond.initialized y.cls ∈ lw_all) (hlk : Cond.methodLink own ix y ∈ lw_all) (hins : Cond.instanceMethod y ∈ lw_all) (hnm : y.name = "<init>") (hmd : gMd y N) (hR : gRm R rm maxL) (hn : As.length = N) (hd : decode cc pc = .ok (.invokespecial ix, 3)) (pc' : Nat) (hp : pc + 3 = pc') (k' n' : Nat) (hk : k + rm.cells = k') (hs : n + rm.slots = n') (hkk : k' ≤ R.cells) (hss : n' ≤ R.slots) {st0 : List Value} (hst : st0 = As.reverse ++ .ref b :: st) (hcat : (st.map fun v => v.category).sum ≤ 8)
    (kk : ∀ u : S, G p l e R s m args below meth c Z A nL Q (wr ++ wd' u) k' n' pc' L ((rv u).toList ++ st)) : G p l e R s m args below meth c Z A nL Q wd k n pc L st0 := by
  subst hp; subst hk; subst hs
  refine g_back X h4 (a := (Value.ref b :: As).toArray) (fun H locs ls hP hD hS hl => ?_) kk
  exact va_runI X.fix (hM H.size) (cwI N X.ts (lw_meth hg) rfl rfl rfl (X.ts _ hini) (X.ts _ hlk) (X.ts _ hins) hnm hmd hR) ⟨gPre_blind, fun U hU hW => ⟨rfl, g_pre X h4 hP hD hS hU hW⟩⟩ rfl hn hl.1 hst (lv_room hcat) hd ⟨hkk, hss⟩
theorem g_objInit (X : gX p s m args meth c Z A cc own nL ret rs) {ix a : Nat} (hlk : Cond.methodLink own ix objectInit ∈ lw_all) (hins : Cond.instanceMethod objectInit ∈ lw_all) (hcd : Cond.code objectInit ⟨#[0xb1]⟩ 1 none ∈ lw_all) (hd : decode cc pc = .ok (.invokespecial ix, 3)) (pc' : Nat) (hp : pc + 3 = pc') (hf : 1 ≤ R.frames) (hlo : (st.map fun v => v.category).sum + 12 ≤ R.locals) (kk : G p l e R s m args below meth c Z A nL Q wd k n pc' L st) : G p l e R s m args below meth c Z A nL Q wd k n pc L (.ref a :: st) := by
  subst hp
  intro H locs ls hP hD hS hl
  exact W.objInit X.1 X.2.1 X.ow (X.ts _ hlk) (X.ts _ hins) (X.ts _ hcd) rfl (by rw [X.2.2.2.1]; exact hl.1) rfl hd hf (by show 2 * 0 + _ + 12 ≤ _; omega) (kk H locs ls hP hD hS hl)
end GCALL
