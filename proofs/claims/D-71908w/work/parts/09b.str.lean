/-! TEXT: constants, tables of digits, copies of bytes, calls of a superclass (printed by gen/refs.py) -/
set_option maxRecDepth 100000
/-- what an append takes: nothing, or a row more -/
def gRc {α : Type} (o : Option α) : Nat := if o.isSome then 0 else 1
def gRs {α : Type} (o : Option α) (N : Nat) : Nat := if o.isSome then 0 else 2 * N + 20
theorem gb_ch {z : Int32} (h : z.toUInt32.toUInt16.toUInt32.toInt32 = z) : narrow .char (.int z) = .int z := by
  show Value.int _ = _
  rw [h]
section GSTR
variable {p : Program} {l : Launch} {e : Env} {R : Room} {s : State} {m : MethodId} {args : Array Value} {below : List Frame} {meth : Method} {c : Code} {Z : gZt} {A : Nat → Prop} {cc : ByteArray} {own : String} {nL : Nat} {ret : Option FieldType} {rs : va_W} {Q : State → Prop} {wd : va_W} {k n pc : Nat} {L : List (Option Value)} {st : List Value}
/-- counters may be read higher -/
theorem g_more (k' n' : Nat) (hk : k ≤ k') (hn : n ≤ n') (kk : G p l e R s m args below meth c Z A nL Q wd k' n' pc L st) : G p l e R s m args below meth c Z A nL Q wd k n pc L st :=
  fun H locs ls hP hD hS hl T hT X9 => kk H locs ls hP hD hS hl T hT { X9 with same := X9.same.mono hk hn }
theorem g_getsC (X : gX p s m args meth c Z A cc own nL ret rs) {ix : Nat} (hlk : Cond.fieldLink own ix "java/lang/String" "COMPACT_STRINGS" "Z" ∈ lw_all) (hd : decode cc pc = .ok (.getstatic ix, 3)) (pc' : Nat) (hp : pc + 3 = pc') (kk : G p l e R s m args below meth c Z A nL Q wd k n pc' L (.int 1 :: st)) : G p l e R s m args below meth c Z A nL Q wd k n pc L st := by
  subst hp
  exact fun H locs ls hP hD hS hl => va_gets X.1 X.2.1 X.E.1 hS X.ow (X.ts _ hlk) (fun _ h => h) hd (kk H locs ls hP hD hS hl)
theorem g_getsT (X : gX p s m args meth c Z A cc own nL ret rs) {ix : Nat} (hlk : Cond.fieldLink own ix "java/lang/Integer" "DigitTens" "[B" ∈ lw_all) (hd : decode cc pc = .ok (.getstatic ix, 3)) (pc' : Nat) (hp : pc + 3 = pc') (kk : G p l e R s m args below meth c Z A nL Q wd k n pc' L (.ref (Z.2 300) :: st)) : G p l e R s m args below meth c Z A nL Q wd k n pc L st := by
  subst hp
  exact fun H locs ls hP hD hS hl => va_gets X.1 X.2.1 X.E.2.2.2.2.1 hS X.ow (X.ts _ hlk) (fun _ h => h) hd (kk H locs ls hP hD hS hl)
theorem g_getsO (X : gX p s m args meth c Z A cc own nL ret rs) {ix : Nat} (hlk : Cond.fieldLink own ix "java/lang/Integer" "DigitOnes" "[B" ∈ lw_all) (hd : decode cc pc = .ok (.getstatic ix, 3)) (pc' : Nat) (hp : pc + 3 = pc') (kk : G p l e R s m args below meth c Z A nL Q wd k n pc' L (.ref (Z.2 301) :: st)) : G p l e R s m args below meth c Z A nL Q wd k n pc L st := by
  subst hp
  exact fun H locs ls hP hD hS hl => va_gets X.1 X.2.1 X.E.2.2.2.2.2.2.1 hS X.ow (X.ts _ hlk) (fun _ h => h) hd (kk H locs ls hP hD hS hl)
theorem g_getsF (X : gX p s m args meth c Z A cc own nL ret rs) {ix : Nat} (hlk : Cond.fieldLink own ix "jdk/internal/util/Preconditions" "SIOOBE_FORMATTER" "Ljava/util/function/BiFunction;" ∈ lw_all) (hd : decode cc pc = .ok (.getstatic ix, 3)) (pc' : Nat) (hp : pc + 3 = pc') (kk : ∀ o : Option Nat, G p l e R s m args below meth c Z A nL Q wd k n pc' L (va_rf o :: st)) : G p l e R s m args below meth c Z A nL Q wd k n pc L st := by
  subst hp
  rcases X.E.2.2.2.2.2.2.2.2 with h | ⟨t, h⟩
  · exact fun H locs ls hP hD hS hl => va_gets X.1 X.2.1 h hS X.ow (X.ts _ hlk) (fun _ h => h) hd (kk none H locs ls hP hD hS hl)
  · exact fun H locs ls hP hD hS hl => va_gets X.1 X.2.1 h hS X.ow (X.ts _ hlk) (fun _ h => h) hd (kk (some t) H locs ls hP hD hS hl)
theorem g_baldT (X : gX p s m args meth c Z A cc own nL ret rs) {i : Int32} (hin : vp_in i 100) (hd : decode cc pc = .ok (.baload, 1)) (pc' : Nat) (hp : pc + 1 = pc') (kk : G p l e R s m args below meth c Z A nL Q wd k n pc' L (.int (gDT i.toNatClampNeg) :: st)) : G p l e R s m args below meth c Z A nL Q wd k n pc L (.int i :: .ref (Z.2 300) :: st) := by
  subst hp
  exact fun H locs ls hP hD hS hl => va_tb X.1 X.2.1 X.E.2.2.2.2.2.1 hS hin rfl hd (kk H locs ls hP hD hS hl)
theorem g_baldO (X : gX p s m args meth c Z A cc own nL ret rs) {i : Int32} (hin : vp_in i 100) (hd : decode cc pc = .ok (.baload, 1)) (pc' : Nat) (hp : pc + 1 = pc') (kk : G p l e R s m args below meth c Z A nL Q wd k n pc' L (.int (gDO i.toNatClampNeg) :: st)) : G p l e R s m args below meth c Z A nL Q wd k n pc L (.int i :: .ref (Z.2 301) :: st) := by
  subst hp
  exact fun H locs ls hP hD hS hl => va_tb X.1 X.2.1 X.E.2.2.2.2.2.2.2.1 hS hin rfl hd (kk H locs ls hP hD hS hl)
/-! a String constant -/
theorem g_getKc (X : gX p s m args meth c Z A cc own nL ret rs) {ci : Nat} {cb : List Int32} (hcb : gSB[ci]? = some cb) {ix : Nat} (hlk : Cond.fieldLink own ix "java/lang/String" "coder" "B" ∈ lw_all) (hd : decode cc pc = .ok (.getfield ix, 3)) (pc' : Nat) (hp : pc + 3 = pc') (kk : G p l e R s m args below meth c Z A nL Q wd k n pc' L (.int 0 :: st)) : G p l e R s m args below meth c Z A nL Q wd k n pc L (.ref (gSK Z ci) :: st) := by
  subst hp
  exact fun H locs ls hP hD hS hl => vk_getf X.1 X.2.1 (X.E.2.2.2.1 ci cb hcb).2.1 hS X.ow (X.ts _ hlk) (fun _ h => h) hd (kk H locs ls hP hD hS hl)
theorem g_getKv (X : gX p s m args meth c Z A cc own nL ret rs) {ci : Nat} {cb : List Int32} (hcb : gSB[ci]? = some cb) {ix : Nat} (hlk : Cond.fieldLink own ix "java/lang/String" "value" "[B" ∈ lw_all) (hd : decode cc pc = .ok (.getfield ix, 3)) (pc' : Nat) (hp : pc + 3 = pc') (kk : G p l e R s m args below meth c Z A nL Q wd k n pc' L (.ref (gSV Z ci) :: st)) : G p l e R s m args below meth c Z A nL Q wd k n pc L (.ref (gSK Z ci) :: st) := by
  subst hp
  exact fun H locs ls hP hD hS hl => vk_getf X.1 X.2.1 (X.E.2.2.2.1 ci cb hcb).2.2.1 hS X.ow (X.ts _ hlk) (fun _ h => h) hd (kk H locs ls hP hD hS hl)
theorem g_alenK (X : gX p s m args meth c Z A cc own nL ret rs) {ci : Nat} {cb : List Int32} (hcb : gSB[ci]? = some cb) (hd : decode cc pc = .ok (.arraylength, 1)) (pc' : Nat) (hp : pc + 1 = pc') (kk : G p l e R s m args below meth c Z A nL Q wd k n pc' L (.int (Int32.ofNat cb.length) :: st)) : G p l e R s m args below meth c Z A nL Q wd k n pc L (.ref (gSV Z ci) :: st) := by
  subst hp
  exact fun H locs ls hP hD hS hl => va_tlen X.1 X.2.1 (X.E.2.2.2.1 ci cb hcb).2.2.2 hS rfl hd (kk H locs ls hP hD hS hl)
theorem g_baldK (X : gX p s m args meth c Z A cc own nL ret rs) {ci : Nat} {cb : List Int32} (hcb : gSB[ci]? = some cb) {i : Int32} (hin : vp_in i cb.length) (hd : decode cc pc = .ok (.baload, 1)) (pc' : Nat) (hp : pc + 1 = pc') (kk : G p l e R s m args below meth c Z A nL Q wd k n pc' L (.int (cb.getD i.toNatClampNeg 0) :: st)) : G p l e R s m args below meth c Z A nL Q wd k n pc L (.int i :: .ref (gSV Z ci) :: st) := by
  subst hp
  exact fun H locs ls hP hD hS hl => va_tb X.1 X.2.1 (X.E.2.2.2.1 ci cb hcb).2.2.2 hS hin rfl hd (kk H locs ls hP hD hS hl)
theorem g_instK (X : gX p s m args meth c Z A cc own nL ret rs) {ci : Nat} {cb : List Int32} (hcb : gSB[ci]? = some cb) {ix : Nat} (hlk : Cond.classLink own ix "java/lang/String" ∈ lw_all) (hd : decode cc pc = .ok (.instanceof ix, 3)) (pc' : Nat) (hp : pc + 3 = pc') (kk : G p l e R s m args below meth c Z A nL Q wd k n pc' L (.int 1 :: st)) : G p l e R s m args below meth c Z A nL Q wd k n pc L (.ref (gSK Z ci) :: st) := by
  subst hp
  intro H locs ls hP hD hS hl
  obtain ⟨cell, h1, h2, h3, -⟩ := (X.E.2.2.2.1 ci cb hcb).1.kept hS.2.1
  exact va_instE X.1 X.2.1 X.ow (X.ts _ hlk) ⟨cell, h1, h2, h3⟩ hd (kk H locs ls hP hD hS hl)
theorem g_castK (X : gX p s m args meth c Z A cc own nL ret rs) {ci : Nat} {cb : List Int32} (hcb : gSB[ci]? = some cb) {ix : Nat} (hlk : Cond.classLink own ix "java/lang/String" ∈ lw_all) (hd : decode cc pc = .ok (.checkcast ix, 3)) (pc' : Nat) (hp : pc + 3 = pc') (kk : G p l e R s m args below meth c Z A nL Q wd k n pc' L (.ref (gSK Z ci) :: st)) : G p l e R s m args below meth c Z A nL Q wd k n pc L (.ref (gSK Z ci) :: st) := by
  subst hp
  intro H locs ls hP hD hS hl
  obtain ⟨cell, h1, h2, h3, -⟩ := (X.E.2.2.2.1 ci cb hcb).1.kept hS.2.1
  exact va_castE X.1 X.2.1 X.ow (X.ts _ hlk) ⟨cell, h1, h2, h3⟩ hd (kk H locs ls hP hD hS hl)
theorem g_neK (X : gX p s m args meth c Z A cc own nL ret rs) (q0 ci : Nat) {cb : List Int32} {a : Nat} {x : va_E} (hq : wd[q0]? = some (a, x)) (hcb : gSB[ci]? = some cb) (kk : ¬ (some a = some (gSK Z ci)) → G p l e R s m args below meth c Z A nL Q wd k n pc L st) : G p l e R s m args below meth c Z A nL Q wd k n pc L st := by
  intro H locs ls hP hD hS hl
  refine kk (fun e => ?_) H locs ls hP hD hS hl
  obtain ⟨cell, -, -, -, hA⟩ := (X.E.2.2.2.1 ci cb hcb).1
  exact hA (Option.some.inj e ▸ hD.2 q0 _ hq)
theorem g_acmpNe (X : gX p s m args meth c Z A cc own nL ret rs) {a b : Nat} (hne : ¬ (some a = some b)) {off : Int} (hd : decode cc pc = .ok (.if_acmp .ne off, 3)) (tgt : Nat) (ht : (pc : Int) + off = (tgt : Int)) (kk : G p l e R s m args below meth c Z A nL Q wd k n tgt L st) : G p l e R s m args below meth c Z A nL Q wd k n pc L (.ref b :: .ref a :: st) :=
  fun H locs ls hP hD hS hl => lv_acmp_ne (rx := some a) (ry := some b) X.1 X.2.1 hd ht (fun _ => kk H locs ls hP hD hS hl) (fun h => absurd h hne)
theorem g_dupx1 (X : gX p s m args meth c Z A cc own nL ret rs) {va vb : Value} (hd : decode cc pc = .ok (.dup_x1, 1)) (pc' : Nat) (hp : pc + 1 = pc') (hva : va.category = 1) (hvb : vb.category = 1) (kk : G p l e R s m args below meth c Z A nL Q wd k n pc' L (va :: vb :: va :: st)) : G p l e R s m args below meth c Z A nL Q wd k n pc L (va :: vb :: st) := by
  subst hp
  exact fun H locs ls hP hD hS hl => lv_dup_x1 X.1 X.2.1 hd hva hvb (kk H locs ls hP hD hS hl)
/-- an array of bytes is one -/
theorem g_castB (X : gX p s m args meth c Z A cc own nL ret rs) (q0 : Nat) {a : Nat} {x : vp_A} (ha : (wd ++ rs)[q0]? = some (a, .inl (Z.2 2, x))) {ix : Nat} (hlk : Cond.classLink own ix "[B" ∈ lw_all) (hd : decode cc pc = .ok (.checkcast ix, 3)) (pc' : Nat) (hp : pc + 3 = pc') (kk : G p l e R s m args below meth c Z A nL Q wd k n pc' L (.ref a :: st)) : G p l e R s m args below meth c Z A nL Q wd k n pc L (.ref a :: st) := by
  subst hp
  exact fun H locs ls hP hD hS hl => va_castA X.1 X.2.1 X.ow (X.ts _ hlk) (hP.app (X.ro hS)) q0 ha (show s.vm.findClass ("[" ++ FieldType.byte.toString) = some (Z.2 2) from (X.K.2 2 _ rfl).2) hd (kk H locs ls hP hD hS hl)
/-- all that a copy or a clone takes are bytes -/
abbrev gFA (f : Nat → Int32) (sp N : Nat) : Prop := ∀ i, i < N → -128 ≤ f (sp + i) ∧ f (sp + i) ≤ 127
theorem gFA_fits {x : Int32} (h : -128 ≤ x ∧ x ≤ 127) : fits .byte (.int x) = true := by
  simp only [fits, h.1, h.2, decide_true, Bool.and_self]
theorem g_clone (X : gX p s m args meth c Z A cc own nL ret rs) (q0 : Nat) {a N : Nat} {f : Nat → Int32} (ha : wd[q0]? = some (a, .inl (Z.2 2, N, .inl f))) (hf : gFA f 0 N) {ix : Nat} (hlk : Cond.methodLink own ix ⟨"[B", "clone", "()Ljava/lang/Object;"⟩ ∈ lw_all) (hd : decode cc pc = .ok (.invokevirtual ix, 3)) (pc' : Nat) (hp : pc + 3 = pc') (hfr : 1 ≤ R.frames) (hlo : (st.map fun v => v.category).sum + 14 ≤ R.locals) (k' n' : Nat) (hk : k + 1 = k') (hn : n + N = n') (hc : k' ≤ R.cells) (hs : n' ≤ R.slots) (kk : ∀ q : Nat, G p l e R s m args below meth c Z A nL Q (wd ++ [(q, .inl (Z.2 2, N, .inl f))]) k' n' pc' L (.ref q :: st)) : G p l e R s m args below meth c Z A nL Q wd k n pc L (.ref a :: st) := by
  subst hp; subst hk; subst hn
  refine fun H locs ls hP hD hS hl => va_clone X.1 X.2.1 (by rw [X.2.2.2.1]; exact hl.1.symm) X.ow (X.ts _ hlk) (X.ts _ q555) (X.ts _ q556) (X.ts _ q557) (X.ts _ q558) (X.kk.2.1 _ q559 rfl) X.K hP hD hS X.new q0 2 ha rfl (show s.vm.findClass ("[" ++ FieldType.byte.toString) = some (Z.2 2) from (X.K.2 2 _ rfl).2) (fun i v hv => ?_) hfr hlo hc hs hd (fun q H _ hP hD hS => kk q H locs ls hP hD hS hl)
  have hlt : i < N := by
    have h := (Array.getElem?_eq_some_iff.mp hv).1
    have h9 : (vp_cell (Z.2 2) (N, .inl f)).slots.size = N := arrV_size _ _ _
    omega
  have h8 : (vp_cell (Z.2 2) (N, .inl f)).slots[i]? = some (.int (f i)) := arrV_read _ _ hlt
  rw [h8] at hv
  cases hv
  have h7 := hf i hlt
  rw [Nat.zero_add] at h7
  exact gFA_fits h7
/-- System.arraycopy of bytes -/
theorem g_copyb (X : gX p s m args meth c Z A cc own nL ret rs) {ix : Nat} (hlk : Cond.methodLink own ix arraycopyName ∈ lw_all) (q0 q1 : Nat) {a0 a1 n0 n1 : Nat} {f g : Nat → Int32} (ha0 : wd[q0]? = some (a0, .inl (Z.2 2, n0, .inl f))) (ha1 : wd[q1]? = some (a1, .inl (Z.2 2, n1, .inl g))) {sp dp w : Int32} (hc : gcpP sp dp w n0 n1) (hf : gFA f sp.toNatClampNeg w.toNatClampNeg) (hd : decode cc pc = .ok (.invokestatic ix, 3)) (pc' : Nat) (hp : pc + 3 = pc') (hfr : 1 ≤ R.frames) (hlo : (st.map fun v => v.category).sum + (nativeFrameWords "java/lang/System" "arraycopy" 5 + 11) ≤ R.locals)
    (kk : G p l e R s m args below meth c Z A nL Q (wd.set q1 (a1, .inl (Z.2 2, n1, .inl (va_cpy f g sp.toNatClampNeg dp.toNatClampNeg w.toNatClampNeg)))) k n pc' L st) : G p l e R s m args below meth c Z A nL Q wd k n pc L (.int w :: .int dp :: .ref a1 :: .int sp :: .ref a0 :: st) := by
  subst hp
  exact fun H locs ls hP hD hS hl => va_copyi X.1 X.2.1 (by rw [X.2.2.2.1]; exact hl.1.symm) X.ow (X.ts _ hlk) (X.ts _ q278) (X.ts _ q277) (X.ts _ q75) X.K hP hD hS q0 q1 2 2 ha0 ha1 rfl rfl rfl hc.1 hc.2.1 hc.2.2.1 hc.2.2.2.1 hc.2.2.2.2 (fun i hi => gFA_fits (hf i hi)) hfr hlo hd (fun H locs hP hD hS => kk H locs ls hP hD hS hl)
/-! calls of what a superclass declares -/
variable {S : Type} {rv : S → Option Value} {wd' : S → va_W}
theorem g_callU (X : gX p s m args meth c Z A cc own nL ret rs) {x y : MethodName} {owner : String} {bytes : ByteArray} {maxL ix N b : Nat} {C : String} {rt : Option FieldType} {rm : Room} {As : List Value} {wc rc : va_W} (hM : Ct l y (ws_ y bytes maxL rt) rm Z (.ref b :: As) wc rc rv wd') (isC isR isO : List Nat) {wr : va_W} (h4 : gAt4 wd rs wc wr rc isC isR isO) (q0 : Nat) {ci : Nat} {T : u_T} {M : Nat} {ty : Nat → FieldType} {fs : List Value} (hC : gC ci C T M ty) (hq : (wd ++ rs)[q0]? = some (b, .inr (ci, fs))) (hlk : Cond.methodLink own ix x ∈ lw_all) (hsm : Cond.sameMethod x.cls owner x.name x.desc ∈ lw_all) (hsel : Cond.selects C x y ∈ gPv ∨ Cond.selects C x y ∈ lw_all) (hins : Cond.instanceMethod y ∈ lw_all) (hini : Cond.initialized y.cls ∈ lw_all) (hcd : Cond.code y bytes maxL rt ∈ lw_all) {b0 : ByteArray} {m0 : Nat} {r0 : Option FieldType} (hdi : Cond.instanceMethod ⟨owner, x.name, x.desc⟩ ∈ lw_all) (hdc : Cond.code ⟨owner, x.name, x.desc⟩ b0 m0 r0 ∈ lw_all) (hno : owner ≠ "java/lang/invoke/MethodHandle" ∧ owner ≠ "java/lang/invoke/VarHandle") (hmd : gMd x N) (hR : gRm R rm maxL) (hn : As.length = N) (hd : decode cc pc = .ok (.invokevirtual ix, 3)) (pc' : Nat) (hp : pc + 3 = pc') (k' n' : Nat) (hk : k + rm.cells = k') (hs : n + rm.slots = n') (hkk : k' ≤ R.cells) (hss : n' ≤ R.slots) {st0 : List Value} (hst : st0 = As.reverse ++ .ref b :: st) (hcat : (st.map fun v => v.category).sum ≤ 8)
    (kk : ∀ u : S, G p l e R s m args below meth c Z A nL Q (wr ++ wd' u) k' n' pc' L ((rv u).toList ++ st)) : G p l e R s m args below meth c Z A nL Q wd k n pc L st0 := by
  subst hp; subst hk; subst hs
  have hsel' : (Cond.selects C x y).before args s = true := by
    rcases hsel with h | h
    · exact va_Nw.use (goodTbl h) (X.kk.2.2.2.2.2.1 _ (List.mem_append_right _ h))
    · exact X.ts _ h
  have hlen : ∀ sig, parseMethodDescriptor x.desc = some sig → N = sig.parameters.length := fun sig h => by
    have h2 := hmd.2.2
    rw [h] at h2
    exact (Option.some.inj h2).symm
  refine g_back X h4 (a := (Value.ref b :: As).toArray) (fun H locs ls hP hD hS hl => ?_) kk
  exact va_runU X.fix (hM H.size) ⟨⟨rfl, rfl, hR.1, hR.2, pay_in X.ts (lw_meth hcd), List.mem_cons_self⟩, X.ts _ hcd, X.ts _ hini, hno, hlen, X.ts _ hlk, X.ts _ hsm, va_Decl.of (X.ts _ hdi) (X.ts _ hdc), hsel', X.ts _ hins⟩ ⟨gPre_blind, va_recv X.K (hP.app (X.ro hS)) hC.1 hq, fun U hU hW => ⟨rfl, g_pre X h4 hP hD hS hU hW⟩⟩ rfl hn hl.1 hst (lv_room hcat) hd ⟨hkk, hss⟩
theorem g_callP (X : gX p s m args meth c Z A cc own nL ret rs) {y : MethodName} {bytes : ByteArray} {maxL ix N b : Nat} {C : String} {rt : Option FieldType} {rm : Room} {As : List Value} {wc rc : va_W} (hM : Ct l y (ws_ y bytes maxL rt) rm Z (.ref b :: As) wc rc rv wd') (isC isR isO : List Nat) {wr : va_W} (h4 : gAt4 wd rs wc wr rc isC isR isO) (q0 : Nat) {ci : Nat} {T : u_T} {M : Nat} {ty : Nat → FieldType} {fs : List Value} (hC : gC ci C T M ty) (hq : (wd ++ rs)[q0]? = some (b, .inr (ci, fs))) (hlk : Cond.methodLink own ix y ∈ lw_all) (hsm : Cond.sameMethod y.cls y.cls y.name y.desc ∈ lw_all) (hsu : Cond.superclass own y.cls ∈ lw_all) (hins : Cond.instanceMethod y ∈ lw_all) (hini : Cond.initialized y.cls ∈ lw_all) (hcd : Cond.code y bytes maxL rt ∈ lw_all) (hni : y.name ≠ "<init>") (hmd : gMd y N) (hR : gRm R rm maxL) (hn : As.length = N) (hd : decode cc pc = .ok (.invokespecial ix, 3)) (pc' : Nat) (hp : pc + 3 = pc') (k' n' : Nat) (hk : k + rm.cells = k') (hs : n + rm.slots = n') (hkk : k' ≤ R.cells) (hss : n' ≤ R.slots) {st0 : List Value} (hst : st0 = As.reverse ++ .ref b :: st) (hcat : (st.map fun v => v.category).sum ≤ 8)
    (kk : ∀ u : S, G p l e R s m args below meth c Z A nL Q (wr ++ wd' u) k' n' pc' L ((rv u).toList ++ st)) : G p l e R s m args below meth c Z A nL Q wd k n pc L st0 := by
  subst hp; subst hk; subst hs
  have hlen : ∀ sig, parseMethodDescriptor y.desc = some sig → N = sig.parameters.length := fun sig h => by
    have h2 := hmd.2.2
    rw [h] at h2
    exact (Option.some.inj h2).symm
  refine g_back X h4 (a := (Value.ref b :: As).toArray) (fun H locs ls hP hD hS hl => ?_) kk
  exact va_runSU ((X.K.1 ci _ hC.1).2) X.fix (hM H.size) ⟨⟨rfl, rfl, hR.1, hR.2, pay_in X.ts (lw_meth hcd), List.mem_cons_self⟩, X.ts _ hlk, X.ts _ hsm, X.ts _ hsu, X.ts _ hins, X.ts _ hini, X.ts _ hcd, hni, hlen⟩ ⟨gPre_blind, va_recv X.K (hP.app (X.ro hS)) hC.1 hq, fun U hU hW => ⟨rfl, g_pre X h4 hP hD hS hU hW⟩⟩ rfl hn hl.1 hst (lv_room hcat) hd ⟨hkk, hss⟩
theorem g_callU0 (X : gX p s m args meth c Z A cc own nL ret rs) {x y : MethodName} {owner : String} {bytes : ByteArray} {maxL ix N b : Nat} {C : String} {rt : Option FieldType} {rm : Room} {As : List Value} {wc rc : va_W} (hM : Ct l y (ws_ y bytes maxL rt) rm Z (.ref b :: As) wc rc rv wd') (isC isR isO : List Nat) {wr : va_W} (h4 : gAt4 wd rs wc wr rc isC isR isO) (q0 : Nat) {ci : Nat} {T : u_T} {M : Nat} {ty : Nat → FieldType} {fs : List Value} (hC : gC ci C T M ty) (hq : (wd ++ rs)[q0]? = some (b, .inr (ci, fs))) (hlk : Cond.methodLink own ix x ∈ lw_all) (hsm : Cond.sameMethod x.cls owner x.name x.desc ∈ lw_all) (hsel : Cond.selects C x y ∈ gPv ∨ Cond.selects C x y ∈ lw_all) (hins : Cond.instanceMethod y ∈ lw_all) (hini : Cond.initialized y.cls ∈ lw_all) (hcd : Cond.code y bytes maxL rt ∈ lw_all) {b0 : ByteArray} {m0 : Nat} {r0 : Option FieldType} (hdi : Cond.instanceMethod ⟨owner, x.name, x.desc⟩ ∈ lw_all) (hdc : Cond.code ⟨owner, x.name, x.desc⟩ b0 m0 r0 ∈ lw_all) (hno : owner ≠ "java/lang/invoke/MethodHandle" ∧ owner ≠ "java/lang/invoke/VarHandle") (hmd : gMd x N) (hR : gRm R rm maxL) (hn : As.length = N) (hd : decode cc pc = .ok (.invokevirtual ix, 3)) (pc' : Nat) (hp : pc + 3 = pc') (k' n' : Nat) (hk : k + rm.cells = k') (hs : n + rm.slots = n') (hkk : k' ≤ R.cells) (hss : n' ≤ R.slots) {st0 : List Value} (hst : st0 = As.reverse ++ .ref b :: st) (hcat : (st.map fun v => v.category).sum ≤ 8) (hrv : ∀ u, rv u = none) (kk : ∀ u : S, G p l e R s m args below meth c Z A nL Q (wr ++ wd' u) k' n' pc' L st) : G p l e R s m args below meth c Z A nL Q wd k n pc L st0 := by
  exact g_callU X hM isC isR isO h4 q0 hC hq hlk hsm hsel hins hini hcd hdi hdc hno hmd hR hn hd pc' hp k' n' hk hs hkk hss hst hcat (fun u => by rw [hrv u]; exact kk u)
theorem g_callU1 (X : gX p s m args meth c Z A cc own nL ret rs) {x y : MethodName} {owner : String} {bytes : ByteArray} {maxL ix N b : Nat} {C : String} {rt : Option FieldType} {rm : Room} {As : List Value} {wc rc : va_W} (hM : Ct l y (ws_ y bytes maxL rt) rm Z (.ref b :: As) wc rc rv wd') (isC isR isO : List Nat) {wr : va_W} (h4 : gAt4 wd rs wc wr rc isC isR isO) (q0 : Nat) {ci : Nat} {T : u_T} {M : Nat} {ty : Nat → FieldType} {fs : List Value} (hC : gC ci C T M ty) (hq : (wd ++ rs)[q0]? = some (b, .inr (ci, fs))) (hlk : Cond.methodLink own ix x ∈ lw_all) (hsm : Cond.sameMethod x.cls owner x.name x.desc ∈ lw_all) (hsel : Cond.selects C x y ∈ gPv ∨ Cond.selects C x y ∈ lw_all) (hins : Cond.instanceMethod y ∈ lw_all) (hini : Cond.initialized y.cls ∈ lw_all) (hcd : Cond.code y bytes maxL rt ∈ lw_all) {b0 : ByteArray} {m0 : Nat} {r0 : Option FieldType} (hdi : Cond.instanceMethod ⟨owner, x.name, x.desc⟩ ∈ lw_all) (hdc : Cond.code ⟨owner, x.name, x.desc⟩ b0 m0 r0 ∈ lw_all) (hno : owner ≠ "java/lang/invoke/MethodHandle" ∧ owner ≠ "java/lang/invoke/VarHandle") (hmd : gMd x N) (hR : gRm R rm maxL) (hn : As.length = N) (hd : decode cc pc = .ok (.invokevirtual ix, 3)) (pc' : Nat) (hp : pc + 3 = pc') (k' n' : Nat) (hk : k + rm.cells = k') (hs : n + rm.slots = n') (hkk : k' ≤ R.cells) (hss : n' ≤ R.slots) {st0 : List Value} (hst : st0 = As.reverse ++ .ref b :: st) (hcat : (st.map fun v => v.category).sum ≤ 8) {vl : S → Value} (hrv : ∀ u, rv u = some (vl u)) (kk : ∀ u : S, G p l e R s m args below meth c Z A nL Q (wr ++ wd' u) k' n' pc' L (vl u :: st)) : G p l e R s m args below meth c Z A nL Q wd k n pc L st0 := by
  exact g_callU X hM isC isR isO h4 q0 hC hq hlk hsm hsel hins hini hcd hdi hdc hno hmd hR hn hd pc' hp k' n' hk hs hkk hss hst hcat (fun u => by rw [hrv u]; exact kk u)
theorem g_callP0 (X : gX p s m args meth c Z A cc own nL ret rs) {y : MethodName} {bytes : ByteArray} {maxL ix N b : Nat} {C : String} {rt : Option FieldType} {rm : Room} {As : List Value} {wc rc : va_W} (hM : Ct l y (ws_ y bytes maxL rt) rm Z (.ref b :: As) wc rc rv wd') (isC isR isO : List Nat) {wr : va_W} (h4 : gAt4 wd rs wc wr rc isC isR isO) (q0 : Nat) {ci : Nat} {T : u_T} {M : Nat} {ty : Nat → FieldType} {fs : List Value} (hC : gC ci C T M ty) (hq : (wd ++ rs)[q0]? = some (b, .inr (ci, fs))) (hlk : Cond.methodLink own ix y ∈ lw_all) (hsm : Cond.sameMethod y.cls y.cls y.name y.desc ∈ lw_all) (hsu : Cond.superclass own y.cls ∈ lw_all) (hins : Cond.instanceMethod y ∈ lw_all) (hini : Cond.initialized y.cls ∈ lw_all) (hcd : Cond.code y bytes maxL rt ∈ lw_all) (hni : y.name ≠ "<init>") (hmd : gMd y N) (hR : gRm R rm maxL) (hn : As.length = N) (hd : decode cc pc = .ok (.invokespecial ix, 3)) (pc' : Nat) (hp : pc + 3 = pc') (k' n' : Nat) (hk : k + rm.cells = k') (hs : n + rm.slots = n') (hkk : k' ≤ R.cells) (hss : n' ≤ R.slots) {st0 : List Value} (hst : st0 = As.reverse ++ .ref b :: st) (hcat : (st.map fun v => v.category).sum ≤ 8) (hrv : ∀ u, rv u = none) (kk : ∀ u : S, G p l e R s m args below meth c Z A nL Q (wr ++ wd' u) k' n' pc' L st) : G p l e R s m args below meth c Z A nL Q wd k n pc L st0 := by
  exact g_callP X hM isC isR isO h4 q0 hC hq hlk hsm hsu hins hini hcd hni hmd hR hn hd pc' hp k' n' hk hs hkk hss hst hcat (fun u => by rw [hrv u]; exact kk u)
theorem g_callP1 (X : gX p s m args meth c Z A cc own nL ret rs) {y : MethodName} {bytes : ByteArray} {maxL ix N b : Nat} {C : String} {rt : Option FieldType} {rm : Room} {As : List Value} {wc rc : va_W} (hM : Ct l y (ws_ y bytes maxL rt) rm Z (.ref b :: As) wc rc rv wd') (isC isR isO : List Nat) {wr : va_W} (h4 : gAt4 wd rs wc wr rc isC isR isO) (q0 : Nat) {ci : Nat} {T : u_T} {M : Nat} {ty : Nat → FieldType} {fs : List Value} (hC : gC ci C T M ty) (hq : (wd ++ rs)[q0]? = some (b, .inr (ci, fs))) (hlk : Cond.methodLink own ix y ∈ lw_all) (hsm : Cond.sameMethod y.cls y.cls y.name y.desc ∈ lw_all) (hsu : Cond.superclass own y.cls ∈ lw_all) (hins : Cond.instanceMethod y ∈ lw_all) (hini : Cond.initialized y.cls ∈ lw_all) (hcd : Cond.code y bytes maxL rt ∈ lw_all) (hni : y.name ≠ "<init>") (hmd : gMd y N) (hR : gRm R rm maxL) (hn : As.length = N) (hd : decode cc pc = .ok (.invokespecial ix, 3)) (pc' : Nat) (hp : pc + 3 = pc') (k' n' : Nat) (hk : k + rm.cells = k') (hs : n + rm.slots = n') (hkk : k' ≤ R.cells) (hss : n' ≤ R.slots) {st0 : List Value} (hst : st0 = As.reverse ++ .ref b :: st) (hcat : (st.map fun v => v.category).sum ≤ 8) {vl : S → Value} (hrv : ∀ u, rv u = some (vl u)) (kk : ∀ u : S, G p l e R s m args below meth c Z A nL Q (wr ++ wd' u) k' n' pc' L (vl u :: st)) : G p l e R s m args below meth c Z A nL Q wd k n pc L st0 := by
  exact g_callP X hM isC isR isO h4 q0 hC hq hlk hsm hsu hins hini hcd hni hmd hR hn hd pc' hp k' n' hk hs hkk hss hst hcat (fun u => by rw [hrv u]; exact kk u)
end GSTR
