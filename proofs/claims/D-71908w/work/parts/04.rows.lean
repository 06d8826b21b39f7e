/-! THE JUDGEMENT G AND ITS ROWS (printed by gen/rows.py) -/
set_option maxRecDepth 100000
/-- the machine, at pc with the locals L, the stack st and the world wd, comes to Q -/
def G (p : Program) (l : Launch) (e : Env) (R : Room) (s : State) (m : MethodId) (args : Array Value) (below : List Frame) (meth : Method) (c : Code) (Z : gZt) (A : Nat → Prop) (nL : Nat) (Q : State → Prop) (wd : va_W) (k n : Nat) (pc : Nat) (L : List (Option Value)) (st : List Value) : Prop :=
  ∀ (H : Heap) (locs : List Loc) (ls : Array Slot), va_P Z.1 gCl wd H → va_D A wd → va_S A s.heap H locs → gl ls nL L → W p l e R s m args below meth c H locs k n Q (F0 m pc ls st)
section GROWS
variable {p : Program} {l : Launch} {e : Env} {R : Room} {s : State} {m : MethodId} {args : Array Value} {below : List Frame} {meth : Method} {c : Code} {Z : gZt} {A : Nat → Prop} {cc : ByteArray} {own : String} {nL : Nat} {ret : Option FieldType} {rs : va_W} {Q : State → Prop} {wd : va_W} {k n pc : Nat} {L : List (Option Value)} {st : List Value}
theorem gX.ro (X : gX p s m args meth c Z A cc own nL ret rs) {H : Heap} {locs : List Loc} (hS : va_S A s.heap H locs) : va_P Z.1 gCl rs H := by
  obtain ⟨-, -, -, -, -, -, -, -, -, -, hR, hA⟩ := X
  exact hR.kept fun j q hq => hS.2.1 q.1 (hR j q hq).lt (hA j q hq)
theorem gX.K (X : gX p s m args meth c Z A cc own nL ret rs) : va_K Z.1 gCl (gTy Z) s := X.2.2.2.2.2.2.2.1.1
theorem gX.ts (X : gX p s m args meth c Z A cc own nL ret rs) : ∀ w ∈ lw_all, w.before args s = true := X.2.2.2.2.2.1
theorem gX.ow (X : gX p s m args meth c Z A cc own nL ret rs) : s.vm.findClass own = some m.cls := X.2.2.2.2.1
theorem gX.new (X : gX p s m args meth c Z A cc own nL ret rs) : ∀ q, s.heap.size ≤ q → A q := X.2.2.2.2.2.2.2.2.2.1
theorem gX.nst (X : gX p s m args meth c Z A cc own nL ret rs) {w : Cond} (hw : w ∈ lw_tbl) (hg : gNst w = true) : w.before args s = true := gNst_use hg (X.2.2.2.2.2.2.2.1.2.1 w hw hg)
theorem g_iconst (X : gX p s m args meth c Z A cc own nL ret rs) {i : Int} (v : Int32) (hd : decode cc pc = .ok (.iconst i, 1)) (pc' : Nat) (hp : pc + 1 = pc') (hv : Int32.ofInt i = v) (kk : G p l e R s m args below meth c Z A nL Q wd k n pc' L (.int v :: st)) : G p l e R s m args below meth c Z A nL Q wd k n pc L st := by
  subst hp
  exact fun H locs ls hP hD hS hl => lv_iconst X.1 X.2.1 hd hv (kk H locs ls hP hD hS hl)
theorem g_bipush (X : gX p s m args meth c Z A cc own nL ret rs) {i : Int} (v : Int32) (hd : decode cc pc = .ok (.bipush i, 2)) (pc' : Nat) (hp : pc + 2 = pc') (hv : (Int8.ofInt i).toInt32 = v) (kk : G p l e R s m args below meth c Z A nL Q wd k n pc' L (.int v :: st)) : G p l e R s m args below meth c Z A nL Q wd k n pc L st := by
  subst hp
  exact fun H locs ls hP hD hS hl => lv_bipush X.1 X.2.1 hd hv (kk H locs ls hP hD hS hl)
theorem g_sipush (X : gX p s m args meth c Z A cc own nL ret rs) {i : Int} (v : Int32) (hd : decode cc pc = .ok (.sipush i, 3)) (pc' : Nat) (hp : pc + 3 = pc') (hv : (Int16.ofInt i).toInt32 = v) (kk : G p l e R s m args below meth c Z A nL Q wd k n pc' L (.int v :: st)) : G p l e R s m args below meth c Z A nL Q wd k n pc L st := by
  subst hp
  exact fun H locs ls hP hD hS hl => lv_sipush X.1 X.2.1 hd hv (kk H locs ls hP hD hS hl)
theorem g_lconst (X : gX p s m args meth c Z A cc own nL ret rs) {i : Fin 2} (v : Int64) (hd : decode cc pc = .ok (.lconst i, 1)) (pc' : Nat) (hp : pc + 1 = pc') (hv : Int64.ofNat (i : Nat) = v) (kk : G p l e R s m args below meth c Z A nL Q wd k n pc' L (.long v :: st)) : G p l e R s m args below meth c Z A nL Q wd k n pc L st := by
  subst hp
  exact fun H locs ls hP hD hS hl => lv_lconst X.1 X.2.1 hd hv (kk H locs ls hP hD hS hl)
theorem g_ldc (X : gX p s m args meth c Z A cc own nL ret rs) {ix : Nat} {v : Int32} (hq : Cond.constant own ix v ∈ lw_all) (hd : decode cc pc = .ok (.ldc ix, 2)) (pc' : Nat) (hp : pc + 2 = pc') (kk : G p l e R s m args below meth c Z A nL Q wd k n pc' L (.int v :: st)) : G p l e R s m args below meth c Z A nL Q wd k n pc L st := by
  subst hp
  exact fun H locs ls hP hD hS hl => lv_ldc X.1 X.2.1 X.ow (X.ts _ hq) hd (kk H locs ls hP hD hS hl)
theorem g_ldcw (X : gX p s m args meth c Z A cc own nL ret rs) {ix : Nat} {v : Int32} (hq : Cond.constant own ix v ∈ lw_all) (hd : decode cc pc = .ok (.ldc_w ix, 3)) (pc' : Nat) (hp : pc + 3 = pc') (kk : G p l e R s m args below meth c Z A nL Q wd k n pc' L (.int v :: st)) : G p l e R s m args below meth c Z A nL Q wd k n pc L st := by
  subst hp
  exact fun H locs ls hP hD hS hl => lv_ldcw X.1 X.2.1 X.ow (X.ts _ hq) hd (kk H locs ls hP hD hS hl)
theorem g_ldc2 (X : gX p s m args meth c Z A cc own nL ret rs) {ix : Nat} {v : Int64} (hq : Cond.constantLong own ix v ∈ lw_all) (hd : decode cc pc = .ok (.ldc2_w ix, 3)) (pc' : Nat) (hp : pc + 3 = pc') (kk : G p l e R s m args below meth c Z A nL Q wd k n pc' L (.long v :: st)) : G p l e R s m args below meth c Z A nL Q wd k n pc L st := by
  subst hp
  exact fun H locs ls hP hD hS hl => lv_ldc2 X.1 X.2.1 X.ow (X.ts _ hq) hd (kk H locs ls hP hD hS hl)
theorem g_null (X : gX p s m args meth c Z A cc own nL ret rs)  (hd : decode cc pc = .ok (.aconst_null, 1)) (pc' : Nat) (hp : pc + 1 = pc') (kk : G p l e R s m args below meth c Z A nL Q wd k n pc' L (.null :: st)) : G p l e R s m args below meth c Z A nL Q wd k n pc L st := by
  subst hp
  exact fun H locs ls hP hD hS hl => lv_null X.1 X.2.1 hd (kk H locs ls hP hD hS hl)
theorem g_iload_n (X : gX p s m args meth c Z A cc own nL ret rs) {j : Fin 4} {x : Int32} (hx : L[(j : Nat)]? = some (some (.int x))) (hd : decode cc pc = .ok (.iload_n j, 1)) (pc' : Nat) (hp : pc + 1 = pc') (kk : G p l e R s m args below meth c Z A nL Q wd k n pc' L (.int x :: st)) : G p l e R s m args below meth c Z A nL Q wd k n pc L st := by
  subst hp
  exact fun H locs ls hP hD hS hl => lv_iload_n X.1 X.2.1 hd rfl (gl_at hl hx) (kk H locs ls hP hD hS hl)
theorem g_iload (X : gX p s m args meth c Z A cc own nL ret rs) {j : Nat} {x : Int32} (hx : L[j]? = some (some (.int x))) (hd : decode cc pc = .ok (.iload j, 2)) (pc' : Nat) (hp : pc + 2 = pc') (kk : G p l e R s m args below meth c Z A nL Q wd k n pc' L (.int x :: st)) : G p l e R s m args below meth c Z A nL Q wd k n pc L st := by
  subst hp
  exact fun H locs ls hP hD hS hl => lv_iload X.1 X.2.1 hd (gl_at hl hx) (kk H locs ls hP hD hS hl)
theorem g_lload_n (X : gX p s m args meth c Z A cc own nL ret rs) {j : Fin 4} {x : Int64} (hx : L[(j : Nat)]? = some (some (.long x))) (hd : decode cc pc = .ok (.lload_n j, 1)) (pc' : Nat) (hp : pc + 1 = pc') (kk : G p l e R s m args below meth c Z A nL Q wd k n pc' L (.long x :: st)) : G p l e R s m args below meth c Z A nL Q wd k n pc L st := by
  subst hp
  exact fun H locs ls hP hD hS hl => lv_lload_n X.1 X.2.1 hd rfl (gl_at hl hx) (kk H locs ls hP hD hS hl)
theorem g_lload (X : gX p s m args meth c Z A cc own nL ret rs) {j : Nat} {x : Int64} (hx : L[j]? = some (some (.long x))) (hd : decode cc pc = .ok (.lload j, 2)) (pc' : Nat) (hp : pc + 2 = pc') (kk : G p l e R s m args below meth c Z A nL Q wd k n pc' L (.long x :: st)) : G p l e R s m args below meth c Z A nL Q wd k n pc L st := by
  subst hp
  exact fun H locs ls hP hD hS hl => lv_lload X.1 X.2.1 hd (gl_at hl hx) (kk H locs ls hP hD hS hl)
theorem g_aload_n (X : gX p s m args meth c Z A cc own nL ret rs) {j : Fin 4} {x : Nat} (hx : L[(j : Nat)]? = some (some (.ref x))) (hd : decode cc pc = .ok (.aload_n j, 1)) (pc' : Nat) (hp : pc + 1 = pc') (kk : G p l e R s m args below meth c Z A nL Q wd k n pc' L (.ref x :: st)) : G p l e R s m args below meth c Z A nL Q wd k n pc L st := by
  subst hp
  exact fun H locs ls hP hD hS hl => lv_aload_n X.1 X.2.1 hd rfl (gl_at hl hx) (kk H locs ls hP hD hS hl)
theorem g_aload (X : gX p s m args meth c Z A cc own nL ret rs) {j : Nat} {x : Nat} (hx : L[j]? = some (some (.ref x))) (hd : decode cc pc = .ok (.aload j, 2)) (pc' : Nat) (hp : pc + 2 = pc') (kk : G p l e R s m args below meth c Z A nL Q wd k n pc' L (.ref x :: st)) : G p l e R s m args below meth c Z A nL Q wd k n pc L st := by
  subst hp
  exact fun H locs ls hP hD hS hl => lv_aload X.1 X.2.1 hd (gl_at hl hx) (kk H locs ls hP hD hS hl)
theorem g_istore_n (X : gX p s m args meth c Z A cc own nL ret rs) {j : Fin 4} {x : Int32} (hd : decode cc pc = .ok (.istore_n j, 1)) (pc' : Nat) (hp : pc + 1 = pc') (hn : (j : Nat) < nL) (ho : gok L (j : Nat) = true) (L' : List (Option Value)) (hL : L.set (j : Nat) (some (.int x)) = L') (kk : G p l e R s m args below meth c Z A nL Q wd k n pc' L' st) : G p l e R s m args below meth c Z A nL Q wd k n pc L (.int x :: st) := by
  subst hp
  exact fun H locs ls hP hD hS hl => lv_istore_n X.1 X.2.1 hd rfl hl hn rfl (fun ls hl => kk H locs ls hP hD hS (hL ▸ gl_st1 ho hl))
theorem g_istore (X : gX p s m args meth c Z A cc own nL ret rs) {j : Nat} {x : Int32} (hd : decode cc pc = .ok (.istore j, 2)) (pc' : Nat) (hp : pc + 2 = pc') (hn : j < nL) (ho : gok L j = true) (L' : List (Option Value)) (hL : L.set j (some (.int x)) = L') (kk : G p l e R s m args below meth c Z A nL Q wd k n pc' L' st) : G p l e R s m args below meth c Z A nL Q wd k n pc L (.int x :: st) := by
  subst hp
  exact fun H locs ls hP hD hS hl => lv_istore X.1 X.2.1 hd hl hn rfl (fun ls hl => kk H locs ls hP hD hS (hL ▸ gl_st1 ho hl))
theorem g_astore_n (X : gX p s m args meth c Z A cc own nL ret rs) {j : Fin 4} {x : Nat} (hd : decode cc pc = .ok (.astore_n j, 1)) (pc' : Nat) (hp : pc + 1 = pc') (hn : (j : Nat) < nL) (ho : gok L (j : Nat) = true) (L' : List (Option Value)) (hL : L.set (j : Nat) (some (.ref x)) = L') (kk : G p l e R s m args below meth c Z A nL Q wd k n pc' L' st) : G p l e R s m args below meth c Z A nL Q wd k n pc L (.ref x :: st) := by
  subst hp
  exact fun H locs ls hP hD hS hl => lv_astore_n X.1 X.2.1 hd rfl hl hn rfl (fun ls hl => kk H locs ls hP hD hS (hL ▸ gl_st1 ho hl))
theorem g_astore (X : gX p s m args meth c Z A cc own nL ret rs) {j : Nat} {x : Nat} (hd : decode cc pc = .ok (.astore j, 2)) (pc' : Nat) (hp : pc + 2 = pc') (hn : j < nL) (ho : gok L j = true) (L' : List (Option Value)) (hL : L.set j (some (.ref x)) = L') (kk : G p l e R s m args below meth c Z A nL Q wd k n pc' L' st) : G p l e R s m args below meth c Z A nL Q wd k n pc L (.ref x :: st) := by
  subst hp
  exact fun H locs ls hP hD hS hl => lv_astore X.1 X.2.1 hd hl hn rfl (fun ls hl => kk H locs ls hP hD hS (hL ▸ gl_st1 ho hl))
theorem g_lstore_n (X : gX p s m args meth c Z A cc own nL ret rs) {j : Fin 4} {x : Int64} (hd : decode cc pc = .ok (.lstore_n j, 1)) (pc' : Nat) (hp : pc + 1 = pc') (hn : (j : Nat) + 1 < nL) (ho : gok L (j : Nat) = true) (L' : List (Option Value)) (hL : (L.set (j : Nat) (some (.long x))).set ((j : Nat) + 1) none = L') (kk : G p l e R s m args below meth c Z A nL Q wd k n pc' L' st) : G p l e R s m args below meth c Z A nL Q wd k n pc L (.long x :: st) := by
  subst hp
  exact fun H locs ls hP hD hS hl => lv_lstore_n X.1 X.2.1 hd rfl hl hn rfl (fun ls hl => kk H locs ls hP hD hS (hL ▸ gl_st2 ho hl))
theorem g_lstore (X : gX p s m args meth c Z A cc own nL ret rs) {j : Nat} {x : Int64} (hd : decode cc pc = .ok (.lstore j, 2)) (pc' : Nat) (hp : pc + 2 = pc') (hn : j + 1 < nL) (ho : gok L j = true) (L' : List (Option Value)) (hL : (L.set j (some (.long x))).set (j + 1) none = L') (kk : G p l e R s m args below meth c Z A nL Q wd k n pc' L' st) : G p l e R s m args below meth c Z A nL Q wd k n pc L (.long x :: st) := by
  subst hp
  exact fun H locs ls hP hD hS hl => lv_lstore X.1 X.2.1 hd hl hn rfl (fun ls hl => kk H locs ls hP hD hS (hL ▸ gl_st2 ho hl))
theorem g_iinc (X : gX p s m args meth c Z A cc own nL ret rs) {j : Nat} {i : Int} {x : Int32} (i' : Int32) (hx : L[j]? = some (some (.int x))) (hd : decode cc pc = .ok (.iinc j i, 3)) (pc' : Nat) (hp : pc + 3 = pc') (hv : Int32.ofInt i = i') (hn : j < nL) (ho : gok L j = true) (L' : List (Option Value)) (hL : L.set j (some (.int (x + i'))) = L') (kk : G p l e R s m args below meth c Z A nL Q wd k n pc' L' st) : G p l e R s m args below meth c Z A nL Q wd k n pc L st := by
  subst hp
  subst hv
  intro H locs ls hP hD hS hl
  obtain ⟨z, hz⟩ := List.getElem?_of_mem ((gz_mem L 0 j (.int x)).mpr ⟨Nat.zero_le _, by rw [Nat.sub_zero]; exact hx⟩)
  exact lv_iinc X.1 X.2.1 hd hl hz rfl hn rfl (fun ls hl => kk H locs ls hP hD hS (hL ▸ gl_st1 ho hl))
theorem g_kill {j : Nat} (L' : List (Option Value)) (hL : L.set j none = L') (kk : G p l e R s m args below meth c Z A nL Q wd k n pc L' st) : G p l e R s m args below meth c Z A nL Q wd k n pc L st := fun H locs ls hP hD hS hl => kk H locs ls hP hD hS (gl_sub hl (fun i v hi => by
  rw [← hL] at hi
  rcases Nat.decEq j i with e | e
  · rw [List.getElem?_set_ne e] at hi
    exact hi
  · subst e
    have hlt := (List.getElem?_eq_some_iff.mp hi).1
    rw [List.getElem?_set_self (by simpa using hlt)] at hi
    cases hi))
theorem g_iadd (X : gX p s m args meth c Z A cc own nL ret rs) {x y : Int32} (hd : decode cc pc = .ok (.iadd, 1)) (pc' : Nat) (hp : pc + 1 = pc') (kk : G p l e R s m args below meth c Z A nL Q wd k n pc' L (.int (x + y) :: st)) : G p l e R s m args below meth c Z A nL Q wd k n pc L (.int y :: .int x :: st) := by
  subst hp
  exact fun H locs ls hP hD hS hl => lv_iadd X.1 X.2.1 hd (kk H locs ls hP hD hS hl)
theorem g_isub (X : gX p s m args meth c Z A cc own nL ret rs) {x y : Int32} (hd : decode cc pc = .ok (.isub, 1)) (pc' : Nat) (hp : pc + 1 = pc') (kk : G p l e R s m args below meth c Z A nL Q wd k n pc' L (.int (x - y) :: st)) : G p l e R s m args below meth c Z A nL Q wd k n pc L (.int y :: .int x :: st) := by
  subst hp
  exact fun H locs ls hP hD hS hl => lv_isub X.1 X.2.1 hd (kk H locs ls hP hD hS hl)
theorem g_imul (X : gX p s m args meth c Z A cc own nL ret rs) {x y : Int32} (hd : decode cc pc = .ok (.imul, 1)) (pc' : Nat) (hp : pc + 1 = pc') (kk : G p l e R s m args below meth c Z A nL Q wd k n pc' L (.int (x * y) :: st)) : G p l e R s m args below meth c Z A nL Q wd k n pc L (.int y :: .int x :: st) := by
  subst hp
  exact fun H locs ls hP hD hS hl => lv_imul X.1 X.2.1 hd (kk H locs ls hP hD hS hl)
theorem g_iand (X : gX p s m args meth c Z A cc own nL ret rs) {x y : Int32} (hd : decode cc pc = .ok (.iand, 1)) (pc' : Nat) (hp : pc + 1 = pc') (kk : G p l e R s m args below meth c Z A nL Q wd k n pc' L (.int (x &&& y) :: st)) : G p l e R s m args below meth c Z A nL Q wd k n pc L (.int y :: .int x :: st) := by
  subst hp
  exact fun H locs ls hP hD hS hl => lv_iand X.1 X.2.1 hd (kk H locs ls hP hD hS hl)
theorem g_ior (X : gX p s m args meth c Z A cc own nL ret rs) {x y : Int32} (hd : decode cc pc = .ok (.ior, 1)) (pc' : Nat) (hp : pc + 1 = pc') (kk : G p l e R s m args below meth c Z A nL Q wd k n pc' L (.int (x ||| y) :: st)) : G p l e R s m args below meth c Z A nL Q wd k n pc L (.int y :: .int x :: st) := by
  subst hp
  exact fun H locs ls hP hD hS hl => lv_ior X.1 X.2.1 hd (kk H locs ls hP hD hS hl)
theorem g_ixor (X : gX p s m args meth c Z A cc own nL ret rs) {x y : Int32} (hd : decode cc pc = .ok (.ixor, 1)) (pc' : Nat) (hp : pc + 1 = pc') (kk : G p l e R s m args below meth c Z A nL Q wd k n pc' L (.int (x ^^^ y) :: st)) : G p l e R s m args below meth c Z A nL Q wd k n pc L (.int y :: .int x :: st) := by
  subst hp
  exact fun H locs ls hP hD hS hl => lv_ixor X.1 X.2.1 hd (kk H locs ls hP hD hS hl)
theorem g_ishl (X : gX p s m args meth c Z A cc own nL ret rs) {x y : Int32} (hd : decode cc pc = .ok (.ishl, 1)) (pc' : Nat) (hp : pc + 1 = pc') (kk : G p l e R s m args below meth c Z A nL Q wd k n pc' L (.int (x <<< (y &&& 31)) :: st)) : G p l e R s m args below meth c Z A nL Q wd k n pc L (.int y :: .int x :: st) := by
  subst hp
  exact fun H locs ls hP hD hS hl => lv_ishl X.1 X.2.1 hd (kk H locs ls hP hD hS hl)
theorem g_ishr (X : gX p s m args meth c Z A cc own nL ret rs) {x y : Int32} (hd : decode cc pc = .ok (.ishr, 1)) (pc' : Nat) (hp : pc + 1 = pc') (kk : G p l e R s m args below meth c Z A nL Q wd k n pc' L (.int (x >>> (y &&& 31)) :: st)) : G p l e R s m args below meth c Z A nL Q wd k n pc L (.int y :: .int x :: st) := by
  subst hp
  exact fun H locs ls hP hD hS hl => lv_ishr X.1 X.2.1 hd (kk H locs ls hP hD hS hl)
theorem g_idiv (X : gX p s m args meth c Z A cc own nL ret rs) {x y : Int32} (hne : ¬ y = 0) (hd : decode cc pc = .ok (.idiv, 1)) (pc' : Nat) (hp : pc + 1 = pc') (kk : G p l e R s m args below meth c Z A nL Q wd k n pc' L (.int (x / y) :: st)) : G p l e R s m args below meth c Z A nL Q wd k n pc L (.int y :: .int x :: st) := by
  subst hp
  exact fun H locs ls hP hD hS hl => lv_idiv X.1 X.2.1 hd hne (kk H locs ls hP hD hS hl)
theorem g_irem (X : gX p s m args meth c Z A cc own nL ret rs) {x y : Int32} (hne : ¬ y = 0) (hd : decode cc pc = .ok (.irem, 1)) (pc' : Nat) (hp : pc + 1 = pc') (kk : G p l e R s m args below meth c Z A nL Q wd k n pc' L (.int (x - x / y * y) :: st)) : G p l e R s m args below meth c Z A nL Q wd k n pc L (.int y :: .int x :: st) := by
  subst hp
  exact fun H locs ls hP hD hS hl => lv_irem X.1 X.2.1 hd hne (kk H locs ls hP hD hS hl)
theorem g_ladd (X : gX p s m args meth c Z A cc own nL ret rs) {x y : Int64} (hd : decode cc pc = .ok (.ladd, 1)) (pc' : Nat) (hp : pc + 1 = pc') (kk : G p l e R s m args below meth c Z A nL Q wd k n pc' L (.long (x + y) :: st)) : G p l e R s m args below meth c Z A nL Q wd k n pc L (.long y :: .long x :: st) := by
  subst hp
  exact fun H locs ls hP hD hS hl => lv_ladd X.1 X.2.1 hd (kk H locs ls hP hD hS hl)
theorem g_lsub (X : gX p s m args meth c Z A cc own nL ret rs) {x y : Int64} (hd : decode cc pc = .ok (.lsub, 1)) (pc' : Nat) (hp : pc + 1 = pc') (kk : G p l e R s m args below meth c Z A nL Q wd k n pc' L (.long (x - y) :: st)) : G p l e R s m args below meth c Z A nL Q wd k n pc L (.long y :: .long x :: st) := by
  subst hp
  exact fun H locs ls hP hD hS hl => lv_lsub X.1 X.2.1 hd (kk H locs ls hP hD hS hl)
theorem g_lmul (X : gX p s m args meth c Z A cc own nL ret rs) {x y : Int64} (hd : decode cc pc = .ok (.lmul, 1)) (pc' : Nat) (hp : pc + 1 = pc') (kk : G p l e R s m args below meth c Z A nL Q wd k n pc' L (.long (x * y) :: st)) : G p l e R s m args below meth c Z A nL Q wd k n pc L (.long y :: .long x :: st) := by
  subst hp
  exact fun H locs ls hP hD hS hl => lv_lmul X.1 X.2.1 hd (kk H locs ls hP hD hS hl)
theorem g_land (X : gX p s m args meth c Z A cc own nL ret rs) {x y : Int64} (hd : decode cc pc = .ok (.land, 1)) (pc' : Nat) (hp : pc + 1 = pc') (kk : G p l e R s m args below meth c Z A nL Q wd k n pc' L (.long (x &&& y) :: st)) : G p l e R s m args below meth c Z A nL Q wd k n pc L (.long y :: .long x :: st) := by
  subst hp
  exact fun H locs ls hP hD hS hl => lv_land X.1 X.2.1 hd (kk H locs ls hP hD hS hl)
theorem g_lor (X : gX p s m args meth c Z A cc own nL ret rs) {x y : Int64} (hd : decode cc pc = .ok (.lor, 1)) (pc' : Nat) (hp : pc + 1 = pc') (kk : G p l e R s m args below meth c Z A nL Q wd k n pc' L (.long (x ||| y) :: st)) : G p l e R s m args below meth c Z A nL Q wd k n pc L (.long y :: .long x :: st) := by
  subst hp
  exact fun H locs ls hP hD hS hl => lv_lor X.1 X.2.1 hd (kk H locs ls hP hD hS hl)
theorem g_lxor (X : gX p s m args meth c Z A cc own nL ret rs) {x y : Int64} (hd : decode cc pc = .ok (.lxor, 1)) (pc' : Nat) (hp : pc + 1 = pc') (kk : G p l e R s m args below meth c Z A nL Q wd k n pc' L (.long (x ^^^ y) :: st)) : G p l e R s m args below meth c Z A nL Q wd k n pc L (.long y :: .long x :: st) := by
  subst hp
  exact fun H locs ls hP hD hS hl => lv_lxor X.1 X.2.1 hd (kk H locs ls hP hD hS hl)
theorem g_ldiv (X : gX p s m args meth c Z A cc own nL ret rs) {x y : Int64} (hne : ¬ y = 0) (hd : decode cc pc = .ok (.ldiv, 1)) (pc' : Nat) (hp : pc + 1 = pc') (kk : G p l e R s m args below meth c Z A nL Q wd k n pc' L (.long (x / y) :: st)) : G p l e R s m args below meth c Z A nL Q wd k n pc L (.long y :: .long x :: st) := by
  subst hp
  exact fun H locs ls hP hD hS hl => lv_ldiv X.1 X.2.1 hd hne (kk H locs ls hP hD hS hl)
theorem g_lrem (X : gX p s m args meth c Z A cc own nL ret rs) {x y : Int64} (hne : ¬ y = 0) (hd : decode cc pc = .ok (.lrem, 1)) (pc' : Nat) (hp : pc + 1 = pc') (kk : G p l e R s m args below meth c Z A nL Q wd k n pc' L (.long (x - x / y * y) :: st)) : G p l e R s m args below meth c Z A nL Q wd k n pc L (.long y :: .long x :: st) := by
  subst hp
  exact fun H locs ls hP hD hS hl => lv_lrem X.1 X.2.1 hd hne (kk H locs ls hP hD hS hl)
theorem g_ineg (X : gX p s m args meth c Z A cc own nL ret rs) {x : Int32} (hd : decode cc pc = .ok (.ineg, 1)) (pc' : Nat) (hp : pc + 1 = pc') (kk : G p l e R s m args below meth c Z A nL Q wd k n pc' L (.int (-x) :: st)) : G p l e R s m args below meth c Z A nL Q wd k n pc L (.int x :: st) := by
  subst hp
  exact fun H locs ls hP hD hS hl => lv_ineg X.1 X.2.1 hd (kk H locs ls hP hD hS hl)
theorem g_lneg (X : gX p s m args meth c Z A cc own nL ret rs) {x : Int64} (hd : decode cc pc = .ok (.lneg, 1)) (pc' : Nat) (hp : pc + 1 = pc') (kk : G p l e R s m args below meth c Z A nL Q wd k n pc' L (.long (-x) :: st)) : G p l e R s m args below meth c Z A nL Q wd k n pc L (.long x :: st) := by
  subst hp
  exact fun H locs ls hP hD hS hl => lv_lneg X.1 X.2.1 hd (kk H locs ls hP hD hS hl)
theorem g_i2l (X : gX p s m args meth c Z A cc own nL ret rs) {x : Int32} (hd : decode cc pc = .ok (.i2l, 1)) (pc' : Nat) (hp : pc + 1 = pc') (kk : G p l e R s m args below meth c Z A nL Q wd k n pc' L (.long x.toInt64 :: st)) : G p l e R s m args below meth c Z A nL Q wd k n pc L (.int x :: st) := by
  subst hp
  exact fun H locs ls hP hD hS hl => lv_i2l X.1 X.2.1 hd rfl (kk H locs ls hP hD hS hl)
theorem g_l2i (X : gX p s m args meth c Z A cc own nL ret rs) {x : Int64} (hd : decode cc pc = .ok (.l2i, 1)) (pc' : Nat) (hp : pc + 1 = pc') (kk : G p l e R s m args below meth c Z A nL Q wd k n pc' L (.int x.toInt32 :: st)) : G p l e R s m args below meth c Z A nL Q wd k n pc L (.long x :: st) := by
  subst hp
  exact fun H locs ls hP hD hS hl => lv_l2i X.1 X.2.1 hd rfl (kk H locs ls hP hD hS hl)
theorem g_i2b (X : gX p s m args meth c Z A cc own nL ret rs) {x : Int32} (hd : decode cc pc = .ok (.i2b, 1)) (pc' : Nat) (hp : pc + 1 = pc') (kk : G p l e R s m args below meth c Z A nL Q wd k n pc' L (.int x.toInt8.toInt32 :: st)) : G p l e R s m args below meth c Z A nL Q wd k n pc L (.int x :: st) := by
  subst hp
  exact fun H locs ls hP hD hS hl => lv_i2b X.1 X.2.1 hd rfl (kk H locs ls hP hD hS hl)
theorem g_i2c (X : gX p s m args meth c Z A cc own nL ret rs) {x : Int32} (hd : decode cc pc = .ok (.i2c, 1)) (pc' : Nat) (hp : pc + 1 = pc') (kk : G p l e R s m args below meth c Z A nL Q wd k n pc' L (.int (x.toUInt32 % 65536).toInt32 :: st)) : G p l e R s m args below meth c Z A nL Q wd k n pc L (.int x :: st) := by
  subst hp
  exact fun H locs ls hP hD hS hl => lv_i2c X.1 X.2.1 hd rfl (kk H locs ls hP hD hS hl)
theorem g_lshl (X : gX p s m args meth c Z A cc own nL ret rs) {x : Int64} {y : Int32} (hd : decode cc pc = .ok (.lshl, 1)) (pc' : Nat) (hp : pc + 1 = pc') (kk : G p l e R s m args below meth c Z A nL Q wd k n pc' L (.long (x <<< (y.toInt64 &&& 63)) :: st)) : G p l e R s m args below meth c Z A nL Q wd k n pc L (.int y :: .long x :: st) := by
  subst hp
  exact fun H locs ls hP hD hS hl => lv_lshl X.1 X.2.1 hd rfl (kk H locs ls hP hD hS hl)
theorem g_lcmp (X : gX p s m args meth c Z A cc own nL ret rs) {x y : Int64} (hd : decode cc pc = .ok (.lcmp, 1)) (pc' : Nat) (hp : pc + 1 = pc') (kk : G p l e R s m args below meth c Z A nL Q wd k n pc' L (.int (lg_cmp x y) :: st)) : G p l e R s m args below meth c Z A nL Q wd k n pc L (.long y :: .long x :: st) := by
  subst hp
  exact fun H locs ls hP hD hS hl => W.lcmp X.1 X.2.1 hd (kk H locs ls hP hD hS hl)
theorem g_dup (X : gX p s m args meth c Z A cc own nL ret rs) {v : Value} (hd : decode cc pc = .ok (.dup, 1)) (pc' : Nat) (hp : pc + 1 = pc') (hv : v.category = 1) (kk : G p l e R s m args below meth c Z A nL Q wd k n pc' L (v :: v :: st)) : G p l e R s m args below meth c Z A nL Q wd k n pc L (v :: st) := by
  subst hp
  exact fun H locs ls hP hD hS hl => lv_dup X.1 X.2.1 hd hv (kk H locs ls hP hD hS hl)
theorem g_pop (X : gX p s m args meth c Z A cc own nL ret rs) {v : Value} (hd : decode cc pc = .ok (.pop, 1)) (pc' : Nat) (hp : pc + 1 = pc') (hv : v.category = 1) (kk : G p l e R s m args below meth c Z A nL Q wd k n pc' L st) : G p l e R s m args below meth c Z A nL Q wd k n pc L (v :: st) := by
  subst hp
  exact fun H locs ls hP hD hS hl => lv_pop X.1 X.2.1 hd hv (kk H locs ls hP hD hS hl)
theorem g_pop2 (X : gX p s m args meth c Z A cc own nL ret rs) {v : Value} (hd : decode cc pc = .ok (.pop2, 1)) (pc' : Nat) (hp : pc + 1 = pc') (hv : v.category = 2) (kk : G p l e R s m args below meth c Z A nL Q wd k n pc' L st) : G p l e R s m args below meth c Z A nL Q wd k n pc L (v :: st) := by
  subst hp
  exact fun H locs ls hP hD hS hl => lv_pop2_2 X.1 X.2.1 hd hv (kk H locs ls hP hD hS hl)
theorem g_dup2 (X : gX p s m args meth c Z A cc own nL ret rs) {u v : Value} (hd : decode cc pc = .ok (.dup2, 1)) (pc' : Nat) (hp : pc + 1 = pc') (hu : u.category = 1) (hv : v.category = 1) (kk : G p l e R s m args below meth c Z A nL Q wd k n pc' L (u :: v :: u :: v :: st)) : G p l e R s m args below meth c Z A nL Q wd k n pc L (u :: v :: st) := by
  subst hp
  exact fun H locs ls hP hD hS hl => lv_dup2_11 X.1 X.2.1 hd hu hv (kk H locs ls hP hD hS hl)
theorem g_dup_x1 (X : gX p s m args meth c Z A cc own nL ret rs) {u v : Value} (hd : decode cc pc = .ok (.dup_x1, 1)) (pc' : Nat) (hp : pc + 1 = pc') (hu : u.category = 1) (hv : v.category = 1) (kk : G p l e R s m args below meth c Z A nL Q wd k n pc' L (u :: v :: u :: st)) : G p l e R s m args below meth c Z A nL Q wd k n pc L (u :: v :: st) := by
  subst hp
  exact fun H locs ls hP hD hS hl => lv_dup_x1 X.1 X.2.1 hd hu hv (kk H locs ls hP hD hS hl)
theorem g_if_eq (X : gX p s m args meth c Z A cc own nL ret rs) {x : Int32} {off : Int} (hd : decode cc pc = .ok (.ifCond .eq off, 3)) (tgt : Nat) (ht : (pc : Int) + off = (tgt : Int)) (pc' : Nat) (hp : pc + 3 = pc') (kt : x = 0 → G p l e R s m args below meth c Z A nL Q wd k n tgt L st) (kf : ¬ x = 0 → G p l e R s m args below meth c Z A nL Q wd k n pc' L st) : G p l e R s m args below meth c Z A nL Q wd k n pc L (.int x :: st) := by
  subst hp
  exact fun H locs ls hP hD hS hl => lv_if_eq X.1 X.2.1 hd ht (fun q => kt q H locs ls hP hD hS hl) (fun q => kf q H locs ls hP hD hS hl)
theorem g_icmp_eq (X : gX p s m args meth c Z A cc own nL ret rs) {x y : Int32} {off : Int} (hd : decode cc pc = .ok (.if_icmp .eq off, 3)) (tgt : Nat) (ht : (pc : Int) + off = (tgt : Int)) (pc' : Nat) (hp : pc + 3 = pc') (kt : x = y → G p l e R s m args below meth c Z A nL Q wd k n tgt L st) (kf : ¬ x = y → G p l e R s m args below meth c Z A nL Q wd k n pc' L st) : G p l e R s m args below meth c Z A nL Q wd k n pc L (.int y :: .int x :: st) := by
  subst hp
  exact fun H locs ls hP hD hS hl => lv_icmp_eq X.1 X.2.1 hd ht (fun q => kt q H locs ls hP hD hS hl) (fun q => kf q H locs ls hP hD hS hl)
theorem g_if_ne (X : gX p s m args meth c Z A cc own nL ret rs) {x : Int32} {off : Int} (hd : decode cc pc = .ok (.ifCond .ne off, 3)) (tgt : Nat) (ht : (pc : Int) + off = (tgt : Int)) (pc' : Nat) (hp : pc + 3 = pc') (kt : ¬ x = 0 → G p l e R s m args below meth c Z A nL Q wd k n tgt L st) (kf : x = 0 → G p l e R s m args below meth c Z A nL Q wd k n pc' L st) : G p l e R s m args below meth c Z A nL Q wd k n pc L (.int x :: st) := by
  subst hp
  exact fun H locs ls hP hD hS hl => lv_if_ne X.1 X.2.1 hd ht (fun q => kt q H locs ls hP hD hS hl) (fun q => kf q H locs ls hP hD hS hl)
theorem g_icmp_ne (X : gX p s m args meth c Z A cc own nL ret rs) {x y : Int32} {off : Int} (hd : decode cc pc = .ok (.if_icmp .ne off, 3)) (tgt : Nat) (ht : (pc : Int) + off = (tgt : Int)) (pc' : Nat) (hp : pc + 3 = pc') (kt : ¬ x = y → G p l e R s m args below meth c Z A nL Q wd k n tgt L st) (kf : x = y → G p l e R s m args below meth c Z A nL Q wd k n pc' L st) : G p l e R s m args below meth c Z A nL Q wd k n pc L (.int y :: .int x :: st) := by
  subst hp
  exact fun H locs ls hP hD hS hl => lv_icmp_ne X.1 X.2.1 hd ht (fun q => kt q H locs ls hP hD hS hl) (fun q => kf q H locs ls hP hD hS hl)
theorem g_if_lt (X : gX p s m args meth c Z A cc own nL ret rs) {x : Int32} {off : Int} (hd : decode cc pc = .ok (.ifCond .lt off, 3)) (tgt : Nat) (ht : (pc : Int) + off = (tgt : Int)) (pc' : Nat) (hp : pc + 3 = pc') (kt : x < 0 → G p l e R s m args below meth c Z A nL Q wd k n tgt L st) (kf : ¬ x < 0 → G p l e R s m args below meth c Z A nL Q wd k n pc' L st) : G p l e R s m args below meth c Z A nL Q wd k n pc L (.int x :: st) := by
  subst hp
  exact fun H locs ls hP hD hS hl => lv_if_lt X.1 X.2.1 hd ht (fun q => kt q H locs ls hP hD hS hl) (fun q => kf q H locs ls hP hD hS hl)
theorem g_icmp_lt (X : gX p s m args meth c Z A cc own nL ret rs) {x y : Int32} {off : Int} (hd : decode cc pc = .ok (.if_icmp .lt off, 3)) (tgt : Nat) (ht : (pc : Int) + off = (tgt : Int)) (pc' : Nat) (hp : pc + 3 = pc') (kt : x < y → G p l e R s m args below meth c Z A nL Q wd k n tgt L st) (kf : ¬ x < y → G p l e R s m args below meth c Z A nL Q wd k n pc' L st) : G p l e R s m args below meth c Z A nL Q wd k n pc L (.int y :: .int x :: st) := by
  subst hp
  exact fun H locs ls hP hD hS hl => lv_icmp_lt X.1 X.2.1 hd ht (fun q => kt q H locs ls hP hD hS hl) (fun q => kf q H locs ls hP hD hS hl)
theorem g_if_ge (X : gX p s m args meth c Z A cc own nL ret rs) {x : Int32} {off : Int} (hd : decode cc pc = .ok (.ifCond .ge off, 3)) (tgt : Nat) (ht : (pc : Int) + off = (tgt : Int)) (pc' : Nat) (hp : pc + 3 = pc') (kt : 0 ≤ x → G p l e R s m args below meth c Z A nL Q wd k n tgt L st) (kf : ¬ 0 ≤ x → G p l e R s m args below meth c Z A nL Q wd k n pc' L st) : G p l e R s m args below meth c Z A nL Q wd k n pc L (.int x :: st) := by
  subst hp
  exact fun H locs ls hP hD hS hl => lv_if_ge X.1 X.2.1 hd ht (fun q => kt q H locs ls hP hD hS hl) (fun q => kf q H locs ls hP hD hS hl)
theorem g_icmp_ge (X : gX p s m args meth c Z A cc own nL ret rs) {x y : Int32} {off : Int} (hd : decode cc pc = .ok (.if_icmp .ge off, 3)) (tgt : Nat) (ht : (pc : Int) + off = (tgt : Int)) (pc' : Nat) (hp : pc + 3 = pc') (kt : y ≤ x → G p l e R s m args below meth c Z A nL Q wd k n tgt L st) (kf : ¬ y ≤ x → G p l e R s m args below meth c Z A nL Q wd k n pc' L st) : G p l e R s m args below meth c Z A nL Q wd k n pc L (.int y :: .int x :: st) := by
  subst hp
  exact fun H locs ls hP hD hS hl => lv_icmp_ge X.1 X.2.1 hd ht (fun q => kt q H locs ls hP hD hS hl) (fun q => kf q H locs ls hP hD hS hl)
theorem g_if_gt (X : gX p s m args meth c Z A cc own nL ret rs) {x : Int32} {off : Int} (hd : decode cc pc = .ok (.ifCond .gt off, 3)) (tgt : Nat) (ht : (pc : Int) + off = (tgt : Int)) (pc' : Nat) (hp : pc + 3 = pc') (kt : 0 < x → G p l e R s m args below meth c Z A nL Q wd k n tgt L st) (kf : ¬ 0 < x → G p l e R s m args below meth c Z A nL Q wd k n pc' L st) : G p l e R s m args below meth c Z A nL Q wd k n pc L (.int x :: st) := by
  subst hp
  exact fun H locs ls hP hD hS hl => lv_if_gt X.1 X.2.1 hd ht (fun q => kt q H locs ls hP hD hS hl) (fun q => kf q H locs ls hP hD hS hl)
theorem g_icmp_gt (X : gX p s m args meth c Z A cc own nL ret rs) {x y : Int32} {off : Int} (hd : decode cc pc = .ok (.if_icmp .gt off, 3)) (tgt : Nat) (ht : (pc : Int) + off = (tgt : Int)) (pc' : Nat) (hp : pc + 3 = pc') (kt : y < x → G p l e R s m args below meth c Z A nL Q wd k n tgt L st) (kf : ¬ y < x → G p l e R s m args below meth c Z A nL Q wd k n pc' L st) : G p l e R s m args below meth c Z A nL Q wd k n pc L (.int y :: .int x :: st) := by
  subst hp
  exact fun H locs ls hP hD hS hl => lv_icmp_gt X.1 X.2.1 hd ht (fun q => kt q H locs ls hP hD hS hl) (fun q => kf q H locs ls hP hD hS hl)
theorem g_if_le (X : gX p s m args meth c Z A cc own nL ret rs) {x : Int32} {off : Int} (hd : decode cc pc = .ok (.ifCond .le off, 3)) (tgt : Nat) (ht : (pc : Int) + off = (tgt : Int)) (pc' : Nat) (hp : pc + 3 = pc') (kt : x ≤ 0 → G p l e R s m args below meth c Z A nL Q wd k n tgt L st) (kf : ¬ x ≤ 0 → G p l e R s m args below meth c Z A nL Q wd k n pc' L st) : G p l e R s m args below meth c Z A nL Q wd k n pc L (.int x :: st) := by
  subst hp
  exact fun H locs ls hP hD hS hl => lv_if_le X.1 X.2.1 hd ht (fun q => kt q H locs ls hP hD hS hl) (fun q => kf q H locs ls hP hD hS hl)
theorem g_icmp_le (X : gX p s m args meth c Z A cc own nL ret rs) {x y : Int32} {off : Int} (hd : decode cc pc = .ok (.if_icmp .le off, 3)) (tgt : Nat) (ht : (pc : Int) + off = (tgt : Int)) (pc' : Nat) (hp : pc + 3 = pc') (kt : x ≤ y → G p l e R s m args below meth c Z A nL Q wd k n tgt L st) (kf : ¬ x ≤ y → G p l e R s m args below meth c Z A nL Q wd k n pc' L st) : G p l e R s m args below meth c Z A nL Q wd k n pc L (.int y :: .int x :: st) := by
  subst hp
  exact fun H locs ls hP hD hS hl => lv_icmp_le X.1 X.2.1 hd ht (fun q => kt q H locs ls hP hD hS hl) (fun q => kf q H locs ls hP hD hS hl)
theorem gc_eq (x y : Int64) : lg_cmp x y = 0 ↔ x = y := by
  unfold lg_cmp
  split
  · rename_i h
    exact ⟨fun q => absurd q (by decide), fun q => absurd h (by rw [q]; exact Int64.lt_irrefl)⟩
  · split
    · rename_i h
      exact ⟨fun _ => h, fun _ => rfl⟩
    · rename_i h
      exact ⟨fun q => absurd q (by decide), fun q => absurd q h⟩
theorem gc_lt (x y : Int64) : lg_cmp x y < 0 ↔ x < y := by
  unfold lg_cmp
  split
  · rename_i h
    refine ⟨fun q => absurd q (by decide), fun q => absurd q ?_⟩
    have h9 : y < x := h
    rw [Int64.lt_iff_toInt_lt] at h9 ⊢
    omega
  · split
    · rename_i h
      exact ⟨fun q => absurd q (by decide), fun q => absurd q (by rw [h]; exact Int64.lt_irrefl)⟩
    · rename_i h1 h2
      refine ⟨fun _ => ?_, fun _ => by decide⟩
      have h9 : ¬ y < x := h1
      rw [Int64.lt_iff_toInt_lt] at h9 ⊢
      have h3 : ¬ x.toInt = y.toInt := fun q => h2 (Int64.toInt_inj.mp q)
      omega
theorem gc_gt (x y : Int64) : 0 < lg_cmp x y ↔ y < x := by
  unfold lg_cmp
  split
  · rename_i h
    exact ⟨fun _ => h, fun _ => by decide⟩
  · split
    · rename_i h1 h
      exact ⟨fun q => absurd q (by decide), fun q => absurd q h1⟩
    · rename_i h1 h2
      exact ⟨fun q => absurd q (by decide), fun q => absurd q h1⟩
theorem gc_ge (x y : Int64) : 0 ≤ lg_cmp x y ↔ y ≤ x := by
  rw [← Int32.not_lt, gc_lt, Int64.not_lt]
theorem gc_le (x y : Int64) : lg_cmp x y ≤ 0 ↔ x ≤ y := by
  rw [← Int32.not_lt, gc_gt, Int64.not_lt]
theorem g_lcmp_eq (X : gX p s m args meth c Z A cc own nL ret rs) {x y : Int64} {off : Int} (hd : decode cc pc = .ok (.lcmp, 1)) (pc1 : Nat) (hp1 : pc + 1 = pc1) (hd1 : decode cc pc1 = .ok (.ifCond .eq off, 3)) (tgt : Nat) (ht : (pc1 : Int) + off = (tgt : Int)) (pc' : Nat) (hp : pc1 + 3 = pc') (kt : x = y → G p l e R s m args below meth c Z A nL Q wd k n tgt L st) (kf : ¬ x = y → G p l e R s m args below meth c Z A nL Q wd k n pc' L st) : G p l e R s m args below meth c Z A nL Q wd k n pc L (.long y :: .long x :: st) := by
  refine g_lcmp X hd pc1 hp1 (g_if_eq X hd1 tgt ht pc' hp (fun q => kt ((gc_eq x y).mp q)) (fun q => kf (fun z => q ((gc_eq x y).mpr z))))
theorem g_lcmp_ne (X : gX p s m args meth c Z A cc own nL ret rs) {x y : Int64} {off : Int} (hd : decode cc pc = .ok (.lcmp, 1)) (pc1 : Nat) (hp1 : pc + 1 = pc1) (hd1 : decode cc pc1 = .ok (.ifCond .ne off, 3)) (tgt : Nat) (ht : (pc1 : Int) + off = (tgt : Int)) (pc' : Nat) (hp : pc1 + 3 = pc') (kt : ¬ x = y → G p l e R s m args below meth c Z A nL Q wd k n tgt L st) (kf : x = y → G p l e R s m args below meth c Z A nL Q wd k n pc' L st) : G p l e R s m args below meth c Z A nL Q wd k n pc L (.long y :: .long x :: st) := by
  refine g_lcmp X hd pc1 hp1 (g_if_ne X hd1 tgt ht pc' hp (fun q => kt (fun z => q ((gc_eq x y).mpr z))) (fun q => kf ((gc_eq x y).mp q)))
theorem g_lcmp_lt (X : gX p s m args meth c Z A cc own nL ret rs) {x y : Int64} {off : Int} (hd : decode cc pc = .ok (.lcmp, 1)) (pc1 : Nat) (hp1 : pc + 1 = pc1) (hd1 : decode cc pc1 = .ok (.ifCond .lt off, 3)) (tgt : Nat) (ht : (pc1 : Int) + off = (tgt : Int)) (pc' : Nat) (hp : pc1 + 3 = pc') (kt : x < y → G p l e R s m args below meth c Z A nL Q wd k n tgt L st) (kf : ¬ x < y → G p l e R s m args below meth c Z A nL Q wd k n pc' L st) : G p l e R s m args below meth c Z A nL Q wd k n pc L (.long y :: .long x :: st) := by
  refine g_lcmp X hd pc1 hp1 (g_if_lt X hd1 tgt ht pc' hp (fun q => kt ((gc_lt x y).mp q)) (fun q => kf (fun z => q ((gc_lt x y).mpr z))))
theorem g_lcmp_ge (X : gX p s m args meth c Z A cc own nL ret rs) {x y : Int64} {off : Int} (hd : decode cc pc = .ok (.lcmp, 1)) (pc1 : Nat) (hp1 : pc + 1 = pc1) (hd1 : decode cc pc1 = .ok (.ifCond .ge off, 3)) (tgt : Nat) (ht : (pc1 : Int) + off = (tgt : Int)) (pc' : Nat) (hp : pc1 + 3 = pc') (kt : y ≤ x → G p l e R s m args below meth c Z A nL Q wd k n tgt L st) (kf : ¬ y ≤ x → G p l e R s m args below meth c Z A nL Q wd k n pc' L st) : G p l e R s m args below meth c Z A nL Q wd k n pc L (.long y :: .long x :: st) := by
  refine g_lcmp X hd pc1 hp1 (g_if_ge X hd1 tgt ht pc' hp (fun q => kt ((gc_ge x y).mp q)) (fun q => kf (fun z => q ((gc_ge x y).mpr z))))
theorem g_lcmp_gt (X : gX p s m args meth c Z A cc own nL ret rs) {x y : Int64} {off : Int} (hd : decode cc pc = .ok (.lcmp, 1)) (pc1 : Nat) (hp1 : pc + 1 = pc1) (hd1 : decode cc pc1 = .ok (.ifCond .gt off, 3)) (tgt : Nat) (ht : (pc1 : Int) + off = (tgt : Int)) (pc' : Nat) (hp : pc1 + 3 = pc') (kt : y < x → G p l e R s m args below meth c Z A nL Q wd k n tgt L st) (kf : ¬ y < x → G p l e R s m args below meth c Z A nL Q wd k n pc' L st) : G p l e R s m args below meth c Z A nL Q wd k n pc L (.long y :: .long x :: st) := by
  refine g_lcmp X hd pc1 hp1 (g_if_gt X hd1 tgt ht pc' hp (fun q => kt ((gc_gt x y).mp q)) (fun q => kf (fun z => q ((gc_gt x y).mpr z))))
theorem g_lcmp_le (X : gX p s m args meth c Z A cc own nL ret rs) {x y : Int64} {off : Int} (hd : decode cc pc = .ok (.lcmp, 1)) (pc1 : Nat) (hp1 : pc + 1 = pc1) (hd1 : decode cc pc1 = .ok (.ifCond .le off, 3)) (tgt : Nat) (ht : (pc1 : Int) + off = (tgt : Int)) (pc' : Nat) (hp : pc1 + 3 = pc') (kt : x ≤ y → G p l e R s m args below meth c Z A nL Q wd k n tgt L st) (kf : ¬ x ≤ y → G p l e R s m args below meth c Z A nL Q wd k n pc' L st) : G p l e R s m args below meth c Z A nL Q wd k n pc L (.long y :: .long x :: st) := by
  refine g_lcmp X hd pc1 hp1 (g_if_le X hd1 tgt ht pc' hp (fun q => kt ((gc_le x y).mp q)) (fun q => kf (fun z => q ((gc_le x y).mpr z))))
theorem g_goto (X : gX p s m args meth c Z A cc own nL ret rs) {off : Int} (hd : decode cc pc = .ok (.goto off, 3)) (tgt : Nat) (ht : (pc : Int) + off = (tgt : Int)) (kk : G p l e R s m args below meth c Z A nL Q wd k n tgt L st) : G p l e R s m args below meth c Z A nL Q wd k n pc L st := fun H locs ls hP hD hS hl => lv_goto X.1 X.2.1 hd ht (kk H locs ls hP hD hS hl)
theorem g_get (X : gX p s m args meth c Z A cc own nL ret rs) {ci : Nat} {C ref : String} {T : u_T} {N ix : Nat} {ty : Nat → FieldType} (hC : gC ci C T N ty) (q0 : Nat) {a : Nat} {fs : List Value} (he : wd[q0]? = some (a, .inr (ci, fs))) (j : Nat) (hj : j < N) (hq : Cond.fieldLink own ix ref (T j).2.1 (T j).2.2.1 ∈ lw_all) (hsame : ∀ x, s.fieldFound? (T j).1 (T j).2.1 (T j).2.2.1 = some x → s.fieldFound? ref (T j).2.1 (T j).2.2.1 = some x) {v : Value} (hv : fs[j]? = some v) (hd : decode cc pc = .ok (.getfield ix, 3)) (pc' : Nat) (hp : pc + 3 = pc') (kk : G p l e R s m args below meth c Z A nL Q wd k n pc' L (v :: st)) : G p l e R s m args below meth c Z A nL Q wd k n pc L (.ref a :: st) := by
  subst hp
  exact fun H locs ls hP hD hS hl => va_get (D := Z.1) X.1 X.2.1 X.ts hC.2.1 X.ow X.K hP q0 he hC.1 j hj (X.ts _ hq) hsame hv hd (kk H locs ls hP hD hS hl)
theorem g_getN (X : gX p s m args meth c Z A cc own nL ret rs) {ci : Nat} {C ref : String} {T : u_T} {N ix : Nat} {ty : Nat → FieldType} (hC : gC ci C T N ty) (q0 : Nat) {a : Nat} {fs : List Value} (he : wd[q0]? = some (a, .inr (ci, fs))) (j : Nat) (hj : j < N) {host : String} (hq : Cond.fieldLinkNest own ix ref (T j).2.1 (T j).2.2.1 host ∈ lw_tbl) (hsame : ∀ x, s.fieldFound? (T j).1 (T j).2.1 (T j).2.2.1 = some x → s.fieldFound? ref (T j).2.1 (T j).2.2.1 = some x) {v : Value} (hv : fs[j]? = some v) (hd : decode cc pc = .ok (.getfield ix, 3)) (pc' : Nat) (hp : pc + 3 = pc') (kk : G p l e R s m args below meth c Z A nL Q wd k n pc' L (v :: st)) : G p l e R s m args below meth c Z A nL Q wd k n pc L (.ref a :: st) := by
  subst hp
  exact fun H locs ls hP hD hS hl => va_getN (D := Z.1) X.1 X.2.1 X.ts hC.2.1 X.ow X.K hP q0 he hC.1 j hj (X.nst hq rfl) hsame hv hd (kk H locs ls hP hD hS hl)
theorem g_getR (X : gX p s m args meth c Z A cc own nL ret rs) {ci : Nat} {C ref : String} {T : u_T} {N ix : Nat} {ty : Nat → FieldType} (hC : gC ci C T N ty) (q0 : Nat) {a : Nat} {fs : List Value} (he : rs[q0]? = some (a, .inr (ci, fs))) (j : Nat) (hj : j < N) (hq : Cond.fieldLink own ix ref (T j).2.1 (T j).2.2.1 ∈ lw_all) (hsame : ∀ x, s.fieldFound? (T j).1 (T j).2.1 (T j).2.2.1 = some x → s.fieldFound? ref (T j).2.1 (T j).2.2.1 = some x) {v : Value} (hv : fs[j]? = some v) (hd : decode cc pc = .ok (.getfield ix, 3)) (pc' : Nat) (hp : pc + 3 = pc') (kk : G p l e R s m args below meth c Z A nL Q wd k n pc' L (v :: st)) : G p l e R s m args below meth c Z A nL Q wd k n pc L (.ref a :: st) := by
  subst hp
  exact fun H locs ls hP hD hS hl => va_get (D := Z.1) X.1 X.2.1 X.ts hC.2.1 X.ow X.K (X.ro hS) q0 he hC.1 j hj (X.ts _ hq) hsame hv hd (kk H locs ls hP hD hS hl)
theorem g_getRN (X : gX p s m args meth c Z A cc own nL ret rs) {ci : Nat} {C ref : String} {T : u_T} {N ix : Nat} {ty : Nat → FieldType} (hC : gC ci C T N ty) (q0 : Nat) {a : Nat} {fs : List Value} (he : rs[q0]? = some (a, .inr (ci, fs))) (j : Nat) (hj : j < N) {host : String} (hq : Cond.fieldLinkNest own ix ref (T j).2.1 (T j).2.2.1 host ∈ lw_tbl) (hsame : ∀ x, s.fieldFound? (T j).1 (T j).2.1 (T j).2.2.1 = some x → s.fieldFound? ref (T j).2.1 (T j).2.2.1 = some x) {v : Value} (hv : fs[j]? = some v) (hd : decode cc pc = .ok (.getfield ix, 3)) (pc' : Nat) (hp : pc + 3 = pc') (kk : G p l e R s m args below meth c Z A nL Q wd k n pc' L (v :: st)) : G p l e R s m args below meth c Z A nL Q wd k n pc L (.ref a :: st) := by
  subst hp
  exact fun H locs ls hP hD hS hl => va_getN (D := Z.1) X.1 X.2.1 X.ts hC.2.1 X.ow X.K (X.ro hS) q0 he hC.1 j hj (X.nst hq rfl) hsame hv hd (kk H locs ls hP hD hS hl)
theorem g_put (X : gX p s m args meth c Z A cc own nL ret rs) {ci : Nat} {C ref : String} {T : u_T} {N ix : Nat} {ty : Nat → FieldType} (hC : gC ci C T N ty) (q0 : Nat) {a : Nat} {fs : List Value} (he : wd[q0]? = some (a, .inr (ci, fs))) (j : Nat) (hj : j < N) (hq : Cond.fieldLink own ix ref (T j).2.1 (T j).2.2.1 ∈ lw_all) (hsame : ∀ x, s.fieldFound? (T j).1 (T j).2.1 (T j).2.2.1 = some x → s.fieldFound? ref (T j).2.1 (T j).2.2.1 = some x) (hfin : (T j).2.2.2 = false) {v : Value} (hn : narrow (ty j) v = v) (hfit : fits (ty j) v = true) (hl2 : j < fs.length) (hd : decode cc pc = .ok (.putfield ix, 3)) (pc' : Nat) (hp : pc + 3 = pc') (kk : G p l e R s m args below meth c Z A nL Q (wd.set q0 (a, .inr (ci, fs.set j v))) k n pc' L st) : G p l e R s m args below meth c Z A nL Q wd k n pc L (v :: .ref a :: st) := by
  subst hp
  exact fun H locs ls hP hD hS hl => va_put (D := Z.1) X.1 X.2.1 X.ts hC.2.1 ty hC.2.2.1 hC.2.2.2 X.ow X.K hP hD hS q0 he hC.1 j hj (X.ts _ hq) hsame hfin (hC.2.2.1 j hj) hn hfit hl2 hd (fun H locs hP hD hS => kk H locs ls hP hD hS hl)
theorem g_putN (X : gX p s m args meth c Z A cc own nL ret rs) {ci : Nat} {C ref : String} {T : u_T} {N ix : Nat} {ty : Nat → FieldType} (hC : gC ci C T N ty) (q0 : Nat) {a : Nat} {fs : List Value} (he : wd[q0]? = some (a, .inr (ci, fs))) (j : Nat) (hj : j < N) {host : String} (hq : Cond.fieldLinkNest own ix ref (T j).2.1 (T j).2.2.1 host ∈ lw_tbl) (hsame : ∀ x, s.fieldFound? (T j).1 (T j).2.1 (T j).2.2.1 = some x → s.fieldFound? ref (T j).2.1 (T j).2.2.1 = some x) (hfin : (T j).2.2.2 = false) {v : Value} (hn : narrow (ty j) v = v) (hfit : fits (ty j) v = true) (hl2 : j < fs.length) (hd : decode cc pc = .ok (.putfield ix, 3)) (pc' : Nat) (hp : pc + 3 = pc') (kk : G p l e R s m args below meth c Z A nL Q (wd.set q0 (a, .inr (ci, fs.set j v))) k n pc' L st) : G p l e R s m args below meth c Z A nL Q wd k n pc L (v :: .ref a :: st) := by
  subst hp
  exact fun H locs ls hP hD hS hl => va_putN (D := Z.1) X.1 X.2.1 X.ts hC.2.1 ty hC.2.2.1 hC.2.2.2 X.ow X.K hP hD hS q0 he hC.1 j hj (X.nst hq rfl) hsame hfin (hC.2.2.1 j hj) hn hfit hl2 hd (fun H locs hP hD hS => kk H locs ls hP hD hS hl)
theorem g_putF (X : gX p s m args meth c Z A cc own nL ret rs) {ci : Nat} {C ref : String} {T : u_T} {N ix : Nat} {ty : Nat → FieldType} (hC : gC ci C T N ty) (q0 : Nat) {a : Nat} {fs : List Value} (he : wd[q0]? = some (a, .inr (ci, fs))) (j : Nat) (hj : j < N) (hq : Cond.fieldLink own ix ref (T j).2.1 (T j).2.2.1 ∈ lw_all) (hsame : ∀ x, s.fieldFound? (T j).1 (T j).2.1 (T j).2.2.1 = some x → s.fieldFound? ref (T j).2.1 (T j).2.2.1 = some x) (hfin : (T j).2.2.2 = true) (hin2 : meth.name = "<init>") (hdecl : (T j).1 = own) {v : Value} (hn : narrow (ty j) v = v) (hfit : fits (ty j) v = true) (hl2 : j < fs.length) (hd : decode cc pc = .ok (.putfield ix, 3)) (pc' : Nat) (hp : pc + 3 = pc') (kk : G p l e R s m args below meth c Z A nL Q (wd.set q0 (a, .inr (ci, fs.set j v))) k n pc' L st) : G p l e R s m args below meth c Z A nL Q wd k n pc L (v :: .ref a :: st) := by
  subst hp
  exact fun H locs ls hP hD hS hl => va_putF (D := Z.1) X.1 X.2.1 X.ts hC.2.1 ty hC.2.2.1 hC.2.2.2 X.ow X.K hP hD hS q0 he hC.1 j hj (X.ts _ hq) hsame hfin hin2 hdecl (hC.2.2.1 j hj) hn hfit hl2 hd (fun H locs hP hD hS => kk H locs ls hP hD hS hl)
theorem g_iald (X : gX p s m args meth c Z A cc own nL ret rs) (q0 : Nat) {a N : Nat} {f : Nat → Int32} (ha : wd[q0]? = some (a, .inl (Z.2 0, N, .inl f))) {i : Int32} (hin : vp_in i N) (hd : decode cc pc = .ok (.iaload, 1)) (pc' : Nat) (hp : pc + 1 = pc') (kk : G p l e R s m args below meth c Z A nL Q wd k n pc' L (.int (f i.toNatClampNeg) :: st)) : G p l e R s m args below meth c Z A nL Q wd k n pc L (.int i :: .ref a :: st) := by
  subst hp
  exact fun H locs ls hP hD hS hl => va_iald X.1 X.2.1 X.K hP q0 0 ha rfl hin hd (kk H locs ls hP hD hS hl)
theorem g_lald (X : gX p s m args meth c Z A cc own nL ret rs) (q0 : Nat) {a N : Nat} {f : Nat → Int64} (ha : wd[q0]? = some (a, .inl (Z.2 1, N, .inr (.inl f)))) {i : Int32} (hin : vp_in i N) (hd : decode cc pc = .ok (.laload, 1)) (pc' : Nat) (hp : pc + 1 = pc') (kk : G p l e R s m args below meth c Z A nL Q wd k n pc' L (.long (f i.toNatClampNeg) :: st)) : G p l e R s m args below meth c Z A nL Q wd k n pc L (.int i :: .ref a :: st) := by
  subst hp
  exact fun H locs ls hP hD hS hl => va_lald X.1 X.2.1 X.K hP q0 1 ha rfl hin hd (kk H locs ls hP hD hS hl)
theorem g_bald (X : gX p s m args meth c Z A cc own nL ret rs) (q0 : Nat) {a N : Nat} {f : Nat → Int32} (ha : wd[q0]? = some (a, .inl (Z.2 2, N, .inl f))) {i : Int32} (hin : vp_in i N) (hd : decode cc pc = .ok (.baload, 1)) (pc' : Nat) (hp : pc + 1 = pc') (kk : G p l e R s m args below meth c Z A nL Q wd k n pc' L (.int (f i.toNatClampNeg) :: st)) : G p l e R s m args below meth c Z A nL Q wd k n pc L (.int i :: .ref a :: st) := by
  subst hp
  exact fun H locs ls hP hD hS hl => va_bald X.1 X.2.1 X.K hP q0 2 ha rfl hin hd (kk H locs ls hP hD hS hl)
theorem g_alen0 (X : gX p s m args meth c Z A cc own nL ret rs) (q0 : Nat) {a : Nat} {x : vp_A} (ha : wd[q0]? = some (a, .inl (Z.2 0, x))) (v : Int32) (hv : Int32.ofNat x.1 = v) (hd : decode cc pc = .ok (.arraylength, 1)) (pc' : Nat) (hp : pc + 1 = pc') (kk : G p l e R s m args below meth c Z A nL Q wd k n pc' L (.int v :: st)) : G p l e R s m args below meth c Z A nL Q wd k n pc L (.ref a :: st) := by
  subst hp
  exact fun H locs ls hP hD hS hl => va_alen X.1 X.2.1 X.K hP q0 0 ha rfl hv hd (kk H locs ls hP hD hS hl)
theorem g_alen1 (X : gX p s m args meth c Z A cc own nL ret rs) (q0 : Nat) {a : Nat} {x : vp_A} (ha : wd[q0]? = some (a, .inl (Z.2 1, x))) (v : Int32) (hv : Int32.ofNat x.1 = v) (hd : decode cc pc = .ok (.arraylength, 1)) (pc' : Nat) (hp : pc + 1 = pc') (kk : G p l e R s m args below meth c Z A nL Q wd k n pc' L (.int v :: st)) : G p l e R s m args below meth c Z A nL Q wd k n pc L (.ref a :: st) := by
  subst hp
  exact fun H locs ls hP hD hS hl => va_alen X.1 X.2.1 X.K hP q0 1 ha rfl hv hd (kk H locs ls hP hD hS hl)
theorem g_alen2 (X : gX p s m args meth c Z A cc own nL ret rs) (q0 : Nat) {a : Nat} {x : vp_A} (ha : wd[q0]? = some (a, .inl (Z.2 2, x))) (v : Int32) (hv : Int32.ofNat x.1 = v) (hd : decode cc pc = .ok (.arraylength, 1)) (pc' : Nat) (hp : pc + 1 = pc') (kk : G p l e R s m args below meth c Z A nL Q wd k n pc' L (.int v :: st)) : G p l e R s m args below meth c Z A nL Q wd k n pc L (.ref a :: st) := by
  subst hp
  exact fun H locs ls hP hD hS hl => va_alen X.1 X.2.1 X.K hP q0 2 ha rfl hv hd (kk H locs ls hP hD hS hl)
theorem g_ialdR (X : gX p s m args meth c Z A cc own nL ret rs) (q0 : Nat) {a N : Nat} {f : Nat → Int32} (ha : rs[q0]? = some (a, .inl (Z.2 0, N, .inl f))) {i : Int32} (hin : vp_in i N) (hd : decode cc pc = .ok (.iaload, 1)) (pc' : Nat) (hp : pc + 1 = pc') (kk : G p l e R s m args below meth c Z A nL Q wd k n pc' L (.int (f i.toNatClampNeg) :: st)) : G p l e R s m args below meth c Z A nL Q wd k n pc L (.int i :: .ref a :: st) := by
  subst hp
  exact fun H locs ls hP hD hS hl => va_iald X.1 X.2.1 X.K (X.ro hS) q0 0 ha rfl hin hd (kk H locs ls hP hD hS hl)
theorem g_laldR (X : gX p s m args meth c Z A cc own nL ret rs) (q0 : Nat) {a N : Nat} {f : Nat → Int64} (ha : rs[q0]? = some (a, .inl (Z.2 1, N, .inr (.inl f)))) {i : Int32} (hin : vp_in i N) (hd : decode cc pc = .ok (.laload, 1)) (pc' : Nat) (hp : pc + 1 = pc') (kk : G p l e R s m args below meth c Z A nL Q wd k n pc' L (.long (f i.toNatClampNeg) :: st)) : G p l e R s m args below meth c Z A nL Q wd k n pc L (.int i :: .ref a :: st) := by
  subst hp
  exact fun H locs ls hP hD hS hl => va_lald X.1 X.2.1 X.K (X.ro hS) q0 1 ha rfl hin hd (kk H locs ls hP hD hS hl)
theorem g_baldR (X : gX p s m args meth c Z A cc own nL ret rs) (q0 : Nat) {a N : Nat} {f : Nat → Int32} (ha : rs[q0]? = some (a, .inl (Z.2 2, N, .inl f))) {i : Int32} (hin : vp_in i N) (hd : decode cc pc = .ok (.baload, 1)) (pc' : Nat) (hp : pc + 1 = pc') (kk : G p l e R s m args below meth c Z A nL Q wd k n pc' L (.int (f i.toNatClampNeg) :: st)) : G p l e R s m args below meth c Z A nL Q wd k n pc L (.int i :: .ref a :: st) := by
  subst hp
  exact fun H locs ls hP hD hS hl => va_bald X.1 X.2.1 X.K (X.ro hS) q0 2 ha rfl hin hd (kk H locs ls hP hD hS hl)
theorem g_alen0R (X : gX p s m args meth c Z A cc own nL ret rs) (q0 : Nat) {a : Nat} {x : vp_A} (ha : rs[q0]? = some (a, .inl (Z.2 0, x))) (v : Int32) (hv : Int32.ofNat x.1 = v) (hd : decode cc pc = .ok (.arraylength, 1)) (pc' : Nat) (hp : pc + 1 = pc') (kk : G p l e R s m args below meth c Z A nL Q wd k n pc' L (.int v :: st)) : G p l e R s m args below meth c Z A nL Q wd k n pc L (.ref a :: st) := by
  subst hp
  exact fun H locs ls hP hD hS hl => va_alen X.1 X.2.1 X.K (X.ro hS) q0 0 ha rfl hv hd (kk H locs ls hP hD hS hl)
theorem g_alen1R (X : gX p s m args meth c Z A cc own nL ret rs) (q0 : Nat) {a : Nat} {x : vp_A} (ha : rs[q0]? = some (a, .inl (Z.2 1, x))) (v : Int32) (hv : Int32.ofNat x.1 = v) (hd : decode cc pc = .ok (.arraylength, 1)) (pc' : Nat) (hp : pc + 1 = pc') (kk : G p l e R s m args below meth c Z A nL Q wd k n pc' L (.int v :: st)) : G p l e R s m args below meth c Z A nL Q wd k n pc L (.ref a :: st) := by
  subst hp
  exact fun H locs ls hP hD hS hl => va_alen X.1 X.2.1 X.K (X.ro hS) q0 1 ha rfl hv hd (kk H locs ls hP hD hS hl)
theorem g_alen2R (X : gX p s m args meth c Z A cc own nL ret rs) (q0 : Nat) {a : Nat} {x : vp_A} (ha : rs[q0]? = some (a, .inl (Z.2 2, x))) (v : Int32) (hv : Int32.ofNat x.1 = v) (hd : decode cc pc = .ok (.arraylength, 1)) (pc' : Nat) (hp : pc + 1 = pc') (kk : G p l e R s m args below meth c Z A nL Q wd k n pc' L (.int v :: st)) : G p l e R s m args below meth c Z A nL Q wd k n pc L (.ref a :: st) := by
  subst hp
  exact fun H locs ls hP hD hS hl => va_alen X.1 X.2.1 X.K (X.ro hS) q0 2 ha rfl hv hd (kk H locs ls hP hD hS hl)
theorem g_iast (X : gX p s m args meth c Z A cc own nL ret rs) (q0 : Nat) {a N : Nat} {f : Nat → Int32} (ha : wd[q0]? = some (a, .inl (Z.2 0, N, .inl f))) {i x : Int32} (hin : vp_in i N) (hd : decode cc pc = .ok (.iastore, 1)) (pc' : Nat) (hp : pc + 1 = pc') (kk : G p l e R s m args below meth c Z A nL Q (wd.set q0 (a, .inl (Z.2 0, N, .inl (upd f i.toNatClampNeg x)))) k n pc' L st) : G p l e R s m args below meth c Z A nL Q wd k n pc L (.int x :: .int i :: .ref a :: st) := by
  subst hp
  exact fun H locs ls hP hD hS hl => va_iast X.1 X.2.1 X.K hP hD hS q0 0 ha rfl hin hd (fun H locs hP hD hS => kk H locs ls hP hD hS hl)
theorem g_last (X : gX p s m args meth c Z A cc own nL ret rs) (q0 : Nat) {a N : Nat} {f : Nat → Int64} (ha : wd[q0]? = some (a, .inl (Z.2 1, N, .inr (.inl f)))) {i : Int32} {x : Int64} (hin : vp_in i N) (hd : decode cc pc = .ok (.lastore, 1)) (pc' : Nat) (hp : pc + 1 = pc') (kk : G p l e R s m args below meth c Z A nL Q (wd.set q0 (a, .inl (Z.2 1, N, .inr (.inl (vp_updL f i.toNatClampNeg x))))) k n pc' L st) : G p l e R s m args below meth c Z A nL Q wd k n pc L (.long x :: .int i :: .ref a :: st) := by
  subst hp
  exact fun H locs ls hP hD hS hl => va_last X.1 X.2.1 X.K hP hD hS q0 1 ha rfl hin hd (fun H locs hP hD hS => kk H locs ls hP hD hS hl)
theorem g_bast (X : gX p s m args meth c Z A cc own nL ret rs) (q0 : Nat) {a N : Nat} {f : Nat → Int32} (ha : wd[q0]? = some (a, .inl (Z.2 2, N, .inl f))) {i x : Int32} (hin : vp_in i N) (hd : decode cc pc = .ok (.bastore, 1)) (pc' : Nat) (hp : pc + 1 = pc') (kk : G p l e R s m args below meth c Z A nL Q (wd.set q0 (a, .inl (Z.2 2, N, .inl (upd f i.toNatClampNeg (vp_nar .byte x))))) k n pc' L st) : G p l e R s m args below meth c Z A nL Q wd k n pc L (.int x :: .int i :: .ref a :: st) := by
  subst hp
  exact fun H locs ls hP hD hS hl => va_bast X.1 X.2.1 X.K hP hD hS q0 2 ha rfl hin hd (fun H locs hP hD hS => kk H locs ls hP hD hS hl)
end GROWS
