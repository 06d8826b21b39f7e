/-! ROWS for the law's own body: its script -/
set_option maxRecDepth 100000
section GLAW
variable {p : Program} {l : Launch} {e : Env} {R : Room} {s : State} {m : MethodId} {args : Array Value} {below : List Frame} {meth : Method} {c : Code} {Z : gZt} {A : Nat → Prop} {cc : ByteArray} {own : String} {nL : Nat} {ret : Option FieldType} {rs : va_W} {Q : State → Prop} {wd : va_W} {k n pc : Nat} {L : List (Option Value)} {st : List Value}
/-- the script: its cell is known by its ints alone -/
def gScr (b N : Nat) (xs : Nat → Int32) (A : Nat → Prop) (s : State) : Prop := va_X b N xs s s.heap ∧ b < s.heap.size ∧ ¬ A b
theorem g_sld (X : gX p s m args meth c Z A cc own nL ret rs) {b N : Nat} {xs : Nat → Int32} (hV : gScr b N xs A s) {i : Int32} (hin : vp_in i N) (hd : decode cc pc = .ok (.iaload, 1)) (pc' : Nat) (hp : pc + 1 = pc') (kk : G p l e R s m args below meth c Z A nL Q wd k n pc' L (.int (xs i.toNatClampNeg) :: st)) : G p l e R s m args below meth c Z A nL Q wd k n pc L (.int i :: .ref b :: st) := by
  subst hp
  exact fun H locs ls hP hD hS hl => va_sld X.1 X.2.1 hV.1 hV.2.1 hV.2.2 hS hin hd (kk H locs ls hP hD hS hl)
theorem g_slen (X : gX p s m args meth c Z A cc own nL ret rs) {b N : Nat} {xs : Nat → Int32} (hV : gScr b N xs A s) (hd : decode cc pc = .ok (.arraylength, 1)) (pc' : Nat) (hp : pc + 1 = pc') (kk : G p l e R s m args below meth c Z A nL Q wd k n pc' L (.int (Int32.ofNat N) :: st)) : G p l e R s m args below meth c Z A nL Q wd k n pc L (.ref b :: st) := by
  subst hp
  exact fun H locs ls hP hD hS hl => va_slen X.1 X.2.1 hV.1 hV.2.1 hV.2.2 hS hd (kk H locs ls hP hD hS hl)
end GLAW
