/-! DECODE ROWS BY BYTES: one lemma an opcode; a method's code is cut into short pieces once, and a row reads its own piece alone. -/
set_option maxRecDepth 100000
/-- the code has just these bytes from pc on -/
def DkAt (code : ByteArray) (pc : Nat) (bs : List UInt8) : Prop := ∀ (j : Nat) (b : UInt8), bs[j]? = some b → code.data.toList[pc + j]? = some b
/-- the piece W has the bytes bs from its place j on -/
def dkIn (W : List UInt8) (j : Nat) (bs : List UInt8) : Bool := decide ((W.drop j).take bs.length = bs)
theorem dk_seg {l W T : List UInt8} {o o2 : Nat} (h : l.drop o = W ++ T) (n : Nat) (hn : W.length = n) (ho : o + n = o2) : l.drop o2 = T := by
  subst ho
  rw [← List.drop_drop, h, List.drop_left' hn]
theorem dk_at {code : ByteArray} {W T bs : List UInt8} {o pc : Nat} (h : code.data.toList.drop o = W ++ T) (j : Nat) (hp : o + j = pc) (hw : dkIn W j bs = true) : DkAt code pc bs := by
  subst hp
  intro i b e
  have h1 := of_decide_eq_true hw
  have h2 : i < bs.length := (List.getElem?_eq_some_iff.mp e).1
  have h3 : W[j + i]? = some b := by
    rw [← h1, List.getElem?_take, if_pos h2, List.getElem?_drop] at e
    exact e
  have h4 : j + i < W.length := (List.getElem?_eq_some_iff.mp h3).1
  have h5 : (code.data.toList.drop o)[j + i]? = some b := by
    rw [h, List.getElem?_append_left h4]
    exact h3
  rw [List.getElem?_drop, ← Nat.add_assoc] at h5
  exact h5
theorem dk_u1 {A : ByteArray} {p : Nat} {b : UInt8} (h : A.data.toList[p]? = some b) : (Reader.u1 : Reader DecodeError Nat) A p = .ok (b.toNat, p + 1) := by
  obtain ⟨h1, h2⟩ := List.getElem?_eq_some_iff.mp h
  have h3 : p < A.size := by simpa using h1
  have h4 : A[p]'h3 = b := h2
  have e : (Reader.u1 : Reader DecodeError Nat) A p = (if h : p < A.size then .ok (A[p].toNat, p + 1) else .error (HasTruncated.truncated p)) := by
    show (do if h : p < A.size then do set (p + 1); Pure.pure A[p].toNat else MonadExcept.throw (HasTruncated.truncated p) : Reader DecodeError Nat) A p = _
    by_cases hi : p < A.size
    · rw [dif_pos hi, dif_pos hi]; rfl
    · rw [dif_neg hi, dif_neg hi]; rfl
  rw [e, dif_pos h3, h4]
theorem dk_bind {α β : Type} {r : Reader DecodeError α} {f : α → Reader DecodeError β} {A : ByteArray} {p s : Nat} {a : α} (h : r A p = .ok (a, s)) : (r >>= f) A p = f a A s := by
  show (do let (a, s) ← r A p; f a A s : Except DecodeError (β × Nat)) = _
  rw [h]
  rfl
theorem dk_map {α β : Type} {r : Reader DecodeError α} {g : α → β} {A : ByteArray} {p s : Nat} {a : α} (h : r A p = .ok (a, s)) : (g <$> r) A p = .ok (g a, s) := by
  show (do let (a, s) ← r A p; .ok (g a, s) : Except DecodeError (β × Nat)) = _
  rw [h]
  rfl
theorem dk_u2 {A : ByteArray} {p : Nat} {a b : UInt8} (h : A.data.toList[p]? = some a) (h2 : A.data.toList[p + 1]? = some b) : (Reader.u2 : Reader DecodeError Nat) A p = .ok (a.toNat * 256 + b.toNat, p + 2) := by
  show (Reader.u1 >>= fun hi => Reader.u1 >>= fun lo => Pure.pure (hi * 256 + lo) : Reader DecodeError Nat) A p = _
  rw [dk_bind (dk_u1 h), dk_bind (dk_u1 h2)]
  rfl
theorem dk_of {code : ByteArray} {pc n : Nat} {i : Instr} (h : Decoder.instr pc code pc = .ok (i, pc + n)) : decode code pc = .ok (i, n) := by
  have e : decode code pc = (match Decoder.instr pc code pc with | .error x => .error x | .ok (j, s) => .ok (j, s - pc)) := by
    show (do let (j, s) ← Decoder.instr pc code pc; Pure.pure (j, s - pc) : Except DecodeError (Instr × Nat)) = _
    cases Decoder.instr pc code pc <;> rfl
  rw [e, h]
  show Except.ok (i, pc + n - pc) = _
  rw [Nat.add_sub_cancel_left]
theorem dk_1 {code : ByteArray} {pc : Nat} (h : DkAt code pc [1]) : decode code pc = .ok (.aconst_null, 1) := dk_of ((dk_bind (dk_u1 (h 0 _ rfl))).trans rfl)
theorem dk_2 {code : ByteArray} {pc : Nat} (h : DkAt code pc [2]) : decode code pc = .ok (.iconst (-1), 1) := dk_of ((dk_bind (dk_u1 (h 0 _ rfl))).trans rfl)
theorem dk_3 {code : ByteArray} {pc : Nat} (h : DkAt code pc [3]) : decode code pc = .ok (.iconst 0, 1) := dk_of ((dk_bind (dk_u1 (h 0 _ rfl))).trans rfl)
theorem dk_4 {code : ByteArray} {pc : Nat} (h : DkAt code pc [4]) : decode code pc = .ok (.iconst 1, 1) := dk_of ((dk_bind (dk_u1 (h 0 _ rfl))).trans rfl)
theorem dk_5 {code : ByteArray} {pc : Nat} (h : DkAt code pc [5]) : decode code pc = .ok (.iconst 2, 1) := dk_of ((dk_bind (dk_u1 (h 0 _ rfl))).trans rfl)
theorem dk_6 {code : ByteArray} {pc : Nat} (h : DkAt code pc [6]) : decode code pc = .ok (.iconst 3, 1) := dk_of ((dk_bind (dk_u1 (h 0 _ rfl))).trans rfl)
theorem dk_7 {code : ByteArray} {pc : Nat} (h : DkAt code pc [7]) : decode code pc = .ok (.iconst 4, 1) := dk_of ((dk_bind (dk_u1 (h 0 _ rfl))).trans rfl)
theorem dk_8 {code : ByteArray} {pc : Nat} (h : DkAt code pc [8]) : decode code pc = .ok (.iconst 5, 1) := dk_of ((dk_bind (dk_u1 (h 0 _ rfl))).trans rfl)
theorem dk_9 {code : ByteArray} {pc : Nat} (h : DkAt code pc [9]) : decode code pc = .ok (.lconst 0, 1) := dk_of ((dk_bind (dk_u1 (h 0 _ rfl))).trans rfl)
theorem dk_10 {code : ByteArray} {pc : Nat} (h : DkAt code pc [10]) : decode code pc = .ok (.lconst 1, 1) := dk_of ((dk_bind (dk_u1 (h 0 _ rfl))).trans rfl)
theorem dk_16 {code : ByteArray} {pc : Nat} (a : UInt8) (h : DkAt code pc [16, a]) : decode code pc = .ok (.bipush (Reader.signed 8 a.toNat), 2) := dk_of ((dk_bind (dk_u1 (h 0 _ rfl))).trans ((dk_bind (dk_map (dk_u1 (h 1 _ rfl)))).trans rfl))
theorem dk_17 {code : ByteArray} {pc : Nat} (a b : UInt8) (h : DkAt code pc [17, a, b]) : decode code pc = .ok (.sipush (Reader.signed 16 (a.toNat * 256 + b.toNat)), 3) := dk_of ((dk_bind (dk_u1 (h 0 _ rfl))).trans ((dk_bind (dk_map (dk_u2 (h 1 _ rfl) (h 2 _ rfl)))).trans rfl))
theorem dk_18 {code : ByteArray} {pc : Nat} (a : UInt8) (h : DkAt code pc [18, a]) : decode code pc = .ok (.ldc a.toNat, 2) := dk_of ((dk_bind (dk_u1 (h 0 _ rfl))).trans ((dk_bind (dk_u1 (h 1 _ rfl))).trans rfl))
theorem dk_19 {code : ByteArray} {pc : Nat} (a b : UInt8) (h : DkAt code pc [19, a, b]) : decode code pc = .ok (.ldc_w (a.toNat * 256 + b.toNat), 3) := dk_of ((dk_bind (dk_u1 (h 0 _ rfl))).trans ((dk_bind (dk_u2 (h 1 _ rfl) (h 2 _ rfl))).trans rfl))
theorem dk_20 {code : ByteArray} {pc : Nat} (a b : UInt8) (h : DkAt code pc [20, a, b]) : decode code pc = .ok (.ldc2_w (a.toNat * 256 + b.toNat), 3) := dk_of ((dk_bind (dk_u1 (h 0 _ rfl))).trans ((dk_bind (dk_u2 (h 1 _ rfl) (h 2 _ rfl))).trans rfl))
theorem dk_21 {code : ByteArray} {pc : Nat} (a : UInt8) (h : DkAt code pc [21, a]) : decode code pc = .ok (.iload a.toNat, 2) := dk_of ((dk_bind (dk_u1 (h 0 _ rfl))).trans ((dk_bind (dk_u1 (h 1 _ rfl))).trans rfl))
theorem dk_22 {code : ByteArray} {pc : Nat} (a : UInt8) (h : DkAt code pc [22, a]) : decode code pc = .ok (.lload a.toNat, 2) := dk_of ((dk_bind (dk_u1 (h 0 _ rfl))).trans ((dk_bind (dk_u1 (h 1 _ rfl))).trans rfl))
theorem dk_25 {code : ByteArray} {pc : Nat} (a : UInt8) (h : DkAt code pc [25, a]) : decode code pc = .ok (.aload a.toNat, 2) := dk_of ((dk_bind (dk_u1 (h 0 _ rfl))).trans ((dk_bind (dk_u1 (h 1 _ rfl))).trans rfl))
theorem dk_26 {code : ByteArray} {pc : Nat} (h : DkAt code pc [26]) : decode code pc = .ok (.iload_n 0, 1) := dk_of ((dk_bind (dk_u1 (h 0 _ rfl))).trans rfl)
theorem dk_27 {code : ByteArray} {pc : Nat} (h : DkAt code pc [27]) : decode code pc = .ok (.iload_n 1, 1) := dk_of ((dk_bind (dk_u1 (h 0 _ rfl))).trans rfl)
theorem dk_28 {code : ByteArray} {pc : Nat} (h : DkAt code pc [28]) : decode code pc = .ok (.iload_n 2, 1) := dk_of ((dk_bind (dk_u1 (h 0 _ rfl))).trans rfl)
theorem dk_29 {code : ByteArray} {pc : Nat} (h : DkAt code pc [29]) : decode code pc = .ok (.iload_n 3, 1) := dk_of ((dk_bind (dk_u1 (h 0 _ rfl))).trans rfl)
theorem dk_30 {code : ByteArray} {pc : Nat} (h : DkAt code pc [30]) : decode code pc = .ok (.lload_n 0, 1) := dk_of ((dk_bind (dk_u1 (h 0 _ rfl))).trans rfl)
theorem dk_31 {code : ByteArray} {pc : Nat} (h : DkAt code pc [31]) : decode code pc = .ok (.lload_n 1, 1) := dk_of ((dk_bind (dk_u1 (h 0 _ rfl))).trans rfl)
theorem dk_32 {code : ByteArray} {pc : Nat} (h : DkAt code pc [32]) : decode code pc = .ok (.lload_n 2, 1) := dk_of ((dk_bind (dk_u1 (h 0 _ rfl))).trans rfl)
theorem dk_33 {code : ByteArray} {pc : Nat} (h : DkAt code pc [33]) : decode code pc = .ok (.lload_n 3, 1) := dk_of ((dk_bind (dk_u1 (h 0 _ rfl))).trans rfl)
theorem dk_42 {code : ByteArray} {pc : Nat} (h : DkAt code pc [42]) : decode code pc = .ok (.aload_n 0, 1) := dk_of ((dk_bind (dk_u1 (h 0 _ rfl))).trans rfl)
theorem dk_43 {code : ByteArray} {pc : Nat} (h : DkAt code pc [43]) : decode code pc = .ok (.aload_n 1, 1) := dk_of ((dk_bind (dk_u1 (h 0 _ rfl))).trans rfl)
theorem dk_44 {code : ByteArray} {pc : Nat} (h : DkAt code pc [44]) : decode code pc = .ok (.aload_n 2, 1) := dk_of ((dk_bind (dk_u1 (h 0 _ rfl))).trans rfl)
theorem dk_45 {code : ByteArray} {pc : Nat} (h : DkAt code pc [45]) : decode code pc = .ok (.aload_n 3, 1) := dk_of ((dk_bind (dk_u1 (h 0 _ rfl))).trans rfl)
theorem dk_46 {code : ByteArray} {pc : Nat} (h : DkAt code pc [46]) : decode code pc = .ok (.iaload, 1) := dk_of ((dk_bind (dk_u1 (h 0 _ rfl))).trans rfl)
theorem dk_47 {code : ByteArray} {pc : Nat} (h : DkAt code pc [47]) : decode code pc = .ok (.laload, 1) := dk_of ((dk_bind (dk_u1 (h 0 _ rfl))).trans rfl)
theorem dk_50 {code : ByteArray} {pc : Nat} (h : DkAt code pc [50]) : decode code pc = .ok (.aaload, 1) := dk_of ((dk_bind (dk_u1 (h 0 _ rfl))).trans rfl)
theorem dk_51 {code : ByteArray} {pc : Nat} (h : DkAt code pc [51]) : decode code pc = .ok (.baload, 1) := dk_of ((dk_bind (dk_u1 (h 0 _ rfl))).trans rfl)
theorem dk_52 {code : ByteArray} {pc : Nat} (h : DkAt code pc [52]) : decode code pc = .ok (.caload, 1) := dk_of ((dk_bind (dk_u1 (h 0 _ rfl))).trans rfl)
theorem dk_53 {code : ByteArray} {pc : Nat} (h : DkAt code pc [53]) : decode code pc = .ok (.saload, 1) := dk_of ((dk_bind (dk_u1 (h 0 _ rfl))).trans rfl)
theorem dk_54 {code : ByteArray} {pc : Nat} (a : UInt8) (h : DkAt code pc [54, a]) : decode code pc = .ok (.istore a.toNat, 2) := dk_of ((dk_bind (dk_u1 (h 0 _ rfl))).trans ((dk_bind (dk_u1 (h 1 _ rfl))).trans rfl))
theorem dk_55 {code : ByteArray} {pc : Nat} (a : UInt8) (h : DkAt code pc [55, a]) : decode code pc = .ok (.lstore a.toNat, 2) := dk_of ((dk_bind (dk_u1 (h 0 _ rfl))).trans ((dk_bind (dk_u1 (h 1 _ rfl))).trans rfl))
theorem dk_58 {code : ByteArray} {pc : Nat} (a : UInt8) (h : DkAt code pc [58, a]) : decode code pc = .ok (.astore a.toNat, 2) := dk_of ((dk_bind (dk_u1 (h 0 _ rfl))).trans ((dk_bind (dk_u1 (h 1 _ rfl))).trans rfl))
theorem dk_59 {code : ByteArray} {pc : Nat} (h : DkAt code pc [59]) : decode code pc = .ok (.istore_n 0, 1) := dk_of ((dk_bind (dk_u1 (h 0 _ rfl))).trans rfl)
theorem dk_60 {code : ByteArray} {pc : Nat} (h : DkAt code pc [60]) : decode code pc = .ok (.istore_n 1, 1) := dk_of ((dk_bind (dk_u1 (h 0 _ rfl))).trans rfl)
theorem dk_61 {code : ByteArray} {pc : Nat} (h : DkAt code pc [61]) : decode code pc = .ok (.istore_n 2, 1) := dk_of ((dk_bind (dk_u1 (h 0 _ rfl))).trans rfl)
theorem dk_62 {code : ByteArray} {pc : Nat} (h : DkAt code pc [62]) : decode code pc = .ok (.istore_n 3, 1) := dk_of ((dk_bind (dk_u1 (h 0 _ rfl))).trans rfl)
theorem dk_63 {code : ByteArray} {pc : Nat} (h : DkAt code pc [63]) : decode code pc = .ok (.lstore_n 0, 1) := dk_of ((dk_bind (dk_u1 (h 0 _ rfl))).trans rfl)
theorem dk_64 {code : ByteArray} {pc : Nat} (h : DkAt code pc [64]) : decode code pc = .ok (.lstore_n 1, 1) := dk_of ((dk_bind (dk_u1 (h 0 _ rfl))).trans rfl)
theorem dk_65 {code : ByteArray} {pc : Nat} (h : DkAt code pc [65]) : decode code pc = .ok (.lstore_n 2, 1) := dk_of ((dk_bind (dk_u1 (h 0 _ rfl))).trans rfl)
theorem dk_66 {code : ByteArray} {pc : Nat} (h : DkAt code pc [66]) : decode code pc = .ok (.lstore_n 3, 1) := dk_of ((dk_bind (dk_u1 (h 0 _ rfl))).trans rfl)
theorem dk_75 {code : ByteArray} {pc : Nat} (h : DkAt code pc [75]) : decode code pc = .ok (.astore_n 0, 1) := dk_of ((dk_bind (dk_u1 (h 0 _ rfl))).trans rfl)
theorem dk_76 {code : ByteArray} {pc : Nat} (h : DkAt code pc [76]) : decode code pc = .ok (.astore_n 1, 1) := dk_of ((dk_bind (dk_u1 (h 0 _ rfl))).trans rfl)
theorem dk_77 {code : ByteArray} {pc : Nat} (h : DkAt code pc [77]) : decode code pc = .ok (.astore_n 2, 1) := dk_of ((dk_bind (dk_u1 (h 0 _ rfl))).trans rfl)
theorem dk_78 {code : ByteArray} {pc : Nat} (h : DkAt code pc [78]) : decode code pc = .ok (.astore_n 3, 1) := dk_of ((dk_bind (dk_u1 (h 0 _ rfl))).trans rfl)
theorem dk_79 {code : ByteArray} {pc : Nat} (h : DkAt code pc [79]) : decode code pc = .ok (.iastore, 1) := dk_of ((dk_bind (dk_u1 (h 0 _ rfl))).trans rfl)
theorem dk_80 {code : ByteArray} {pc : Nat} (h : DkAt code pc [80]) : decode code pc = .ok (.lastore, 1) := dk_of ((dk_bind (dk_u1 (h 0 _ rfl))).trans rfl)
theorem dk_83 {code : ByteArray} {pc : Nat} (h : DkAt code pc [83]) : decode code pc = .ok (.aastore, 1) := dk_of ((dk_bind (dk_u1 (h 0 _ rfl))).trans rfl)
theorem dk_84 {code : ByteArray} {pc : Nat} (h : DkAt code pc [84]) : decode code pc = .ok (.bastore, 1) := dk_of ((dk_bind (dk_u1 (h 0 _ rfl))).trans rfl)
theorem dk_87 {code : ByteArray} {pc : Nat} (h : DkAt code pc [87]) : decode code pc = .ok (.pop, 1) := dk_of ((dk_bind (dk_u1 (h 0 _ rfl))).trans rfl)
theorem dk_89 {code : ByteArray} {pc : Nat} (h : DkAt code pc [89]) : decode code pc = .ok (.dup, 1) := dk_of ((dk_bind (dk_u1 (h 0 _ rfl))).trans rfl)
theorem dk_90 {code : ByteArray} {pc : Nat} (h : DkAt code pc [90]) : decode code pc = .ok (.dup_x1, 1) := dk_of ((dk_bind (dk_u1 (h 0 _ rfl))).trans rfl)
theorem dk_92 {code : ByteArray} {pc : Nat} (h : DkAt code pc [92]) : decode code pc = .ok (.dup2, 1) := dk_of ((dk_bind (dk_u1 (h 0 _ rfl))).trans rfl)
theorem dk_96 {code : ByteArray} {pc : Nat} (h : DkAt code pc [96]) : decode code pc = .ok (.iadd, 1) := dk_of ((dk_bind (dk_u1 (h 0 _ rfl))).trans rfl)
theorem dk_97 {code : ByteArray} {pc : Nat} (h : DkAt code pc [97]) : decode code pc = .ok (.ladd, 1) := dk_of ((dk_bind (dk_u1 (h 0 _ rfl))).trans rfl)
theorem dk_100 {code : ByteArray} {pc : Nat} (h : DkAt code pc [100]) : decode code pc = .ok (.isub, 1) := dk_of ((dk_bind (dk_u1 (h 0 _ rfl))).trans rfl)
theorem dk_101 {code : ByteArray} {pc : Nat} (h : DkAt code pc [101]) : decode code pc = .ok (.lsub, 1) := dk_of ((dk_bind (dk_u1 (h 0 _ rfl))).trans rfl)
theorem dk_104 {code : ByteArray} {pc : Nat} (h : DkAt code pc [104]) : decode code pc = .ok (.imul, 1) := dk_of ((dk_bind (dk_u1 (h 0 _ rfl))).trans rfl)
theorem dk_105 {code : ByteArray} {pc : Nat} (h : DkAt code pc [105]) : decode code pc = .ok (.lmul, 1) := dk_of ((dk_bind (dk_u1 (h 0 _ rfl))).trans rfl)
theorem dk_108 {code : ByteArray} {pc : Nat} (h : DkAt code pc [108]) : decode code pc = .ok (.idiv, 1) := dk_of ((dk_bind (dk_u1 (h 0 _ rfl))).trans rfl)
theorem dk_109 {code : ByteArray} {pc : Nat} (h : DkAt code pc [109]) : decode code pc = .ok (.ldiv, 1) := dk_of ((dk_bind (dk_u1 (h 0 _ rfl))).trans rfl)
theorem dk_112 {code : ByteArray} {pc : Nat} (h : DkAt code pc [112]) : decode code pc = .ok (.irem, 1) := dk_of ((dk_bind (dk_u1 (h 0 _ rfl))).trans rfl)
theorem dk_113 {code : ByteArray} {pc : Nat} (h : DkAt code pc [113]) : decode code pc = .ok (.lrem, 1) := dk_of ((dk_bind (dk_u1 (h 0 _ rfl))).trans rfl)
theorem dk_116 {code : ByteArray} {pc : Nat} (h : DkAt code pc [116]) : decode code pc = .ok (.ineg, 1) := dk_of ((dk_bind (dk_u1 (h 0 _ rfl))).trans rfl)
theorem dk_117 {code : ByteArray} {pc : Nat} (h : DkAt code pc [117]) : decode code pc = .ok (.lneg, 1) := dk_of ((dk_bind (dk_u1 (h 0 _ rfl))).trans rfl)
theorem dk_120 {code : ByteArray} {pc : Nat} (h : DkAt code pc [120]) : decode code pc = .ok (.ishl, 1) := dk_of ((dk_bind (dk_u1 (h 0 _ rfl))).trans rfl)
theorem dk_121 {code : ByteArray} {pc : Nat} (h : DkAt code pc [121]) : decode code pc = .ok (.lshl, 1) := dk_of ((dk_bind (dk_u1 (h 0 _ rfl))).trans rfl)
theorem dk_122 {code : ByteArray} {pc : Nat} (h : DkAt code pc [122]) : decode code pc = .ok (.ishr, 1) := dk_of ((dk_bind (dk_u1 (h 0 _ rfl))).trans rfl)
theorem dk_124 {code : ByteArray} {pc : Nat} (h : DkAt code pc [124]) : decode code pc = .ok (.iushr, 1) := dk_of ((dk_bind (dk_u1 (h 0 _ rfl))).trans rfl)
theorem dk_126 {code : ByteArray} {pc : Nat} (h : DkAt code pc [126]) : decode code pc = .ok (.iand, 1) := dk_of ((dk_bind (dk_u1 (h 0 _ rfl))).trans rfl)
theorem dk_127 {code : ByteArray} {pc : Nat} (h : DkAt code pc [127]) : decode code pc = .ok (.land, 1) := dk_of ((dk_bind (dk_u1 (h 0 _ rfl))).trans rfl)
theorem dk_128 {code : ByteArray} {pc : Nat} (h : DkAt code pc [128]) : decode code pc = .ok (.ior, 1) := dk_of ((dk_bind (dk_u1 (h 0 _ rfl))).trans rfl)
theorem dk_129 {code : ByteArray} {pc : Nat} (h : DkAt code pc [129]) : decode code pc = .ok (.lor, 1) := dk_of ((dk_bind (dk_u1 (h 0 _ rfl))).trans rfl)
theorem dk_132 {code : ByteArray} {pc : Nat} (a b : UInt8) (h : DkAt code pc [132, a, b]) : decode code pc = .ok (.iinc a.toNat (Reader.signed 8 b.toNat), 3) := dk_of ((dk_bind (dk_u1 (h 0 _ rfl))).trans ((dk_bind (dk_u1 (h 1 _ rfl))).trans ((dk_bind (dk_map (dk_u1 (h 2 _ rfl)))).trans rfl)))
theorem dk_133 {code : ByteArray} {pc : Nat} (h : DkAt code pc [133]) : decode code pc = .ok (.i2l, 1) := dk_of ((dk_bind (dk_u1 (h 0 _ rfl))).trans rfl)
theorem dk_136 {code : ByteArray} {pc : Nat} (h : DkAt code pc [136]) : decode code pc = .ok (.l2i, 1) := dk_of ((dk_bind (dk_u1 (h 0 _ rfl))).trans rfl)
theorem dk_145 {code : ByteArray} {pc : Nat} (h : DkAt code pc [145]) : decode code pc = .ok (.i2b, 1) := dk_of ((dk_bind (dk_u1 (h 0 _ rfl))).trans rfl)
theorem dk_146 {code : ByteArray} {pc : Nat} (h : DkAt code pc [146]) : decode code pc = .ok (.i2c, 1) := dk_of ((dk_bind (dk_u1 (h 0 _ rfl))).trans rfl)
theorem dk_148 {code : ByteArray} {pc : Nat} (h : DkAt code pc [148]) : decode code pc = .ok (.lcmp, 1) := dk_of ((dk_bind (dk_u1 (h 0 _ rfl))).trans rfl)
theorem dk_153 {code : ByteArray} {pc : Nat} (a b : UInt8) (h : DkAt code pc [153, a, b]) : decode code pc = .ok (.ifCond .eq (Reader.signed 16 (a.toNat * 256 + b.toNat)), 3) := dk_of ((dk_bind (dk_u1 (h 0 _ rfl))).trans ((dk_bind (dk_map (dk_u2 (h 1 _ rfl) (h 2 _ rfl)))).trans rfl))
theorem dk_154 {code : ByteArray} {pc : Nat} (a b : UInt8) (h : DkAt code pc [154, a, b]) : decode code pc = .ok (.ifCond .ne (Reader.signed 16 (a.toNat * 256 + b.toNat)), 3) := dk_of ((dk_bind (dk_u1 (h 0 _ rfl))).trans ((dk_bind (dk_map (dk_u2 (h 1 _ rfl) (h 2 _ rfl)))).trans rfl))
theorem dk_155 {code : ByteArray} {pc : Nat} (a b : UInt8) (h : DkAt code pc [155, a, b]) : decode code pc = .ok (.ifCond .lt (Reader.signed 16 (a.toNat * 256 + b.toNat)), 3) := dk_of ((dk_bind (dk_u1 (h 0 _ rfl))).trans ((dk_bind (dk_map (dk_u2 (h 1 _ rfl) (h 2 _ rfl)))).trans rfl))
theorem dk_156 {code : ByteArray} {pc : Nat} (a b : UInt8) (h : DkAt code pc [156, a, b]) : decode code pc = .ok (.ifCond .ge (Reader.signed 16 (a.toNat * 256 + b.toNat)), 3) := dk_of ((dk_bind (dk_u1 (h 0 _ rfl))).trans ((dk_bind (dk_map (dk_u2 (h 1 _ rfl) (h 2 _ rfl)))).trans rfl))
theorem dk_157 {code : ByteArray} {pc : Nat} (a b : UInt8) (h : DkAt code pc [157, a, b]) : decode code pc = .ok (.ifCond .gt (Reader.signed 16 (a.toNat * 256 + b.toNat)), 3) := dk_of ((dk_bind (dk_u1 (h 0 _ rfl))).trans ((dk_bind (dk_map (dk_u2 (h 1 _ rfl) (h 2 _ rfl)))).trans rfl))
theorem dk_158 {code : ByteArray} {pc : Nat} (a b : UInt8) (h : DkAt code pc [158, a, b]) : decode code pc = .ok (.ifCond .le (Reader.signed 16 (a.toNat * 256 + b.toNat)), 3) := dk_of ((dk_bind (dk_u1 (h 0 _ rfl))).trans ((dk_bind (dk_map (dk_u2 (h 1 _ rfl) (h 2 _ rfl)))).trans rfl))
theorem dk_159 {code : ByteArray} {pc : Nat} (a b : UInt8) (h : DkAt code pc [159, a, b]) : decode code pc = .ok (.if_icmp .eq (Reader.signed 16 (a.toNat * 256 + b.toNat)), 3) := dk_of ((dk_bind (dk_u1 (h 0 _ rfl))).trans ((dk_bind (dk_map (dk_u2 (h 1 _ rfl) (h 2 _ rfl)))).trans rfl))
theorem dk_160 {code : ByteArray} {pc : Nat} (a b : UInt8) (h : DkAt code pc [160, a, b]) : decode code pc = .ok (.if_icmp .ne (Reader.signed 16 (a.toNat * 256 + b.toNat)), 3) := dk_of ((dk_bind (dk_u1 (h 0 _ rfl))).trans ((dk_bind (dk_map (dk_u2 (h 1 _ rfl) (h 2 _ rfl)))).trans rfl))
theorem dk_161 {code : ByteArray} {pc : Nat} (a b : UInt8) (h : DkAt code pc [161, a, b]) : decode code pc = .ok (.if_icmp .lt (Reader.signed 16 (a.toNat * 256 + b.toNat)), 3) := dk_of ((dk_bind (dk_u1 (h 0 _ rfl))).trans ((dk_bind (dk_map (dk_u2 (h 1 _ rfl) (h 2 _ rfl)))).trans rfl))
theorem dk_162 {code : ByteArray} {pc : Nat} (a b : UInt8) (h : DkAt code pc [162, a, b]) : decode code pc = .ok (.if_icmp .ge (Reader.signed 16 (a.toNat * 256 + b.toNat)), 3) := dk_of ((dk_bind (dk_u1 (h 0 _ rfl))).trans ((dk_bind (dk_map (dk_u2 (h 1 _ rfl) (h 2 _ rfl)))).trans rfl))
theorem dk_163 {code : ByteArray} {pc : Nat} (a b : UInt8) (h : DkAt code pc [163, a, b]) : decode code pc = .ok (.if_icmp .gt (Reader.signed 16 (a.toNat * 256 + b.toNat)), 3) := dk_of ((dk_bind (dk_u1 (h 0 _ rfl))).trans ((dk_bind (dk_map (dk_u2 (h 1 _ rfl) (h 2 _ rfl)))).trans rfl))
theorem dk_164 {code : ByteArray} {pc : Nat} (a b : UInt8) (h : DkAt code pc [164, a, b]) : decode code pc = .ok (.if_icmp .le (Reader.signed 16 (a.toNat * 256 + b.toNat)), 3) := dk_of ((dk_bind (dk_u1 (h 0 _ rfl))).trans ((dk_bind (dk_map (dk_u2 (h 1 _ rfl) (h 2 _ rfl)))).trans rfl))
theorem dk_166 {code : ByteArray} {pc : Nat} (a b : UInt8) (h : DkAt code pc [166, a, b]) : decode code pc = .ok (.if_acmp .ne (Reader.signed 16 (a.toNat * 256 + b.toNat)), 3) := dk_of ((dk_bind (dk_u1 (h 0 _ rfl))).trans ((dk_bind (dk_map (dk_u2 (h 1 _ rfl) (h 2 _ rfl)))).trans rfl))
theorem dk_167 {code : ByteArray} {pc : Nat} (a b : UInt8) (h : DkAt code pc [167, a, b]) : decode code pc = .ok (.goto (Reader.signed 16 (a.toNat * 256 + b.toNat)), 3) := dk_of ((dk_bind (dk_u1 (h 0 _ rfl))).trans ((dk_bind (dk_map (dk_u2 (h 1 _ rfl) (h 2 _ rfl)))).trans rfl))
theorem dk_172 {code : ByteArray} {pc : Nat} (h : DkAt code pc [172]) : decode code pc = .ok (.ireturn, 1) := dk_of ((dk_bind (dk_u1 (h 0 _ rfl))).trans rfl)
theorem dk_173 {code : ByteArray} {pc : Nat} (h : DkAt code pc [173]) : decode code pc = .ok (.lreturn, 1) := dk_of ((dk_bind (dk_u1 (h 0 _ rfl))).trans rfl)
theorem dk_176 {code : ByteArray} {pc : Nat} (h : DkAt code pc [176]) : decode code pc = .ok (.areturn, 1) := dk_of ((dk_bind (dk_u1 (h 0 _ rfl))).trans rfl)
theorem dk_177 {code : ByteArray} {pc : Nat} (h : DkAt code pc [177]) : decode code pc = .ok (.return_, 1) := dk_of ((dk_bind (dk_u1 (h 0 _ rfl))).trans rfl)
theorem dk_178 {code : ByteArray} {pc : Nat} (a b : UInt8) (h : DkAt code pc [178, a, b]) : decode code pc = .ok (.getstatic (a.toNat * 256 + b.toNat), 3) := dk_of ((dk_bind (dk_u1 (h 0 _ rfl))).trans ((dk_bind (dk_u2 (h 1 _ rfl) (h 2 _ rfl))).trans rfl))
theorem dk_180 {code : ByteArray} {pc : Nat} (a b : UInt8) (h : DkAt code pc [180, a, b]) : decode code pc = .ok (.getfield (a.toNat * 256 + b.toNat), 3) := dk_of ((dk_bind (dk_u1 (h 0 _ rfl))).trans ((dk_bind (dk_u2 (h 1 _ rfl) (h 2 _ rfl))).trans rfl))
theorem dk_181 {code : ByteArray} {pc : Nat} (a b : UInt8) (h : DkAt code pc [181, a, b]) : decode code pc = .ok (.putfield (a.toNat * 256 + b.toNat), 3) := dk_of ((dk_bind (dk_u1 (h 0 _ rfl))).trans ((dk_bind (dk_u2 (h 1 _ rfl) (h 2 _ rfl))).trans rfl))
theorem dk_182 {code : ByteArray} {pc : Nat} (a b : UInt8) (h : DkAt code pc [182, a, b]) : decode code pc = .ok (.invokevirtual (a.toNat * 256 + b.toNat), 3) := dk_of ((dk_bind (dk_u1 (h 0 _ rfl))).trans ((dk_bind (dk_u2 (h 1 _ rfl) (h 2 _ rfl))).trans rfl))
theorem dk_183 {code : ByteArray} {pc : Nat} (a b : UInt8) (h : DkAt code pc [183, a, b]) : decode code pc = .ok (.invokespecial (a.toNat * 256 + b.toNat), 3) := dk_of ((dk_bind (dk_u1 (h 0 _ rfl))).trans ((dk_bind (dk_u2 (h 1 _ rfl) (h 2 _ rfl))).trans rfl))
theorem dk_184 {code : ByteArray} {pc : Nat} (a b : UInt8) (h : DkAt code pc [184, a, b]) : decode code pc = .ok (.invokestatic (a.toNat * 256 + b.toNat), 3) := dk_of ((dk_bind (dk_u1 (h 0 _ rfl))).trans ((dk_bind (dk_u2 (h 1 _ rfl) (h 2 _ rfl))).trans rfl))
theorem dk_187 {code : ByteArray} {pc : Nat} (a b : UInt8) (h : DkAt code pc [187, a, b]) : decode code pc = .ok (.new (a.toNat * 256 + b.toNat), 3) := dk_of ((dk_bind (dk_u1 (h 0 _ rfl))).trans ((dk_bind (dk_u2 (h 1 _ rfl) (h 2 _ rfl))).trans rfl))
theorem dk_188_8 {code : ByteArray} {pc : Nat} (h : DkAt code pc [188, 8]) : decode code pc = .ok (.newarray .byte, 2) := dk_of ((dk_bind (dk_u1 (h 0 _ rfl))).trans ((dk_bind (dk_u1 (h 1 _ rfl))).trans rfl))
theorem dk_188_10 {code : ByteArray} {pc : Nat} (h : DkAt code pc [188, 10]) : decode code pc = .ok (.newarray .int, 2) := dk_of ((dk_bind (dk_u1 (h 0 _ rfl))).trans ((dk_bind (dk_u1 (h 1 _ rfl))).trans rfl))
theorem dk_188_11 {code : ByteArray} {pc : Nat} (h : DkAt code pc [188, 11]) : decode code pc = .ok (.newarray .long, 2) := dk_of ((dk_bind (dk_u1 (h 0 _ rfl))).trans ((dk_bind (dk_u1 (h 1 _ rfl))).trans rfl))
theorem dk_189 {code : ByteArray} {pc : Nat} (a b : UInt8) (h : DkAt code pc [189, a, b]) : decode code pc = .ok (.anewarray (a.toNat * 256 + b.toNat), 3) := dk_of ((dk_bind (dk_u1 (h 0 _ rfl))).trans ((dk_bind (dk_u2 (h 1 _ rfl) (h 2 _ rfl))).trans rfl))
theorem dk_190 {code : ByteArray} {pc : Nat} (h : DkAt code pc [190]) : decode code pc = .ok (.arraylength, 1) := dk_of ((dk_bind (dk_u1 (h 0 _ rfl))).trans rfl)
theorem dk_191 {code : ByteArray} {pc : Nat} (h : DkAt code pc [191]) : decode code pc = .ok (.athrow, 1) := dk_of ((dk_bind (dk_u1 (h 0 _ rfl))).trans rfl)
theorem dk_192 {code : ByteArray} {pc : Nat} (a b : UInt8) (h : DkAt code pc [192, a, b]) : decode code pc = .ok (.checkcast (a.toNat * 256 + b.toNat), 3) := dk_of ((dk_bind (dk_u1 (h 0 _ rfl))).trans ((dk_bind (dk_u2 (h 1 _ rfl) (h 2 _ rfl))).trans rfl))
theorem dk_193 {code : ByteArray} {pc : Nat} (a b : UInt8) (h : DkAt code pc [193, a, b]) : decode code pc = .ok (.instanceof (a.toNat * 256 + b.toNat), 3) := dk_of ((dk_bind (dk_u1 (h 0 _ rfl))).trans ((dk_bind (dk_u2 (h 1 _ rfl) (h 2 _ rfl))).trans rfl))
theorem dk_199 {code : ByteArray} {pc : Nat} (a b : UInt8) (h : DkAt code pc [199, a, b]) : decode code pc = .ok (.ifnonnull (Reader.signed 16 (a.toNat * 256 + b.toNat)), 3) := dk_of ((dk_bind (dk_u1 (h 0 _ rfl))).trans ((dk_bind (dk_map (dk_u2 (h 1 _ rfl) (h 2 _ rfl)))).trans rfl))

theorem q173 : (Jvm.Cond.arrayClass Jvm.ClassFile.FieldType.int) ∈ lw_all := lw_g (lw_at lw_m1 105 rfl) rfl
set_option maxRecDepth 100000
theorem q189 : (Jvm.Cond.arrayClass Jvm.ClassFile.FieldType.long) ∈ lw_all := lw_g (lw_at lw_m1 121 rfl) rfl
theorem q202 : (Jvm.Cond.arrayOver (Jvm.ClassFile.FieldType.object "LineEchoes$Bench")) ∈ lw_tbl := lw_at lw_m1 134 rfl
theorem q240 : (Jvm.Cond.arrayClass Jvm.ClassFile.FieldType.byte) ∈ lw_all := lw_g (lw_at lw_m1 172 rfl) rfl
theorem q1796 : (Jvm.Cond.arrayClass Jvm.ClassFile.FieldType.char) ∈ lw_all := lw_g (lw_at lw_m8 48 rfl) rfl
theorem q1797 : (Jvm.Cond.arrayClass Jvm.ClassFile.FieldType.short) ∈ lw_all := lw_g (lw_at lw_m8 49 rfl) rfl

theorem q75 : (Jvm.Cond.initialized "java/lang/System") ∈ lw_all := lw_g (lw_at lw_m1 7 rfl) rfl
set_option maxRecDepth 100000
theorem q277 : (Jvm.Cond.static ({ cls := "java/lang/System", name := "arraycopy", desc := "(Ljava/lang/Object;ILjava/lang/Object;II)V" } : Jvm.MethodName)) ∈ lw_all := lw_g (lw_at lw_m1 209 rfl) rfl
theorem q278 : (Jvm.Cond.native ({ cls := "java/lang/System", name := "arraycopy", desc := "(Ljava/lang/Object;ILjava/lang/Object;II)V" } : Jvm.MethodName)) ∈ lw_all := lw_g (lw_at lw_m1 210 rfl) rfl

theorem q90 : (Jvm.Cond.initialized "java/lang/Number") ∈ lw_all := lw_g (lw_at lw_m1 22 rfl) rfl
set_option maxRecDepth 100000

theorem q555 : (Jvm.Cond.sameMethod "[B" "java/lang/Object" "clone" "()Ljava/lang/Object;") ∈ lw_all := lw_g (lw_at lw_m3 7 rfl) rfl
set_option maxRecDepth 100000
theorem q558 : (Jvm.Cond.selects "[B" ({ cls := "[B", name := "clone", desc := "()Ljava/lang/Object;" } : Jvm.MethodName) ({ cls := "java/lang/Object", name := "clone", desc := "()Ljava/lang/Object;" } : Jvm.MethodName)) ∈ lw_all := lw_g (lw_at lw_m3 10 rfl) rfl
theorem q559 : (Jvm.Cond.castable "[B" "java/lang/Cloneable") ∈ lw_tbl := lw_at lw_m3 11 rfl

/-! java/lang/Object -/
set_option maxRecDepth 100000
def RJ18 : String := "java/lang/Object"
abbrev cJ18_init : ByteArray := object_method_1_code
def yJ18_init : MethodName := ⟨RJ18, "<init>", "()V"⟩
theorem dJ18_init_0 : decode cJ18_init 0 = .ok (.return_, 1) := by decide +kernel
theorem q104 : (Jvm.Cond.instanceMethod ({ cls := "java/lang/Object", name := "<init>", desc := "()V" } : Jvm.MethodName)) ∈ lw_all := lw_g (lw_at lw_m1 36 rfl) rfl
theorem q105 : (Jvm.Cond.code ({ cls := "java/lang/Object", name := "<init>", desc := "()V" } : Jvm.MethodName) object_method_1_code (1 : Nat) (Option.none : Option Jvm.ClassFile.FieldType)) ∈ lw_all := lw_g (lw_at lw_m1 37 rfl) rfl
theorem q556 : (Jvm.Cond.native ({ cls := "java/lang/Object", name := "clone", desc := "()Ljava/lang/Object;" } : Jvm.MethodName)) ∈ lw_all := lw_g (lw_at lw_m3 8 rfl) rfl
theorem q557 : (Jvm.Cond.instanceMethod ({ cls := "java/lang/Object", name := "clone", desc := "()Ljava/lang/Object;" } : Jvm.MethodName)) ∈ lw_all := lw_g (lw_at lw_m3 9 rfl) rfl
theorem q1794 : (Jvm.Cond.initialized "java/lang/Object") ∈ lw_all := lw_g (lw_at lw_m8 46 rfl) rfl

/-! java/lang/Math -/
set_option maxRecDepth 100000
def RJ9 : String := "java/lang/Math"
abbrev cJ9_max : ByteArray := prog_20_method_65_code
def yJ9_max : MethodName := ⟨RJ9, "max", "(II)I"⟩
def dkwJ9_max_0 : List UInt8 := [26, 27, 161, 0, 7, 26, 167, 0, 4, 27, 172]
abbrev dktJ9_max_0 : List UInt8 := dkwJ9_max_0 ++ []
theorem dksJ9_max_0 : cJ9_max.data.toList.drop 0 = dktJ9_max_0 := by decide +kernel
theorem dJ9_max_0 : decode cJ9_max 0 = .ok (.iload_n 0, 1) := dk_26 (dk_at dksJ9_max_0 0 rfl rfl)
theorem dJ9_max_1 : decode cJ9_max 1 = .ok (.iload_n 1, 1) := dk_27 (dk_at dksJ9_max_0 1 rfl rfl)
theorem dJ9_max_2 : decode cJ9_max 2 = .ok (.if_icmp .lt 7, 3) := dk_161 0 7 (dk_at dksJ9_max_0 2 rfl rfl)
theorem dJ9_max_5 : decode cJ9_max 5 = .ok (.iload_n 0, 1) := dk_26 (dk_at dksJ9_max_0 5 rfl rfl)
theorem dJ9_max_6 : decode cJ9_max 6 = .ok (.goto 4, 3) := dk_167 0 4 (dk_at dksJ9_max_0 6 rfl rfl)
theorem dJ9_max_9 : decode cJ9_max 9 = .ok (.iload_n 1, 1) := dk_27 (dk_at dksJ9_max_0 9 rfl rfl)
theorem dJ9_max_10 : decode cJ9_max 10 = .ok (.ireturn, 1) := dk_172 (dk_at dksJ9_max_0 10 rfl rfl)
abbrev cJ9_min : ByteArray := prog_20_method_69_code
def yJ9_min : MethodName := ⟨RJ9, "min", "(II)I"⟩
def dkwJ9_min_0 : List UInt8 := [26, 27, 163, 0, 7, 26, 167, 0, 4, 27, 172]
abbrev dktJ9_min_0 : List UInt8 := dkwJ9_min_0 ++ []
theorem dksJ9_min_0 : cJ9_min.data.toList.drop 0 = dktJ9_min_0 := by decide +kernel
theorem dJ9_min_0 : decode cJ9_min 0 = .ok (.iload_n 0, 1) := dk_26 (dk_at dksJ9_min_0 0 rfl rfl)
theorem dJ9_min_1 : decode cJ9_min 1 = .ok (.iload_n 1, 1) := dk_27 (dk_at dksJ9_min_0 1 rfl rfl)
theorem dJ9_min_2 : decode cJ9_min 2 = .ok (.if_icmp .gt 7, 3) := dk_163 0 7 (dk_at dksJ9_min_0 2 rfl rfl)
theorem dJ9_min_5 : decode cJ9_min 5 = .ok (.iload_n 0, 1) := dk_26 (dk_at dksJ9_min_0 5 rfl rfl)
theorem dJ9_min_6 : decode cJ9_min 6 = .ok (.goto 4, 3) := dk_167 0 4 (dk_at dksJ9_min_0 6 rfl rfl)
theorem dJ9_min_9 : decode cJ9_min 9 = .ok (.iload_n 1, 1) := dk_27 (dk_at dksJ9_min_0 9 rfl rfl)
theorem dJ9_min_10 : decode cJ9_min 10 = .ok (.ireturn, 1) := dk_172 (dk_at dksJ9_min_0 10 rfl rfl)
abbrev cJ9_max_2 : ByteArray := prog_20_method_66_code
def yJ9_max_2 : MethodName := ⟨RJ9, "max", "(JJ)J"⟩
def dkwJ9_max_2_0 : List UInt8 := [30, 32, 148, 155, 0, 7, 30, 167, 0, 4, 32, 173]
abbrev dktJ9_max_2_0 : List UInt8 := dkwJ9_max_2_0 ++ []
theorem dksJ9_max_2_0 : cJ9_max_2.data.toList.drop 0 = dktJ9_max_2_0 := by decide +kernel
theorem dJ9_max_2_0 : decode cJ9_max_2 0 = .ok (.lload_n 0, 1) := dk_30 (dk_at dksJ9_max_2_0 0 rfl rfl)
theorem dJ9_max_2_1 : decode cJ9_max_2 1 = .ok (.lload_n 2, 1) := dk_32 (dk_at dksJ9_max_2_0 1 rfl rfl)
theorem dJ9_max_2_2 : decode cJ9_max_2 2 = .ok (.lcmp, 1) := dk_148 (dk_at dksJ9_max_2_0 2 rfl rfl)
theorem dJ9_max_2_3 : decode cJ9_max_2 3 = .ok (.ifCond .lt 7, 3) := dk_155 0 7 (dk_at dksJ9_max_2_0 3 rfl rfl)
theorem dJ9_max_2_6 : decode cJ9_max_2 6 = .ok (.lload_n 0, 1) := dk_30 (dk_at dksJ9_max_2_0 6 rfl rfl)
theorem dJ9_max_2_7 : decode cJ9_max_2 7 = .ok (.goto 4, 3) := dk_167 0 4 (dk_at dksJ9_max_2_0 7 rfl rfl)
theorem dJ9_max_2_10 : decode cJ9_max_2 10 = .ok (.lload_n 2, 1) := dk_32 (dk_at dksJ9_max_2_0 10 rfl rfl)
theorem dJ9_max_2_11 : decode cJ9_max_2 11 = .ok (.lreturn, 1) := dk_173 (dk_at dksJ9_max_2_0 11 rfl rfl)
theorem q86 : (Jvm.Cond.initialized "java/lang/Math") ∈ lw_all := lw_g (lw_at lw_m1 18 rfl) rfl
theorem q544 : (Jvm.Cond.static ({ cls := "java/lang/Math", name := "max", desc := "(II)I" } : Jvm.MethodName)) ∈ lw_all := lw_g (lw_at lw_m2 236 rfl) rfl
theorem q545 : (Jvm.Cond.code ({ cls := "java/lang/Math", name := "max", desc := "(II)I" } : Jvm.MethodName) prog_20_method_65_code (2 : Nat) (Option.some Jvm.ClassFile.FieldType.int)) ∈ lw_all := lw_g (lw_at lw_m2 237 rfl) rfl
theorem q562 : (Jvm.Cond.static ({ cls := "java/lang/Math", name := "min", desc := "(II)I" } : Jvm.MethodName)) ∈ lw_all := lw_g (lw_at lw_m3 14 rfl) rfl
theorem q563 : (Jvm.Cond.code ({ cls := "java/lang/Math", name := "min", desc := "(II)I" } : Jvm.MethodName) prog_20_method_69_code (2 : Nat) (Option.some Jvm.ClassFile.FieldType.int)) ∈ lw_all := lw_g (lw_at lw_m3 15 rfl) rfl
theorem q1053 : (Jvm.Cond.static ({ cls := "java/lang/Math", name := "max", desc := "(JJ)J" } : Jvm.MethodName)) ∈ lw_all := lw_g (lw_at lw_m5 25 rfl) rfl
theorem q1054 : (Jvm.Cond.code ({ cls := "java/lang/Math", name := "max", desc := "(JJ)J" } : Jvm.MethodName) prog_20_method_66_code (4 : Nat) (Option.some Jvm.ClassFile.FieldType.long)) ∈ lw_all := lw_g (lw_at lw_m5 26 rfl) rfl

/-! LineEchoes$Line -/
set_option maxRecDepth 100000
def RX3 : String := "LineEchoes$Line"
def TX3 : u_T := fun k => match k with
  | 0 => ("LineEchoes$Line", "lengths", "[I", true)
  | 1 => ("LineEchoes$Line", "fractions", "[I", true)
  | 2 => ("LineEchoes$Line", "n", "I", false)
  | 3 => ("LineEchoes$Line", "pulseTimes", "[I", true)
  | 4 => ("LineEchoes$Line", "pulseEnergies", "[I", true)
  | 5 => ("LineEchoes$Line", "pulses", "I", false)
  | 6 => ("LineEchoes$Line", "front", "I", false)
  | 7 => ("LineEchoes$Line", "least", "I", false)
  | _ => ("LineEchoes$Line", "window", "I", false)
def tyX3 : Nat → FieldType := fun k => match k with
  | 0 => .array .int
  | 1 => .array .int
  | 2 => .int
  | 3 => .array .int
  | 4 => .array .int
  | 5 => .int
  | 6 => .int
  | 7 => .int
  | _ => .int
abbrev wsX30 : List Cond := u_ws RX3 TX3 9
theorem nmX3 : ∀ a, a < 9 → ∀ b, b < 9 → a ≠ b → (TX3 a).2.1 ≠ (TX3 b).2.1 := by decide +kernel
theorem tyX3_ok : ∀ k, k < 9 → parseFieldDescriptor (TX3 k).2.2.1 = some (tyX3 k) := by decide +kernel
abbrev cX3_first : ByteArray := prog_5_method_2_code
def yX3_first : MethodName := ⟨RX3, "first", "()LLineEchoes$Line;"⟩
def dkwX3_first_0 : List UInt8 := [187, 0, 10, 89, 183, 0, 31, 75, 42, 3, 18, 32, 182, 0, 33, 42, 176]
abbrev dktX3_first_0 : List UInt8 := dkwX3_first_0 ++ []
theorem dksX3_first_0 : cX3_first.data.toList.drop 0 = dktX3_first_0 := by decide +kernel
theorem dX3_first_0 : decode cX3_first 0 = .ok (.new 10, 3) := dk_187 0 10 (dk_at dksX3_first_0 0 rfl rfl)
theorem dX3_first_3 : decode cX3_first 3 = .ok (.dup, 1) := dk_89 (dk_at dksX3_first_0 3 rfl rfl)
theorem dX3_first_4 : decode cX3_first 4 = .ok (.invokespecial 31, 3) := dk_183 0 31 (dk_at dksX3_first_0 4 rfl rfl)
theorem dX3_first_7 : decode cX3_first 7 = .ok (.astore_n 0, 1) := dk_75 (dk_at dksX3_first_0 7 rfl rfl)
theorem dX3_first_8 : decode cX3_first 8 = .ok (.aload_n 0, 1) := dk_42 (dk_at dksX3_first_0 8 rfl rfl)
theorem dX3_first_9 : decode cX3_first 9 = .ok (.iconst 0, 1) := dk_3 (dk_at dksX3_first_0 9 rfl rfl)
theorem dX3_first_10 : decode cX3_first 10 = .ok (.ldc 32, 2) := dk_18 32 (dk_at dksX3_first_0 10 rfl rfl)
theorem dX3_first_12 : decode cX3_first 12 = .ok (.invokevirtual 33, 3) := dk_182 0 33 (dk_at dksX3_first_0 12 rfl rfl)
theorem dX3_first_15 : decode cX3_first 15 = .ok (.aload_n 0, 1) := dk_42 (dk_at dksX3_first_0 15 rfl rfl)
theorem dX3_first_16 : decode cX3_first 16 = .ok (.areturn, 1) := dk_176 (dk_at dksX3_first_0 16 rfl rfl)
abbrev cX3_init : ByteArray := prog_5_method_1_code
def yX3_init : MethodName := ⟨RX3, "<init>", "()V"⟩
def dkwX3_init_1 : List UInt8 := [181, 0, 18, 42, 7, 188, 10, 181, 0, 21, 42, 4, 181, 0, 24, 42, 16, 100, 181, 0, 28, 177]
abbrev dktX3_init_1 : List UInt8 := dkwX3_init_1 ++ []
def dkwX3_init_0 : List UInt8 := [42, 183, 0, 3, 42, 16, 8, 188, 10, 181, 0, 9, 42, 16, 8, 188, 10, 181, 0, 15, 42, 7, 188, 10]
abbrev dktX3_init_0 : List UInt8 := dkwX3_init_0 ++ dktX3_init_1
theorem dksX3_init_0 : cX3_init.data.toList.drop 0 = dktX3_init_0 := by decide +kernel
theorem dksX3_init_1 : cX3_init.data.toList.drop 24 = dktX3_init_1 := dk_seg dksX3_init_0 24 rfl rfl
theorem dX3_init_0 : decode cX3_init 0 = .ok (.aload_n 0, 1) := dk_42 (dk_at dksX3_init_0 0 rfl rfl)
theorem dX3_init_1 : decode cX3_init 1 = .ok (.invokespecial 3, 3) := dk_183 0 3 (dk_at dksX3_init_0 1 rfl rfl)
theorem dX3_init_4 : decode cX3_init 4 = .ok (.aload_n 0, 1) := dk_42 (dk_at dksX3_init_0 4 rfl rfl)
theorem dX3_init_5 : decode cX3_init 5 = .ok (.bipush 8, 2) := dk_16 8 (dk_at dksX3_init_0 5 rfl rfl)
theorem dX3_init_7 : decode cX3_init 7 = .ok (.newarray .int, 2) := dk_188_10 (dk_at dksX3_init_0 7 rfl rfl)
theorem dX3_init_9 : decode cX3_init 9 = .ok (.putfield 9, 3) := dk_181 0 9 (dk_at dksX3_init_0 9 rfl rfl)
theorem dX3_init_12 : decode cX3_init 12 = .ok (.aload_n 0, 1) := dk_42 (dk_at dksX3_init_0 12 rfl rfl)
theorem dX3_init_13 : decode cX3_init 13 = .ok (.bipush 8, 2) := dk_16 8 (dk_at dksX3_init_0 13 rfl rfl)
theorem dX3_init_15 : decode cX3_init 15 = .ok (.newarray .int, 2) := dk_188_10 (dk_at dksX3_init_0 15 rfl rfl)
theorem dX3_init_17 : decode cX3_init 17 = .ok (.putfield 15, 3) := dk_181 0 15 (dk_at dksX3_init_0 17 rfl rfl)
theorem dX3_init_20 : decode cX3_init 20 = .ok (.aload_n 0, 1) := dk_42 (dk_at dksX3_init_0 20 rfl rfl)
theorem dX3_init_21 : decode cX3_init 21 = .ok (.iconst 4, 1) := dk_7 (dk_at dksX3_init_0 21 rfl rfl)
theorem dX3_init_22 : decode cX3_init 22 = .ok (.newarray .int, 2) := dk_188_10 (dk_at dksX3_init_0 22 rfl rfl)
theorem dX3_init_24 : decode cX3_init 24 = .ok (.putfield 18, 3) := dk_181 0 18 (dk_at dksX3_init_1 0 rfl rfl)
theorem dX3_init_27 : decode cX3_init 27 = .ok (.aload_n 0, 1) := dk_42 (dk_at dksX3_init_1 3 rfl rfl)
theorem dX3_init_28 : decode cX3_init 28 = .ok (.iconst 4, 1) := dk_7 (dk_at dksX3_init_1 4 rfl rfl)
theorem dX3_init_29 : decode cX3_init 29 = .ok (.newarray .int, 2) := dk_188_10 (dk_at dksX3_init_1 5 rfl rfl)
theorem dX3_init_31 : decode cX3_init 31 = .ok (.putfield 21, 3) := dk_181 0 21 (dk_at dksX3_init_1 7 rfl rfl)
theorem dX3_init_34 : decode cX3_init 34 = .ok (.aload_n 0, 1) := dk_42 (dk_at dksX3_init_1 10 rfl rfl)
theorem dX3_init_35 : decode cX3_init 35 = .ok (.iconst 1, 1) := dk_4 (dk_at dksX3_init_1 11 rfl rfl)
theorem dX3_init_36 : decode cX3_init 36 = .ok (.putfield 24, 3) := dk_181 0 24 (dk_at dksX3_init_1 12 rfl rfl)
theorem dX3_init_39 : decode cX3_init 39 = .ok (.aload_n 0, 1) := dk_42 (dk_at dksX3_init_1 15 rfl rfl)
theorem dX3_init_40 : decode cX3_init 40 = .ok (.bipush 100, 2) := dk_16 100 (dk_at dksX3_init_1 16 rfl rfl)
theorem dX3_init_42 : decode cX3_init 42 = .ok (.putfield 28, 3) := dk_181 0 28 (dk_at dksX3_init_1 18 rfl rfl)
theorem dX3_init_45 : decode cX3_init 45 = .ok (.return_, 1) := dk_177 (dk_at dksX3_init_1 21 rfl rfl)
abbrev cX3_addPulse : ByteArray := prog_5_method_6_code
def yX3_addPulse : MethodName := ⟨RX3, "addPulse", "(II)V"⟩
def dkwX3_addPulse_1 : List UInt8 := [180, 0, 46, 4, 96, 181, 0, 46, 177]
abbrev dktX3_addPulse_1 : List UInt8 := dkwX3_addPulse_1 ++ []
def dkwX3_addPulse_0 : List UInt8 := [42, 180, 0, 18, 42, 180, 0, 46, 27, 79, 42, 180, 0, 21, 42, 180, 0, 46, 28, 79, 42, 89]
abbrev dktX3_addPulse_0 : List UInt8 := dkwX3_addPulse_0 ++ dktX3_addPulse_1
theorem dksX3_addPulse_0 : cX3_addPulse.data.toList.drop 0 = dktX3_addPulse_0 := by decide +kernel
theorem dksX3_addPulse_1 : cX3_addPulse.data.toList.drop 22 = dktX3_addPulse_1 := dk_seg dksX3_addPulse_0 22 rfl rfl
theorem dX3_addPulse_0 : decode cX3_addPulse 0 = .ok (.aload_n 0, 1) := dk_42 (dk_at dksX3_addPulse_0 0 rfl rfl)
theorem dX3_addPulse_1 : decode cX3_addPulse 1 = .ok (.getfield 18, 3) := dk_180 0 18 (dk_at dksX3_addPulse_0 1 rfl rfl)
theorem dX3_addPulse_4 : decode cX3_addPulse 4 = .ok (.aload_n 0, 1) := dk_42 (dk_at dksX3_addPulse_0 4 rfl rfl)
theorem dX3_addPulse_5 : decode cX3_addPulse 5 = .ok (.getfield 46, 3) := dk_180 0 46 (dk_at dksX3_addPulse_0 5 rfl rfl)
theorem dX3_addPulse_8 : decode cX3_addPulse 8 = .ok (.iload_n 1, 1) := dk_27 (dk_at dksX3_addPulse_0 8 rfl rfl)
theorem dX3_addPulse_9 : decode cX3_addPulse 9 = .ok (.iastore, 1) := dk_79 (dk_at dksX3_addPulse_0 9 rfl rfl)
theorem dX3_addPulse_10 : decode cX3_addPulse 10 = .ok (.aload_n 0, 1) := dk_42 (dk_at dksX3_addPulse_0 10 rfl rfl)
theorem dX3_addPulse_11 : decode cX3_addPulse 11 = .ok (.getfield 21, 3) := dk_180 0 21 (dk_at dksX3_addPulse_0 11 rfl rfl)
theorem dX3_addPulse_14 : decode cX3_addPulse 14 = .ok (.aload_n 0, 1) := dk_42 (dk_at dksX3_addPulse_0 14 rfl rfl)
theorem dX3_addPulse_15 : decode cX3_addPulse 15 = .ok (.getfield 46, 3) := dk_180 0 46 (dk_at dksX3_addPulse_0 15 rfl rfl)
theorem dX3_addPulse_18 : decode cX3_addPulse 18 = .ok (.iload_n 2, 1) := dk_28 (dk_at dksX3_addPulse_0 18 rfl rfl)
theorem dX3_addPulse_19 : decode cX3_addPulse 19 = .ok (.iastore, 1) := dk_79 (dk_at dksX3_addPulse_0 19 rfl rfl)
theorem dX3_addPulse_20 : decode cX3_addPulse 20 = .ok (.aload_n 0, 1) := dk_42 (dk_at dksX3_addPulse_0 20 rfl rfl)
theorem dX3_addPulse_21 : decode cX3_addPulse 21 = .ok (.dup, 1) := dk_89 (dk_at dksX3_addPulse_0 21 rfl rfl)
theorem dX3_addPulse_22 : decode cX3_addPulse 22 = .ok (.getfield 46, 3) := dk_180 0 46 (dk_at dksX3_addPulse_1 0 rfl rfl)
theorem dX3_addPulse_25 : decode cX3_addPulse 25 = .ok (.iconst 1, 1) := dk_4 (dk_at dksX3_addPulse_1 3 rfl rfl)
theorem dX3_addPulse_26 : decode cX3_addPulse 26 = .ok (.iadd, 1) := dk_96 (dk_at dksX3_addPulse_1 4 rfl rfl)
theorem dX3_addPulse_27 : decode cX3_addPulse 27 = .ok (.putfield 46, 3) := dk_181 0 46 (dk_at dksX3_addPulse_1 5 rfl rfl)
theorem dX3_addPulse_30 : decode cX3_addPulse 30 = .ok (.return_, 1) := dk_177 (dk_at dksX3_addPulse_1 8 rfl rfl)
abbrev cX3_copy : ByteArray := prog_5_method_3_code
def yX3_copy : MethodName := ⟨RX3, "copy", "()LLineEchoes$Line;"⟩
def dkwX3_copy_4 : List UInt8 := [43, 42, 180, 0, 49, 42, 180, 0, 24, 42, 180, 0, 28, 182, 0, 52, 43, 176]
abbrev dktX3_copy_4 : List UInt8 := dkwX3_copy_4 ++ []
def dkwX3_copy_3 : List UInt8 := [180, 0, 21, 3, 43, 180, 0, 21, 3, 42, 180, 0, 46, 184, 0, 40, 43, 42, 180, 0, 46, 181, 0, 46]
abbrev dktX3_copy_3 : List UInt8 := dkwX3_copy_3 ++ dktX3_copy_4
def dkwX3_copy_2 : List UInt8 := [180, 0, 37, 181, 0, 37, 42, 180, 0, 18, 3, 43, 180, 0, 18, 3, 42, 180, 0, 46, 184, 0, 40, 42]
abbrev dktX3_copy_2 : List UInt8 := dkwX3_copy_2 ++ dktX3_copy_3
def dkwX3_copy_1 : List UInt8 := [184, 0, 40, 42, 180, 0, 15, 3, 43, 180, 0, 15, 3, 42, 180, 0, 37, 184, 0, 40, 43, 42]
abbrev dktX3_copy_1 : List UInt8 := dkwX3_copy_1 ++ dktX3_copy_2
def dkwX3_copy_0 : List UInt8 := [187, 0, 10, 89, 183, 0, 31, 76, 42, 180, 0, 9, 3, 43, 180, 0, 9, 3, 42, 180, 0, 37]
abbrev dktX3_copy_0 : List UInt8 := dkwX3_copy_0 ++ dktX3_copy_1
theorem dksX3_copy_0 : cX3_copy.data.toList.drop 0 = dktX3_copy_0 := by decide +kernel
theorem dksX3_copy_1 : cX3_copy.data.toList.drop 22 = dktX3_copy_1 := dk_seg dksX3_copy_0 22 rfl rfl
theorem dksX3_copy_2 : cX3_copy.data.toList.drop 44 = dktX3_copy_2 := dk_seg dksX3_copy_1 22 rfl rfl
theorem dksX3_copy_3 : cX3_copy.data.toList.drop 68 = dktX3_copy_3 := dk_seg dksX3_copy_2 24 rfl rfl
theorem dksX3_copy_4 : cX3_copy.data.toList.drop 92 = dktX3_copy_4 := dk_seg dksX3_copy_3 24 rfl rfl
theorem dX3_copy_0 : decode cX3_copy 0 = .ok (.new 10, 3) := dk_187 0 10 (dk_at dksX3_copy_0 0 rfl rfl)
theorem dX3_copy_3 : decode cX3_copy 3 = .ok (.dup, 1) := dk_89 (dk_at dksX3_copy_0 3 rfl rfl)
theorem dX3_copy_4 : decode cX3_copy 4 = .ok (.invokespecial 31, 3) := dk_183 0 31 (dk_at dksX3_copy_0 4 rfl rfl)
theorem dX3_copy_7 : decode cX3_copy 7 = .ok (.astore_n 1, 1) := dk_76 (dk_at dksX3_copy_0 7 rfl rfl)
theorem dX3_copy_8 : decode cX3_copy 8 = .ok (.aload_n 0, 1) := dk_42 (dk_at dksX3_copy_0 8 rfl rfl)
theorem dX3_copy_9 : decode cX3_copy 9 = .ok (.getfield 9, 3) := dk_180 0 9 (dk_at dksX3_copy_0 9 rfl rfl)
theorem dX3_copy_12 : decode cX3_copy 12 = .ok (.iconst 0, 1) := dk_3 (dk_at dksX3_copy_0 12 rfl rfl)
theorem dX3_copy_13 : decode cX3_copy 13 = .ok (.aload_n 1, 1) := dk_43 (dk_at dksX3_copy_0 13 rfl rfl)
theorem dX3_copy_14 : decode cX3_copy 14 = .ok (.getfield 9, 3) := dk_180 0 9 (dk_at dksX3_copy_0 14 rfl rfl)
theorem dX3_copy_17 : decode cX3_copy 17 = .ok (.iconst 0, 1) := dk_3 (dk_at dksX3_copy_0 17 rfl rfl)
theorem dX3_copy_18 : decode cX3_copy 18 = .ok (.aload_n 0, 1) := dk_42 (dk_at dksX3_copy_0 18 rfl rfl)
theorem dX3_copy_19 : decode cX3_copy 19 = .ok (.getfield 37, 3) := dk_180 0 37 (dk_at dksX3_copy_0 19 rfl rfl)
theorem dX3_copy_22 : decode cX3_copy 22 = .ok (.invokestatic 40, 3) := dk_184 0 40 (dk_at dksX3_copy_1 0 rfl rfl)
theorem dX3_copy_25 : decode cX3_copy 25 = .ok (.aload_n 0, 1) := dk_42 (dk_at dksX3_copy_1 3 rfl rfl)
theorem dX3_copy_26 : decode cX3_copy 26 = .ok (.getfield 15, 3) := dk_180 0 15 (dk_at dksX3_copy_1 4 rfl rfl)
theorem dX3_copy_29 : decode cX3_copy 29 = .ok (.iconst 0, 1) := dk_3 (dk_at dksX3_copy_1 7 rfl rfl)
theorem dX3_copy_30 : decode cX3_copy 30 = .ok (.aload_n 1, 1) := dk_43 (dk_at dksX3_copy_1 8 rfl rfl)
theorem dX3_copy_31 : decode cX3_copy 31 = .ok (.getfield 15, 3) := dk_180 0 15 (dk_at dksX3_copy_1 9 rfl rfl)
theorem dX3_copy_34 : decode cX3_copy 34 = .ok (.iconst 0, 1) := dk_3 (dk_at dksX3_copy_1 12 rfl rfl)
theorem dX3_copy_35 : decode cX3_copy 35 = .ok (.aload_n 0, 1) := dk_42 (dk_at dksX3_copy_1 13 rfl rfl)
theorem dX3_copy_36 : decode cX3_copy 36 = .ok (.getfield 37, 3) := dk_180 0 37 (dk_at dksX3_copy_1 14 rfl rfl)
theorem dX3_copy_39 : decode cX3_copy 39 = .ok (.invokestatic 40, 3) := dk_184 0 40 (dk_at dksX3_copy_1 17 rfl rfl)
theorem dX3_copy_42 : decode cX3_copy 42 = .ok (.aload_n 1, 1) := dk_43 (dk_at dksX3_copy_1 20 rfl rfl)
theorem dX3_copy_43 : decode cX3_copy 43 = .ok (.aload_n 0, 1) := dk_42 (dk_at dksX3_copy_1 21 rfl rfl)
theorem dX3_copy_44 : decode cX3_copy 44 = .ok (.getfield 37, 3) := dk_180 0 37 (dk_at dksX3_copy_2 0 rfl rfl)
theorem dX3_copy_47 : decode cX3_copy 47 = .ok (.putfield 37, 3) := dk_181 0 37 (dk_at dksX3_copy_2 3 rfl rfl)
theorem dX3_copy_50 : decode cX3_copy 50 = .ok (.aload_n 0, 1) := dk_42 (dk_at dksX3_copy_2 6 rfl rfl)
theorem dX3_copy_51 : decode cX3_copy 51 = .ok (.getfield 18, 3) := dk_180 0 18 (dk_at dksX3_copy_2 7 rfl rfl)
theorem dX3_copy_54 : decode cX3_copy 54 = .ok (.iconst 0, 1) := dk_3 (dk_at dksX3_copy_2 10 rfl rfl)
theorem dX3_copy_55 : decode cX3_copy 55 = .ok (.aload_n 1, 1) := dk_43 (dk_at dksX3_copy_2 11 rfl rfl)
theorem dX3_copy_56 : decode cX3_copy 56 = .ok (.getfield 18, 3) := dk_180 0 18 (dk_at dksX3_copy_2 12 rfl rfl)
theorem dX3_copy_59 : decode cX3_copy 59 = .ok (.iconst 0, 1) := dk_3 (dk_at dksX3_copy_2 15 rfl rfl)
theorem dX3_copy_60 : decode cX3_copy 60 = .ok (.aload_n 0, 1) := dk_42 (dk_at dksX3_copy_2 16 rfl rfl)
theorem dX3_copy_61 : decode cX3_copy 61 = .ok (.getfield 46, 3) := dk_180 0 46 (dk_at dksX3_copy_2 17 rfl rfl)
theorem dX3_copy_64 : decode cX3_copy 64 = .ok (.invokestatic 40, 3) := dk_184 0 40 (dk_at dksX3_copy_2 20 rfl rfl)
theorem dX3_copy_67 : decode cX3_copy 67 = .ok (.aload_n 0, 1) := dk_42 (dk_at dksX3_copy_2 23 rfl rfl)
theorem dX3_copy_68 : decode cX3_copy 68 = .ok (.getfield 21, 3) := dk_180 0 21 (dk_at dksX3_copy_3 0 rfl rfl)
theorem dX3_copy_71 : decode cX3_copy 71 = .ok (.iconst 0, 1) := dk_3 (dk_at dksX3_copy_3 3 rfl rfl)
theorem dX3_copy_72 : decode cX3_copy 72 = .ok (.aload_n 1, 1) := dk_43 (dk_at dksX3_copy_3 4 rfl rfl)
theorem dX3_copy_73 : decode cX3_copy 73 = .ok (.getfield 21, 3) := dk_180 0 21 (dk_at dksX3_copy_3 5 rfl rfl)
theorem dX3_copy_76 : decode cX3_copy 76 = .ok (.iconst 0, 1) := dk_3 (dk_at dksX3_copy_3 8 rfl rfl)
theorem dX3_copy_77 : decode cX3_copy 77 = .ok (.aload_n 0, 1) := dk_42 (dk_at dksX3_copy_3 9 rfl rfl)
theorem dX3_copy_78 : decode cX3_copy 78 = .ok (.getfield 46, 3) := dk_180 0 46 (dk_at dksX3_copy_3 10 rfl rfl)
theorem dX3_copy_81 : decode cX3_copy 81 = .ok (.invokestatic 40, 3) := dk_184 0 40 (dk_at dksX3_copy_3 13 rfl rfl)
theorem dX3_copy_84 : decode cX3_copy 84 = .ok (.aload_n 1, 1) := dk_43 (dk_at dksX3_copy_3 16 rfl rfl)
theorem dX3_copy_85 : decode cX3_copy 85 = .ok (.aload_n 0, 1) := dk_42 (dk_at dksX3_copy_3 17 rfl rfl)
theorem dX3_copy_86 : decode cX3_copy 86 = .ok (.getfield 46, 3) := dk_180 0 46 (dk_at dksX3_copy_3 18 rfl rfl)
theorem dX3_copy_89 : decode cX3_copy 89 = .ok (.putfield 46, 3) := dk_181 0 46 (dk_at dksX3_copy_3 21 rfl rfl)
theorem dX3_copy_92 : decode cX3_copy 92 = .ok (.aload_n 1, 1) := dk_43 (dk_at dksX3_copy_4 0 rfl rfl)
theorem dX3_copy_93 : decode cX3_copy 93 = .ok (.aload_n 0, 1) := dk_42 (dk_at dksX3_copy_4 1 rfl rfl)
theorem dX3_copy_94 : decode cX3_copy 94 = .ok (.getfield 49, 3) := dk_180 0 49 (dk_at dksX3_copy_4 2 rfl rfl)
theorem dX3_copy_97 : decode cX3_copy 97 = .ok (.aload_n 0, 1) := dk_42 (dk_at dksX3_copy_4 5 rfl rfl)
theorem dX3_copy_98 : decode cX3_copy 98 = .ok (.getfield 24, 3) := dk_180 0 24 (dk_at dksX3_copy_4 6 rfl rfl)
theorem dX3_copy_101 : decode cX3_copy 101 = .ok (.aload_n 0, 1) := dk_42 (dk_at dksX3_copy_4 9 rfl rfl)
theorem dX3_copy_102 : decode cX3_copy 102 = .ok (.getfield 28, 3) := dk_180 0 28 (dk_at dksX3_copy_4 10 rfl rfl)
theorem dX3_copy_105 : decode cX3_copy 105 = .ok (.invokevirtual 52, 3) := dk_182 0 52 (dk_at dksX3_copy_4 13 rfl rfl)
theorem dX3_copy_108 : decode cX3_copy 108 = .ok (.aload_n 1, 1) := dk_43 (dk_at dksX3_copy_4 16 rfl rfl)
theorem dX3_copy_109 : decode cX3_copy 109 = .ok (.areturn, 1) := dk_176 (dk_at dksX3_copy_4 17 rfl rfl)
abbrev cX3_setBench : ByteArray := prog_5_method_5_code
def yX3_setBench : MethodName := ⟨RX3, "setBench", "(III)V"⟩
def dkwX3_setBench_0 : List UInt8 := [42, 27, 181, 0, 49, 42, 28, 181, 0, 24, 42, 29, 181, 0, 28, 177]
abbrev dktX3_setBench_0 : List UInt8 := dkwX3_setBench_0 ++ []
theorem dksX3_setBench_0 : cX3_setBench.data.toList.drop 0 = dktX3_setBench_0 := by decide +kernel
theorem dX3_setBench_0 : decode cX3_setBench 0 = .ok (.aload_n 0, 1) := dk_42 (dk_at dksX3_setBench_0 0 rfl rfl)
theorem dX3_setBench_1 : decode cX3_setBench 1 = .ok (.iload_n 1, 1) := dk_27 (dk_at dksX3_setBench_0 1 rfl rfl)
theorem dX3_setBench_2 : decode cX3_setBench 2 = .ok (.putfield 49, 3) := dk_181 0 49 (dk_at dksX3_setBench_0 2 rfl rfl)
theorem dX3_setBench_5 : decode cX3_setBench 5 = .ok (.aload_n 0, 1) := dk_42 (dk_at dksX3_setBench_0 5 rfl rfl)
theorem dX3_setBench_6 : decode cX3_setBench 6 = .ok (.iload_n 2, 1) := dk_28 (dk_at dksX3_setBench_0 6 rfl rfl)
theorem dX3_setBench_7 : decode cX3_setBench 7 = .ok (.putfield 24, 3) := dk_181 0 24 (dk_at dksX3_setBench_0 7 rfl rfl)
theorem dX3_setBench_10 : decode cX3_setBench 10 = .ok (.aload_n 0, 1) := dk_42 (dk_at dksX3_setBench_0 10 rfl rfl)
theorem dX3_setBench_11 : decode cX3_setBench 11 = .ok (.iload_n 3, 1) := dk_29 (dk_at dksX3_setBench_0 11 rfl rfl)
theorem dX3_setBench_12 : decode cX3_setBench 12 = .ok (.putfield 28, 3) := dk_181 0 28 (dk_at dksX3_setBench_0 12 rfl rfl)
theorem dX3_setBench_15 : decode cX3_setBench 15 = .ok (.return_, 1) := dk_177 (dk_at dksX3_setBench_0 15 rfl rfl)
abbrev cX3_reverse : ByteArray := prog_5_method_12_code
def yX3_reverse : MethodName := ⟨RX3, "reverse", "()V"⟩
def dkwX3_reverse_3 : List UInt8 := [167, 255, 225, 177]
abbrev dktX3_reverse_3 : List UInt8 := dkwX3_reverse_3 ++ []
def dkwX3_reverse_2 : List UInt8 := [162, 0, 25, 27, 42, 180, 0, 37, 5, 100, 27, 100, 42, 180, 0, 15, 184, 0, 56, 132, 1, 1]
abbrev dktX3_reverse_2 : List UInt8 := dkwX3_reverse_2 ++ dktX3_reverse_3
def dkwX3_reverse_1 : List UInt8 := [180, 0, 9, 184, 0, 56, 132, 1, 1, 167, 255, 225, 3, 60, 27, 42, 180, 0, 37, 5, 100, 27, 100]
abbrev dktX3_reverse_1 : List UInt8 := dkwX3_reverse_1 ++ dktX3_reverse_2
def dkwX3_reverse_0 : List UInt8 := [3, 60, 27, 42, 180, 0, 37, 4, 100, 27, 100, 162, 0, 25, 27, 42, 180, 0, 37, 4, 100, 27, 100, 42]
abbrev dktX3_reverse_0 : List UInt8 := dkwX3_reverse_0 ++ dktX3_reverse_1
theorem dksX3_reverse_0 : cX3_reverse.data.toList.drop 0 = dktX3_reverse_0 := by decide +kernel
theorem dksX3_reverse_1 : cX3_reverse.data.toList.drop 24 = dktX3_reverse_1 := dk_seg dksX3_reverse_0 24 rfl rfl
theorem dksX3_reverse_2 : cX3_reverse.data.toList.drop 47 = dktX3_reverse_2 := dk_seg dksX3_reverse_1 23 rfl rfl
theorem dksX3_reverse_3 : cX3_reverse.data.toList.drop 69 = dktX3_reverse_3 := dk_seg dksX3_reverse_2 22 rfl rfl
theorem dX3_reverse_0 : decode cX3_reverse 0 = .ok (.iconst 0, 1) := dk_3 (dk_at dksX3_reverse_0 0 rfl rfl)
theorem dX3_reverse_1 : decode cX3_reverse 1 = .ok (.istore_n 1, 1) := dk_60 (dk_at dksX3_reverse_0 1 rfl rfl)
theorem dX3_reverse_2 : decode cX3_reverse 2 = .ok (.iload_n 1, 1) := dk_27 (dk_at dksX3_reverse_0 2 rfl rfl)
theorem dX3_reverse_3 : decode cX3_reverse 3 = .ok (.aload_n 0, 1) := dk_42 (dk_at dksX3_reverse_0 3 rfl rfl)
theorem dX3_reverse_4 : decode cX3_reverse 4 = .ok (.getfield 37, 3) := dk_180 0 37 (dk_at dksX3_reverse_0 4 rfl rfl)
theorem dX3_reverse_7 : decode cX3_reverse 7 = .ok (.iconst 1, 1) := dk_4 (dk_at dksX3_reverse_0 7 rfl rfl)
theorem dX3_reverse_8 : decode cX3_reverse 8 = .ok (.isub, 1) := dk_100 (dk_at dksX3_reverse_0 8 rfl rfl)
theorem dX3_reverse_9 : decode cX3_reverse 9 = .ok (.iload_n 1, 1) := dk_27 (dk_at dksX3_reverse_0 9 rfl rfl)
theorem dX3_reverse_10 : decode cX3_reverse 10 = .ok (.isub, 1) := dk_100 (dk_at dksX3_reverse_0 10 rfl rfl)
theorem dX3_reverse_11 : decode cX3_reverse 11 = .ok (.if_icmp .ge 25, 3) := dk_162 0 25 (dk_at dksX3_reverse_0 11 rfl rfl)
theorem dX3_reverse_14 : decode cX3_reverse 14 = .ok (.iload_n 1, 1) := dk_27 (dk_at dksX3_reverse_0 14 rfl rfl)
theorem dX3_reverse_15 : decode cX3_reverse 15 = .ok (.aload_n 0, 1) := dk_42 (dk_at dksX3_reverse_0 15 rfl rfl)
theorem dX3_reverse_16 : decode cX3_reverse 16 = .ok (.getfield 37, 3) := dk_180 0 37 (dk_at dksX3_reverse_0 16 rfl rfl)
theorem dX3_reverse_19 : decode cX3_reverse 19 = .ok (.iconst 1, 1) := dk_4 (dk_at dksX3_reverse_0 19 rfl rfl)
theorem dX3_reverse_20 : decode cX3_reverse 20 = .ok (.isub, 1) := dk_100 (dk_at dksX3_reverse_0 20 rfl rfl)
theorem dX3_reverse_21 : decode cX3_reverse 21 = .ok (.iload_n 1, 1) := dk_27 (dk_at dksX3_reverse_0 21 rfl rfl)
theorem dX3_reverse_22 : decode cX3_reverse 22 = .ok (.isub, 1) := dk_100 (dk_at dksX3_reverse_0 22 rfl rfl)
theorem dX3_reverse_23 : decode cX3_reverse 23 = .ok (.aload_n 0, 1) := dk_42 (dk_at dksX3_reverse_0 23 rfl rfl)
theorem dX3_reverse_24 : decode cX3_reverse 24 = .ok (.getfield 9, 3) := dk_180 0 9 (dk_at dksX3_reverse_1 0 rfl rfl)
theorem dX3_reverse_27 : decode cX3_reverse 27 = .ok (.invokestatic 56, 3) := dk_184 0 56 (dk_at dksX3_reverse_1 3 rfl rfl)
theorem dX3_reverse_30 : decode cX3_reverse 30 = .ok (.iinc 1 1, 3) := dk_132 1 1 (dk_at dksX3_reverse_1 6 rfl rfl)
theorem dX3_reverse_33 : decode cX3_reverse 33 = .ok (.goto (-31), 3) := dk_167 255 225 (dk_at dksX3_reverse_1 9 rfl rfl)
theorem dX3_reverse_36 : decode cX3_reverse 36 = .ok (.iconst 0, 1) := dk_3 (dk_at dksX3_reverse_1 12 rfl rfl)
theorem dX3_reverse_37 : decode cX3_reverse 37 = .ok (.istore_n 1, 1) := dk_60 (dk_at dksX3_reverse_1 13 rfl rfl)
theorem dX3_reverse_38 : decode cX3_reverse 38 = .ok (.iload_n 1, 1) := dk_27 (dk_at dksX3_reverse_1 14 rfl rfl)
theorem dX3_reverse_39 : decode cX3_reverse 39 = .ok (.aload_n 0, 1) := dk_42 (dk_at dksX3_reverse_1 15 rfl rfl)
theorem dX3_reverse_40 : decode cX3_reverse 40 = .ok (.getfield 37, 3) := dk_180 0 37 (dk_at dksX3_reverse_1 16 rfl rfl)
theorem dX3_reverse_43 : decode cX3_reverse 43 = .ok (.iconst 2, 1) := dk_5 (dk_at dksX3_reverse_1 19 rfl rfl)
theorem dX3_reverse_44 : decode cX3_reverse 44 = .ok (.isub, 1) := dk_100 (dk_at dksX3_reverse_1 20 rfl rfl)
theorem dX3_reverse_45 : decode cX3_reverse 45 = .ok (.iload_n 1, 1) := dk_27 (dk_at dksX3_reverse_1 21 rfl rfl)
theorem dX3_reverse_46 : decode cX3_reverse 46 = .ok (.isub, 1) := dk_100 (dk_at dksX3_reverse_1 22 rfl rfl)
theorem dX3_reverse_47 : decode cX3_reverse 47 = .ok (.if_icmp .ge 25, 3) := dk_162 0 25 (dk_at dksX3_reverse_2 0 rfl rfl)
theorem dX3_reverse_50 : decode cX3_reverse 50 = .ok (.iload_n 1, 1) := dk_27 (dk_at dksX3_reverse_2 3 rfl rfl)
theorem dX3_reverse_51 : decode cX3_reverse 51 = .ok (.aload_n 0, 1) := dk_42 (dk_at dksX3_reverse_2 4 rfl rfl)
theorem dX3_reverse_52 : decode cX3_reverse 52 = .ok (.getfield 37, 3) := dk_180 0 37 (dk_at dksX3_reverse_2 5 rfl rfl)
theorem dX3_reverse_55 : decode cX3_reverse 55 = .ok (.iconst 2, 1) := dk_5 (dk_at dksX3_reverse_2 8 rfl rfl)
theorem dX3_reverse_56 : decode cX3_reverse 56 = .ok (.isub, 1) := dk_100 (dk_at dksX3_reverse_2 9 rfl rfl)
theorem dX3_reverse_57 : decode cX3_reverse 57 = .ok (.iload_n 1, 1) := dk_27 (dk_at dksX3_reverse_2 10 rfl rfl)
theorem dX3_reverse_58 : decode cX3_reverse 58 = .ok (.isub, 1) := dk_100 (dk_at dksX3_reverse_2 11 rfl rfl)
theorem dX3_reverse_59 : decode cX3_reverse 59 = .ok (.aload_n 0, 1) := dk_42 (dk_at dksX3_reverse_2 12 rfl rfl)
theorem dX3_reverse_60 : decode cX3_reverse 60 = .ok (.getfield 15, 3) := dk_180 0 15 (dk_at dksX3_reverse_2 13 rfl rfl)
theorem dX3_reverse_63 : decode cX3_reverse 63 = .ok (.invokestatic 56, 3) := dk_184 0 56 (dk_at dksX3_reverse_2 16 rfl rfl)
theorem dX3_reverse_66 : decode cX3_reverse 66 = .ok (.iinc 1 1, 3) := dk_132 1 1 (dk_at dksX3_reverse_2 19 rfl rfl)
theorem dX3_reverse_69 : decode cX3_reverse 69 = .ok (.goto (-31), 3) := dk_167 255 225 (dk_at dksX3_reverse_3 0 rfl rfl)
theorem dX3_reverse_72 : decode cX3_reverse 72 = .ok (.return_, 1) := dk_177 (dk_at dksX3_reverse_3 3 rfl rfl)
abbrev cX3_swap : ByteArray := prog_5_method_11_code
def yX3_swap : MethodName := ⟨RX3, "swap", "(II[I)V"⟩
def dkwX3_swap_0 : List UInt8 := [44, 26, 46, 62, 44, 26, 44, 27, 46, 79, 44, 27, 29, 79, 177]
abbrev dktX3_swap_0 : List UInt8 := dkwX3_swap_0 ++ []
theorem dksX3_swap_0 : cX3_swap.data.toList.drop 0 = dktX3_swap_0 := by decide +kernel
theorem dX3_swap_0 : decode cX3_swap 0 = .ok (.aload_n 2, 1) := dk_44 (dk_at dksX3_swap_0 0 rfl rfl)
theorem dX3_swap_1 : decode cX3_swap 1 = .ok (.iload_n 0, 1) := dk_26 (dk_at dksX3_swap_0 1 rfl rfl)
theorem dX3_swap_2 : decode cX3_swap 2 = .ok (.iaload, 1) := dk_46 (dk_at dksX3_swap_0 2 rfl rfl)
theorem dX3_swap_3 : decode cX3_swap 3 = .ok (.istore_n 3, 1) := dk_62 (dk_at dksX3_swap_0 3 rfl rfl)
theorem dX3_swap_4 : decode cX3_swap 4 = .ok (.aload_n 2, 1) := dk_44 (dk_at dksX3_swap_0 4 rfl rfl)
theorem dX3_swap_5 : decode cX3_swap 5 = .ok (.iload_n 0, 1) := dk_26 (dk_at dksX3_swap_0 5 rfl rfl)
theorem dX3_swap_6 : decode cX3_swap 6 = .ok (.aload_n 2, 1) := dk_44 (dk_at dksX3_swap_0 6 rfl rfl)
theorem dX3_swap_7 : decode cX3_swap 7 = .ok (.iload_n 1, 1) := dk_27 (dk_at dksX3_swap_0 7 rfl rfl)
theorem dX3_swap_8 : decode cX3_swap 8 = .ok (.iaload, 1) := dk_46 (dk_at dksX3_swap_0 8 rfl rfl)
theorem dX3_swap_9 : decode cX3_swap 9 = .ok (.iastore, 1) := dk_79 (dk_at dksX3_swap_0 9 rfl rfl)
theorem dX3_swap_10 : decode cX3_swap 10 = .ok (.aload_n 2, 1) := dk_44 (dk_at dksX3_swap_0 10 rfl rfl)
theorem dX3_swap_11 : decode cX3_swap 11 = .ok (.iload_n 1, 1) := dk_27 (dk_at dksX3_swap_0 11 rfl rfl)
theorem dX3_swap_12 : decode cX3_swap 12 = .ok (.iload_n 3, 1) := dk_29 (dk_at dksX3_swap_0 12 rfl rfl)
theorem dX3_swap_13 : decode cX3_swap 13 = .ok (.iastore, 1) := dk_79 (dk_at dksX3_swap_0 13 rfl rfl)
theorem dX3_swap_14 : decode cX3_swap 14 = .ok (.return_, 1) := dk_177 (dk_at dksX3_swap_0 14 rfl rfl)
abbrev cX3_sum : ByteArray := prog_5_method_13_code
def yX3_sum : MethodName := ⟨RX3, "sum", "(I)I"⟩
def dkwX3_sum_1 : List UInt8 := [28, 172]
abbrev dktX3_sum_1 : List UInt8 := dkwX3_sum_1 ++ []
def dkwX3_sum_0 : List UInt8 := [3, 61, 3, 62, 29, 27, 162, 0, 18, 28, 42, 180, 0, 9, 29, 46, 96, 61, 132, 3, 1, 167, 255, 239]
abbrev dktX3_sum_0 : List UInt8 := dkwX3_sum_0 ++ dktX3_sum_1
theorem dksX3_sum_0 : cX3_sum.data.toList.drop 0 = dktX3_sum_0 := by decide +kernel
theorem dksX3_sum_1 : cX3_sum.data.toList.drop 24 = dktX3_sum_1 := dk_seg dksX3_sum_0 24 rfl rfl
theorem dX3_sum_0 : decode cX3_sum 0 = .ok (.iconst 0, 1) := dk_3 (dk_at dksX3_sum_0 0 rfl rfl)
theorem dX3_sum_1 : decode cX3_sum 1 = .ok (.istore_n 2, 1) := dk_61 (dk_at dksX3_sum_0 1 rfl rfl)
theorem dX3_sum_2 : decode cX3_sum 2 = .ok (.iconst 0, 1) := dk_3 (dk_at dksX3_sum_0 2 rfl rfl)
theorem dX3_sum_3 : decode cX3_sum 3 = .ok (.istore_n 3, 1) := dk_62 (dk_at dksX3_sum_0 3 rfl rfl)
theorem dX3_sum_4 : decode cX3_sum 4 = .ok (.iload_n 3, 1) := dk_29 (dk_at dksX3_sum_0 4 rfl rfl)
theorem dX3_sum_5 : decode cX3_sum 5 = .ok (.iload_n 1, 1) := dk_27 (dk_at dksX3_sum_0 5 rfl rfl)
theorem dX3_sum_6 : decode cX3_sum 6 = .ok (.if_icmp .ge 18, 3) := dk_162 0 18 (dk_at dksX3_sum_0 6 rfl rfl)
theorem dX3_sum_9 : decode cX3_sum 9 = .ok (.iload_n 2, 1) := dk_28 (dk_at dksX3_sum_0 9 rfl rfl)
theorem dX3_sum_10 : decode cX3_sum 10 = .ok (.aload_n 0, 1) := dk_42 (dk_at dksX3_sum_0 10 rfl rfl)
theorem dX3_sum_11 : decode cX3_sum 11 = .ok (.getfield 9, 3) := dk_180 0 9 (dk_at dksX3_sum_0 11 rfl rfl)
theorem dX3_sum_14 : decode cX3_sum 14 = .ok (.iload_n 3, 1) := dk_29 (dk_at dksX3_sum_0 14 rfl rfl)
theorem dX3_sum_15 : decode cX3_sum 15 = .ok (.iaload, 1) := dk_46 (dk_at dksX3_sum_0 15 rfl rfl)
theorem dX3_sum_16 : decode cX3_sum 16 = .ok (.iadd, 1) := dk_96 (dk_at dksX3_sum_0 16 rfl rfl)
theorem dX3_sum_17 : decode cX3_sum 17 = .ok (.istore_n 2, 1) := dk_61 (dk_at dksX3_sum_0 17 rfl rfl)
theorem dX3_sum_18 : decode cX3_sum 18 = .ok (.iinc 3 1, 3) := dk_132 3 1 (dk_at dksX3_sum_0 18 rfl rfl)
theorem dX3_sum_21 : decode cX3_sum 21 = .ok (.goto (-17), 3) := dk_167 255 239 (dk_at dksX3_sum_0 21 rfl rfl)
theorem dX3_sum_24 : decode cX3_sum 24 = .ok (.iload_n 2, 1) := dk_28 (dk_at dksX3_sum_1 0 rfl rfl)
theorem dX3_sum_25 : decode cX3_sum 25 = .ok (.ireturn, 1) := dk_172 (dk_at dksX3_sum_1 1 rfl rfl)
abbrev cX3_forPeeling : ByteArray := prog_5_method_4_code
def yX3_forPeeling : MethodName := ⟨RX3, "forPeeling", "()LLineEchoes$Line;"⟩
def dkwX3_forPeeling_1 : List UInt8 := [42, 180, 0, 24, 42, 180, 0, 28, 182, 0, 52, 43, 176]
abbrev dktX3_forPeeling_1 : List UInt8 := dkwX3_forPeeling_1 ++ []
def dkwX3_forPeeling_0 : List UInt8 := [187, 0, 10, 89, 183, 0, 31, 76, 43, 3, 42, 180, 0, 21, 3, 46, 182, 0, 33, 43, 42, 180, 0, 49]
abbrev dktX3_forPeeling_0 : List UInt8 := dkwX3_forPeeling_0 ++ dktX3_forPeeling_1
theorem dksX3_forPeeling_0 : cX3_forPeeling.data.toList.drop 0 = dktX3_forPeeling_0 := by decide +kernel
theorem dksX3_forPeeling_1 : cX3_forPeeling.data.toList.drop 24 = dktX3_forPeeling_1 := dk_seg dksX3_forPeeling_0 24 rfl rfl
theorem dX3_forPeeling_0 : decode cX3_forPeeling 0 = .ok (.new 10, 3) := dk_187 0 10 (dk_at dksX3_forPeeling_0 0 rfl rfl)
theorem dX3_forPeeling_3 : decode cX3_forPeeling 3 = .ok (.dup, 1) := dk_89 (dk_at dksX3_forPeeling_0 3 rfl rfl)
theorem dX3_forPeeling_4 : decode cX3_forPeeling 4 = .ok (.invokespecial 31, 3) := dk_183 0 31 (dk_at dksX3_forPeeling_0 4 rfl rfl)
theorem dX3_forPeeling_7 : decode cX3_forPeeling 7 = .ok (.astore_n 1, 1) := dk_76 (dk_at dksX3_forPeeling_0 7 rfl rfl)
theorem dX3_forPeeling_8 : decode cX3_forPeeling 8 = .ok (.aload_n 1, 1) := dk_43 (dk_at dksX3_forPeeling_0 8 rfl rfl)
theorem dX3_forPeeling_9 : decode cX3_forPeeling 9 = .ok (.iconst 0, 1) := dk_3 (dk_at dksX3_forPeeling_0 9 rfl rfl)
theorem dX3_forPeeling_10 : decode cX3_forPeeling 10 = .ok (.aload_n 0, 1) := dk_42 (dk_at dksX3_forPeeling_0 10 rfl rfl)
theorem dX3_forPeeling_11 : decode cX3_forPeeling 11 = .ok (.getfield 21, 3) := dk_180 0 21 (dk_at dksX3_forPeeling_0 11 rfl rfl)
theorem dX3_forPeeling_14 : decode cX3_forPeeling 14 = .ok (.iconst 0, 1) := dk_3 (dk_at dksX3_forPeeling_0 14 rfl rfl)
theorem dX3_forPeeling_15 : decode cX3_forPeeling 15 = .ok (.iaload, 1) := dk_46 (dk_at dksX3_forPeeling_0 15 rfl rfl)
theorem dX3_forPeeling_16 : decode cX3_forPeeling 16 = .ok (.invokevirtual 33, 3) := dk_182 0 33 (dk_at dksX3_forPeeling_0 16 rfl rfl)
theorem dX3_forPeeling_19 : decode cX3_forPeeling 19 = .ok (.aload_n 1, 1) := dk_43 (dk_at dksX3_forPeeling_0 19 rfl rfl)
theorem dX3_forPeeling_20 : decode cX3_forPeeling 20 = .ok (.aload_n 0, 1) := dk_42 (dk_at dksX3_forPeeling_0 20 rfl rfl)
theorem dX3_forPeeling_21 : decode cX3_forPeeling 21 = .ok (.getfield 49, 3) := dk_180 0 49 (dk_at dksX3_forPeeling_0 21 rfl rfl)
theorem dX3_forPeeling_24 : decode cX3_forPeeling 24 = .ok (.aload_n 0, 1) := dk_42 (dk_at dksX3_forPeeling_1 0 rfl rfl)
theorem dX3_forPeeling_25 : decode cX3_forPeeling 25 = .ok (.getfield 24, 3) := dk_180 0 24 (dk_at dksX3_forPeeling_1 1 rfl rfl)
theorem dX3_forPeeling_28 : decode cX3_forPeeling 28 = .ok (.aload_n 0, 1) := dk_42 (dk_at dksX3_forPeeling_1 4 rfl rfl)
theorem dX3_forPeeling_29 : decode cX3_forPeeling 29 = .ok (.getfield 28, 3) := dk_180 0 28 (dk_at dksX3_forPeeling_1 5 rfl rfl)
theorem dX3_forPeeling_32 : decode cX3_forPeeling 32 = .ok (.invokevirtual 52, 3) := dk_182 0 52 (dk_at dksX3_forPeeling_1 8 rfl rfl)
theorem dX3_forPeeling_35 : decode cX3_forPeeling 35 = .ok (.aload_n 1, 1) := dk_43 (dk_at dksX3_forPeeling_1 11 rfl rfl)
theorem dX3_forPeeling_36 : decode cX3_forPeeling 36 = .ok (.areturn, 1) := dk_176 (dk_at dksX3_forPeeling_1 12 rfl rfl)
abbrev cX3_insert : ByteArray := prog_5_method_8_code
def yX3_insert : MethodName := ⟨RX3, "insert", "(III)V"⟩
def dkwX3_insert_2 : List UInt8 := [27, 28, 79, 42, 180, 0, 15, 27, 29, 79, 42, 89, 180, 0, 37, 4, 96, 181, 0, 37, 177]
abbrev dktX3_insert_2 : List UInt8 := dkwX3_insert_2 ++ []
def dkwX3_insert_1 : List UInt8 := [180, 0, 15, 27, 42, 180, 0, 15, 27, 4, 96, 42, 180, 0, 37, 27, 100, 184, 0, 40, 42, 180, 0, 9]
abbrev dktX3_insert_1 : List UInt8 := dkwX3_insert_1 ++ dktX3_insert_2
def dkwX3_insert_0 : List UInt8 := [42, 180, 0, 9, 27, 42, 180, 0, 9, 27, 4, 96, 42, 180, 0, 37, 27, 100, 184, 0, 40, 42]
abbrev dktX3_insert_0 : List UInt8 := dkwX3_insert_0 ++ dktX3_insert_1
theorem dksX3_insert_0 : cX3_insert.data.toList.drop 0 = dktX3_insert_0 := by decide +kernel
theorem dksX3_insert_1 : cX3_insert.data.toList.drop 22 = dktX3_insert_1 := dk_seg dksX3_insert_0 22 rfl rfl
theorem dksX3_insert_2 : cX3_insert.data.toList.drop 46 = dktX3_insert_2 := dk_seg dksX3_insert_1 24 rfl rfl
theorem dX3_insert_0 : decode cX3_insert 0 = .ok (.aload_n 0, 1) := dk_42 (dk_at dksX3_insert_0 0 rfl rfl)
theorem dX3_insert_1 : decode cX3_insert 1 = .ok (.getfield 9, 3) := dk_180 0 9 (dk_at dksX3_insert_0 1 rfl rfl)
theorem dX3_insert_4 : decode cX3_insert 4 = .ok (.iload_n 1, 1) := dk_27 (dk_at dksX3_insert_0 4 rfl rfl)
theorem dX3_insert_5 : decode cX3_insert 5 = .ok (.aload_n 0, 1) := dk_42 (dk_at dksX3_insert_0 5 rfl rfl)
theorem dX3_insert_6 : decode cX3_insert 6 = .ok (.getfield 9, 3) := dk_180 0 9 (dk_at dksX3_insert_0 6 rfl rfl)
theorem dX3_insert_9 : decode cX3_insert 9 = .ok (.iload_n 1, 1) := dk_27 (dk_at dksX3_insert_0 9 rfl rfl)
theorem dX3_insert_10 : decode cX3_insert 10 = .ok (.iconst 1, 1) := dk_4 (dk_at dksX3_insert_0 10 rfl rfl)
theorem dX3_insert_11 : decode cX3_insert 11 = .ok (.iadd, 1) := dk_96 (dk_at dksX3_insert_0 11 rfl rfl)
theorem dX3_insert_12 : decode cX3_insert 12 = .ok (.aload_n 0, 1) := dk_42 (dk_at dksX3_insert_0 12 rfl rfl)
theorem dX3_insert_13 : decode cX3_insert 13 = .ok (.getfield 37, 3) := dk_180 0 37 (dk_at dksX3_insert_0 13 rfl rfl)
theorem dX3_insert_16 : decode cX3_insert 16 = .ok (.iload_n 1, 1) := dk_27 (dk_at dksX3_insert_0 16 rfl rfl)
theorem dX3_insert_17 : decode cX3_insert 17 = .ok (.isub, 1) := dk_100 (dk_at dksX3_insert_0 17 rfl rfl)
theorem dX3_insert_18 : decode cX3_insert 18 = .ok (.invokestatic 40, 3) := dk_184 0 40 (dk_at dksX3_insert_0 18 rfl rfl)
theorem dX3_insert_21 : decode cX3_insert 21 = .ok (.aload_n 0, 1) := dk_42 (dk_at dksX3_insert_0 21 rfl rfl)
theorem dX3_insert_22 : decode cX3_insert 22 = .ok (.getfield 15, 3) := dk_180 0 15 (dk_at dksX3_insert_1 0 rfl rfl)
theorem dX3_insert_25 : decode cX3_insert 25 = .ok (.iload_n 1, 1) := dk_27 (dk_at dksX3_insert_1 3 rfl rfl)
theorem dX3_insert_26 : decode cX3_insert 26 = .ok (.aload_n 0, 1) := dk_42 (dk_at dksX3_insert_1 4 rfl rfl)
theorem dX3_insert_27 : decode cX3_insert 27 = .ok (.getfield 15, 3) := dk_180 0 15 (dk_at dksX3_insert_1 5 rfl rfl)
theorem dX3_insert_30 : decode cX3_insert 30 = .ok (.iload_n 1, 1) := dk_27 (dk_at dksX3_insert_1 8 rfl rfl)
theorem dX3_insert_31 : decode cX3_insert 31 = .ok (.iconst 1, 1) := dk_4 (dk_at dksX3_insert_1 9 rfl rfl)
theorem dX3_insert_32 : decode cX3_insert 32 = .ok (.iadd, 1) := dk_96 (dk_at dksX3_insert_1 10 rfl rfl)
theorem dX3_insert_33 : decode cX3_insert 33 = .ok (.aload_n 0, 1) := dk_42 (dk_at dksX3_insert_1 11 rfl rfl)
theorem dX3_insert_34 : decode cX3_insert 34 = .ok (.getfield 37, 3) := dk_180 0 37 (dk_at dksX3_insert_1 12 rfl rfl)
theorem dX3_insert_37 : decode cX3_insert 37 = .ok (.iload_n 1, 1) := dk_27 (dk_at dksX3_insert_1 15 rfl rfl)
theorem dX3_insert_38 : decode cX3_insert 38 = .ok (.isub, 1) := dk_100 (dk_at dksX3_insert_1 16 rfl rfl)
theorem dX3_insert_39 : decode cX3_insert 39 = .ok (.invokestatic 40, 3) := dk_184 0 40 (dk_at dksX3_insert_1 17 rfl rfl)
theorem dX3_insert_42 : decode cX3_insert 42 = .ok (.aload_n 0, 1) := dk_42 (dk_at dksX3_insert_1 20 rfl rfl)
theorem dX3_insert_43 : decode cX3_insert 43 = .ok (.getfield 9, 3) := dk_180 0 9 (dk_at dksX3_insert_1 21 rfl rfl)
theorem dX3_insert_46 : decode cX3_insert 46 = .ok (.iload_n 1, 1) := dk_27 (dk_at dksX3_insert_2 0 rfl rfl)
theorem dX3_insert_47 : decode cX3_insert 47 = .ok (.iload_n 2, 1) := dk_28 (dk_at dksX3_insert_2 1 rfl rfl)
theorem dX3_insert_48 : decode cX3_insert 48 = .ok (.iastore, 1) := dk_79 (dk_at dksX3_insert_2 2 rfl rfl)
theorem dX3_insert_49 : decode cX3_insert 49 = .ok (.aload_n 0, 1) := dk_42 (dk_at dksX3_insert_2 3 rfl rfl)
theorem dX3_insert_50 : decode cX3_insert 50 = .ok (.getfield 15, 3) := dk_180 0 15 (dk_at dksX3_insert_2 4 rfl rfl)
theorem dX3_insert_53 : decode cX3_insert 53 = .ok (.iload_n 1, 1) := dk_27 (dk_at dksX3_insert_2 7 rfl rfl)
theorem dX3_insert_54 : decode cX3_insert 54 = .ok (.iload_n 3, 1) := dk_29 (dk_at dksX3_insert_2 8 rfl rfl)
theorem dX3_insert_55 : decode cX3_insert 55 = .ok (.iastore, 1) := dk_79 (dk_at dksX3_insert_2 9 rfl rfl)
theorem dX3_insert_56 : decode cX3_insert 56 = .ok (.aload_n 0, 1) := dk_42 (dk_at dksX3_insert_2 10 rfl rfl)
theorem dX3_insert_57 : decode cX3_insert 57 = .ok (.dup, 1) := dk_89 (dk_at dksX3_insert_2 11 rfl rfl)
theorem dX3_insert_58 : decode cX3_insert 58 = .ok (.getfield 37, 3) := dk_180 0 37 (dk_at dksX3_insert_2 12 rfl rfl)
theorem dX3_insert_61 : decode cX3_insert 61 = .ok (.iconst 1, 1) := dk_4 (dk_at dksX3_insert_2 15 rfl rfl)
theorem dX3_insert_62 : decode cX3_insert 62 = .ok (.iadd, 1) := dk_96 (dk_at dksX3_insert_2 16 rfl rfl)
theorem dX3_insert_63 : decode cX3_insert 63 = .ok (.putfield 37, 3) := dk_181 0 37 (dk_at dksX3_insert_2 17 rfl rfl)
theorem dX3_insert_66 : decode cX3_insert 66 = .ok (.return_, 1) := dk_177 (dk_at dksX3_insert_2 20 rfl rfl)
abbrev cX3_remove : ByteArray := prog_5_method_9_code
def yX3_remove : MethodName := ⟨RX3, "remove", "(I)V"⟩
def dkwX3_remove_2 : List UInt8 := [27, 100, 184, 0, 40, 177]
abbrev dktX3_remove_2 : List UInt8 := dkwX3_remove_2 ++ []
def dkwX3_remove_1 : List UInt8 := [180, 0, 37, 27, 100, 184, 0, 40, 42, 180, 0, 15, 27, 4, 96, 42, 180, 0, 15, 27, 42, 180, 0, 37]
abbrev dktX3_remove_1 : List UInt8 := dkwX3_remove_1 ++ dktX3_remove_2
def dkwX3_remove_0 : List UInt8 := [42, 89, 180, 0, 37, 4, 100, 181, 0, 37, 42, 180, 0, 9, 27, 4, 96, 42, 180, 0, 9, 27, 42]
abbrev dktX3_remove_0 : List UInt8 := dkwX3_remove_0 ++ dktX3_remove_1
theorem dksX3_remove_0 : cX3_remove.data.toList.drop 0 = dktX3_remove_0 := by decide +kernel
theorem dksX3_remove_1 : cX3_remove.data.toList.drop 23 = dktX3_remove_1 := dk_seg dksX3_remove_0 23 rfl rfl
theorem dksX3_remove_2 : cX3_remove.data.toList.drop 47 = dktX3_remove_2 := dk_seg dksX3_remove_1 24 rfl rfl
theorem dX3_remove_0 : decode cX3_remove 0 = .ok (.aload_n 0, 1) := dk_42 (dk_at dksX3_remove_0 0 rfl rfl)
theorem dX3_remove_1 : decode cX3_remove 1 = .ok (.dup, 1) := dk_89 (dk_at dksX3_remove_0 1 rfl rfl)
theorem dX3_remove_2 : decode cX3_remove 2 = .ok (.getfield 37, 3) := dk_180 0 37 (dk_at dksX3_remove_0 2 rfl rfl)
theorem dX3_remove_5 : decode cX3_remove 5 = .ok (.iconst 1, 1) := dk_4 (dk_at dksX3_remove_0 5 rfl rfl)
theorem dX3_remove_6 : decode cX3_remove 6 = .ok (.isub, 1) := dk_100 (dk_at dksX3_remove_0 6 rfl rfl)
theorem dX3_remove_7 : decode cX3_remove 7 = .ok (.putfield 37, 3) := dk_181 0 37 (dk_at dksX3_remove_0 7 rfl rfl)
theorem dX3_remove_10 : decode cX3_remove 10 = .ok (.aload_n 0, 1) := dk_42 (dk_at dksX3_remove_0 10 rfl rfl)
theorem dX3_remove_11 : decode cX3_remove 11 = .ok (.getfield 9, 3) := dk_180 0 9 (dk_at dksX3_remove_0 11 rfl rfl)
theorem dX3_remove_14 : decode cX3_remove 14 = .ok (.iload_n 1, 1) := dk_27 (dk_at dksX3_remove_0 14 rfl rfl)
theorem dX3_remove_15 : decode cX3_remove 15 = .ok (.iconst 1, 1) := dk_4 (dk_at dksX3_remove_0 15 rfl rfl)
theorem dX3_remove_16 : decode cX3_remove 16 = .ok (.iadd, 1) := dk_96 (dk_at dksX3_remove_0 16 rfl rfl)
theorem dX3_remove_17 : decode cX3_remove 17 = .ok (.aload_n 0, 1) := dk_42 (dk_at dksX3_remove_0 17 rfl rfl)
theorem dX3_remove_18 : decode cX3_remove 18 = .ok (.getfield 9, 3) := dk_180 0 9 (dk_at dksX3_remove_0 18 rfl rfl)
theorem dX3_remove_21 : decode cX3_remove 21 = .ok (.iload_n 1, 1) := dk_27 (dk_at dksX3_remove_0 21 rfl rfl)
theorem dX3_remove_22 : decode cX3_remove 22 = .ok (.aload_n 0, 1) := dk_42 (dk_at dksX3_remove_0 22 rfl rfl)
theorem dX3_remove_23 : decode cX3_remove 23 = .ok (.getfield 37, 3) := dk_180 0 37 (dk_at dksX3_remove_1 0 rfl rfl)
theorem dX3_remove_26 : decode cX3_remove 26 = .ok (.iload_n 1, 1) := dk_27 (dk_at dksX3_remove_1 3 rfl rfl)
theorem dX3_remove_27 : decode cX3_remove 27 = .ok (.isub, 1) := dk_100 (dk_at dksX3_remove_1 4 rfl rfl)
theorem dX3_remove_28 : decode cX3_remove 28 = .ok (.invokestatic 40, 3) := dk_184 0 40 (dk_at dksX3_remove_1 5 rfl rfl)
theorem dX3_remove_31 : decode cX3_remove 31 = .ok (.aload_n 0, 1) := dk_42 (dk_at dksX3_remove_1 8 rfl rfl)
theorem dX3_remove_32 : decode cX3_remove 32 = .ok (.getfield 15, 3) := dk_180 0 15 (dk_at dksX3_remove_1 9 rfl rfl)
theorem dX3_remove_35 : decode cX3_remove 35 = .ok (.iload_n 1, 1) := dk_27 (dk_at dksX3_remove_1 12 rfl rfl)
theorem dX3_remove_36 : decode cX3_remove 36 = .ok (.iconst 1, 1) := dk_4 (dk_at dksX3_remove_1 13 rfl rfl)
theorem dX3_remove_37 : decode cX3_remove 37 = .ok (.iadd, 1) := dk_96 (dk_at dksX3_remove_1 14 rfl rfl)
theorem dX3_remove_38 : decode cX3_remove 38 = .ok (.aload_n 0, 1) := dk_42 (dk_at dksX3_remove_1 15 rfl rfl)
theorem dX3_remove_39 : decode cX3_remove 39 = .ok (.getfield 15, 3) := dk_180 0 15 (dk_at dksX3_remove_1 16 rfl rfl)
theorem dX3_remove_42 : decode cX3_remove 42 = .ok (.iload_n 1, 1) := dk_27 (dk_at dksX3_remove_1 19 rfl rfl)
theorem dX3_remove_43 : decode cX3_remove 43 = .ok (.aload_n 0, 1) := dk_42 (dk_at dksX3_remove_1 20 rfl rfl)
theorem dX3_remove_44 : decode cX3_remove 44 = .ok (.getfield 37, 3) := dk_180 0 37 (dk_at dksX3_remove_1 21 rfl rfl)
theorem dX3_remove_47 : decode cX3_remove 47 = .ok (.iload_n 1, 1) := dk_27 (dk_at dksX3_remove_2 0 rfl rfl)
theorem dX3_remove_48 : decode cX3_remove 48 = .ok (.isub, 1) := dk_100 (dk_at dksX3_remove_2 1 rfl rfl)
theorem dX3_remove_49 : decode cX3_remove 49 = .ok (.invokestatic 40, 3) := dk_184 0 40 (dk_at dksX3_remove_2 2 rfl rfl)
theorem dX3_remove_52 : decode cX3_remove 52 = .ok (.return_, 1) := dk_177 (dk_at dksX3_remove_2 5 rfl rfl)
abbrev cX3_takeParts : ByteArray := prog_5_method_10_code
def yX3_takeParts : MethodName := ⟨RX3, "takeParts", "(LLineEchoes$Line;)V"⟩
def dkwX3_takeParts_1 : List UInt8 := [184, 0, 40, 43, 180, 0, 15, 3, 42, 180, 0, 15, 3, 42, 180, 0, 37, 184, 0, 40, 177]
abbrev dktX3_takeParts_1 : List UInt8 := dkwX3_takeParts_1 ++ []
def dkwX3_takeParts_0 : List UInt8 := [42, 43, 180, 0, 37, 181, 0, 37, 43, 180, 0, 9, 3, 42, 180, 0, 9, 3, 42, 180, 0, 37]
abbrev dktX3_takeParts_0 : List UInt8 := dkwX3_takeParts_0 ++ dktX3_takeParts_1
theorem dksX3_takeParts_0 : cX3_takeParts.data.toList.drop 0 = dktX3_takeParts_0 := by decide +kernel
theorem dksX3_takeParts_1 : cX3_takeParts.data.toList.drop 22 = dktX3_takeParts_1 := dk_seg dksX3_takeParts_0 22 rfl rfl
theorem dX3_takeParts_0 : decode cX3_takeParts 0 = .ok (.aload_n 0, 1) := dk_42 (dk_at dksX3_takeParts_0 0 rfl rfl)
theorem dX3_takeParts_1 : decode cX3_takeParts 1 = .ok (.aload_n 1, 1) := dk_43 (dk_at dksX3_takeParts_0 1 rfl rfl)
theorem dX3_takeParts_2 : decode cX3_takeParts 2 = .ok (.getfield 37, 3) := dk_180 0 37 (dk_at dksX3_takeParts_0 2 rfl rfl)
theorem dX3_takeParts_5 : decode cX3_takeParts 5 = .ok (.putfield 37, 3) := dk_181 0 37 (dk_at dksX3_takeParts_0 5 rfl rfl)
theorem dX3_takeParts_8 : decode cX3_takeParts 8 = .ok (.aload_n 1, 1) := dk_43 (dk_at dksX3_takeParts_0 8 rfl rfl)
theorem dX3_takeParts_9 : decode cX3_takeParts 9 = .ok (.getfield 9, 3) := dk_180 0 9 (dk_at dksX3_takeParts_0 9 rfl rfl)
theorem dX3_takeParts_12 : decode cX3_takeParts 12 = .ok (.iconst 0, 1) := dk_3 (dk_at dksX3_takeParts_0 12 rfl rfl)
theorem dX3_takeParts_13 : decode cX3_takeParts 13 = .ok (.aload_n 0, 1) := dk_42 (dk_at dksX3_takeParts_0 13 rfl rfl)
theorem dX3_takeParts_14 : decode cX3_takeParts 14 = .ok (.getfield 9, 3) := dk_180 0 9 (dk_at dksX3_takeParts_0 14 rfl rfl)
theorem dX3_takeParts_17 : decode cX3_takeParts 17 = .ok (.iconst 0, 1) := dk_3 (dk_at dksX3_takeParts_0 17 rfl rfl)
theorem dX3_takeParts_18 : decode cX3_takeParts 18 = .ok (.aload_n 0, 1) := dk_42 (dk_at dksX3_takeParts_0 18 rfl rfl)
theorem dX3_takeParts_19 : decode cX3_takeParts 19 = .ok (.getfield 37, 3) := dk_180 0 37 (dk_at dksX3_takeParts_0 19 rfl rfl)
theorem dX3_takeParts_22 : decode cX3_takeParts 22 = .ok (.invokestatic 40, 3) := dk_184 0 40 (dk_at dksX3_takeParts_1 0 rfl rfl)
theorem dX3_takeParts_25 : decode cX3_takeParts 25 = .ok (.aload_n 1, 1) := dk_43 (dk_at dksX3_takeParts_1 3 rfl rfl)
theorem dX3_takeParts_26 : decode cX3_takeParts 26 = .ok (.getfield 15, 3) := dk_180 0 15 (dk_at dksX3_takeParts_1 4 rfl rfl)
theorem dX3_takeParts_29 : decode cX3_takeParts 29 = .ok (.iconst 0, 1) := dk_3 (dk_at dksX3_takeParts_1 7 rfl rfl)
theorem dX3_takeParts_30 : decode cX3_takeParts 30 = .ok (.aload_n 0, 1) := dk_42 (dk_at dksX3_takeParts_1 8 rfl rfl)
theorem dX3_takeParts_31 : decode cX3_takeParts 31 = .ok (.getfield 15, 3) := dk_180 0 15 (dk_at dksX3_takeParts_1 9 rfl rfl)
theorem dX3_takeParts_34 : decode cX3_takeParts 34 = .ok (.iconst 0, 1) := dk_3 (dk_at dksX3_takeParts_1 12 rfl rfl)
theorem dX3_takeParts_35 : decode cX3_takeParts 35 = .ok (.aload_n 0, 1) := dk_42 (dk_at dksX3_takeParts_1 13 rfl rfl)
theorem dX3_takeParts_36 : decode cX3_takeParts 36 = .ok (.getfield 37, 3) := dk_180 0 37 (dk_at dksX3_takeParts_1 14 rfl rfl)
theorem dX3_takeParts_39 : decode cX3_takeParts 39 = .ok (.invokestatic 40, 3) := dk_184 0 40 (dk_at dksX3_takeParts_1 17 rfl rfl)
theorem dX3_takeParts_42 : decode cX3_takeParts 42 = .ok (.return_, 1) := dk_177 (dk_at dksX3_takeParts_1 20 rfl rfl)
abbrev cX3_value : ByteArray := prog_5_method_16_code
def yX3_value : MethodName := ⟨RX3, "value", "(I)I"⟩
def dkwX3_value_3 : List UInt8 := [172, 42, 42, 180, 0, 37, 182, 0, 66, 172]
abbrev dktX3_value_3 : List UInt8 := dkwX3_value_3 ++ []
def dkwX3_value_2 : List UInt8 := [42, 180, 0, 37, 172, 42, 180, 0, 46, 172, 42, 180, 0, 49, 172, 42, 180, 0, 24, 172, 42, 180, 0, 28]
abbrev dktX3_value_2 : List UInt8 := dkwX3_value_2 ++ dktX3_value_3
def dkwX3_value_1 : List UInt8 := [170, 0, 0, 0, 0, 0, 60, 0, 0, 0, 0, 0, 0, 0, 4, 0, 0, 0, 35, 0, 0, 0, 40, 0, 0, 0, 45, 0, 0, 0, 50, 0, 0, 0, 55]
abbrev dktX3_value_1 : List UInt8 := dkwX3_value_1 ++ dktX3_value_2
def dkwX3_value_0 : List UInt8 := [27]
abbrev dktX3_value_0 : List UInt8 := dkwX3_value_0 ++ dktX3_value_1
theorem dksX3_value_0 : cX3_value.data.toList.drop 0 = dktX3_value_0 := by decide +kernel
theorem dksX3_value_1 : cX3_value.data.toList.drop 1 = dktX3_value_1 := dk_seg dksX3_value_0 1 rfl rfl
theorem dksX3_value_2 : cX3_value.data.toList.drop 36 = dktX3_value_2 := dk_seg dksX3_value_1 35 rfl rfl
theorem dksX3_value_3 : cX3_value.data.toList.drop 60 = dktX3_value_3 := dk_seg dksX3_value_2 24 rfl rfl
theorem dX3_value_0 : decode cX3_value 0 = .ok (.iload_n 1, 1) := dk_27 (dk_at dksX3_value_0 0 rfl rfl)
theorem dX3_value_1 : decode cX3_value 1 = .ok (.tableswitch 60 0 4 #[35, 40, 45, 50, 55], 35) := by decide +kernel
theorem dX3_value_36 : decode cX3_value 36 = .ok (.aload_n 0, 1) := dk_42 (dk_at dksX3_value_2 0 rfl rfl)
theorem dX3_value_37 : decode cX3_value 37 = .ok (.getfield 37, 3) := dk_180 0 37 (dk_at dksX3_value_2 1 rfl rfl)
theorem dX3_value_40 : decode cX3_value 40 = .ok (.ireturn, 1) := dk_172 (dk_at dksX3_value_2 4 rfl rfl)
theorem dX3_value_41 : decode cX3_value 41 = .ok (.aload_n 0, 1) := dk_42 (dk_at dksX3_value_2 5 rfl rfl)
theorem dX3_value_42 : decode cX3_value 42 = .ok (.getfield 46, 3) := dk_180 0 46 (dk_at dksX3_value_2 6 rfl rfl)
theorem dX3_value_45 : decode cX3_value 45 = .ok (.ireturn, 1) := dk_172 (dk_at dksX3_value_2 9 rfl rfl)
theorem dX3_value_46 : decode cX3_value 46 = .ok (.aload_n 0, 1) := dk_42 (dk_at dksX3_value_2 10 rfl rfl)
theorem dX3_value_47 : decode cX3_value 47 = .ok (.getfield 49, 3) := dk_180 0 49 (dk_at dksX3_value_2 11 rfl rfl)
theorem dX3_value_50 : decode cX3_value 50 = .ok (.ireturn, 1) := dk_172 (dk_at dksX3_value_2 14 rfl rfl)
theorem dX3_value_51 : decode cX3_value 51 = .ok (.aload_n 0, 1) := dk_42 (dk_at dksX3_value_2 15 rfl rfl)
theorem dX3_value_52 : decode cX3_value 52 = .ok (.getfield 24, 3) := dk_180 0 24 (dk_at dksX3_value_2 16 rfl rfl)
theorem dX3_value_55 : decode cX3_value 55 = .ok (.ireturn, 1) := dk_172 (dk_at dksX3_value_2 19 rfl rfl)
theorem dX3_value_56 : decode cX3_value 56 = .ok (.aload_n 0, 1) := dk_42 (dk_at dksX3_value_2 20 rfl rfl)
theorem dX3_value_57 : decode cX3_value 57 = .ok (.getfield 28, 3) := dk_180 0 28 (dk_at dksX3_value_2 21 rfl rfl)
theorem dX3_value_60 : decode cX3_value 60 = .ok (.ireturn, 1) := dk_172 (dk_at dksX3_value_3 0 rfl rfl)
theorem dX3_value_61 : decode cX3_value 61 = .ok (.aload_n 0, 1) := dk_42 (dk_at dksX3_value_3 1 rfl rfl)
theorem dX3_value_62 : decode cX3_value 62 = .ok (.aload_n 0, 1) := dk_42 (dk_at dksX3_value_3 2 rfl rfl)
theorem dX3_value_63 : decode cX3_value 63 = .ok (.getfield 37, 3) := dk_180 0 37 (dk_at dksX3_value_3 3 rfl rfl)
theorem dX3_value_66 : decode cX3_value 66 = .ok (.invokevirtual 66, 3) := dk_182 0 66 (dk_at dksX3_value_3 6 rfl rfl)
theorem dX3_value_69 : decode cX3_value 69 = .ok (.ireturn, 1) := dk_172 (dk_at dksX3_value_3 9 rfl rfl)
abbrev cX3_earliest : ByteArray := prog_5_method_14_code
def yX3_earliest : MethodName := ⟨RX3, "earliest", "()I"⟩
def dkwX3_earliest_1 : List UInt8 := [184, 0, 60, 60, 132, 2, 1, 167, 255, 234, 27, 172]
abbrev dktX3_earliest_1 : List UInt8 := dkwX3_earliest_1 ++ []
def dkwX3_earliest_0 : List UInt8 := [42, 180, 0, 18, 3, 46, 60, 4, 61, 28, 42, 180, 0, 46, 162, 0, 20, 27, 42, 180, 0, 18, 28, 46]
abbrev dktX3_earliest_0 : List UInt8 := dkwX3_earliest_0 ++ dktX3_earliest_1
theorem dksX3_earliest_0 : cX3_earliest.data.toList.drop 0 = dktX3_earliest_0 := by decide +kernel
theorem dksX3_earliest_1 : cX3_earliest.data.toList.drop 24 = dktX3_earliest_1 := dk_seg dksX3_earliest_0 24 rfl rfl
theorem dX3_earliest_0 : decode cX3_earliest 0 = .ok (.aload_n 0, 1) := dk_42 (dk_at dksX3_earliest_0 0 rfl rfl)
theorem dX3_earliest_1 : decode cX3_earliest 1 = .ok (.getfield 18, 3) := dk_180 0 18 (dk_at dksX3_earliest_0 1 rfl rfl)
theorem dX3_earliest_4 : decode cX3_earliest 4 = .ok (.iconst 0, 1) := dk_3 (dk_at dksX3_earliest_0 4 rfl rfl)
theorem dX3_earliest_5 : decode cX3_earliest 5 = .ok (.iaload, 1) := dk_46 (dk_at dksX3_earliest_0 5 rfl rfl)
theorem dX3_earliest_6 : decode cX3_earliest 6 = .ok (.istore_n 1, 1) := dk_60 (dk_at dksX3_earliest_0 6 rfl rfl)
theorem dX3_earliest_7 : decode cX3_earliest 7 = .ok (.iconst 1, 1) := dk_4 (dk_at dksX3_earliest_0 7 rfl rfl)
theorem dX3_earliest_8 : decode cX3_earliest 8 = .ok (.istore_n 2, 1) := dk_61 (dk_at dksX3_earliest_0 8 rfl rfl)
theorem dX3_earliest_9 : decode cX3_earliest 9 = .ok (.iload_n 2, 1) := dk_28 (dk_at dksX3_earliest_0 9 rfl rfl)
theorem dX3_earliest_10 : decode cX3_earliest 10 = .ok (.aload_n 0, 1) := dk_42 (dk_at dksX3_earliest_0 10 rfl rfl)
theorem dX3_earliest_11 : decode cX3_earliest 11 = .ok (.getfield 46, 3) := dk_180 0 46 (dk_at dksX3_earliest_0 11 rfl rfl)
theorem dX3_earliest_14 : decode cX3_earliest 14 = .ok (.if_icmp .ge 20, 3) := dk_162 0 20 (dk_at dksX3_earliest_0 14 rfl rfl)
theorem dX3_earliest_17 : decode cX3_earliest 17 = .ok (.iload_n 1, 1) := dk_27 (dk_at dksX3_earliest_0 17 rfl rfl)
theorem dX3_earliest_18 : decode cX3_earliest 18 = .ok (.aload_n 0, 1) := dk_42 (dk_at dksX3_earliest_0 18 rfl rfl)
theorem dX3_earliest_19 : decode cX3_earliest 19 = .ok (.getfield 18, 3) := dk_180 0 18 (dk_at dksX3_earliest_0 19 rfl rfl)
theorem dX3_earliest_22 : decode cX3_earliest 22 = .ok (.iload_n 2, 1) := dk_28 (dk_at dksX3_earliest_0 22 rfl rfl)
theorem dX3_earliest_23 : decode cX3_earliest 23 = .ok (.iaload, 1) := dk_46 (dk_at dksX3_earliest_0 23 rfl rfl)
theorem dX3_earliest_24 : decode cX3_earliest 24 = .ok (.invokestatic 60, 3) := dk_184 0 60 (dk_at dksX3_earliest_1 0 rfl rfl)
theorem dX3_earliest_27 : decode cX3_earliest 27 = .ok (.istore_n 1, 1) := dk_60 (dk_at dksX3_earliest_1 3 rfl rfl)
theorem dX3_earliest_28 : decode cX3_earliest 28 = .ok (.iinc 2 1, 3) := dk_132 2 1 (dk_at dksX3_earliest_1 4 rfl rfl)
theorem dX3_earliest_31 : decode cX3_earliest 31 = .ok (.goto (-22), 3) := dk_167 255 234 (dk_at dksX3_earliest_1 7 rfl rfl)
theorem dX3_earliest_34 : decode cX3_earliest 34 = .ok (.iload_n 1, 1) := dk_27 (dk_at dksX3_earliest_1 10 rfl rfl)
theorem dX3_earliest_35 : decode cX3_earliest 35 = .ok (.ireturn, 1) := dk_172 (dk_at dksX3_earliest_1 11 rfl rfl)
abbrev cX3_partOf : ByteArray := prog_5_method_15_code
def yX3_partOf : MethodName := ⟨RX3, "partOf", "(I)I"⟩
def dkwX3_partOf_1 : List UInt8 := [28, 4, 96, 182, 0, 66, 104, 163, 0, 5, 28, 172, 132, 2, 1, 167, 255, 219, 2, 172]
abbrev dktX3_partOf_1 : List UInt8 := dkwX3_partOf_1 ++ []
def dkwX3_partOf_0 : List UInt8 := [3, 61, 28, 42, 180, 0, 37, 162, 0, 35, 27, 5, 42, 28, 182, 0, 66, 104, 164, 0, 18, 27, 5, 42]
abbrev dktX3_partOf_0 : List UInt8 := dkwX3_partOf_0 ++ dktX3_partOf_1
theorem dksX3_partOf_0 : cX3_partOf.data.toList.drop 0 = dktX3_partOf_0 := by decide +kernel
theorem dksX3_partOf_1 : cX3_partOf.data.toList.drop 24 = dktX3_partOf_1 := dk_seg dksX3_partOf_0 24 rfl rfl
theorem dX3_partOf_0 : decode cX3_partOf 0 = .ok (.iconst 0, 1) := dk_3 (dk_at dksX3_partOf_0 0 rfl rfl)
theorem dX3_partOf_1 : decode cX3_partOf 1 = .ok (.istore_n 2, 1) := dk_61 (dk_at dksX3_partOf_0 1 rfl rfl)
theorem dX3_partOf_2 : decode cX3_partOf 2 = .ok (.iload_n 2, 1) := dk_28 (dk_at dksX3_partOf_0 2 rfl rfl)
theorem dX3_partOf_3 : decode cX3_partOf 3 = .ok (.aload_n 0, 1) := dk_42 (dk_at dksX3_partOf_0 3 rfl rfl)
theorem dX3_partOf_4 : decode cX3_partOf 4 = .ok (.getfield 37, 3) := dk_180 0 37 (dk_at dksX3_partOf_0 4 rfl rfl)
theorem dX3_partOf_7 : decode cX3_partOf 7 = .ok (.if_icmp .ge 35, 3) := dk_162 0 35 (dk_at dksX3_partOf_0 7 rfl rfl)
theorem dX3_partOf_10 : decode cX3_partOf 10 = .ok (.iload_n 1, 1) := dk_27 (dk_at dksX3_partOf_0 10 rfl rfl)
theorem dX3_partOf_11 : decode cX3_partOf 11 = .ok (.iconst 2, 1) := dk_5 (dk_at dksX3_partOf_0 11 rfl rfl)
theorem dX3_partOf_12 : decode cX3_partOf 12 = .ok (.aload_n 0, 1) := dk_42 (dk_at dksX3_partOf_0 12 rfl rfl)
theorem dX3_partOf_13 : decode cX3_partOf 13 = .ok (.iload_n 2, 1) := dk_28 (dk_at dksX3_partOf_0 13 rfl rfl)
theorem dX3_partOf_14 : decode cX3_partOf 14 = .ok (.invokevirtual 66, 3) := dk_182 0 66 (dk_at dksX3_partOf_0 14 rfl rfl)
theorem dX3_partOf_17 : decode cX3_partOf 17 = .ok (.imul, 1) := dk_104 (dk_at dksX3_partOf_0 17 rfl rfl)
theorem dX3_partOf_18 : decode cX3_partOf 18 = .ok (.if_icmp .le 18, 3) := dk_164 0 18 (dk_at dksX3_partOf_0 18 rfl rfl)
theorem dX3_partOf_21 : decode cX3_partOf 21 = .ok (.iload_n 1, 1) := dk_27 (dk_at dksX3_partOf_0 21 rfl rfl)
theorem dX3_partOf_22 : decode cX3_partOf 22 = .ok (.iconst 2, 1) := dk_5 (dk_at dksX3_partOf_0 22 rfl rfl)
theorem dX3_partOf_23 : decode cX3_partOf 23 = .ok (.aload_n 0, 1) := dk_42 (dk_at dksX3_partOf_0 23 rfl rfl)
theorem dX3_partOf_24 : decode cX3_partOf 24 = .ok (.iload_n 2, 1) := dk_28 (dk_at dksX3_partOf_1 0 rfl rfl)
theorem dX3_partOf_25 : decode cX3_partOf 25 = .ok (.iconst 1, 1) := dk_4 (dk_at dksX3_partOf_1 1 rfl rfl)
theorem dX3_partOf_26 : decode cX3_partOf 26 = .ok (.iadd, 1) := dk_96 (dk_at dksX3_partOf_1 2 rfl rfl)
theorem dX3_partOf_27 : decode cX3_partOf 27 = .ok (.invokevirtual 66, 3) := dk_182 0 66 (dk_at dksX3_partOf_1 3 rfl rfl)
theorem dX3_partOf_30 : decode cX3_partOf 30 = .ok (.imul, 1) := dk_104 (dk_at dksX3_partOf_1 6 rfl rfl)
theorem dX3_partOf_31 : decode cX3_partOf 31 = .ok (.if_icmp .gt 5, 3) := dk_163 0 5 (dk_at dksX3_partOf_1 7 rfl rfl)
theorem dX3_partOf_34 : decode cX3_partOf 34 = .ok (.iload_n 2, 1) := dk_28 (dk_at dksX3_partOf_1 10 rfl rfl)
theorem dX3_partOf_35 : decode cX3_partOf 35 = .ok (.ireturn, 1) := dk_172 (dk_at dksX3_partOf_1 11 rfl rfl)
theorem dX3_partOf_36 : decode cX3_partOf 36 = .ok (.iinc 2 1, 3) := dk_132 2 1 (dk_at dksX3_partOf_1 12 rfl rfl)
theorem dX3_partOf_39 : decode cX3_partOf 39 = .ok (.goto (-37), 3) := dk_167 255 219 (dk_at dksX3_partOf_1 15 rfl rfl)
theorem dX3_partOf_42 : decode cX3_partOf 42 = .ok (.iconst (-1), 1) := dk_2 (dk_at dksX3_partOf_1 18 rfl rfl)
theorem dX3_partOf_43 : decode cX3_partOf 43 = .ok (.ireturn, 1) := dk_172 (dk_at dksX3_partOf_1 19 rfl rfl)
abbrev cX3_removePulse : ByteArray := prog_5_method_7_code
def yX3_removePulse : MethodName := ⟨RX3, "removePulse", "(I)V"⟩
def dkwX3_removePulse_2 : List UInt8 := [27, 100, 184, 0, 40, 177]
abbrev dktX3_removePulse_2 : List UInt8 := dkwX3_removePulse_2 ++ []
def dkwX3_removePulse_1 : List UInt8 := [180, 0, 46, 27, 100, 184, 0, 40, 42, 180, 0, 21, 27, 4, 96, 42, 180, 0, 21, 27, 42, 180, 0, 46]
abbrev dktX3_removePulse_1 : List UInt8 := dkwX3_removePulse_1 ++ dktX3_removePulse_2
def dkwX3_removePulse_0 : List UInt8 := [42, 89, 180, 0, 46, 4, 100, 181, 0, 46, 42, 180, 0, 18, 27, 4, 96, 42, 180, 0, 18, 27, 42]
abbrev dktX3_removePulse_0 : List UInt8 := dkwX3_removePulse_0 ++ dktX3_removePulse_1
theorem dksX3_removePulse_0 : cX3_removePulse.data.toList.drop 0 = dktX3_removePulse_0 := by decide +kernel
theorem dksX3_removePulse_1 : cX3_removePulse.data.toList.drop 23 = dktX3_removePulse_1 := dk_seg dksX3_removePulse_0 23 rfl rfl
theorem dksX3_removePulse_2 : cX3_removePulse.data.toList.drop 47 = dktX3_removePulse_2 := dk_seg dksX3_removePulse_1 24 rfl rfl
theorem dX3_removePulse_0 : decode cX3_removePulse 0 = .ok (.aload_n 0, 1) := dk_42 (dk_at dksX3_removePulse_0 0 rfl rfl)
theorem dX3_removePulse_1 : decode cX3_removePulse 1 = .ok (.dup, 1) := dk_89 (dk_at dksX3_removePulse_0 1 rfl rfl)
theorem dX3_removePulse_2 : decode cX3_removePulse 2 = .ok (.getfield 46, 3) := dk_180 0 46 (dk_at dksX3_removePulse_0 2 rfl rfl)
theorem dX3_removePulse_5 : decode cX3_removePulse 5 = .ok (.iconst 1, 1) := dk_4 (dk_at dksX3_removePulse_0 5 rfl rfl)
theorem dX3_removePulse_6 : decode cX3_removePulse 6 = .ok (.isub, 1) := dk_100 (dk_at dksX3_removePulse_0 6 rfl rfl)
theorem dX3_removePulse_7 : decode cX3_removePulse 7 = .ok (.putfield 46, 3) := dk_181 0 46 (dk_at dksX3_removePulse_0 7 rfl rfl)
theorem dX3_removePulse_10 : decode cX3_removePulse 10 = .ok (.aload_n 0, 1) := dk_42 (dk_at dksX3_removePulse_0 10 rfl rfl)
theorem dX3_removePulse_11 : decode cX3_removePulse 11 = .ok (.getfield 18, 3) := dk_180 0 18 (dk_at dksX3_removePulse_0 11 rfl rfl)
theorem dX3_removePulse_14 : decode cX3_removePulse 14 = .ok (.iload_n 1, 1) := dk_27 (dk_at dksX3_removePulse_0 14 rfl rfl)
theorem dX3_removePulse_15 : decode cX3_removePulse 15 = .ok (.iconst 1, 1) := dk_4 (dk_at dksX3_removePulse_0 15 rfl rfl)
theorem dX3_removePulse_16 : decode cX3_removePulse 16 = .ok (.iadd, 1) := dk_96 (dk_at dksX3_removePulse_0 16 rfl rfl)
theorem dX3_removePulse_17 : decode cX3_removePulse 17 = .ok (.aload_n 0, 1) := dk_42 (dk_at dksX3_removePulse_0 17 rfl rfl)
theorem dX3_removePulse_18 : decode cX3_removePulse 18 = .ok (.getfield 18, 3) := dk_180 0 18 (dk_at dksX3_removePulse_0 18 rfl rfl)
theorem dX3_removePulse_21 : decode cX3_removePulse 21 = .ok (.iload_n 1, 1) := dk_27 (dk_at dksX3_removePulse_0 21 rfl rfl)
theorem dX3_removePulse_22 : decode cX3_removePulse 22 = .ok (.aload_n 0, 1) := dk_42 (dk_at dksX3_removePulse_0 22 rfl rfl)
theorem dX3_removePulse_23 : decode cX3_removePulse 23 = .ok (.getfield 46, 3) := dk_180 0 46 (dk_at dksX3_removePulse_1 0 rfl rfl)
theorem dX3_removePulse_26 : decode cX3_removePulse 26 = .ok (.iload_n 1, 1) := dk_27 (dk_at dksX3_removePulse_1 3 rfl rfl)
theorem dX3_removePulse_27 : decode cX3_removePulse 27 = .ok (.isub, 1) := dk_100 (dk_at dksX3_removePulse_1 4 rfl rfl)
theorem dX3_removePulse_28 : decode cX3_removePulse 28 = .ok (.invokestatic 40, 3) := dk_184 0 40 (dk_at dksX3_removePulse_1 5 rfl rfl)
theorem dX3_removePulse_31 : decode cX3_removePulse 31 = .ok (.aload_n 0, 1) := dk_42 (dk_at dksX3_removePulse_1 8 rfl rfl)
theorem dX3_removePulse_32 : decode cX3_removePulse 32 = .ok (.getfield 21, 3) := dk_180 0 21 (dk_at dksX3_removePulse_1 9 rfl rfl)
theorem dX3_removePulse_35 : decode cX3_removePulse 35 = .ok (.iload_n 1, 1) := dk_27 (dk_at dksX3_removePulse_1 12 rfl rfl)
theorem dX3_removePulse_36 : decode cX3_removePulse 36 = .ok (.iconst 1, 1) := dk_4 (dk_at dksX3_removePulse_1 13 rfl rfl)
theorem dX3_removePulse_37 : decode cX3_removePulse 37 = .ok (.iadd, 1) := dk_96 (dk_at dksX3_removePulse_1 14 rfl rfl)
theorem dX3_removePulse_38 : decode cX3_removePulse 38 = .ok (.aload_n 0, 1) := dk_42 (dk_at dksX3_removePulse_1 15 rfl rfl)
theorem dX3_removePulse_39 : decode cX3_removePulse 39 = .ok (.getfield 21, 3) := dk_180 0 21 (dk_at dksX3_removePulse_1 16 rfl rfl)
theorem dX3_removePulse_42 : decode cX3_removePulse 42 = .ok (.iload_n 1, 1) := dk_27 (dk_at dksX3_removePulse_1 19 rfl rfl)
theorem dX3_removePulse_43 : decode cX3_removePulse 43 = .ok (.aload_n 0, 1) := dk_42 (dk_at dksX3_removePulse_1 20 rfl rfl)
theorem dX3_removePulse_44 : decode cX3_removePulse 44 = .ok (.getfield 46, 3) := dk_180 0 46 (dk_at dksX3_removePulse_1 21 rfl rfl)
theorem dX3_removePulse_47 : decode cX3_removePulse 47 = .ok (.iload_n 1, 1) := dk_27 (dk_at dksX3_removePulse_2 0 rfl rfl)
theorem dX3_removePulse_48 : decode cX3_removePulse 48 = .ok (.isub, 1) := dk_100 (dk_at dksX3_removePulse_2 1 rfl rfl)
theorem dX3_removePulse_49 : decode cX3_removePulse 49 = .ok (.invokestatic 40, 3) := dk_184 0 40 (dk_at dksX3_removePulse_2 2 rfl rfl)
theorem dX3_removePulse_52 : decode cX3_removePulse 52 = .ok (.return_, 1) := dk_177 (dk_at dksX3_removePulse_2 5 rfl rfl)
theorem q71 : (Jvm.Cond.initialized "LineEchoes$Line") ∈ lw_all := lw_g (lw_at lw_m1 3 rfl) rfl
theorem q113 : (Jvm.Cond.static ({ cls := "LineEchoes$Line", name := "first", desc := "()LLineEchoes$Line;" } : Jvm.MethodName)) ∈ lw_all := lw_g (lw_at lw_m1 45 rfl) rfl
theorem q114 : (Jvm.Cond.code ({ cls := "LineEchoes$Line", name := "first", desc := "()LLineEchoes$Line;" } : Jvm.MethodName) prog_5_method_2_code (1 : Nat) (Option.some (Jvm.ClassFile.FieldType.object "LineEchoes$Line"))) ∈ lw_all := lw_g (lw_at lw_m1 46 rfl) rfl
theorem q115 : (Jvm.Cond.classLink "LineEchoes$Line" (10 : Nat) "LineEchoes$Line") ∈ lw_all := lw_g (lw_at lw_m1 47 rfl) rfl
theorem q116 : (Jvm.Cond.instantiable "LineEchoes$Line" (9 : Nat)) ∈ lw_all := lw_g (lw_at lw_m1 48 rfl) rfl
theorem q117 : (Jvm.Cond.methodLink "LineEchoes$Line" (31 : Nat) ({ cls := "LineEchoes$Line", name := "<init>", desc := "()V" } : Jvm.MethodName)) ∈ lw_all := lw_g (lw_at lw_m1 49 rfl) rfl
theorem q118 : (Jvm.Cond.instanceMethod ({ cls := "LineEchoes$Line", name := "<init>", desc := "()V" } : Jvm.MethodName)) ∈ lw_all := lw_g (lw_at lw_m1 50 rfl) rfl
theorem q119 : (Jvm.Cond.code ({ cls := "LineEchoes$Line", name := "<init>", desc := "()V" } : Jvm.MethodName) prog_5_method_1_code (1 : Nat) (Option.none : Option Jvm.ClassFile.FieldType)) ∈ lw_all := lw_g (lw_at lw_m1 51 rfl) rfl
theorem q120 : (Jvm.Cond.methodLink "LineEchoes$Line" (3 : Nat) ({ cls := "java/lang/Object", name := "<init>", desc := "()V" } : Jvm.MethodName)) ∈ lw_all := lw_g (lw_at lw_m1 52 rfl) rfl
theorem q121 : (Jvm.Cond.fieldLink "LineEchoes$Line" (9 : Nat) "LineEchoes$Line" "lengths" "[I") ∈ lw_all := lw_g (lw_at lw_m1 53 rfl) rfl
theorem q125 : (Jvm.Cond.fieldLink "LineEchoes$Line" (15 : Nat) "LineEchoes$Line" "fractions" "[I") ∈ lw_all := lw_g (lw_at lw_m1 57 rfl) rfl
theorem q131 : (Jvm.Cond.fieldLink "LineEchoes$Line" (37 : Nat) "LineEchoes$Line" "n" "I") ∈ lw_all := lw_g (lw_at lw_m1 63 rfl) rfl
theorem q135 : (Jvm.Cond.fieldLink "LineEchoes$Line" (18 : Nat) "LineEchoes$Line" "pulseTimes" "[I") ∈ lw_all := lw_g (lw_at lw_m1 67 rfl) rfl
theorem q138 : (Jvm.Cond.fieldLink "LineEchoes$Line" (21 : Nat) "LineEchoes$Line" "pulseEnergies" "[I") ∈ lw_all := lw_g (lw_at lw_m1 70 rfl) rfl
theorem q141 : (Jvm.Cond.fieldLink "LineEchoes$Line" (46 : Nat) "LineEchoes$Line" "pulses" "I") ∈ lw_all := lw_g (lw_at lw_m1 73 rfl) rfl
theorem q145 : (Jvm.Cond.fieldLink "LineEchoes$Line" (49 : Nat) "LineEchoes$Line" "front" "I") ∈ lw_all := lw_g (lw_at lw_m1 77 rfl) rfl
theorem q147 : (Jvm.Cond.fieldLink "LineEchoes$Line" (24 : Nat) "LineEchoes$Line" "least" "I") ∈ lw_all := lw_g (lw_at lw_m1 79 rfl) rfl
theorem q149 : (Jvm.Cond.fieldLink "LineEchoes$Line" (28 : Nat) "LineEchoes$Line" "window" "I") ∈ lw_all := lw_g (lw_at lw_m1 81 rfl) rfl
theorem q154 : (Jvm.Cond.laysFinal "LineEchoes$Line" "LineEchoes$Line" "lengths" "[I") ∈ lw_all := lw_g (lw_at lw_m1 86 rfl) rfl
theorem q155 : (Jvm.Cond.soleField "LineEchoes$Line" "lengths") ∈ lw_all := lw_g (lw_at lw_m1 87 rfl) rfl
theorem q156 : (Jvm.Cond.laysFinal "LineEchoes$Line" "LineEchoes$Line" "fractions" "[I") ∈ lw_all := lw_g (lw_at lw_m1 88 rfl) rfl
theorem q157 : (Jvm.Cond.soleField "LineEchoes$Line" "fractions") ∈ lw_all := lw_g (lw_at lw_m1 89 rfl) rfl
theorem q158 : (Jvm.Cond.lays "LineEchoes$Line" "LineEchoes$Line" "n" "I") ∈ lw_all := lw_g (lw_at lw_m1 90 rfl) rfl
theorem q159 : (Jvm.Cond.soleField "LineEchoes$Line" "n") ∈ lw_all := lw_g (lw_at lw_m1 91 rfl) rfl
theorem q160 : (Jvm.Cond.laysFinal "LineEchoes$Line" "LineEchoes$Line" "pulseTimes" "[I") ∈ lw_all := lw_g (lw_at lw_m1 92 rfl) rfl
theorem q161 : (Jvm.Cond.soleField "LineEchoes$Line" "pulseTimes") ∈ lw_all := lw_g (lw_at lw_m1 93 rfl) rfl
theorem q162 : (Jvm.Cond.laysFinal "LineEchoes$Line" "LineEchoes$Line" "pulseEnergies" "[I") ∈ lw_all := lw_g (lw_at lw_m1 94 rfl) rfl
theorem q163 : (Jvm.Cond.soleField "LineEchoes$Line" "pulseEnergies") ∈ lw_all := lw_g (lw_at lw_m1 95 rfl) rfl
theorem q164 : (Jvm.Cond.lays "LineEchoes$Line" "LineEchoes$Line" "pulses" "I") ∈ lw_all := lw_g (lw_at lw_m1 96 rfl) rfl
theorem q165 : (Jvm.Cond.soleField "LineEchoes$Line" "pulses") ∈ lw_all := lw_g (lw_at lw_m1 97 rfl) rfl
theorem q166 : (Jvm.Cond.lays "LineEchoes$Line" "LineEchoes$Line" "front" "I") ∈ lw_all := lw_g (lw_at lw_m1 98 rfl) rfl
theorem q167 : (Jvm.Cond.soleField "LineEchoes$Line" "front") ∈ lw_all := lw_g (lw_at lw_m1 99 rfl) rfl
theorem q168 : (Jvm.Cond.lays "LineEchoes$Line" "LineEchoes$Line" "least" "I") ∈ lw_all := lw_g (lw_at lw_m1 100 rfl) rfl
theorem q169 : (Jvm.Cond.soleField "LineEchoes$Line" "least") ∈ lw_all := lw_g (lw_at lw_m1 101 rfl) rfl
theorem q170 : (Jvm.Cond.lays "LineEchoes$Line" "LineEchoes$Line" "window" "I") ∈ lw_all := lw_g (lw_at lw_m1 102 rfl) rfl
theorem q171 : (Jvm.Cond.soleField "LineEchoes$Line" "window") ∈ lw_all := lw_g (lw_at lw_m1 103 rfl) rfl
theorem q172 : (Jvm.Cond.superclass "LineEchoes$Line" "java/lang/Object") ∈ lw_all := lw_g (lw_at lw_m1 104 rfl) rfl
theorem q174 : (Jvm.Cond.constant "LineEchoes$Line" (32 : Nat) (100000 : Int32)) ∈ lw_all := lw_g (lw_at lw_m1 106 rfl) rfl
theorem q175 : (Jvm.Cond.methodLink "LineEchoes$Line" (33 : Nat) ({ cls := "LineEchoes$Line", name := "addPulse", desc := "(II)V" } : Jvm.MethodName)) ∈ lw_all := lw_g (lw_at lw_m1 107 rfl) rfl
theorem q176 : (Jvm.Cond.instanceMethod ({ cls := "LineEchoes$Line", name := "addPulse", desc := "(II)V" } : Jvm.MethodName)) ∈ lw_all := lw_g (lw_at lw_m1 108 rfl) rfl
theorem q177 : (Jvm.Cond.selects "LineEchoes$Line" ({ cls := "LineEchoes$Line", name := "addPulse", desc := "(II)V" } : Jvm.MethodName) ({ cls := "LineEchoes$Line", name := "addPulse", desc := "(II)V" } : Jvm.MethodName)) ∈ lw_all := lw_g (lw_at lw_m1 109 rfl) rfl
theorem q178 : (Jvm.Cond.code ({ cls := "LineEchoes$Line", name := "addPulse", desc := "(II)V" } : Jvm.MethodName) prog_5_method_6_code (3 : Nat) (Option.none : Option Jvm.ClassFile.FieldType)) ∈ lw_all := lw_g (lw_at lw_m1 110 rfl) rfl
theorem q273 : (Jvm.Cond.instanceMethod ({ cls := "LineEchoes$Line", name := "copy", desc := "()LLineEchoes$Line;" } : Jvm.MethodName)) ∈ lw_all := lw_g (lw_at lw_m1 205 rfl) rfl
theorem q274 : (Jvm.Cond.selects "LineEchoes$Line" ({ cls := "LineEchoes$Line", name := "copy", desc := "()LLineEchoes$Line;" } : Jvm.MethodName) ({ cls := "LineEchoes$Line", name := "copy", desc := "()LLineEchoes$Line;" } : Jvm.MethodName)) ∈ lw_all := lw_g (lw_at lw_m1 206 rfl) rfl
theorem q275 : (Jvm.Cond.code ({ cls := "LineEchoes$Line", name := "copy", desc := "()LLineEchoes$Line;" } : Jvm.MethodName) prog_5_method_3_code (2 : Nat) (Option.some (Jvm.ClassFile.FieldType.object "LineEchoes$Line"))) ∈ lw_all := lw_g (lw_at lw_m1 207 rfl) rfl
theorem q276 : (Jvm.Cond.methodLink "LineEchoes$Line" (40 : Nat) ({ cls := "java/lang/System", name := "arraycopy", desc := "(Ljava/lang/Object;ILjava/lang/Object;II)V" } : Jvm.MethodName)) ∈ lw_all := lw_g (lw_at lw_m1 208 rfl) rfl
theorem q279 : (Jvm.Cond.methodLink "LineEchoes$Line" (52 : Nat) ({ cls := "LineEchoes$Line", name := "setBench", desc := "(III)V" } : Jvm.MethodName)) ∈ lw_all := lw_g (lw_at lw_m1 211 rfl) rfl
theorem q280 : (Jvm.Cond.instanceMethod ({ cls := "LineEchoes$Line", name := "setBench", desc := "(III)V" } : Jvm.MethodName)) ∈ lw_all := lw_g (lw_at lw_m1 212 rfl) rfl
theorem q281 : (Jvm.Cond.selects "LineEchoes$Line" ({ cls := "LineEchoes$Line", name := "setBench", desc := "(III)V" } : Jvm.MethodName) ({ cls := "LineEchoes$Line", name := "setBench", desc := "(III)V" } : Jvm.MethodName)) ∈ lw_all := lw_g (lw_at lw_m1 213 rfl) rfl
theorem q282 : (Jvm.Cond.code ({ cls := "LineEchoes$Line", name := "setBench", desc := "(III)V" } : Jvm.MethodName) prog_5_method_5_code (4 : Nat) (Option.none : Option Jvm.ClassFile.FieldType)) ∈ lw_all := lw_g (lw_at lw_m1 214 rfl) rfl
theorem q284 : (Jvm.Cond.instanceMethod ({ cls := "LineEchoes$Line", name := "reverse", desc := "()V" } : Jvm.MethodName)) ∈ lw_all := lw_g (lw_at lw_m1 216 rfl) rfl
theorem q285 : (Jvm.Cond.selects "LineEchoes$Line" ({ cls := "LineEchoes$Line", name := "reverse", desc := "()V" } : Jvm.MethodName) ({ cls := "LineEchoes$Line", name := "reverse", desc := "()V" } : Jvm.MethodName)) ∈ lw_all := lw_g (lw_at lw_m1 217 rfl) rfl
theorem q286 : (Jvm.Cond.code ({ cls := "LineEchoes$Line", name := "reverse", desc := "()V" } : Jvm.MethodName) prog_5_method_12_code (2 : Nat) (Option.none : Option Jvm.ClassFile.FieldType)) ∈ lw_all := lw_g (lw_at lw_m1 218 rfl) rfl
theorem q287 : (Jvm.Cond.methodLink "LineEchoes$Line" (56 : Nat) ({ cls := "LineEchoes$Line", name := "swap", desc := "(II[I)V" } : Jvm.MethodName)) ∈ lw_all := lw_g (lw_at lw_m1 219 rfl) rfl
theorem q288 : (Jvm.Cond.static ({ cls := "LineEchoes$Line", name := "swap", desc := "(II[I)V" } : Jvm.MethodName)) ∈ lw_all := lw_g (lw_at lw_m1 220 rfl) rfl
theorem q289 : (Jvm.Cond.code ({ cls := "LineEchoes$Line", name := "swap", desc := "(II[I)V" } : Jvm.MethodName) prog_5_method_11_code (4 : Nat) (Option.none : Option Jvm.ClassFile.FieldType)) ∈ lw_all := lw_g (lw_at lw_m1 221 rfl) rfl
theorem q291 : (Jvm.Cond.instanceMethod ({ cls := "LineEchoes$Line", name := "sum", desc := "(I)I" } : Jvm.MethodName)) ∈ lw_all := lw_g (lw_at lw_m1 223 rfl) rfl
theorem q292 : (Jvm.Cond.selects "LineEchoes$Line" ({ cls := "LineEchoes$Line", name := "sum", desc := "(I)I" } : Jvm.MethodName) ({ cls := "LineEchoes$Line", name := "sum", desc := "(I)I" } : Jvm.MethodName)) ∈ lw_all := lw_g (lw_at lw_m1 224 rfl) rfl
theorem q293 : (Jvm.Cond.code ({ cls := "LineEchoes$Line", name := "sum", desc := "(I)I" } : Jvm.MethodName) prog_5_method_13_code (4 : Nat) (Option.some Jvm.ClassFile.FieldType.int)) ∈ lw_all := lw_g (lw_at lw_m1 225 rfl) rfl
theorem q390 : (Jvm.Cond.instanceMethod ({ cls := "LineEchoes$Line", name := "forPeeling", desc := "()LLineEchoes$Line;" } : Jvm.MethodName)) ∈ lw_all := lw_g (lw_at lw_m2 82 rfl) rfl
theorem q391 : (Jvm.Cond.selects "LineEchoes$Line" ({ cls := "LineEchoes$Line", name := "forPeeling", desc := "()LLineEchoes$Line;" } : Jvm.MethodName) ({ cls := "LineEchoes$Line", name := "forPeeling", desc := "()LLineEchoes$Line;" } : Jvm.MethodName)) ∈ lw_all := lw_g (lw_at lw_m2 83 rfl) rfl
theorem q392 : (Jvm.Cond.code ({ cls := "LineEchoes$Line", name := "forPeeling", desc := "()LLineEchoes$Line;" } : Jvm.MethodName) prog_5_method_4_code (2 : Nat) (Option.some (Jvm.ClassFile.FieldType.object "LineEchoes$Line"))) ∈ lw_all := lw_g (lw_at lw_m2 84 rfl) rfl
theorem q428 : (Jvm.Cond.instanceMethod ({ cls := "LineEchoes$Line", name := "insert", desc := "(III)V" } : Jvm.MethodName)) ∈ lw_all := lw_g (lw_at lw_m2 120 rfl) rfl
theorem q429 : (Jvm.Cond.selects "LineEchoes$Line" ({ cls := "LineEchoes$Line", name := "insert", desc := "(III)V" } : Jvm.MethodName) ({ cls := "LineEchoes$Line", name := "insert", desc := "(III)V" } : Jvm.MethodName)) ∈ lw_all := lw_g (lw_at lw_m2 121 rfl) rfl
theorem q430 : (Jvm.Cond.code ({ cls := "LineEchoes$Line", name := "insert", desc := "(III)V" } : Jvm.MethodName) prog_5_method_8_code (4 : Nat) (Option.none : Option Jvm.ClassFile.FieldType)) ∈ lw_all := lw_g (lw_at lw_m2 122 rfl) rfl
theorem q436 : (Jvm.Cond.instanceMethod ({ cls := "LineEchoes$Line", name := "remove", desc := "(I)V" } : Jvm.MethodName)) ∈ lw_all := lw_g (lw_at lw_m2 128 rfl) rfl
theorem q437 : (Jvm.Cond.selects "LineEchoes$Line" ({ cls := "LineEchoes$Line", name := "remove", desc := "(I)V" } : Jvm.MethodName) ({ cls := "LineEchoes$Line", name := "remove", desc := "(I)V" } : Jvm.MethodName)) ∈ lw_all := lw_g (lw_at lw_m2 129 rfl) rfl
theorem q438 : (Jvm.Cond.code ({ cls := "LineEchoes$Line", name := "remove", desc := "(I)V" } : Jvm.MethodName) prog_5_method_9_code (2 : Nat) (Option.none : Option Jvm.ClassFile.FieldType)) ∈ lw_all := lw_g (lw_at lw_m2 130 rfl) rfl
theorem q440 : (Jvm.Cond.instanceMethod ({ cls := "LineEchoes$Line", name := "takeParts", desc := "(LLineEchoes$Line;)V" } : Jvm.MethodName)) ∈ lw_all := lw_g (lw_at lw_m2 132 rfl) rfl
theorem q441 : (Jvm.Cond.selects "LineEchoes$Line" ({ cls := "LineEchoes$Line", name := "takeParts", desc := "(LLineEchoes$Line;)V" } : Jvm.MethodName) ({ cls := "LineEchoes$Line", name := "takeParts", desc := "(LLineEchoes$Line;)V" } : Jvm.MethodName)) ∈ lw_all := lw_g (lw_at lw_m2 133 rfl) rfl
theorem q442 : (Jvm.Cond.code ({ cls := "LineEchoes$Line", name := "takeParts", desc := "(LLineEchoes$Line;)V" } : Jvm.MethodName) prog_5_method_10_code (2 : Nat) (Option.none : Option Jvm.ClassFile.FieldType)) ∈ lw_all := lw_g (lw_at lw_m2 134 rfl) rfl
theorem q1034 : (Jvm.Cond.instanceMethod ({ cls := "LineEchoes$Line", name := "value", desc := "(I)I" } : Jvm.MethodName)) ∈ lw_all := lw_g (lw_at lw_m5 6 rfl) rfl
theorem q1035 : (Jvm.Cond.selects "LineEchoes$Line" ({ cls := "LineEchoes$Line", name := "value", desc := "(I)I" } : Jvm.MethodName) ({ cls := "LineEchoes$Line", name := "value", desc := "(I)I" } : Jvm.MethodName)) ∈ lw_all := lw_g (lw_at lw_m5 7 rfl) rfl
theorem q1036 : (Jvm.Cond.code ({ cls := "LineEchoes$Line", name := "value", desc := "(I)I" } : Jvm.MethodName) prog_5_method_16_code (2 : Nat) (Option.some Jvm.ClassFile.FieldType.int)) ∈ lw_all := lw_g (lw_at lw_m5 8 rfl) rfl
theorem q1037 : (Jvm.Cond.methodLink "LineEchoes$Line" (66 : Nat) ({ cls := "LineEchoes$Line", name := "sum", desc := "(I)I" } : Jvm.MethodName)) ∈ lw_all := lw_g (lw_at lw_m5 9 rfl) rfl
theorem q1061 : (Jvm.Cond.instanceMethod ({ cls := "LineEchoes$Line", name := "earliest", desc := "()I" } : Jvm.MethodName)) ∈ lw_all := lw_g (lw_at lw_m5 33 rfl) rfl
theorem q1062 : (Jvm.Cond.selects "LineEchoes$Line" ({ cls := "LineEchoes$Line", name := "earliest", desc := "()I" } : Jvm.MethodName) ({ cls := "LineEchoes$Line", name := "earliest", desc := "()I" } : Jvm.MethodName)) ∈ lw_all := lw_g (lw_at lw_m5 34 rfl) rfl
theorem q1063 : (Jvm.Cond.code ({ cls := "LineEchoes$Line", name := "earliest", desc := "()I" } : Jvm.MethodName) prog_5_method_14_code (3 : Nat) (Option.some Jvm.ClassFile.FieldType.int)) ∈ lw_all := lw_g (lw_at lw_m5 35 rfl) rfl
theorem q1064 : (Jvm.Cond.methodLink "LineEchoes$Line" (60 : Nat) ({ cls := "java/lang/Math", name := "min", desc := "(II)I" } : Jvm.MethodName)) ∈ lw_all := lw_g (lw_at lw_m5 36 rfl) rfl
theorem q1066 : (Jvm.Cond.instanceMethod ({ cls := "LineEchoes$Line", name := "partOf", desc := "(I)I" } : Jvm.MethodName)) ∈ lw_all := lw_g (lw_at lw_m5 38 rfl) rfl
theorem q1067 : (Jvm.Cond.selects "LineEchoes$Line" ({ cls := "LineEchoes$Line", name := "partOf", desc := "(I)I" } : Jvm.MethodName) ({ cls := "LineEchoes$Line", name := "partOf", desc := "(I)I" } : Jvm.MethodName)) ∈ lw_all := lw_g (lw_at lw_m5 39 rfl) rfl
theorem q1068 : (Jvm.Cond.code ({ cls := "LineEchoes$Line", name := "partOf", desc := "(I)I" } : Jvm.MethodName) prog_5_method_15_code (3 : Nat) (Option.some Jvm.ClassFile.FieldType.int)) ∈ lw_all := lw_g (lw_at lw_m5 40 rfl) rfl
theorem q1145 : (Jvm.Cond.instanceMethod ({ cls := "LineEchoes$Line", name := "removePulse", desc := "(I)V" } : Jvm.MethodName)) ∈ lw_all := lw_g (lw_at lw_m5 117 rfl) rfl
theorem q1146 : (Jvm.Cond.selects "LineEchoes$Line" ({ cls := "LineEchoes$Line", name := "removePulse", desc := "(I)V" } : Jvm.MethodName) ({ cls := "LineEchoes$Line", name := "removePulse", desc := "(I)V" } : Jvm.MethodName)) ∈ lw_all := lw_g (lw_at lw_m5 118 rfl) rfl
theorem q1147 : (Jvm.Cond.code ({ cls := "LineEchoes$Line", name := "removePulse", desc := "(I)V" } : Jvm.MethodName) prog_5_method_7_code (2 : Nat) (Option.none : Option Jvm.ClassFile.FieldType)) ∈ lw_all := lw_g (lw_at lw_m5 119 rfl) rfl
theorem in_X3 : ∀ w ∈ wsX30, w ∈ lw_all := lw_in wsX30 [154, 156, 158, 160, 162, 164, 166, 168, 170] (by decide +kernel) (by decide +kernel)

/-! LineEchoes$Kept -/
set_option maxRecDepth 100000
def RX4 : String := "LineEchoes$Kept"
def TX4 : u_T := fun k => match k with
  | _ => ("LineEchoes$Kept", "energies", "[J", true)
def tyX4 : Nat → FieldType := fun k => match k with
  | _ => .array .long
abbrev wsX40 : List Cond := u_ws RX4 TX4 1
theorem nmX4 : ∀ a, a < 1 → ∀ b, b < 1 → a ≠ b → (TX4 a).2.1 ≠ (TX4 b).2.1 := by decide +kernel
theorem tyX4_ok : ∀ k, k < 1 → parseFieldDescriptor (TX4 k).2.2.1 = some (tyX4 k) := by decide +kernel
abbrev cX4_init : ByteArray := prog_4_method_1_code
def yX4_init : MethodName := ⟨RX4, "<init>", "()V"⟩
def dkwX4_init_0 : List UInt8 := [42, 183, 0, 3, 42, 17, 0, 201, 188, 11, 181, 0, 9, 177]
abbrev dktX4_init_0 : List UInt8 := dkwX4_init_0 ++ []
theorem dksX4_init_0 : cX4_init.data.toList.drop 0 = dktX4_init_0 := by decide +kernel
theorem dX4_init_0 : decode cX4_init 0 = .ok (.aload_n 0, 1) := dk_42 (dk_at dksX4_init_0 0 rfl rfl)
theorem dX4_init_1 : decode cX4_init 1 = .ok (.invokespecial 3, 3) := dk_183 0 3 (dk_at dksX4_init_0 1 rfl rfl)
theorem dX4_init_4 : decode cX4_init 4 = .ok (.aload_n 0, 1) := dk_42 (dk_at dksX4_init_0 4 rfl rfl)
theorem dX4_init_5 : decode cX4_init 5 = .ok (.sipush 201, 3) := dk_17 0 201 (dk_at dksX4_init_0 5 rfl rfl)
theorem dX4_init_8 : decode cX4_init 8 = .ok (.newarray .long, 2) := dk_188_11 (dk_at dksX4_init_0 8 rfl rfl)
theorem dX4_init_10 : decode cX4_init 10 = .ok (.putfield 9, 3) := dk_181 0 9 (dk_at dksX4_init_0 10 rfl rfl)
theorem dX4_init_13 : decode cX4_init 13 = .ok (.return_, 1) := dk_177 (dk_at dksX4_init_0 13 rfl rfl)
abbrev cX4_of : ByteArray := prog_4_method_2_code
def yX4_of : MethodName := ⟨RX4, "of", "(LLineEchoes$Echoes;I)LLineEchoes$Kept;"⟩
def dkwX4_of_1 : List UInt8 := [185, 0, 16, 2, 0, 80, 132, 3, 1, 167, 255, 235, 44, 176]
abbrev dktX4_of_1 : List UInt8 := dkwX4_of_1 ++ []
def dkwX4_of_0 : List UInt8 := [187, 0, 10, 89, 183, 0, 15, 77, 3, 62, 29, 27, 163, 0, 22, 44, 180, 0, 9, 29, 42, 29]
abbrev dktX4_of_0 : List UInt8 := dkwX4_of_0 ++ dktX4_of_1
theorem dksX4_of_0 : cX4_of.data.toList.drop 0 = dktX4_of_0 := by decide +kernel
theorem dksX4_of_1 : cX4_of.data.toList.drop 22 = dktX4_of_1 := dk_seg dksX4_of_0 22 rfl rfl
theorem dX4_of_0 : decode cX4_of 0 = .ok (.new 10, 3) := dk_187 0 10 (dk_at dksX4_of_0 0 rfl rfl)
theorem dX4_of_3 : decode cX4_of 3 = .ok (.dup, 1) := dk_89 (dk_at dksX4_of_0 3 rfl rfl)
theorem dX4_of_4 : decode cX4_of 4 = .ok (.invokespecial 15, 3) := dk_183 0 15 (dk_at dksX4_of_0 4 rfl rfl)
theorem dX4_of_7 : decode cX4_of 7 = .ok (.astore_n 2, 1) := dk_77 (dk_at dksX4_of_0 7 rfl rfl)
theorem dX4_of_8 : decode cX4_of 8 = .ok (.iconst 0, 1) := dk_3 (dk_at dksX4_of_0 8 rfl rfl)
theorem dX4_of_9 : decode cX4_of 9 = .ok (.istore_n 3, 1) := dk_62 (dk_at dksX4_of_0 9 rfl rfl)
theorem dX4_of_10 : decode cX4_of 10 = .ok (.iload_n 3, 1) := dk_29 (dk_at dksX4_of_0 10 rfl rfl)
theorem dX4_of_11 : decode cX4_of 11 = .ok (.iload_n 1, 1) := dk_27 (dk_at dksX4_of_0 11 rfl rfl)
theorem dX4_of_12 : decode cX4_of 12 = .ok (.if_icmp .gt 22, 3) := dk_163 0 22 (dk_at dksX4_of_0 12 rfl rfl)
theorem dX4_of_15 : decode cX4_of 15 = .ok (.aload_n 2, 1) := dk_44 (dk_at dksX4_of_0 15 rfl rfl)
theorem dX4_of_16 : decode cX4_of 16 = .ok (.getfield 9, 3) := dk_180 0 9 (dk_at dksX4_of_0 16 rfl rfl)
theorem dX4_of_19 : decode cX4_of 19 = .ok (.iload_n 3, 1) := dk_29 (dk_at dksX4_of_0 19 rfl rfl)
theorem dX4_of_20 : decode cX4_of 20 = .ok (.aload_n 0, 1) := dk_42 (dk_at dksX4_of_0 20 rfl rfl)
theorem dX4_of_21 : decode cX4_of 21 = .ok (.iload_n 3, 1) := dk_29 (dk_at dksX4_of_0 21 rfl rfl)
theorem dX4_of_22 : decode cX4_of 22 = .ok (.invokeinterface 16 2, 5) := by decide +kernel
theorem dX4_of_27 : decode cX4_of 27 = .ok (.lastore, 1) := dk_80 (dk_at dksX4_of_1 5 rfl rfl)
theorem dX4_of_28 : decode cX4_of 28 = .ok (.iinc 3 1, 3) := dk_132 3 1 (dk_at dksX4_of_1 6 rfl rfl)
theorem dX4_of_31 : decode cX4_of 31 = .ok (.goto (-21), 3) := dk_167 255 235 (dk_at dksX4_of_1 9 rfl rfl)
theorem dX4_of_34 : decode cX4_of 34 = .ok (.aload_n 2, 1) := dk_44 (dk_at dksX4_of_1 12 rfl rfl)
theorem dX4_of_35 : decode cX4_of 35 = .ok (.areturn, 1) := dk_176 (dk_at dksX4_of_1 13 rfl rfl)
abbrev cX4_at : ByteArray := prog_4_method_4_code
def yX4_at : MethodName := ⟨RX4, "at", "(I)J"⟩
def dkwX4_at_0 : List UInt8 := [42, 180, 0, 9, 27, 47, 173]
abbrev dktX4_at_0 : List UInt8 := dkwX4_at_0 ++ []
theorem dksX4_at_0 : cX4_at.data.toList.drop 0 = dktX4_at_0 := by decide +kernel
theorem dX4_at_0 : decode cX4_at 0 = .ok (.aload_n 0, 1) := dk_42 (dk_at dksX4_at_0 0 rfl rfl)
theorem dX4_at_1 : decode cX4_at 1 = .ok (.getfield 9, 3) := dk_180 0 9 (dk_at dksX4_at_0 1 rfl rfl)
theorem dX4_at_4 : decode cX4_at 4 = .ok (.iload_n 1, 1) := dk_27 (dk_at dksX4_at_0 4 rfl rfl)
theorem dX4_at_5 : decode cX4_at 5 = .ok (.laload, 1) := dk_47 (dk_at dksX4_at_0 5 rfl rfl)
theorem dX4_at_6 : decode cX4_at 6 = .ok (.lreturn, 1) := dk_173 (dk_at dksX4_at_0 6 rfl rfl)
abbrev cX4_with : ByteArray := prog_4_method_3_code
def yX4_with : MethodName := ⟨RX4, "with", "(IJ)LLineEchoes$Kept;"⟩
def dkwX4_with_0 : List UInt8 := [42, 17, 0, 200, 184, 0, 22, 58, 4, 25, 4, 180, 0, 9, 27, 32, 80, 25, 4, 176]
abbrev dktX4_with_0 : List UInt8 := dkwX4_with_0 ++ []
theorem dksX4_with_0 : cX4_with.data.toList.drop 0 = dktX4_with_0 := by decide +kernel
theorem dX4_with_0 : decode cX4_with 0 = .ok (.aload_n 0, 1) := dk_42 (dk_at dksX4_with_0 0 rfl rfl)
theorem dX4_with_1 : decode cX4_with 1 = .ok (.sipush 200, 3) := dk_17 0 200 (dk_at dksX4_with_0 1 rfl rfl)
theorem dX4_with_4 : decode cX4_with 4 = .ok (.invokestatic 22, 3) := dk_184 0 22 (dk_at dksX4_with_0 4 rfl rfl)
theorem dX4_with_7 : decode cX4_with 7 = .ok (.astore 4, 2) := dk_58 4 (dk_at dksX4_with_0 7 rfl rfl)
theorem dX4_with_9 : decode cX4_with 9 = .ok (.aload 4, 2) := dk_25 4 (dk_at dksX4_with_0 9 rfl rfl)
theorem dX4_with_11 : decode cX4_with 11 = .ok (.getfield 9, 3) := dk_180 0 9 (dk_at dksX4_with_0 11 rfl rfl)
theorem dX4_with_14 : decode cX4_with 14 = .ok (.iload_n 1, 1) := dk_27 (dk_at dksX4_with_0 14 rfl rfl)
theorem dX4_with_15 : decode cX4_with 15 = .ok (.lload_n 2, 1) := dk_32 (dk_at dksX4_with_0 15 rfl rfl)
theorem dX4_with_16 : decode cX4_with 16 = .ok (.lastore, 1) := dk_80 (dk_at dksX4_with_0 16 rfl rfl)
theorem dX4_with_17 : decode cX4_with 17 = .ok (.aload 4, 2) := dk_25 4 (dk_at dksX4_with_0 17 rfl rfl)
theorem dX4_with_19 : decode cX4_with 19 = .ok (.areturn, 1) := dk_176 (dk_at dksX4_with_0 19 rfl rfl)
theorem q72 : (Jvm.Cond.initialized "LineEchoes$Kept") ∈ lw_all := lw_g (lw_at lw_m1 4 rfl) rfl
theorem q180 : (Jvm.Cond.instantiable "LineEchoes$Kept" (1 : Nat)) ∈ lw_all := lw_g (lw_at lw_m1 112 rfl) rfl
theorem q182 : (Jvm.Cond.instanceMethod ({ cls := "LineEchoes$Kept", name := "<init>", desc := "()V" } : Jvm.MethodName)) ∈ lw_all := lw_g (lw_at lw_m1 114 rfl) rfl
theorem q183 : (Jvm.Cond.code ({ cls := "LineEchoes$Kept", name := "<init>", desc := "()V" } : Jvm.MethodName) prog_4_method_1_code (1 : Nat) (Option.none : Option Jvm.ClassFile.FieldType)) ∈ lw_all := lw_g (lw_at lw_m1 115 rfl) rfl
theorem q184 : (Jvm.Cond.methodLink "LineEchoes$Kept" (3 : Nat) ({ cls := "java/lang/Object", name := "<init>", desc := "()V" } : Jvm.MethodName)) ∈ lw_all := lw_g (lw_at lw_m1 116 rfl) rfl
theorem q185 : (Jvm.Cond.fieldLink "LineEchoes$Kept" (9 : Nat) "LineEchoes$Kept" "energies" "[J") ∈ lw_all := lw_g (lw_at lw_m1 117 rfl) rfl
theorem q186 : (Jvm.Cond.laysFinal "LineEchoes$Kept" "LineEchoes$Kept" "energies" "[J") ∈ lw_all := lw_g (lw_at lw_m1 118 rfl) rfl
theorem q187 : (Jvm.Cond.soleField "LineEchoes$Kept" "energies") ∈ lw_all := lw_g (lw_at lw_m1 119 rfl) rfl
theorem q188 : (Jvm.Cond.superclass "LineEchoes$Kept" "java/lang/Object") ∈ lw_all := lw_g (lw_at lw_m1 120 rfl) rfl
theorem q331 : (Jvm.Cond.static ({ cls := "LineEchoes$Kept", name := "of", desc := "(LLineEchoes$Echoes;I)LLineEchoes$Kept;" } : Jvm.MethodName)) ∈ lw_all := lw_g (lw_at lw_m2 23 rfl) rfl
theorem q332 : (Jvm.Cond.code ({ cls := "LineEchoes$Kept", name := "of", desc := "(LLineEchoes$Echoes;I)LLineEchoes$Kept;" } : Jvm.MethodName) prog_4_method_2_code (4 : Nat) (Option.some (Jvm.ClassFile.FieldType.object "LineEchoes$Kept"))) ∈ lw_all := lw_g (lw_at lw_m2 24 rfl) rfl
theorem q333 : (Jvm.Cond.classLink "LineEchoes$Kept" (10 : Nat) "LineEchoes$Kept") ∈ lw_all := lw_g (lw_at lw_m2 25 rfl) rfl
theorem q334 : (Jvm.Cond.methodLink "LineEchoes$Kept" (15 : Nat) ({ cls := "LineEchoes$Kept", name := "<init>", desc := "()V" } : Jvm.MethodName)) ∈ lw_all := lw_g (lw_at lw_m2 26 rfl) rfl
theorem q335 : (Jvm.Cond.interfaceEntry "LineEchoes$Kept" (16 : Nat)) ∈ lw_tbl := lw_at lw_m2 27 rfl
theorem q336 : (Jvm.Cond.methodLink "LineEchoes$Kept" (16 : Nat) ({ cls := "LineEchoes$Echoes", name := "at", desc := "(I)J" } : Jvm.MethodName)) ∈ lw_all := lw_g (lw_at lw_m2 28 rfl) rfl
theorem q339 : (Jvm.Cond.castable "LineEchoes$Kept" "LineEchoes$Echoes") ∈ lw_tbl := lw_at lw_m2 31 rfl
theorem q340 : (Jvm.Cond.selects "LineEchoes$Kept" ({ cls := "LineEchoes$Echoes", name := "at", desc := "(I)J" } : Jvm.MethodName) ({ cls := "LineEchoes$Kept", name := "at", desc := "(I)J" } : Jvm.MethodName)) ∈ lw_all := lw_g (lw_at lw_m2 32 rfl) rfl
theorem q341 : (Jvm.Cond.unhidden "LineEchoes$Kept" "at" "(I)J") ∈ lw_tbl := lw_at lw_m2 33 rfl
theorem q342 : (Jvm.Cond.instanceMethod ({ cls := "LineEchoes$Kept", name := "at", desc := "(I)J" } : Jvm.MethodName)) ∈ lw_all := lw_g (lw_at lw_m2 34 rfl) rfl
theorem q343 : (Jvm.Cond.publicMethod ({ cls := "LineEchoes$Kept", name := "at", desc := "(I)J" } : Jvm.MethodName)) ∈ lw_tbl := lw_at lw_m2 35 rfl
theorem q344 : (Jvm.Cond.code ({ cls := "LineEchoes$Kept", name := "at", desc := "(I)J" } : Jvm.MethodName) prog_4_method_4_code (2 : Nat) (Option.some Jvm.ClassFile.FieldType.long)) ∈ lw_all := lw_g (lw_at lw_m2 36 rfl) rfl
theorem q1290 : (Jvm.Cond.instanceMethod ({ cls := "LineEchoes$Kept", name := "with", desc := "(IJ)LLineEchoes$Kept;" } : Jvm.MethodName)) ∈ lw_all := lw_g (lw_at lw_m6 22 rfl) rfl
theorem q1291 : (Jvm.Cond.selects "LineEchoes$Kept" ({ cls := "LineEchoes$Kept", name := "with", desc := "(IJ)LLineEchoes$Kept;" } : Jvm.MethodName) ({ cls := "LineEchoes$Kept", name := "with", desc := "(IJ)LLineEchoes$Kept;" } : Jvm.MethodName)) ∈ lw_all := lw_g (lw_at lw_m6 23 rfl) rfl
theorem q1292 : (Jvm.Cond.code ({ cls := "LineEchoes$Kept", name := "with", desc := "(IJ)LLineEchoes$Kept;" } : Jvm.MethodName) prog_4_method_3_code (5 : Nat) (Option.some (Jvm.ClassFile.FieldType.object "LineEchoes$Kept"))) ∈ lw_all := lw_g (lw_at lw_m6 24 rfl) rfl
theorem q1293 : (Jvm.Cond.methodLink "LineEchoes$Kept" (22 : Nat) ({ cls := "LineEchoes$Kept", name := "of", desc := "(LLineEchoes$Echoes;I)LLineEchoes$Kept;" } : Jvm.MethodName)) ∈ lw_all := lw_g (lw_at lw_m6 25 rfl) rfl
theorem q1782 : (Jvm.Cond.selects "LineEchoes$Kept" ({ cls := "LineEchoes$Kept", name := "at", desc := "(I)J" } : Jvm.MethodName) ({ cls := "LineEchoes$Kept", name := "at", desc := "(I)J" } : Jvm.MethodName)) ∈ lw_all := lw_g (lw_at lw_m8 34 rfl) rfl
theorem in_X4 : ∀ w ∈ wsX40, w ∈ lw_all := lw_in wsX40 [186] (by decide +kernel) (by decide +kernel)

/-! LineEchoes$Runner -/
set_option maxRecDepth 100000
def RX5 : String := "LineEchoes$Runner"
def TX5 : u_T := fun k => match k with
  | 0 => ("LineEchoes$Runner", "fromNear", "[J", true)
  | 1 => ("LineEchoes$Runner", "fromFar", "[J", true)
  | 2 => ("LineEchoes$Runner", "echoes", "[J", true)
  | 3 => ("LineEchoes$Runner", "line", "LLineEchoes$Line;", false)
  | 4 => ("LineEchoes$Runner", "brought", "J", false)
  | 5 => ("LineEchoes$Runner", "left", "J", false)
  | 6 => ("LineEchoes$Runner", "dropped", "J", false)
  | 7 => ("LineEchoes$Runner", "away", "J", false)
  | 8 => ("LineEchoes$Runner", "mergings", "I", false)
  | _ => ("LineEchoes$Runner", "drops", "I", false)
def tyX5 : Nat → FieldType := fun k => match k with
  | 0 => .array .long
  | 1 => .array .long
  | 2 => .array .long
  | 3 => .object "LineEchoes$Line"
  | 4 => .long
  | 5 => .long
  | 6 => .long
  | 7 => .long
  | 8 => .int
  | _ => .int
abbrev wsX50 : List Cond := u_ws RX5 TX5 10
theorem nmX5 : ∀ a, a < 10 → ∀ b, b < 10 → a ≠ b → (TX5 a).2.1 ≠ (TX5 b).2.1 := by decide +kernel
theorem tyX5_ok : ∀ k, k < 10 → parseFieldDescriptor (TX5 k).2.2.1 = some (tyX5 k) := by decide +kernel
abbrev cX5_init : ByteArray := prog_8_method_1_code
def yX5_init : MethodName := ⟨RX5, "<init>", "()V"⟩
def dkwX5_init_1 : List UInt8 := [17, 0, 201, 188, 11, 181, 0, 18, 177]
abbrev dktX5_init_1 : List UInt8 := dkwX5_init_1 ++ []
def dkwX5_init_0 : List UInt8 := [42, 183, 0, 3, 42, 17, 7, 17, 188, 11, 181, 0, 9, 42, 17, 7, 17, 188, 11, 181, 0, 15, 42]
abbrev dktX5_init_0 : List UInt8 := dkwX5_init_0 ++ dktX5_init_1
theorem dksX5_init_0 : cX5_init.data.toList.drop 0 = dktX5_init_0 := by decide +kernel
theorem dksX5_init_1 : cX5_init.data.toList.drop 23 = dktX5_init_1 := dk_seg dksX5_init_0 23 rfl rfl
theorem dX5_init_0 : decode cX5_init 0 = .ok (.aload_n 0, 1) := dk_42 (dk_at dksX5_init_0 0 rfl rfl)
theorem dX5_init_1 : decode cX5_init 1 = .ok (.invokespecial 3, 3) := dk_183 0 3 (dk_at dksX5_init_0 1 rfl rfl)
theorem dX5_init_4 : decode cX5_init 4 = .ok (.aload_n 0, 1) := dk_42 (dk_at dksX5_init_0 4 rfl rfl)
theorem dX5_init_5 : decode cX5_init 5 = .ok (.sipush 1809, 3) := dk_17 7 17 (dk_at dksX5_init_0 5 rfl rfl)
theorem dX5_init_8 : decode cX5_init 8 = .ok (.newarray .long, 2) := dk_188_11 (dk_at dksX5_init_0 8 rfl rfl)
theorem dX5_init_10 : decode cX5_init 10 = .ok (.putfield 9, 3) := dk_181 0 9 (dk_at dksX5_init_0 10 rfl rfl)
theorem dX5_init_13 : decode cX5_init 13 = .ok (.aload_n 0, 1) := dk_42 (dk_at dksX5_init_0 13 rfl rfl)
theorem dX5_init_14 : decode cX5_init 14 = .ok (.sipush 1809, 3) := dk_17 7 17 (dk_at dksX5_init_0 14 rfl rfl)
theorem dX5_init_17 : decode cX5_init 17 = .ok (.newarray .long, 2) := dk_188_11 (dk_at dksX5_init_0 17 rfl rfl)
theorem dX5_init_19 : decode cX5_init 19 = .ok (.putfield 15, 3) := dk_181 0 15 (dk_at dksX5_init_0 19 rfl rfl)
theorem dX5_init_22 : decode cX5_init 22 = .ok (.aload_n 0, 1) := dk_42 (dk_at dksX5_init_0 22 rfl rfl)
theorem dX5_init_23 : decode cX5_init 23 = .ok (.sipush 201, 3) := dk_17 0 201 (dk_at dksX5_init_1 0 rfl rfl)
theorem dX5_init_26 : decode cX5_init 26 = .ok (.newarray .long, 2) := dk_188_11 (dk_at dksX5_init_1 3 rfl rfl)
theorem dX5_init_28 : decode cX5_init 28 = .ok (.putfield 18, 3) := dk_181 0 18 (dk_at dksX5_init_1 5 rfl rfl)
theorem dX5_init_31 : decode cX5_init 31 = .ok (.return_, 1) := dk_177 (dk_at dksX5_init_1 8 rfl rfl)
abbrev cX5_run : ByteArray := prog_8_method_4_code
def yX5_run : MethodName := ⟨RX5, "run", "(LLineEchoes$Line;)V"⟩
def dkwX5_run_4 : List UInt8 := [182, 0, 63, 132, 3, 1, 167, 255, 236, 132, 2, 1, 167, 255, 212, 177]
abbrev dktX5_run_4 : List UInt8 := dkwX5_run_4 ++ []
def dkwX5_run_3 : List UInt8 := [163, 0, 39, 42, 28, 182, 0, 56, 4, 62, 29, 42, 180, 0, 21, 180, 0, 60, 163, 0, 15, 42, 29, 28]
abbrev dktX5_run_3 : List UInt8 := dkwX5_run_3 ++ dktX5_run_4
def dkwX5_run_2 : List UInt8 := [181, 0, 41, 42, 3, 181, 0, 44, 42, 3, 181, 0, 48, 3, 61, 28, 42, 180, 0, 21, 180, 0, 51]
abbrev dktX5_run_2 : List UInt8 := dkwX5_run_2 ++ dktX5_run_3
def dkwX5_run_1 : List UInt8 := [180, 0, 18, 9, 184, 0, 25, 42, 9, 181, 0, 31, 42, 9, 181, 0, 35, 42, 9, 181, 0, 38, 42, 9]
abbrev dktX5_run_1 : List UInt8 := dkwX5_run_1 ++ dktX5_run_2
def dkwX5_run_0 : List UInt8 := [42, 43, 181, 0, 21, 42, 180, 0, 9, 9, 184, 0, 25, 42, 180, 0, 15, 9, 184, 0, 25, 42]
abbrev dktX5_run_0 : List UInt8 := dkwX5_run_0 ++ dktX5_run_1
theorem dksX5_run_0 : cX5_run.data.toList.drop 0 = dktX5_run_0 := by decide +kernel
theorem dksX5_run_1 : cX5_run.data.toList.drop 22 = dktX5_run_1 := dk_seg dksX5_run_0 22 rfl rfl
theorem dksX5_run_2 : cX5_run.data.toList.drop 46 = dktX5_run_2 := dk_seg dksX5_run_1 24 rfl rfl
theorem dksX5_run_3 : cX5_run.data.toList.drop 69 = dktX5_run_3 := dk_seg dksX5_run_2 23 rfl rfl
theorem dksX5_run_4 : cX5_run.data.toList.drop 93 = dktX5_run_4 := dk_seg dksX5_run_3 24 rfl rfl
theorem dX5_run_0 : decode cX5_run 0 = .ok (.aload_n 0, 1) := dk_42 (dk_at dksX5_run_0 0 rfl rfl)
theorem dX5_run_1 : decode cX5_run 1 = .ok (.aload_n 1, 1) := dk_43 (dk_at dksX5_run_0 1 rfl rfl)
theorem dX5_run_2 : decode cX5_run 2 = .ok (.putfield 21, 3) := dk_181 0 21 (dk_at dksX5_run_0 2 rfl rfl)
theorem dX5_run_5 : decode cX5_run 5 = .ok (.aload_n 0, 1) := dk_42 (dk_at dksX5_run_0 5 rfl rfl)
theorem dX5_run_6 : decode cX5_run 6 = .ok (.getfield 9, 3) := dk_180 0 9 (dk_at dksX5_run_0 6 rfl rfl)
theorem dX5_run_9 : decode cX5_run 9 = .ok (.lconst 0, 1) := dk_9 (dk_at dksX5_run_0 9 rfl rfl)
theorem dX5_run_10 : decode cX5_run 10 = .ok (.invokestatic 25, 3) := dk_184 0 25 (dk_at dksX5_run_0 10 rfl rfl)
theorem dX5_run_13 : decode cX5_run 13 = .ok (.aload_n 0, 1) := dk_42 (dk_at dksX5_run_0 13 rfl rfl)
theorem dX5_run_14 : decode cX5_run 14 = .ok (.getfield 15, 3) := dk_180 0 15 (dk_at dksX5_run_0 14 rfl rfl)
theorem dX5_run_17 : decode cX5_run 17 = .ok (.lconst 0, 1) := dk_9 (dk_at dksX5_run_0 17 rfl rfl)
theorem dX5_run_18 : decode cX5_run 18 = .ok (.invokestatic 25, 3) := dk_184 0 25 (dk_at dksX5_run_0 18 rfl rfl)
theorem dX5_run_21 : decode cX5_run 21 = .ok (.aload_n 0, 1) := dk_42 (dk_at dksX5_run_0 21 rfl rfl)
theorem dX5_run_22 : decode cX5_run 22 = .ok (.getfield 18, 3) := dk_180 0 18 (dk_at dksX5_run_1 0 rfl rfl)
theorem dX5_run_25 : decode cX5_run 25 = .ok (.lconst 0, 1) := dk_9 (dk_at dksX5_run_1 3 rfl rfl)
theorem dX5_run_26 : decode cX5_run 26 = .ok (.invokestatic 25, 3) := dk_184 0 25 (dk_at dksX5_run_1 4 rfl rfl)
theorem dX5_run_29 : decode cX5_run 29 = .ok (.aload_n 0, 1) := dk_42 (dk_at dksX5_run_1 7 rfl rfl)
theorem dX5_run_30 : decode cX5_run 30 = .ok (.lconst 0, 1) := dk_9 (dk_at dksX5_run_1 8 rfl rfl)
theorem dX5_run_31 : decode cX5_run 31 = .ok (.putfield 31, 3) := dk_181 0 31 (dk_at dksX5_run_1 9 rfl rfl)
theorem dX5_run_34 : decode cX5_run 34 = .ok (.aload_n 0, 1) := dk_42 (dk_at dksX5_run_1 12 rfl rfl)
theorem dX5_run_35 : decode cX5_run 35 = .ok (.lconst 0, 1) := dk_9 (dk_at dksX5_run_1 13 rfl rfl)
theorem dX5_run_36 : decode cX5_run 36 = .ok (.putfield 35, 3) := dk_181 0 35 (dk_at dksX5_run_1 14 rfl rfl)
theorem dX5_run_39 : decode cX5_run 39 = .ok (.aload_n 0, 1) := dk_42 (dk_at dksX5_run_1 17 rfl rfl)
theorem dX5_run_40 : decode cX5_run 40 = .ok (.lconst 0, 1) := dk_9 (dk_at dksX5_run_1 18 rfl rfl)
theorem dX5_run_41 : decode cX5_run 41 = .ok (.putfield 38, 3) := dk_181 0 38 (dk_at dksX5_run_1 19 rfl rfl)
theorem dX5_run_44 : decode cX5_run 44 = .ok (.aload_n 0, 1) := dk_42 (dk_at dksX5_run_1 22 rfl rfl)
theorem dX5_run_45 : decode cX5_run 45 = .ok (.lconst 0, 1) := dk_9 (dk_at dksX5_run_1 23 rfl rfl)
theorem dX5_run_46 : decode cX5_run 46 = .ok (.putfield 41, 3) := dk_181 0 41 (dk_at dksX5_run_2 0 rfl rfl)
theorem dX5_run_49 : decode cX5_run 49 = .ok (.aload_n 0, 1) := dk_42 (dk_at dksX5_run_2 3 rfl rfl)
theorem dX5_run_50 : decode cX5_run 50 = .ok (.iconst 0, 1) := dk_3 (dk_at dksX5_run_2 4 rfl rfl)
theorem dX5_run_51 : decode cX5_run 51 = .ok (.putfield 44, 3) := dk_181 0 44 (dk_at dksX5_run_2 5 rfl rfl)
theorem dX5_run_54 : decode cX5_run 54 = .ok (.aload_n 0, 1) := dk_42 (dk_at dksX5_run_2 8 rfl rfl)
theorem dX5_run_55 : decode cX5_run 55 = .ok (.iconst 0, 1) := dk_3 (dk_at dksX5_run_2 9 rfl rfl)
theorem dX5_run_56 : decode cX5_run 56 = .ok (.putfield 48, 3) := dk_181 0 48 (dk_at dksX5_run_2 10 rfl rfl)
theorem dX5_run_59 : decode cX5_run 59 = .ok (.iconst 0, 1) := dk_3 (dk_at dksX5_run_2 13 rfl rfl)
theorem dX5_run_60 : decode cX5_run 60 = .ok (.istore_n 2, 1) := dk_61 (dk_at dksX5_run_2 14 rfl rfl)
theorem dX5_run_61 : decode cX5_run 61 = .ok (.iload_n 2, 1) := dk_28 (dk_at dksX5_run_2 15 rfl rfl)
theorem dX5_run_62 : decode cX5_run 62 = .ok (.aload_n 0, 1) := dk_42 (dk_at dksX5_run_2 16 rfl rfl)
theorem dX5_run_63 : decode cX5_run 63 = .ok (.getfield 21, 3) := dk_180 0 21 (dk_at dksX5_run_2 17 rfl rfl)
theorem dX5_run_66 : decode cX5_run 66 = .ok (.getfield 51, 3) := dk_180 0 51 (dk_at dksX5_run_2 20 rfl rfl)
theorem dX5_run_69 : decode cX5_run 69 = .ok (.if_icmp .gt 39, 3) := dk_163 0 39 (dk_at dksX5_run_3 0 rfl rfl)
theorem dX5_run_72 : decode cX5_run 72 = .ok (.aload_n 0, 1) := dk_42 (dk_at dksX5_run_3 3 rfl rfl)
theorem dX5_run_73 : decode cX5_run 73 = .ok (.iload_n 2, 1) := dk_28 (dk_at dksX5_run_3 4 rfl rfl)
theorem dX5_run_74 : decode cX5_run 74 = .ok (.invokevirtual 56, 3) := dk_182 0 56 (dk_at dksX5_run_3 5 rfl rfl)
theorem dX5_run_77 : decode cX5_run 77 = .ok (.iconst 1, 1) := dk_4 (dk_at dksX5_run_3 8 rfl rfl)
theorem dX5_run_78 : decode cX5_run 78 = .ok (.istore_n 3, 1) := dk_62 (dk_at dksX5_run_3 9 rfl rfl)
theorem dX5_run_79 : decode cX5_run 79 = .ok (.iload_n 3, 1) := dk_29 (dk_at dksX5_run_3 10 rfl rfl)
theorem dX5_run_80 : decode cX5_run 80 = .ok (.aload_n 0, 1) := dk_42 (dk_at dksX5_run_3 11 rfl rfl)
theorem dX5_run_81 : decode cX5_run 81 = .ok (.getfield 21, 3) := dk_180 0 21 (dk_at dksX5_run_3 12 rfl rfl)
theorem dX5_run_84 : decode cX5_run 84 = .ok (.getfield 60, 3) := dk_180 0 60 (dk_at dksX5_run_3 15 rfl rfl)
theorem dX5_run_87 : decode cX5_run 87 = .ok (.if_icmp .gt 15, 3) := dk_163 0 15 (dk_at dksX5_run_3 18 rfl rfl)
theorem dX5_run_90 : decode cX5_run 90 = .ok (.aload_n 0, 1) := dk_42 (dk_at dksX5_run_3 21 rfl rfl)
theorem dX5_run_91 : decode cX5_run 91 = .ok (.iload_n 3, 1) := dk_29 (dk_at dksX5_run_3 22 rfl rfl)
theorem dX5_run_92 : decode cX5_run 92 = .ok (.iload_n 2, 1) := dk_28 (dk_at dksX5_run_3 23 rfl rfl)
theorem dX5_run_93 : decode cX5_run 93 = .ok (.invokevirtual 63, 3) := dk_182 0 63 (dk_at dksX5_run_4 0 rfl rfl)
theorem dX5_run_96 : decode cX5_run 96 = .ok (.iinc 3 1, 3) := dk_132 3 1 (dk_at dksX5_run_4 3 rfl rfl)
theorem dX5_run_99 : decode cX5_run 99 = .ok (.goto (-20), 3) := dk_167 255 236 (dk_at dksX5_run_4 6 rfl rfl)
theorem dX5_run_102 : decode cX5_run 102 = .ok (.iinc 2 1, 3) := dk_132 2 1 (dk_at dksX5_run_4 9 rfl rfl)
theorem dX5_run_105 : decode cX5_run 105 = .ok (.goto (-44), 3) := dk_167 255 212 (dk_at dksX5_run_4 12 rfl rfl)
theorem dX5_run_108 : decode cX5_run 108 = .ok (.return_, 1) := dk_177 (dk_at dksX5_run_4 15 rfl rfl)
abbrev cX5_passFront : ByteArray := prog_8_method_5_code
def yX5_passFront : MethodName := ⟨RX5, "passFront", "(I)V"⟩
def dkwX5_passFront_7 : List UInt8 := [167, 0, 4, 3, 96, 182, 0, 86, 177]
abbrev dktX5_passFront_7 : List UInt8 := dkwX5_passFront_7 ++ []
def dkwX5_passFront_6 : List UInt8 := [22, 5, 22, 7, 101, 80, 42, 3, 4, 27, 32, 22, 7, 97, 21, 4, 22, 7, 9, 148, 158, 0, 7, 4]
abbrev dktX5_passFront_6 : List UInt8 := dkwX5_passFront_6 ++ dktX5_passFront_7
def dkwX5_passFront_5 : List UInt8 := [27, 47, 55, 5, 22, 5, 42, 180, 0, 21, 180, 0, 77, 184, 0, 80, 55, 7, 42, 180, 0, 18, 27]
abbrev dktX5_passFront_5 : List UInt8 := dkwX5_passFront_5 ++ dktX5_passFront_6
def dkwX5_passFront_4 : List UInt8 := [180, 0, 21, 180, 0, 60, 154, 0, 14, 42, 89, 180, 0, 35, 32, 97, 181, 0, 35, 177, 42, 180, 0, 15]
abbrev dktX5_passFront_4 : List UInt8 := dkwX5_passFront_4 ++ dktX5_passFront_5
def dkwX5_passFront_3 : List UInt8 := [167, 0, 4, 3, 96, 54, 4, 132, 5, 1, 167, 255, 182, 42, 89, 180, 0, 31, 32, 97, 181, 0, 31, 42]
abbrev dktX5_passFront_3 : List UInt8 := dkwX5_passFront_3 ++ dktX5_passFront_4
def dkwX5_passFront_2 : List UInt8 := [180, 0, 21, 180, 0, 74, 21, 5, 46, 133, 167, 0, 4, 9, 97, 65, 21, 4, 21, 6, 153, 0, 7, 4]
abbrev dktX5_passFront_2 : List UInt8 := dkwX5_passFront_2 ++ dktX5_passFront_3
def dkwX5_passFront_1 : List UInt8 := [180, 0, 70, 21, 5, 46, 27, 160, 0, 7, 4, 167, 0, 4, 3, 54, 6, 32, 21, 6, 153, 0, 17, 42]
abbrev dktX5_passFront_1 : List UInt8 := dkwX5_passFront_1 ++ dktX5_passFront_2
def dkwX5_passFront_0 : List UInt8 := [9, 65, 3, 54, 4, 3, 54, 5, 21, 5, 42, 180, 0, 21, 180, 0, 67, 162, 0, 68, 42, 180, 0, 21]
abbrev dktX5_passFront_0 : List UInt8 := dkwX5_passFront_0 ++ dktX5_passFront_1
theorem dksX5_passFront_0 : cX5_passFront.data.toList.drop 0 = dktX5_passFront_0 := by decide +kernel
theorem dksX5_passFront_1 : cX5_passFront.data.toList.drop 24 = dktX5_passFront_1 := dk_seg dksX5_passFront_0 24 rfl rfl
theorem dksX5_passFront_2 : cX5_passFront.data.toList.drop 48 = dktX5_passFront_2 := dk_seg dksX5_passFront_1 24 rfl rfl
theorem dksX5_passFront_3 : cX5_passFront.data.toList.drop 72 = dktX5_passFront_3 := dk_seg dksX5_passFront_2 24 rfl rfl
theorem dksX5_passFront_4 : cX5_passFront.data.toList.drop 96 = dktX5_passFront_4 := dk_seg dksX5_passFront_3 24 rfl rfl
theorem dksX5_passFront_5 : cX5_passFront.data.toList.drop 120 = dktX5_passFront_5 := dk_seg dksX5_passFront_4 24 rfl rfl
theorem dksX5_passFront_6 : cX5_passFront.data.toList.drop 143 = dktX5_passFront_6 := dk_seg dksX5_passFront_5 23 rfl rfl
theorem dksX5_passFront_7 : cX5_passFront.data.toList.drop 167 = dktX5_passFront_7 := dk_seg dksX5_passFront_6 24 rfl rfl
theorem dX5_passFront_0 : decode cX5_passFront 0 = .ok (.lconst 0, 1) := dk_9 (dk_at dksX5_passFront_0 0 rfl rfl)
theorem dX5_passFront_1 : decode cX5_passFront 1 = .ok (.lstore_n 2, 1) := dk_65 (dk_at dksX5_passFront_0 1 rfl rfl)
theorem dX5_passFront_2 : decode cX5_passFront 2 = .ok (.iconst 0, 1) := dk_3 (dk_at dksX5_passFront_0 2 rfl rfl)
theorem dX5_passFront_3 : decode cX5_passFront 3 = .ok (.istore 4, 2) := dk_54 4 (dk_at dksX5_passFront_0 3 rfl rfl)
theorem dX5_passFront_5 : decode cX5_passFront 5 = .ok (.iconst 0, 1) := dk_3 (dk_at dksX5_passFront_0 5 rfl rfl)
theorem dX5_passFront_6 : decode cX5_passFront 6 = .ok (.istore 5, 2) := dk_54 5 (dk_at dksX5_passFront_0 6 rfl rfl)
theorem dX5_passFront_8 : decode cX5_passFront 8 = .ok (.iload 5, 2) := dk_21 5 (dk_at dksX5_passFront_0 8 rfl rfl)
theorem dX5_passFront_10 : decode cX5_passFront 10 = .ok (.aload_n 0, 1) := dk_42 (dk_at dksX5_passFront_0 10 rfl rfl)
theorem dX5_passFront_11 : decode cX5_passFront 11 = .ok (.getfield 21, 3) := dk_180 0 21 (dk_at dksX5_passFront_0 11 rfl rfl)
theorem dX5_passFront_14 : decode cX5_passFront 14 = .ok (.getfield 67, 3) := dk_180 0 67 (dk_at dksX5_passFront_0 14 rfl rfl)
theorem dX5_passFront_17 : decode cX5_passFront 17 = .ok (.if_icmp .ge 68, 3) := dk_162 0 68 (dk_at dksX5_passFront_0 17 rfl rfl)
theorem dX5_passFront_20 : decode cX5_passFront 20 = .ok (.aload_n 0, 1) := dk_42 (dk_at dksX5_passFront_0 20 rfl rfl)
theorem dX5_passFront_21 : decode cX5_passFront 21 = .ok (.getfield 21, 3) := dk_180 0 21 (dk_at dksX5_passFront_0 21 rfl rfl)
theorem dX5_passFront_24 : decode cX5_passFront 24 = .ok (.getfield 70, 3) := dk_180 0 70 (dk_at dksX5_passFront_1 0 rfl rfl)
theorem dX5_passFront_27 : decode cX5_passFront 27 = .ok (.iload 5, 2) := dk_21 5 (dk_at dksX5_passFront_1 3 rfl rfl)
theorem dX5_passFront_29 : decode cX5_passFront 29 = .ok (.iaload, 1) := dk_46 (dk_at dksX5_passFront_1 5 rfl rfl)
theorem dX5_passFront_30 : decode cX5_passFront 30 = .ok (.iload_n 1, 1) := dk_27 (dk_at dksX5_passFront_1 6 rfl rfl)
theorem dX5_passFront_31 : decode cX5_passFront 31 = .ok (.if_icmp .ne 7, 3) := dk_160 0 7 (dk_at dksX5_passFront_1 7 rfl rfl)
theorem dX5_passFront_34 : decode cX5_passFront 34 = .ok (.iconst 1, 1) := dk_4 (dk_at dksX5_passFront_1 10 rfl rfl)
theorem dX5_passFront_35 : decode cX5_passFront 35 = .ok (.goto 4, 3) := dk_167 0 4 (dk_at dksX5_passFront_1 11 rfl rfl)
theorem dX5_passFront_38 : decode cX5_passFront 38 = .ok (.iconst 0, 1) := dk_3 (dk_at dksX5_passFront_1 14 rfl rfl)
theorem dX5_passFront_39 : decode cX5_passFront 39 = .ok (.istore 6, 2) := dk_54 6 (dk_at dksX5_passFront_1 15 rfl rfl)
theorem dX5_passFront_41 : decode cX5_passFront 41 = .ok (.lload_n 2, 1) := dk_32 (dk_at dksX5_passFront_1 17 rfl rfl)
theorem dX5_passFront_42 : decode cX5_passFront 42 = .ok (.iload 6, 2) := dk_21 6 (dk_at dksX5_passFront_1 18 rfl rfl)
theorem dX5_passFront_44 : decode cX5_passFront 44 = .ok (.ifCond .eq 17, 3) := dk_153 0 17 (dk_at dksX5_passFront_1 20 rfl rfl)
theorem dX5_passFront_47 : decode cX5_passFront 47 = .ok (.aload_n 0, 1) := dk_42 (dk_at dksX5_passFront_1 23 rfl rfl)
theorem dX5_passFront_48 : decode cX5_passFront 48 = .ok (.getfield 21, 3) := dk_180 0 21 (dk_at dksX5_passFront_2 0 rfl rfl)
theorem dX5_passFront_51 : decode cX5_passFront 51 = .ok (.getfield 74, 3) := dk_180 0 74 (dk_at dksX5_passFront_2 3 rfl rfl)
theorem dX5_passFront_54 : decode cX5_passFront 54 = .ok (.iload 5, 2) := dk_21 5 (dk_at dksX5_passFront_2 6 rfl rfl)
theorem dX5_passFront_56 : decode cX5_passFront 56 = .ok (.iaload, 1) := dk_46 (dk_at dksX5_passFront_2 8 rfl rfl)
theorem dX5_passFront_57 : decode cX5_passFront 57 = .ok (.i2l, 1) := dk_133 (dk_at dksX5_passFront_2 9 rfl rfl)
theorem dX5_passFront_58 : decode cX5_passFront 58 = .ok (.goto 4, 3) := dk_167 0 4 (dk_at dksX5_passFront_2 10 rfl rfl)
theorem dX5_passFront_61 : decode cX5_passFront 61 = .ok (.lconst 0, 1) := dk_9 (dk_at dksX5_passFront_2 13 rfl rfl)
theorem dX5_passFront_62 : decode cX5_passFront 62 = .ok (.ladd, 1) := dk_97 (dk_at dksX5_passFront_2 14 rfl rfl)
theorem dX5_passFront_63 : decode cX5_passFront 63 = .ok (.lstore_n 2, 1) := dk_65 (dk_at dksX5_passFront_2 15 rfl rfl)
theorem dX5_passFront_64 : decode cX5_passFront 64 = .ok (.iload 4, 2) := dk_21 4 (dk_at dksX5_passFront_2 16 rfl rfl)
theorem dX5_passFront_66 : decode cX5_passFront 66 = .ok (.iload 6, 2) := dk_21 6 (dk_at dksX5_passFront_2 18 rfl rfl)
theorem dX5_passFront_68 : decode cX5_passFront 68 = .ok (.ifCond .eq 7, 3) := dk_153 0 7 (dk_at dksX5_passFront_2 20 rfl rfl)
theorem dX5_passFront_71 : decode cX5_passFront 71 = .ok (.iconst 1, 1) := dk_4 (dk_at dksX5_passFront_2 23 rfl rfl)
theorem dX5_passFront_72 : decode cX5_passFront 72 = .ok (.goto 4, 3) := dk_167 0 4 (dk_at dksX5_passFront_3 0 rfl rfl)
theorem dX5_passFront_75 : decode cX5_passFront 75 = .ok (.iconst 0, 1) := dk_3 (dk_at dksX5_passFront_3 3 rfl rfl)
theorem dX5_passFront_76 : decode cX5_passFront 76 = .ok (.iadd, 1) := dk_96 (dk_at dksX5_passFront_3 4 rfl rfl)
theorem dX5_passFront_77 : decode cX5_passFront 77 = .ok (.istore 4, 2) := dk_54 4 (dk_at dksX5_passFront_3 5 rfl rfl)
theorem dX5_passFront_79 : decode cX5_passFront 79 = .ok (.iinc 5 1, 3) := dk_132 5 1 (dk_at dksX5_passFront_3 7 rfl rfl)
theorem dX5_passFront_82 : decode cX5_passFront 82 = .ok (.goto (-74), 3) := dk_167 255 182 (dk_at dksX5_passFront_3 10 rfl rfl)
theorem dX5_passFront_85 : decode cX5_passFront 85 = .ok (.aload_n 0, 1) := dk_42 (dk_at dksX5_passFront_3 13 rfl rfl)
theorem dX5_passFront_86 : decode cX5_passFront 86 = .ok (.dup, 1) := dk_89 (dk_at dksX5_passFront_3 14 rfl rfl)
theorem dX5_passFront_87 : decode cX5_passFront 87 = .ok (.getfield 31, 3) := dk_180 0 31 (dk_at dksX5_passFront_3 15 rfl rfl)
theorem dX5_passFront_90 : decode cX5_passFront 90 = .ok (.lload_n 2, 1) := dk_32 (dk_at dksX5_passFront_3 18 rfl rfl)
theorem dX5_passFront_91 : decode cX5_passFront 91 = .ok (.ladd, 1) := dk_97 (dk_at dksX5_passFront_3 19 rfl rfl)
theorem dX5_passFront_92 : decode cX5_passFront 92 = .ok (.putfield 31, 3) := dk_181 0 31 (dk_at dksX5_passFront_3 20 rfl rfl)
theorem dX5_passFront_95 : decode cX5_passFront 95 = .ok (.aload_n 0, 1) := dk_42 (dk_at dksX5_passFront_3 23 rfl rfl)
theorem dX5_passFront_96 : decode cX5_passFront 96 = .ok (.getfield 21, 3) := dk_180 0 21 (dk_at dksX5_passFront_4 0 rfl rfl)
theorem dX5_passFront_99 : decode cX5_passFront 99 = .ok (.getfield 60, 3) := dk_180 0 60 (dk_at dksX5_passFront_4 3 rfl rfl)
theorem dX5_passFront_102 : decode cX5_passFront 102 = .ok (.ifCond .ne 14, 3) := dk_154 0 14 (dk_at dksX5_passFront_4 6 rfl rfl)
theorem dX5_passFront_105 : decode cX5_passFront 105 = .ok (.aload_n 0, 1) := dk_42 (dk_at dksX5_passFront_4 9 rfl rfl)
theorem dX5_passFront_106 : decode cX5_passFront 106 = .ok (.dup, 1) := dk_89 (dk_at dksX5_passFront_4 10 rfl rfl)
theorem dX5_passFront_107 : decode cX5_passFront 107 = .ok (.getfield 35, 3) := dk_180 0 35 (dk_at dksX5_passFront_4 11 rfl rfl)
theorem dX5_passFront_110 : decode cX5_passFront 110 = .ok (.lload_n 2, 1) := dk_32 (dk_at dksX5_passFront_4 14 rfl rfl)
theorem dX5_passFront_111 : decode cX5_passFront 111 = .ok (.ladd, 1) := dk_97 (dk_at dksX5_passFront_4 15 rfl rfl)
theorem dX5_passFront_112 : decode cX5_passFront 112 = .ok (.putfield 35, 3) := dk_181 0 35 (dk_at dksX5_passFront_4 16 rfl rfl)
theorem dX5_passFront_115 : decode cX5_passFront 115 = .ok (.return_, 1) := dk_177 (dk_at dksX5_passFront_4 19 rfl rfl)
theorem dX5_passFront_116 : decode cX5_passFront 116 = .ok (.aload_n 0, 1) := dk_42 (dk_at dksX5_passFront_4 20 rfl rfl)
theorem dX5_passFront_117 : decode cX5_passFront 117 = .ok (.getfield 15, 3) := dk_180 0 15 (dk_at dksX5_passFront_4 21 rfl rfl)
theorem dX5_passFront_120 : decode cX5_passFront 120 = .ok (.iload_n 1, 1) := dk_27 (dk_at dksX5_passFront_5 0 rfl rfl)
theorem dX5_passFront_121 : decode cX5_passFront 121 = .ok (.laload, 1) := dk_47 (dk_at dksX5_passFront_5 1 rfl rfl)
theorem dX5_passFront_122 : decode cX5_passFront 122 = .ok (.lstore 5, 2) := dk_55 5 (dk_at dksX5_passFront_5 2 rfl rfl)
theorem dX5_passFront_124 : decode cX5_passFront 124 = .ok (.lload 5, 2) := dk_22 5 (dk_at dksX5_passFront_5 4 rfl rfl)
theorem dX5_passFront_126 : decode cX5_passFront 126 = .ok (.aload_n 0, 1) := dk_42 (dk_at dksX5_passFront_5 6 rfl rfl)
theorem dX5_passFront_127 : decode cX5_passFront 127 = .ok (.getfield 21, 3) := dk_180 0 21 (dk_at dksX5_passFront_5 7 rfl rfl)
theorem dX5_passFront_130 : decode cX5_passFront 130 = .ok (.getfield 77, 3) := dk_180 0 77 (dk_at dksX5_passFront_5 10 rfl rfl)
theorem dX5_passFront_133 : decode cX5_passFront 133 = .ok (.invokestatic 80, 3) := dk_184 0 80 (dk_at dksX5_passFront_5 13 rfl rfl)
theorem dX5_passFront_136 : decode cX5_passFront 136 = .ok (.lstore 7, 2) := dk_55 7 (dk_at dksX5_passFront_5 16 rfl rfl)
theorem dX5_passFront_138 : decode cX5_passFront 138 = .ok (.aload_n 0, 1) := dk_42 (dk_at dksX5_passFront_5 18 rfl rfl)
theorem dX5_passFront_139 : decode cX5_passFront 139 = .ok (.getfield 18, 3) := dk_180 0 18 (dk_at dksX5_passFront_5 19 rfl rfl)
theorem dX5_passFront_142 : decode cX5_passFront 142 = .ok (.iload_n 1, 1) := dk_27 (dk_at dksX5_passFront_5 22 rfl rfl)
theorem dX5_passFront_143 : decode cX5_passFront 143 = .ok (.lload 5, 2) := dk_22 5 (dk_at dksX5_passFront_6 0 rfl rfl)
theorem dX5_passFront_145 : decode cX5_passFront 145 = .ok (.lload 7, 2) := dk_22 7 (dk_at dksX5_passFront_6 2 rfl rfl)
theorem dX5_passFront_147 : decode cX5_passFront 147 = .ok (.lsub, 1) := dk_101 (dk_at dksX5_passFront_6 4 rfl rfl)
theorem dX5_passFront_148 : decode cX5_passFront 148 = .ok (.lastore, 1) := dk_80 (dk_at dksX5_passFront_6 5 rfl rfl)
theorem dX5_passFront_149 : decode cX5_passFront 149 = .ok (.aload_n 0, 1) := dk_42 (dk_at dksX5_passFront_6 6 rfl rfl)
theorem dX5_passFront_150 : decode cX5_passFront 150 = .ok (.iconst 0, 1) := dk_3 (dk_at dksX5_passFront_6 7 rfl rfl)
theorem dX5_passFront_151 : decode cX5_passFront 151 = .ok (.iconst 1, 1) := dk_4 (dk_at dksX5_passFront_6 8 rfl rfl)
theorem dX5_passFront_152 : decode cX5_passFront 152 = .ok (.iload_n 1, 1) := dk_27 (dk_at dksX5_passFront_6 9 rfl rfl)
theorem dX5_passFront_153 : decode cX5_passFront 153 = .ok (.lload_n 2, 1) := dk_32 (dk_at dksX5_passFront_6 10 rfl rfl)
theorem dX5_passFront_154 : decode cX5_passFront 154 = .ok (.lload 7, 2) := dk_22 7 (dk_at dksX5_passFront_6 11 rfl rfl)
theorem dX5_passFront_156 : decode cX5_passFront 156 = .ok (.ladd, 1) := dk_97 (dk_at dksX5_passFront_6 13 rfl rfl)
theorem dX5_passFront_157 : decode cX5_passFront 157 = .ok (.iload 4, 2) := dk_21 4 (dk_at dksX5_passFront_6 14 rfl rfl)
theorem dX5_passFront_159 : decode cX5_passFront 159 = .ok (.lload 7, 2) := dk_22 7 (dk_at dksX5_passFront_6 16 rfl rfl)
theorem dX5_passFront_161 : decode cX5_passFront 161 = .ok (.lconst 0, 1) := dk_9 (dk_at dksX5_passFront_6 18 rfl rfl)
theorem dX5_passFront_162 : decode cX5_passFront 162 = .ok (.lcmp, 1) := dk_148 (dk_at dksX5_passFront_6 19 rfl rfl)
theorem dX5_passFront_163 : decode cX5_passFront 163 = .ok (.ifCond .le 7, 3) := dk_158 0 7 (dk_at dksX5_passFront_6 20 rfl rfl)
theorem dX5_passFront_166 : decode cX5_passFront 166 = .ok (.iconst 1, 1) := dk_4 (dk_at dksX5_passFront_6 23 rfl rfl)
theorem dX5_passFront_167 : decode cX5_passFront 167 = .ok (.goto 4, 3) := dk_167 0 4 (dk_at dksX5_passFront_7 0 rfl rfl)
theorem dX5_passFront_170 : decode cX5_passFront 170 = .ok (.iconst 0, 1) := dk_3 (dk_at dksX5_passFront_7 3 rfl rfl)
theorem dX5_passFront_171 : decode cX5_passFront 171 = .ok (.iadd, 1) := dk_96 (dk_at dksX5_passFront_7 4 rfl rfl)
theorem dX5_passFront_172 : decode cX5_passFront 172 = .ok (.invokevirtual 86, 3) := dk_182 0 86 (dk_at dksX5_passFront_7 5 rfl rfl)
theorem dX5_passFront_175 : decode cX5_passFront 175 = .ok (.return_, 1) := dk_177 (dk_at dksX5_passFront_7 8 rfl rfl)
abbrev cX5_setOut : ByteArray := prog_8_method_7_code
def yX5_setOut : MethodName := ⟨RX5, "setOut", "(IZIJI)V"⟩
def dkwX5_setOut_5 : List UInt8 := [22, 4, 80, 167, 0, 18, 42, 180, 0, 15, 17, 0, 201, 27, 104, 21, 7, 96, 22, 4, 80, 177]
abbrev dktX5_setOut_5 : List UInt8 := dkwX5_setOut_5 ++ []
def dkwX5_setOut_4 : List UInt8 := [181, 0, 41, 167, 0, 42, 28, 153, 0, 23, 42, 180, 0, 9, 17, 0, 201, 27, 4, 96, 104, 21, 7, 96]
abbrev dktX5_setOut_4 : List UInt8 := dkwX5_setOut_4 ++ dktX5_setOut_5
def dkwX5_setOut_3 : List UInt8 := [46, 96, 54, 7, 21, 7, 42, 180, 0, 21, 180, 0, 51, 164, 0, 17, 42, 89, 180, 0, 41, 22, 4, 97]
abbrev dktX5_setOut_3 : List UInt8 := dkwX5_setOut_3 ++ dktX5_setOut_4
def dkwX5_setOut_2 : List UInt8 := [97, 181, 0, 38, 42, 89, 180, 0, 48, 4, 96, 181, 0, 48, 177, 29, 42, 180, 0, 21, 180, 0, 96, 27]
abbrev dktX5_setOut_2 : List UInt8 := dkwX5_setOut_2 ++ dktX5_setOut_3
def dkwX5_setOut_1 : List UInt8 := [158, 0, 39, 22, 4, 42, 180, 0, 21, 180, 0, 93, 133, 148, 156, 0, 25, 42, 89, 180, 0, 38, 22, 4]
abbrev dktX5_setOut_1 : List UInt8 := dkwX5_setOut_1 ++ dktX5_setOut_2
def dkwX5_setOut_0 : List UInt8 := [42, 89, 180, 0, 44, 21, 6, 4, 164, 0, 7, 4, 167, 0, 4, 3, 96, 181, 0, 44, 22, 4, 9, 148]
abbrev dktX5_setOut_0 : List UInt8 := dkwX5_setOut_0 ++ dktX5_setOut_1
theorem dksX5_setOut_0 : cX5_setOut.data.toList.drop 0 = dktX5_setOut_0 := by decide +kernel
theorem dksX5_setOut_1 : cX5_setOut.data.toList.drop 24 = dktX5_setOut_1 := dk_seg dksX5_setOut_0 24 rfl rfl
theorem dksX5_setOut_2 : cX5_setOut.data.toList.drop 48 = dktX5_setOut_2 := dk_seg dksX5_setOut_1 24 rfl rfl
theorem dksX5_setOut_3 : cX5_setOut.data.toList.drop 72 = dktX5_setOut_3 := dk_seg dksX5_setOut_2 24 rfl rfl
theorem dksX5_setOut_4 : cX5_setOut.data.toList.drop 96 = dktX5_setOut_4 := dk_seg dksX5_setOut_3 24 rfl rfl
theorem dksX5_setOut_5 : cX5_setOut.data.toList.drop 120 = dktX5_setOut_5 := dk_seg dksX5_setOut_4 24 rfl rfl
theorem dX5_setOut_0 : decode cX5_setOut 0 = .ok (.aload_n 0, 1) := dk_42 (dk_at dksX5_setOut_0 0 rfl rfl)
theorem dX5_setOut_1 : decode cX5_setOut 1 = .ok (.dup, 1) := dk_89 (dk_at dksX5_setOut_0 1 rfl rfl)
theorem dX5_setOut_2 : decode cX5_setOut 2 = .ok (.getfield 44, 3) := dk_180 0 44 (dk_at dksX5_setOut_0 2 rfl rfl)
theorem dX5_setOut_5 : decode cX5_setOut 5 = .ok (.iload 6, 2) := dk_21 6 (dk_at dksX5_setOut_0 5 rfl rfl)
theorem dX5_setOut_7 : decode cX5_setOut 7 = .ok (.iconst 1, 1) := dk_4 (dk_at dksX5_setOut_0 7 rfl rfl)
theorem dX5_setOut_8 : decode cX5_setOut 8 = .ok (.if_icmp .le 7, 3) := dk_164 0 7 (dk_at dksX5_setOut_0 8 rfl rfl)
theorem dX5_setOut_11 : decode cX5_setOut 11 = .ok (.iconst 1, 1) := dk_4 (dk_at dksX5_setOut_0 11 rfl rfl)
theorem dX5_setOut_12 : decode cX5_setOut 12 = .ok (.goto 4, 3) := dk_167 0 4 (dk_at dksX5_setOut_0 12 rfl rfl)
theorem dX5_setOut_15 : decode cX5_setOut 15 = .ok (.iconst 0, 1) := dk_3 (dk_at dksX5_setOut_0 15 rfl rfl)
theorem dX5_setOut_16 : decode cX5_setOut 16 = .ok (.iadd, 1) := dk_96 (dk_at dksX5_setOut_0 16 rfl rfl)
theorem dX5_setOut_17 : decode cX5_setOut 17 = .ok (.putfield 44, 3) := dk_181 0 44 (dk_at dksX5_setOut_0 17 rfl rfl)
theorem dX5_setOut_20 : decode cX5_setOut 20 = .ok (.lload 4, 2) := dk_22 4 (dk_at dksX5_setOut_0 20 rfl rfl)
theorem dX5_setOut_22 : decode cX5_setOut 22 = .ok (.lconst 0, 1) := dk_9 (dk_at dksX5_setOut_0 22 rfl rfl)
theorem dX5_setOut_23 : decode cX5_setOut 23 = .ok (.lcmp, 1) := dk_148 (dk_at dksX5_setOut_0 23 rfl rfl)
theorem dX5_setOut_24 : decode cX5_setOut 24 = .ok (.ifCond .le 39, 3) := dk_158 0 39 (dk_at dksX5_setOut_1 0 rfl rfl)
theorem dX5_setOut_27 : decode cX5_setOut 27 = .ok (.lload 4, 2) := dk_22 4 (dk_at dksX5_setOut_1 3 rfl rfl)
theorem dX5_setOut_29 : decode cX5_setOut 29 = .ok (.aload_n 0, 1) := dk_42 (dk_at dksX5_setOut_1 5 rfl rfl)
theorem dX5_setOut_30 : decode cX5_setOut 30 = .ok (.getfield 21, 3) := dk_180 0 21 (dk_at dksX5_setOut_1 6 rfl rfl)
theorem dX5_setOut_33 : decode cX5_setOut 33 = .ok (.getfield 93, 3) := dk_180 0 93 (dk_at dksX5_setOut_1 9 rfl rfl)
theorem dX5_setOut_36 : decode cX5_setOut 36 = .ok (.i2l, 1) := dk_133 (dk_at dksX5_setOut_1 12 rfl rfl)
theorem dX5_setOut_37 : decode cX5_setOut 37 = .ok (.lcmp, 1) := dk_148 (dk_at dksX5_setOut_1 13 rfl rfl)
theorem dX5_setOut_38 : decode cX5_setOut 38 = .ok (.ifCond .ge 25, 3) := dk_156 0 25 (dk_at dksX5_setOut_1 14 rfl rfl)
theorem dX5_setOut_41 : decode cX5_setOut 41 = .ok (.aload_n 0, 1) := dk_42 (dk_at dksX5_setOut_1 17 rfl rfl)
theorem dX5_setOut_42 : decode cX5_setOut 42 = .ok (.dup, 1) := dk_89 (dk_at dksX5_setOut_1 18 rfl rfl)
theorem dX5_setOut_43 : decode cX5_setOut 43 = .ok (.getfield 38, 3) := dk_180 0 38 (dk_at dksX5_setOut_1 19 rfl rfl)
theorem dX5_setOut_46 : decode cX5_setOut 46 = .ok (.lload 4, 2) := dk_22 4 (dk_at dksX5_setOut_1 22 rfl rfl)
theorem dX5_setOut_48 : decode cX5_setOut 48 = .ok (.ladd, 1) := dk_97 (dk_at dksX5_setOut_2 0 rfl rfl)
theorem dX5_setOut_49 : decode cX5_setOut 49 = .ok (.putfield 38, 3) := dk_181 0 38 (dk_at dksX5_setOut_2 1 rfl rfl)
theorem dX5_setOut_52 : decode cX5_setOut 52 = .ok (.aload_n 0, 1) := dk_42 (dk_at dksX5_setOut_2 4 rfl rfl)
theorem dX5_setOut_53 : decode cX5_setOut 53 = .ok (.dup, 1) := dk_89 (dk_at dksX5_setOut_2 5 rfl rfl)
theorem dX5_setOut_54 : decode cX5_setOut 54 = .ok (.getfield 48, 3) := dk_180 0 48 (dk_at dksX5_setOut_2 6 rfl rfl)
theorem dX5_setOut_57 : decode cX5_setOut 57 = .ok (.iconst 1, 1) := dk_4 (dk_at dksX5_setOut_2 9 rfl rfl)
theorem dX5_setOut_58 : decode cX5_setOut 58 = .ok (.iadd, 1) := dk_96 (dk_at dksX5_setOut_2 10 rfl rfl)
theorem dX5_setOut_59 : decode cX5_setOut 59 = .ok (.putfield 48, 3) := dk_181 0 48 (dk_at dksX5_setOut_2 11 rfl rfl)
theorem dX5_setOut_62 : decode cX5_setOut 62 = .ok (.return_, 1) := dk_177 (dk_at dksX5_setOut_2 14 rfl rfl)
theorem dX5_setOut_63 : decode cX5_setOut 63 = .ok (.iload_n 3, 1) := dk_29 (dk_at dksX5_setOut_2 15 rfl rfl)
theorem dX5_setOut_64 : decode cX5_setOut 64 = .ok (.aload_n 0, 1) := dk_42 (dk_at dksX5_setOut_2 16 rfl rfl)
theorem dX5_setOut_65 : decode cX5_setOut 65 = .ok (.getfield 21, 3) := dk_180 0 21 (dk_at dksX5_setOut_2 17 rfl rfl)
theorem dX5_setOut_68 : decode cX5_setOut 68 = .ok (.getfield 96, 3) := dk_180 0 96 (dk_at dksX5_setOut_2 20 rfl rfl)
theorem dX5_setOut_71 : decode cX5_setOut 71 = .ok (.iload_n 1, 1) := dk_27 (dk_at dksX5_setOut_2 23 rfl rfl)
theorem dX5_setOut_72 : decode cX5_setOut 72 = .ok (.iaload, 1) := dk_46 (dk_at dksX5_setOut_3 0 rfl rfl)
theorem dX5_setOut_73 : decode cX5_setOut 73 = .ok (.iadd, 1) := dk_96 (dk_at dksX5_setOut_3 1 rfl rfl)
theorem dX5_setOut_74 : decode cX5_setOut 74 = .ok (.istore 7, 2) := dk_54 7 (dk_at dksX5_setOut_3 2 rfl rfl)
theorem dX5_setOut_76 : decode cX5_setOut 76 = .ok (.iload 7, 2) := dk_21 7 (dk_at dksX5_setOut_3 4 rfl rfl)
theorem dX5_setOut_78 : decode cX5_setOut 78 = .ok (.aload_n 0, 1) := dk_42 (dk_at dksX5_setOut_3 6 rfl rfl)
theorem dX5_setOut_79 : decode cX5_setOut 79 = .ok (.getfield 21, 3) := dk_180 0 21 (dk_at dksX5_setOut_3 7 rfl rfl)
theorem dX5_setOut_82 : decode cX5_setOut 82 = .ok (.getfield 51, 3) := dk_180 0 51 (dk_at dksX5_setOut_3 10 rfl rfl)
theorem dX5_setOut_85 : decode cX5_setOut 85 = .ok (.if_icmp .le 17, 3) := dk_164 0 17 (dk_at dksX5_setOut_3 13 rfl rfl)
theorem dX5_setOut_88 : decode cX5_setOut 88 = .ok (.aload_n 0, 1) := dk_42 (dk_at dksX5_setOut_3 16 rfl rfl)
theorem dX5_setOut_89 : decode cX5_setOut 89 = .ok (.dup, 1) := dk_89 (dk_at dksX5_setOut_3 17 rfl rfl)
theorem dX5_setOut_90 : decode cX5_setOut 90 = .ok (.getfield 41, 3) := dk_180 0 41 (dk_at dksX5_setOut_3 18 rfl rfl)
theorem dX5_setOut_93 : decode cX5_setOut 93 = .ok (.lload 4, 2) := dk_22 4 (dk_at dksX5_setOut_3 21 rfl rfl)
theorem dX5_setOut_95 : decode cX5_setOut 95 = .ok (.ladd, 1) := dk_97 (dk_at dksX5_setOut_3 23 rfl rfl)
theorem dX5_setOut_96 : decode cX5_setOut 96 = .ok (.putfield 41, 3) := dk_181 0 41 (dk_at dksX5_setOut_4 0 rfl rfl)
theorem dX5_setOut_99 : decode cX5_setOut 99 = .ok (.goto 42, 3) := dk_167 0 42 (dk_at dksX5_setOut_4 3 rfl rfl)
theorem dX5_setOut_102 : decode cX5_setOut 102 = .ok (.iload_n 2, 1) := dk_28 (dk_at dksX5_setOut_4 6 rfl rfl)
theorem dX5_setOut_103 : decode cX5_setOut 103 = .ok (.ifCond .eq 23, 3) := dk_153 0 23 (dk_at dksX5_setOut_4 7 rfl rfl)
theorem dX5_setOut_106 : decode cX5_setOut 106 = .ok (.aload_n 0, 1) := dk_42 (dk_at dksX5_setOut_4 10 rfl rfl)
theorem dX5_setOut_107 : decode cX5_setOut 107 = .ok (.getfield 9, 3) := dk_180 0 9 (dk_at dksX5_setOut_4 11 rfl rfl)
theorem dX5_setOut_110 : decode cX5_setOut 110 = .ok (.sipush 201, 3) := dk_17 0 201 (dk_at dksX5_setOut_4 14 rfl rfl)
theorem dX5_setOut_113 : decode cX5_setOut 113 = .ok (.iload_n 1, 1) := dk_27 (dk_at dksX5_setOut_4 17 rfl rfl)
theorem dX5_setOut_114 : decode cX5_setOut 114 = .ok (.iconst 1, 1) := dk_4 (dk_at dksX5_setOut_4 18 rfl rfl)
theorem dX5_setOut_115 : decode cX5_setOut 115 = .ok (.iadd, 1) := dk_96 (dk_at dksX5_setOut_4 19 rfl rfl)
theorem dX5_setOut_116 : decode cX5_setOut 116 = .ok (.imul, 1) := dk_104 (dk_at dksX5_setOut_4 20 rfl rfl)
theorem dX5_setOut_117 : decode cX5_setOut 117 = .ok (.iload 7, 2) := dk_21 7 (dk_at dksX5_setOut_4 21 rfl rfl)
theorem dX5_setOut_119 : decode cX5_setOut 119 = .ok (.iadd, 1) := dk_96 (dk_at dksX5_setOut_4 23 rfl rfl)
theorem dX5_setOut_120 : decode cX5_setOut 120 = .ok (.lload 4, 2) := dk_22 4 (dk_at dksX5_setOut_5 0 rfl rfl)
theorem dX5_setOut_122 : decode cX5_setOut 122 = .ok (.lastore, 1) := dk_80 (dk_at dksX5_setOut_5 2 rfl rfl)
theorem dX5_setOut_123 : decode cX5_setOut 123 = .ok (.goto 18, 3) := dk_167 0 18 (dk_at dksX5_setOut_5 3 rfl rfl)
theorem dX5_setOut_126 : decode cX5_setOut 126 = .ok (.aload_n 0, 1) := dk_42 (dk_at dksX5_setOut_5 6 rfl rfl)
theorem dX5_setOut_127 : decode cX5_setOut 127 = .ok (.getfield 15, 3) := dk_180 0 15 (dk_at dksX5_setOut_5 7 rfl rfl)
theorem dX5_setOut_130 : decode cX5_setOut 130 = .ok (.sipush 201, 3) := dk_17 0 201 (dk_at dksX5_setOut_5 10 rfl rfl)
theorem dX5_setOut_133 : decode cX5_setOut 133 = .ok (.iload_n 1, 1) := dk_27 (dk_at dksX5_setOut_5 13 rfl rfl)
theorem dX5_setOut_134 : decode cX5_setOut 134 = .ok (.imul, 1) := dk_104 (dk_at dksX5_setOut_5 14 rfl rfl)
theorem dX5_setOut_135 : decode cX5_setOut 135 = .ok (.iload 7, 2) := dk_21 7 (dk_at dksX5_setOut_5 15 rfl rfl)
theorem dX5_setOut_137 : decode cX5_setOut 137 = .ok (.iadd, 1) := dk_96 (dk_at dksX5_setOut_5 17 rfl rfl)
theorem dX5_setOut_138 : decode cX5_setOut 138 = .ok (.lload 4, 2) := dk_22 4 (dk_at dksX5_setOut_5 18 rfl rfl)
theorem dX5_setOut_140 : decode cX5_setOut 140 = .ok (.lastore, 1) := dk_80 (dk_at dksX5_setOut_5 20 rfl rfl)
theorem dX5_setOut_141 : decode cX5_setOut 141 = .ok (.return_, 1) := dk_177 (dk_at dksX5_setOut_5 21 rfl rfl)
abbrev cX5_passJoint : ByteArray := prog_8_method_6_code
def yX5_passJoint : MethodName := ⟨RX5, "passJoint", "(II)V"⟩
def dkwX5_passJoint_7 : List UInt8 := [96, 182, 0, 86, 177]
abbrev dktX5_passJoint_7 : List UInt8 := dkwX5_passJoint_7 ++ []
def dkwX5_passJoint_6 : List UInt8 := [22, 12, 9, 148, 158, 0, 7, 4, 167, 0, 4, 3, 22, 10, 9, 148, 158, 0, 7, 4, 167, 0, 4, 3]
abbrev dktX5_passJoint_6 : List UInt8 := dkwX5_passJoint_6 ++ dktX5_passJoint_7
def dkwX5_passJoint_5 : List UInt8 := [42, 89, 180, 0, 35, 22, 12, 97, 181, 0, 35, 167, 0, 40, 42, 27, 4, 28, 22, 12, 22, 10, 97]
abbrev dktX5_passJoint_5 : List UInt8 := dkwX5_passJoint_5 ++ dktX5_passJoint_6
def dkwX5_passJoint_4 : List UInt8 := [148, 158, 0, 7, 4, 167, 0, 4, 3, 96, 182, 0, 86, 27, 42, 180, 0, 21, 180, 0, 60, 160, 0, 17]
abbrev dktX5_passJoint_4 : List UInt8 := dkwX5_passJoint_4 ++ dktX5_passJoint_5
def dkwX5_passJoint_3 : List UInt8 := [4, 100, 3, 28, 22, 8, 22, 14, 97, 22, 8, 9, 148, 158, 0, 7, 4, 167, 0, 4, 3, 22, 14, 9]
abbrev dktX5_passJoint_3 : List UInt8 := dkwX5_passJoint_3 ++ dktX5_passJoint_4
def dkwX5_passJoint_2 : List UInt8 := [22, 5, 21, 7, 184, 0, 80, 55, 10, 33, 22, 8, 101, 55, 12, 22, 5, 22, 10, 101, 55, 14, 42, 27]
abbrev dktX5_passJoint_2 : List UInt8 := dkwX5_passJoint_2 ++ dktX5_passJoint_3
def dkwX5_passJoint_1 : List UInt8 := [47, 55, 5, 42, 180, 0, 21, 180, 0, 90, 27, 4, 100, 46, 54, 7, 33, 21, 7, 184, 0, 80, 55, 8]
abbrev dktX5_passJoint_1 : List UInt8 := dkwX5_passJoint_1 ++ dktX5_passJoint_2
def dkwX5_passJoint_0 : List UInt8 := [42, 180, 0, 9, 17, 0, 201, 27, 104, 28, 96, 47, 66, 42, 180, 0, 15, 17, 0, 201, 27, 104, 28, 96]
abbrev dktX5_passJoint_0 : List UInt8 := dkwX5_passJoint_0 ++ dktX5_passJoint_1
theorem dksX5_passJoint_0 : cX5_passJoint.data.toList.drop 0 = dktX5_passJoint_0 := by decide +kernel
theorem dksX5_passJoint_1 : cX5_passJoint.data.toList.drop 24 = dktX5_passJoint_1 := dk_seg dksX5_passJoint_0 24 rfl rfl
theorem dksX5_passJoint_2 : cX5_passJoint.data.toList.drop 48 = dktX5_passJoint_2 := dk_seg dksX5_passJoint_1 24 rfl rfl
theorem dksX5_passJoint_3 : cX5_passJoint.data.toList.drop 72 = dktX5_passJoint_3 := dk_seg dksX5_passJoint_2 24 rfl rfl
theorem dksX5_passJoint_4 : cX5_passJoint.data.toList.drop 96 = dktX5_passJoint_4 := dk_seg dksX5_passJoint_3 24 rfl rfl
theorem dksX5_passJoint_5 : cX5_passJoint.data.toList.drop 120 = dktX5_passJoint_5 := dk_seg dksX5_passJoint_4 24 rfl rfl
theorem dksX5_passJoint_6 : cX5_passJoint.data.toList.drop 143 = dktX5_passJoint_6 := dk_seg dksX5_passJoint_5 23 rfl rfl
theorem dksX5_passJoint_7 : cX5_passJoint.data.toList.drop 167 = dktX5_passJoint_7 := dk_seg dksX5_passJoint_6 24 rfl rfl
theorem dX5_passJoint_0 : decode cX5_passJoint 0 = .ok (.aload_n 0, 1) := dk_42 (dk_at dksX5_passJoint_0 0 rfl rfl)
theorem dX5_passJoint_1 : decode cX5_passJoint 1 = .ok (.getfield 9, 3) := dk_180 0 9 (dk_at dksX5_passJoint_0 1 rfl rfl)
theorem dX5_passJoint_4 : decode cX5_passJoint 4 = .ok (.sipush 201, 3) := dk_17 0 201 (dk_at dksX5_passJoint_0 4 rfl rfl)
theorem dX5_passJoint_7 : decode cX5_passJoint 7 = .ok (.iload_n 1, 1) := dk_27 (dk_at dksX5_passJoint_0 7 rfl rfl)
theorem dX5_passJoint_8 : decode cX5_passJoint 8 = .ok (.imul, 1) := dk_104 (dk_at dksX5_passJoint_0 8 rfl rfl)
theorem dX5_passJoint_9 : decode cX5_passJoint 9 = .ok (.iload_n 2, 1) := dk_28 (dk_at dksX5_passJoint_0 9 rfl rfl)
theorem dX5_passJoint_10 : decode cX5_passJoint 10 = .ok (.iadd, 1) := dk_96 (dk_at dksX5_passJoint_0 10 rfl rfl)
theorem dX5_passJoint_11 : decode cX5_passJoint 11 = .ok (.laload, 1) := dk_47 (dk_at dksX5_passJoint_0 11 rfl rfl)
theorem dX5_passJoint_12 : decode cX5_passJoint 12 = .ok (.lstore_n 3, 1) := dk_66 (dk_at dksX5_passJoint_0 12 rfl rfl)
theorem dX5_passJoint_13 : decode cX5_passJoint 13 = .ok (.aload_n 0, 1) := dk_42 (dk_at dksX5_passJoint_0 13 rfl rfl)
theorem dX5_passJoint_14 : decode cX5_passJoint 14 = .ok (.getfield 15, 3) := dk_180 0 15 (dk_at dksX5_passJoint_0 14 rfl rfl)
theorem dX5_passJoint_17 : decode cX5_passJoint 17 = .ok (.sipush 201, 3) := dk_17 0 201 (dk_at dksX5_passJoint_0 17 rfl rfl)
theorem dX5_passJoint_20 : decode cX5_passJoint 20 = .ok (.iload_n 1, 1) := dk_27 (dk_at dksX5_passJoint_0 20 rfl rfl)
theorem dX5_passJoint_21 : decode cX5_passJoint 21 = .ok (.imul, 1) := dk_104 (dk_at dksX5_passJoint_0 21 rfl rfl)
theorem dX5_passJoint_22 : decode cX5_passJoint 22 = .ok (.iload_n 2, 1) := dk_28 (dk_at dksX5_passJoint_0 22 rfl rfl)
theorem dX5_passJoint_23 : decode cX5_passJoint 23 = .ok (.iadd, 1) := dk_96 (dk_at dksX5_passJoint_0 23 rfl rfl)
theorem dX5_passJoint_24 : decode cX5_passJoint 24 = .ok (.laload, 1) := dk_47 (dk_at dksX5_passJoint_1 0 rfl rfl)
theorem dX5_passJoint_25 : decode cX5_passJoint 25 = .ok (.lstore 5, 2) := dk_55 5 (dk_at dksX5_passJoint_1 1 rfl rfl)
theorem dX5_passJoint_27 : decode cX5_passJoint 27 = .ok (.aload_n 0, 1) := dk_42 (dk_at dksX5_passJoint_1 3 rfl rfl)
theorem dX5_passJoint_28 : decode cX5_passJoint 28 = .ok (.getfield 21, 3) := dk_180 0 21 (dk_at dksX5_passJoint_1 4 rfl rfl)
theorem dX5_passJoint_31 : decode cX5_passJoint 31 = .ok (.getfield 90, 3) := dk_180 0 90 (dk_at dksX5_passJoint_1 7 rfl rfl)
theorem dX5_passJoint_34 : decode cX5_passJoint 34 = .ok (.iload_n 1, 1) := dk_27 (dk_at dksX5_passJoint_1 10 rfl rfl)
theorem dX5_passJoint_35 : decode cX5_passJoint 35 = .ok (.iconst 1, 1) := dk_4 (dk_at dksX5_passJoint_1 11 rfl rfl)
theorem dX5_passJoint_36 : decode cX5_passJoint 36 = .ok (.isub, 1) := dk_100 (dk_at dksX5_passJoint_1 12 rfl rfl)
theorem dX5_passJoint_37 : decode cX5_passJoint 37 = .ok (.iaload, 1) := dk_46 (dk_at dksX5_passJoint_1 13 rfl rfl)
theorem dX5_passJoint_38 : decode cX5_passJoint 38 = .ok (.istore 7, 2) := dk_54 7 (dk_at dksX5_passJoint_1 14 rfl rfl)
theorem dX5_passJoint_40 : decode cX5_passJoint 40 = .ok (.lload_n 3, 1) := dk_33 (dk_at dksX5_passJoint_1 16 rfl rfl)
theorem dX5_passJoint_41 : decode cX5_passJoint 41 = .ok (.iload 7, 2) := dk_21 7 (dk_at dksX5_passJoint_1 17 rfl rfl)
theorem dX5_passJoint_43 : decode cX5_passJoint 43 = .ok (.invokestatic 80, 3) := dk_184 0 80 (dk_at dksX5_passJoint_1 19 rfl rfl)
theorem dX5_passJoint_46 : decode cX5_passJoint 46 = .ok (.lstore 8, 2) := dk_55 8 (dk_at dksX5_passJoint_1 22 rfl rfl)
theorem dX5_passJoint_48 : decode cX5_passJoint 48 = .ok (.lload 5, 2) := dk_22 5 (dk_at dksX5_passJoint_2 0 rfl rfl)
theorem dX5_passJoint_50 : decode cX5_passJoint 50 = .ok (.iload 7, 2) := dk_21 7 (dk_at dksX5_passJoint_2 2 rfl rfl)
theorem dX5_passJoint_52 : decode cX5_passJoint 52 = .ok (.invokestatic 80, 3) := dk_184 0 80 (dk_at dksX5_passJoint_2 4 rfl rfl)
theorem dX5_passJoint_55 : decode cX5_passJoint 55 = .ok (.lstore 10, 2) := dk_55 10 (dk_at dksX5_passJoint_2 7 rfl rfl)
theorem dX5_passJoint_57 : decode cX5_passJoint 57 = .ok (.lload_n 3, 1) := dk_33 (dk_at dksX5_passJoint_2 9 rfl rfl)
theorem dX5_passJoint_58 : decode cX5_passJoint 58 = .ok (.lload 8, 2) := dk_22 8 (dk_at dksX5_passJoint_2 10 rfl rfl)
theorem dX5_passJoint_60 : decode cX5_passJoint 60 = .ok (.lsub, 1) := dk_101 (dk_at dksX5_passJoint_2 12 rfl rfl)
theorem dX5_passJoint_61 : decode cX5_passJoint 61 = .ok (.lstore 12, 2) := dk_55 12 (dk_at dksX5_passJoint_2 13 rfl rfl)
theorem dX5_passJoint_63 : decode cX5_passJoint 63 = .ok (.lload 5, 2) := dk_22 5 (dk_at dksX5_passJoint_2 15 rfl rfl)
theorem dX5_passJoint_65 : decode cX5_passJoint 65 = .ok (.lload 10, 2) := dk_22 10 (dk_at dksX5_passJoint_2 17 rfl rfl)
theorem dX5_passJoint_67 : decode cX5_passJoint 67 = .ok (.lsub, 1) := dk_101 (dk_at dksX5_passJoint_2 19 rfl rfl)
theorem dX5_passJoint_68 : decode cX5_passJoint 68 = .ok (.lstore 14, 2) := dk_55 14 (dk_at dksX5_passJoint_2 20 rfl rfl)
theorem dX5_passJoint_70 : decode cX5_passJoint 70 = .ok (.aload_n 0, 1) := dk_42 (dk_at dksX5_passJoint_2 22 rfl rfl)
theorem dX5_passJoint_71 : decode cX5_passJoint 71 = .ok (.iload_n 1, 1) := dk_27 (dk_at dksX5_passJoint_2 23 rfl rfl)
theorem dX5_passJoint_72 : decode cX5_passJoint 72 = .ok (.iconst 1, 1) := dk_4 (dk_at dksX5_passJoint_3 0 rfl rfl)
theorem dX5_passJoint_73 : decode cX5_passJoint 73 = .ok (.isub, 1) := dk_100 (dk_at dksX5_passJoint_3 1 rfl rfl)
theorem dX5_passJoint_74 : decode cX5_passJoint 74 = .ok (.iconst 0, 1) := dk_3 (dk_at dksX5_passJoint_3 2 rfl rfl)
theorem dX5_passJoint_75 : decode cX5_passJoint 75 = .ok (.iload_n 2, 1) := dk_28 (dk_at dksX5_passJoint_3 3 rfl rfl)
theorem dX5_passJoint_76 : decode cX5_passJoint 76 = .ok (.lload 8, 2) := dk_22 8 (dk_at dksX5_passJoint_3 4 rfl rfl)
theorem dX5_passJoint_78 : decode cX5_passJoint 78 = .ok (.lload 14, 2) := dk_22 14 (dk_at dksX5_passJoint_3 6 rfl rfl)
theorem dX5_passJoint_80 : decode cX5_passJoint 80 = .ok (.ladd, 1) := dk_97 (dk_at dksX5_passJoint_3 8 rfl rfl)
theorem dX5_passJoint_81 : decode cX5_passJoint 81 = .ok (.lload 8, 2) := dk_22 8 (dk_at dksX5_passJoint_3 9 rfl rfl)
theorem dX5_passJoint_83 : decode cX5_passJoint 83 = .ok (.lconst 0, 1) := dk_9 (dk_at dksX5_passJoint_3 11 rfl rfl)
theorem dX5_passJoint_84 : decode cX5_passJoint 84 = .ok (.lcmp, 1) := dk_148 (dk_at dksX5_passJoint_3 12 rfl rfl)
theorem dX5_passJoint_85 : decode cX5_passJoint 85 = .ok (.ifCond .le 7, 3) := dk_158 0 7 (dk_at dksX5_passJoint_3 13 rfl rfl)
theorem dX5_passJoint_88 : decode cX5_passJoint 88 = .ok (.iconst 1, 1) := dk_4 (dk_at dksX5_passJoint_3 16 rfl rfl)
theorem dX5_passJoint_89 : decode cX5_passJoint 89 = .ok (.goto 4, 3) := dk_167 0 4 (dk_at dksX5_passJoint_3 17 rfl rfl)
theorem dX5_passJoint_92 : decode cX5_passJoint 92 = .ok (.iconst 0, 1) := dk_3 (dk_at dksX5_passJoint_3 20 rfl rfl)
theorem dX5_passJoint_93 : decode cX5_passJoint 93 = .ok (.lload 14, 2) := dk_22 14 (dk_at dksX5_passJoint_3 21 rfl rfl)
theorem dX5_passJoint_95 : decode cX5_passJoint 95 = .ok (.lconst 0, 1) := dk_9 (dk_at dksX5_passJoint_3 23 rfl rfl)
theorem dX5_passJoint_96 : decode cX5_passJoint 96 = .ok (.lcmp, 1) := dk_148 (dk_at dksX5_passJoint_4 0 rfl rfl)
theorem dX5_passJoint_97 : decode cX5_passJoint 97 = .ok (.ifCond .le 7, 3) := dk_158 0 7 (dk_at dksX5_passJoint_4 1 rfl rfl)
theorem dX5_passJoint_100 : decode cX5_passJoint 100 = .ok (.iconst 1, 1) := dk_4 (dk_at dksX5_passJoint_4 4 rfl rfl)
theorem dX5_passJoint_101 : decode cX5_passJoint 101 = .ok (.goto 4, 3) := dk_167 0 4 (dk_at dksX5_passJoint_4 5 rfl rfl)
theorem dX5_passJoint_104 : decode cX5_passJoint 104 = .ok (.iconst 0, 1) := dk_3 (dk_at dksX5_passJoint_4 8 rfl rfl)
theorem dX5_passJoint_105 : decode cX5_passJoint 105 = .ok (.iadd, 1) := dk_96 (dk_at dksX5_passJoint_4 9 rfl rfl)
theorem dX5_passJoint_106 : decode cX5_passJoint 106 = .ok (.invokevirtual 86, 3) := dk_182 0 86 (dk_at dksX5_passJoint_4 10 rfl rfl)
theorem dX5_passJoint_109 : decode cX5_passJoint 109 = .ok (.iload_n 1, 1) := dk_27 (dk_at dksX5_passJoint_4 13 rfl rfl)
theorem dX5_passJoint_110 : decode cX5_passJoint 110 = .ok (.aload_n 0, 1) := dk_42 (dk_at dksX5_passJoint_4 14 rfl rfl)
theorem dX5_passJoint_111 : decode cX5_passJoint 111 = .ok (.getfield 21, 3) := dk_180 0 21 (dk_at dksX5_passJoint_4 15 rfl rfl)
theorem dX5_passJoint_114 : decode cX5_passJoint 114 = .ok (.getfield 60, 3) := dk_180 0 60 (dk_at dksX5_passJoint_4 18 rfl rfl)
theorem dX5_passJoint_117 : decode cX5_passJoint 117 = .ok (.if_icmp .ne 17, 3) := dk_160 0 17 (dk_at dksX5_passJoint_4 21 rfl rfl)
theorem dX5_passJoint_120 : decode cX5_passJoint 120 = .ok (.aload_n 0, 1) := dk_42 (dk_at dksX5_passJoint_5 0 rfl rfl)
theorem dX5_passJoint_121 : decode cX5_passJoint 121 = .ok (.dup, 1) := dk_89 (dk_at dksX5_passJoint_5 1 rfl rfl)
theorem dX5_passJoint_122 : decode cX5_passJoint 122 = .ok (.getfield 35, 3) := dk_180 0 35 (dk_at dksX5_passJoint_5 2 rfl rfl)
theorem dX5_passJoint_125 : decode cX5_passJoint 125 = .ok (.lload 12, 2) := dk_22 12 (dk_at dksX5_passJoint_5 5 rfl rfl)
theorem dX5_passJoint_127 : decode cX5_passJoint 127 = .ok (.ladd, 1) := dk_97 (dk_at dksX5_passJoint_5 7 rfl rfl)
theorem dX5_passJoint_128 : decode cX5_passJoint 128 = .ok (.putfield 35, 3) := dk_181 0 35 (dk_at dksX5_passJoint_5 8 rfl rfl)
theorem dX5_passJoint_131 : decode cX5_passJoint 131 = .ok (.goto 40, 3) := dk_167 0 40 (dk_at dksX5_passJoint_5 11 rfl rfl)
theorem dX5_passJoint_134 : decode cX5_passJoint 134 = .ok (.aload_n 0, 1) := dk_42 (dk_at dksX5_passJoint_5 14 rfl rfl)
theorem dX5_passJoint_135 : decode cX5_passJoint 135 = .ok (.iload_n 1, 1) := dk_27 (dk_at dksX5_passJoint_5 15 rfl rfl)
theorem dX5_passJoint_136 : decode cX5_passJoint 136 = .ok (.iconst 1, 1) := dk_4 (dk_at dksX5_passJoint_5 16 rfl rfl)
theorem dX5_passJoint_137 : decode cX5_passJoint 137 = .ok (.iload_n 2, 1) := dk_28 (dk_at dksX5_passJoint_5 17 rfl rfl)
theorem dX5_passJoint_138 : decode cX5_passJoint 138 = .ok (.lload 12, 2) := dk_22 12 (dk_at dksX5_passJoint_5 18 rfl rfl)
theorem dX5_passJoint_140 : decode cX5_passJoint 140 = .ok (.lload 10, 2) := dk_22 10 (dk_at dksX5_passJoint_5 20 rfl rfl)
theorem dX5_passJoint_142 : decode cX5_passJoint 142 = .ok (.ladd, 1) := dk_97 (dk_at dksX5_passJoint_5 22 rfl rfl)
theorem dX5_passJoint_143 : decode cX5_passJoint 143 = .ok (.lload 12, 2) := dk_22 12 (dk_at dksX5_passJoint_6 0 rfl rfl)
theorem dX5_passJoint_145 : decode cX5_passJoint 145 = .ok (.lconst 0, 1) := dk_9 (dk_at dksX5_passJoint_6 2 rfl rfl)
theorem dX5_passJoint_146 : decode cX5_passJoint 146 = .ok (.lcmp, 1) := dk_148 (dk_at dksX5_passJoint_6 3 rfl rfl)
theorem dX5_passJoint_147 : decode cX5_passJoint 147 = .ok (.ifCond .le 7, 3) := dk_158 0 7 (dk_at dksX5_passJoint_6 4 rfl rfl)
theorem dX5_passJoint_150 : decode cX5_passJoint 150 = .ok (.iconst 1, 1) := dk_4 (dk_at dksX5_passJoint_6 7 rfl rfl)
theorem dX5_passJoint_151 : decode cX5_passJoint 151 = .ok (.goto 4, 3) := dk_167 0 4 (dk_at dksX5_passJoint_6 8 rfl rfl)
theorem dX5_passJoint_154 : decode cX5_passJoint 154 = .ok (.iconst 0, 1) := dk_3 (dk_at dksX5_passJoint_6 11 rfl rfl)
theorem dX5_passJoint_155 : decode cX5_passJoint 155 = .ok (.lload 10, 2) := dk_22 10 (dk_at dksX5_passJoint_6 12 rfl rfl)
theorem dX5_passJoint_157 : decode cX5_passJoint 157 = .ok (.lconst 0, 1) := dk_9 (dk_at dksX5_passJoint_6 14 rfl rfl)
theorem dX5_passJoint_158 : decode cX5_passJoint 158 = .ok (.lcmp, 1) := dk_148 (dk_at dksX5_passJoint_6 15 rfl rfl)
theorem dX5_passJoint_159 : decode cX5_passJoint 159 = .ok (.ifCond .le 7, 3) := dk_158 0 7 (dk_at dksX5_passJoint_6 16 rfl rfl)
theorem dX5_passJoint_162 : decode cX5_passJoint 162 = .ok (.iconst 1, 1) := dk_4 (dk_at dksX5_passJoint_6 19 rfl rfl)
theorem dX5_passJoint_163 : decode cX5_passJoint 163 = .ok (.goto 4, 3) := dk_167 0 4 (dk_at dksX5_passJoint_6 20 rfl rfl)
theorem dX5_passJoint_166 : decode cX5_passJoint 166 = .ok (.iconst 0, 1) := dk_3 (dk_at dksX5_passJoint_6 23 rfl rfl)
theorem dX5_passJoint_167 : decode cX5_passJoint 167 = .ok (.iadd, 1) := dk_96 (dk_at dksX5_passJoint_7 0 rfl rfl)
theorem dX5_passJoint_168 : decode cX5_passJoint 168 = .ok (.invokevirtual 86, 3) := dk_182 0 86 (dk_at dksX5_passJoint_7 1 rfl rfl)
theorem dX5_passJoint_171 : decode cX5_passJoint 171 = .ok (.return_, 1) := dk_177 (dk_at dksX5_passJoint_7 4 rfl rfl)
abbrev cX5_at : ByteArray := prog_8_method_2_code
def yX5_at : MethodName := ⟨RX5, "at", "(I)J"⟩
def dkwX5_at_0 : List UInt8 := [42, 180, 0, 18, 27, 47, 173]
abbrev dktX5_at_0 : List UInt8 := dkwX5_at_0 ++ []
theorem dksX5_at_0 : cX5_at.data.toList.drop 0 = dktX5_at_0 := by decide +kernel
theorem dX5_at_0 : decode cX5_at 0 = .ok (.aload_n 0, 1) := dk_42 (dk_at dksX5_at_0 0 rfl rfl)
theorem dX5_at_1 : decode cX5_at 1 = .ok (.getfield 18, 3) := dk_180 0 18 (dk_at dksX5_at_0 1 rfl rfl)
theorem dX5_at_4 : decode cX5_at 4 = .ok (.iload_n 1, 1) := dk_27 (dk_at dksX5_at_0 4 rfl rfl)
theorem dX5_at_5 : decode cX5_at 5 = .ok (.laload, 1) := dk_47 (dk_at dksX5_at_0 5 rfl rfl)
theorem dX5_at_6 : decode cX5_at 6 = .ok (.lreturn, 1) := dk_173 (dk_at dksX5_at_0 6 rfl rfl)
abbrev cX5_total : ByteArray := prog_8_method_9_code
def yX5_total : MethodName := ⟨RX5, "total", "(I)J"⟩
def dkwX5_total_4 : List UInt8 := [133, 173, 42, 42, 180, 0, 21, 180, 0, 51, 182, 0, 107, 173]
abbrev dktX5_total_4 : List UInt8 := dkwX5_total_4 ++ []
def dkwX5_total_3 : List UInt8 := [173, 42, 180, 0, 44, 133, 173, 42, 180, 0, 48, 133, 173, 42, 42, 180, 0, 21, 180, 0, 51, 182, 0, 103]
abbrev dktX5_total_3 : List UInt8 := dkwX5_total_3 ++ dktX5_total_4
def dkwX5_total_2 : List UInt8 := [42, 180, 0, 31, 173, 42, 182, 0, 99, 173, 42, 180, 0, 35, 173, 42, 180, 0, 38, 173, 42, 180, 0, 41]
abbrev dktX5_total_2 : List UInt8 := dkwX5_total_2 ++ dktX5_total_3
def dkwX5_total_1 : List UInt8 := [170, 0, 0, 0, 0, 0, 97, 0, 0, 0, 0, 0, 0, 0, 7, 0, 0, 0, 47, 0, 0, 0, 52, 0, 0, 0, 57, 0, 0, 0, 62, 0, 0, 0, 67, 0, 0, 0, 72, 0, 0, 0, 78, 0, 0, 0, 84]
abbrev dktX5_total_1 : List UInt8 := dkwX5_total_1 ++ dktX5_total_2
def dkwX5_total_0 : List UInt8 := [27]
abbrev dktX5_total_0 : List UInt8 := dkwX5_total_0 ++ dktX5_total_1
theorem dksX5_total_0 : cX5_total.data.toList.drop 0 = dktX5_total_0 := by decide +kernel
theorem dksX5_total_1 : cX5_total.data.toList.drop 1 = dktX5_total_1 := dk_seg dksX5_total_0 1 rfl rfl
theorem dksX5_total_2 : cX5_total.data.toList.drop 48 = dktX5_total_2 := dk_seg dksX5_total_1 47 rfl rfl
theorem dksX5_total_3 : cX5_total.data.toList.drop 72 = dktX5_total_3 := dk_seg dksX5_total_2 24 rfl rfl
theorem dksX5_total_4 : cX5_total.data.toList.drop 96 = dktX5_total_4 := dk_seg dksX5_total_3 24 rfl rfl
theorem dX5_total_0 : decode cX5_total 0 = .ok (.iload_n 1, 1) := dk_27 (dk_at dksX5_total_0 0 rfl rfl)
theorem dX5_total_1 : decode cX5_total 1 = .ok (.tableswitch 97 0 7 #[47, 52, 57, 62, 67, 72, 78, 84], 47) := by decide +kernel
theorem dX5_total_48 : decode cX5_total 48 = .ok (.aload_n 0, 1) := dk_42 (dk_at dksX5_total_2 0 rfl rfl)
theorem dX5_total_49 : decode cX5_total 49 = .ok (.getfield 31, 3) := dk_180 0 31 (dk_at dksX5_total_2 1 rfl rfl)
theorem dX5_total_52 : decode cX5_total 52 = .ok (.lreturn, 1) := dk_173 (dk_at dksX5_total_2 4 rfl rfl)
theorem dX5_total_53 : decode cX5_total 53 = .ok (.aload_n 0, 1) := dk_42 (dk_at dksX5_total_2 5 rfl rfl)
theorem dX5_total_54 : decode cX5_total 54 = .ok (.invokevirtual 99, 3) := dk_182 0 99 (dk_at dksX5_total_2 6 rfl rfl)
theorem dX5_total_57 : decode cX5_total 57 = .ok (.lreturn, 1) := dk_173 (dk_at dksX5_total_2 9 rfl rfl)
theorem dX5_total_58 : decode cX5_total 58 = .ok (.aload_n 0, 1) := dk_42 (dk_at dksX5_total_2 10 rfl rfl)
theorem dX5_total_59 : decode cX5_total 59 = .ok (.getfield 35, 3) := dk_180 0 35 (dk_at dksX5_total_2 11 rfl rfl)
theorem dX5_total_62 : decode cX5_total 62 = .ok (.lreturn, 1) := dk_173 (dk_at dksX5_total_2 14 rfl rfl)
theorem dX5_total_63 : decode cX5_total 63 = .ok (.aload_n 0, 1) := dk_42 (dk_at dksX5_total_2 15 rfl rfl)
theorem dX5_total_64 : decode cX5_total 64 = .ok (.getfield 38, 3) := dk_180 0 38 (dk_at dksX5_total_2 16 rfl rfl)
theorem dX5_total_67 : decode cX5_total 67 = .ok (.lreturn, 1) := dk_173 (dk_at dksX5_total_2 19 rfl rfl)
theorem dX5_total_68 : decode cX5_total 68 = .ok (.aload_n 0, 1) := dk_42 (dk_at dksX5_total_2 20 rfl rfl)
theorem dX5_total_69 : decode cX5_total 69 = .ok (.getfield 41, 3) := dk_180 0 41 (dk_at dksX5_total_2 21 rfl rfl)
theorem dX5_total_72 : decode cX5_total 72 = .ok (.lreturn, 1) := dk_173 (dk_at dksX5_total_3 0 rfl rfl)
theorem dX5_total_73 : decode cX5_total 73 = .ok (.aload_n 0, 1) := dk_42 (dk_at dksX5_total_3 1 rfl rfl)
theorem dX5_total_74 : decode cX5_total 74 = .ok (.getfield 44, 3) := dk_180 0 44 (dk_at dksX5_total_3 2 rfl rfl)
theorem dX5_total_77 : decode cX5_total 77 = .ok (.i2l, 1) := dk_133 (dk_at dksX5_total_3 5 rfl rfl)
theorem dX5_total_78 : decode cX5_total 78 = .ok (.lreturn, 1) := dk_173 (dk_at dksX5_total_3 6 rfl rfl)
theorem dX5_total_79 : decode cX5_total 79 = .ok (.aload_n 0, 1) := dk_42 (dk_at dksX5_total_3 7 rfl rfl)
theorem dX5_total_80 : decode cX5_total 80 = .ok (.getfield 48, 3) := dk_180 0 48 (dk_at dksX5_total_3 8 rfl rfl)
theorem dX5_total_83 : decode cX5_total 83 = .ok (.i2l, 1) := dk_133 (dk_at dksX5_total_3 11 rfl rfl)
theorem dX5_total_84 : decode cX5_total 84 = .ok (.lreturn, 1) := dk_173 (dk_at dksX5_total_3 12 rfl rfl)
theorem dX5_total_85 : decode cX5_total 85 = .ok (.aload_n 0, 1) := dk_42 (dk_at dksX5_total_3 13 rfl rfl)
theorem dX5_total_86 : decode cX5_total 86 = .ok (.aload_n 0, 1) := dk_42 (dk_at dksX5_total_3 14 rfl rfl)
theorem dX5_total_87 : decode cX5_total 87 = .ok (.getfield 21, 3) := dk_180 0 21 (dk_at dksX5_total_3 15 rfl rfl)
theorem dX5_total_90 : decode cX5_total 90 = .ok (.getfield 51, 3) := dk_180 0 51 (dk_at dksX5_total_3 18 rfl rfl)
theorem dX5_total_93 : decode cX5_total 93 = .ok (.invokevirtual 103, 3) := dk_182 0 103 (dk_at dksX5_total_3 21 rfl rfl)
theorem dX5_total_96 : decode cX5_total 96 = .ok (.i2l, 1) := dk_133 (dk_at dksX5_total_4 0 rfl rfl)
theorem dX5_total_97 : decode cX5_total 97 = .ok (.lreturn, 1) := dk_173 (dk_at dksX5_total_4 1 rfl rfl)
theorem dX5_total_98 : decode cX5_total 98 = .ok (.aload_n 0, 1) := dk_42 (dk_at dksX5_total_4 2 rfl rfl)
theorem dX5_total_99 : decode cX5_total 99 = .ok (.aload_n 0, 1) := dk_42 (dk_at dksX5_total_4 3 rfl rfl)
theorem dX5_total_100 : decode cX5_total 100 = .ok (.getfield 21, 3) := dk_180 0 21 (dk_at dksX5_total_4 4 rfl rfl)
theorem dX5_total_103 : decode cX5_total 103 = .ok (.getfield 51, 3) := dk_180 0 51 (dk_at dksX5_total_4 7 rfl rfl)
theorem dX5_total_106 : decode cX5_total 106 = .ok (.invokevirtual 107, 3) := dk_182 0 107 (dk_at dksX5_total_4 10 rfl rfl)
theorem dX5_total_109 : decode cX5_total 109 = .ok (.lreturn, 1) := dk_173 (dk_at dksX5_total_4 13 rfl rfl)
abbrev cX5_sumOfEchoes : ByteArray := prog_8_method_8_code
def yX5_sumOfEchoes : MethodName := ⟨RX5, "sumOfEchoes", "()J"⟩
def dkwX5_sumOfEchoes_1 : List UInt8 := [47, 55, 6, 31, 22, 6, 97, 64, 132, 5, 1, 167, 255, 235, 31, 173]
abbrev dktX5_sumOfEchoes_1 : List UInt8 := dkwX5_sumOfEchoes_1 ++ []
def dkwX5_sumOfEchoes_0 : List UInt8 := [9, 64, 42, 180, 0, 18, 78, 45, 190, 54, 4, 3, 54, 5, 21, 5, 21, 4, 162, 0, 20, 45, 21, 5]
abbrev dktX5_sumOfEchoes_0 : List UInt8 := dkwX5_sumOfEchoes_0 ++ dktX5_sumOfEchoes_1
theorem dksX5_sumOfEchoes_0 : cX5_sumOfEchoes.data.toList.drop 0 = dktX5_sumOfEchoes_0 := by decide +kernel
theorem dksX5_sumOfEchoes_1 : cX5_sumOfEchoes.data.toList.drop 24 = dktX5_sumOfEchoes_1 := dk_seg dksX5_sumOfEchoes_0 24 rfl rfl
theorem dX5_sumOfEchoes_0 : decode cX5_sumOfEchoes 0 = .ok (.lconst 0, 1) := dk_9 (dk_at dksX5_sumOfEchoes_0 0 rfl rfl)
theorem dX5_sumOfEchoes_1 : decode cX5_sumOfEchoes 1 = .ok (.lstore_n 1, 1) := dk_64 (dk_at dksX5_sumOfEchoes_0 1 rfl rfl)
theorem dX5_sumOfEchoes_2 : decode cX5_sumOfEchoes 2 = .ok (.aload_n 0, 1) := dk_42 (dk_at dksX5_sumOfEchoes_0 2 rfl rfl)
theorem dX5_sumOfEchoes_3 : decode cX5_sumOfEchoes 3 = .ok (.getfield 18, 3) := dk_180 0 18 (dk_at dksX5_sumOfEchoes_0 3 rfl rfl)
theorem dX5_sumOfEchoes_6 : decode cX5_sumOfEchoes 6 = .ok (.astore_n 3, 1) := dk_78 (dk_at dksX5_sumOfEchoes_0 6 rfl rfl)
theorem dX5_sumOfEchoes_7 : decode cX5_sumOfEchoes 7 = .ok (.aload_n 3, 1) := dk_45 (dk_at dksX5_sumOfEchoes_0 7 rfl rfl)
theorem dX5_sumOfEchoes_8 : decode cX5_sumOfEchoes 8 = .ok (.arraylength, 1) := dk_190 (dk_at dksX5_sumOfEchoes_0 8 rfl rfl)
theorem dX5_sumOfEchoes_9 : decode cX5_sumOfEchoes 9 = .ok (.istore 4, 2) := dk_54 4 (dk_at dksX5_sumOfEchoes_0 9 rfl rfl)
theorem dX5_sumOfEchoes_11 : decode cX5_sumOfEchoes 11 = .ok (.iconst 0, 1) := dk_3 (dk_at dksX5_sumOfEchoes_0 11 rfl rfl)
theorem dX5_sumOfEchoes_12 : decode cX5_sumOfEchoes 12 = .ok (.istore 5, 2) := dk_54 5 (dk_at dksX5_sumOfEchoes_0 12 rfl rfl)
theorem dX5_sumOfEchoes_14 : decode cX5_sumOfEchoes 14 = .ok (.iload 5, 2) := dk_21 5 (dk_at dksX5_sumOfEchoes_0 14 rfl rfl)
theorem dX5_sumOfEchoes_16 : decode cX5_sumOfEchoes 16 = .ok (.iload 4, 2) := dk_21 4 (dk_at dksX5_sumOfEchoes_0 16 rfl rfl)
theorem dX5_sumOfEchoes_18 : decode cX5_sumOfEchoes 18 = .ok (.if_icmp .ge 20, 3) := dk_162 0 20 (dk_at dksX5_sumOfEchoes_0 18 rfl rfl)
theorem dX5_sumOfEchoes_21 : decode cX5_sumOfEchoes 21 = .ok (.aload_n 3, 1) := dk_45 (dk_at dksX5_sumOfEchoes_0 21 rfl rfl)
theorem dX5_sumOfEchoes_22 : decode cX5_sumOfEchoes 22 = .ok (.iload 5, 2) := dk_21 5 (dk_at dksX5_sumOfEchoes_0 22 rfl rfl)
theorem dX5_sumOfEchoes_24 : decode cX5_sumOfEchoes 24 = .ok (.laload, 1) := dk_47 (dk_at dksX5_sumOfEchoes_1 0 rfl rfl)
theorem dX5_sumOfEchoes_25 : decode cX5_sumOfEchoes 25 = .ok (.lstore 6, 2) := dk_55 6 (dk_at dksX5_sumOfEchoes_1 1 rfl rfl)
theorem dX5_sumOfEchoes_27 : decode cX5_sumOfEchoes 27 = .ok (.lload_n 1, 1) := dk_31 (dk_at dksX5_sumOfEchoes_1 3 rfl rfl)
theorem dX5_sumOfEchoes_28 : decode cX5_sumOfEchoes 28 = .ok (.lload 6, 2) := dk_22 6 (dk_at dksX5_sumOfEchoes_1 4 rfl rfl)
theorem dX5_sumOfEchoes_30 : decode cX5_sumOfEchoes 30 = .ok (.ladd, 1) := dk_97 (dk_at dksX5_sumOfEchoes_1 6 rfl rfl)
theorem dX5_sumOfEchoes_31 : decode cX5_sumOfEchoes 31 = .ok (.lstore_n 1, 1) := dk_64 (dk_at dksX5_sumOfEchoes_1 7 rfl rfl)
theorem dX5_sumOfEchoes_32 : decode cX5_sumOfEchoes 32 = .ok (.iinc 5 1, 3) := dk_132 5 1 (dk_at dksX5_sumOfEchoes_1 8 rfl rfl)
theorem dX5_sumOfEchoes_35 : decode cX5_sumOfEchoes 35 = .ok (.goto (-21), 3) := dk_167 255 235 (dk_at dksX5_sumOfEchoes_1 11 rfl rfl)
theorem dX5_sumOfEchoes_38 : decode cX5_sumOfEchoes 38 = .ok (.lload_n 1, 1) := dk_31 (dk_at dksX5_sumOfEchoes_1 14 rfl rfl)
theorem dX5_sumOfEchoes_39 : decode cX5_sumOfEchoes 39 = .ok (.lreturn, 1) := dk_173 (dk_at dksX5_sumOfEchoes_1 15 rfl rfl)
abbrev cX5_arrival : ByteArray := prog_8_method_3_code
def yX5_arrival : MethodName := ⟨RX5, "arrival", "(IIZ)J"⟩
def dkwX5_arrival_1 : List UInt8 := [17, 0, 201, 27, 104, 28, 96, 47, 173]
abbrev dktX5_arrival_1 : List UInt8 := dkwX5_arrival_1 ++ []
def dkwX5_arrival_0 : List UInt8 := [29, 153, 0, 18, 42, 180, 0, 15, 17, 0, 201, 27, 104, 28, 96, 47, 167, 0, 15, 42, 180, 0, 9]
abbrev dktX5_arrival_0 : List UInt8 := dkwX5_arrival_0 ++ dktX5_arrival_1
theorem dksX5_arrival_0 : cX5_arrival.data.toList.drop 0 = dktX5_arrival_0 := by decide +kernel
theorem dksX5_arrival_1 : cX5_arrival.data.toList.drop 23 = dktX5_arrival_1 := dk_seg dksX5_arrival_0 23 rfl rfl
theorem dX5_arrival_0 : decode cX5_arrival 0 = .ok (.iload_n 3, 1) := dk_29 (dk_at dksX5_arrival_0 0 rfl rfl)
theorem dX5_arrival_1 : decode cX5_arrival 1 = .ok (.ifCond .eq 18, 3) := dk_153 0 18 (dk_at dksX5_arrival_0 1 rfl rfl)
theorem dX5_arrival_4 : decode cX5_arrival 4 = .ok (.aload_n 0, 1) := dk_42 (dk_at dksX5_arrival_0 4 rfl rfl)
theorem dX5_arrival_5 : decode cX5_arrival 5 = .ok (.getfield 15, 3) := dk_180 0 15 (dk_at dksX5_arrival_0 5 rfl rfl)
theorem dX5_arrival_8 : decode cX5_arrival 8 = .ok (.sipush 201, 3) := dk_17 0 201 (dk_at dksX5_arrival_0 8 rfl rfl)
theorem dX5_arrival_11 : decode cX5_arrival 11 = .ok (.iload_n 1, 1) := dk_27 (dk_at dksX5_arrival_0 11 rfl rfl)
theorem dX5_arrival_12 : decode cX5_arrival 12 = .ok (.imul, 1) := dk_104 (dk_at dksX5_arrival_0 12 rfl rfl)
theorem dX5_arrival_13 : decode cX5_arrival 13 = .ok (.iload_n 2, 1) := dk_28 (dk_at dksX5_arrival_0 13 rfl rfl)
theorem dX5_arrival_14 : decode cX5_arrival 14 = .ok (.iadd, 1) := dk_96 (dk_at dksX5_arrival_0 14 rfl rfl)
theorem dX5_arrival_15 : decode cX5_arrival 15 = .ok (.laload, 1) := dk_47 (dk_at dksX5_arrival_0 15 rfl rfl)
theorem dX5_arrival_16 : decode cX5_arrival 16 = .ok (.goto 15, 3) := dk_167 0 15 (dk_at dksX5_arrival_0 16 rfl rfl)
theorem dX5_arrival_19 : decode cX5_arrival 19 = .ok (.aload_n 0, 1) := dk_42 (dk_at dksX5_arrival_0 19 rfl rfl)
theorem dX5_arrival_20 : decode cX5_arrival 20 = .ok (.getfield 9, 3) := dk_180 0 9 (dk_at dksX5_arrival_0 20 rfl rfl)
theorem dX5_arrival_23 : decode cX5_arrival 23 = .ok (.sipush 201, 3) := dk_17 0 201 (dk_at dksX5_arrival_1 0 rfl rfl)
theorem dX5_arrival_26 : decode cX5_arrival 26 = .ok (.iload_n 1, 1) := dk_27 (dk_at dksX5_arrival_1 3 rfl rfl)
theorem dX5_arrival_27 : decode cX5_arrival 27 = .ok (.imul, 1) := dk_104 (dk_at dksX5_arrival_1 4 rfl rfl)
theorem dX5_arrival_28 : decode cX5_arrival 28 = .ok (.iload_n 2, 1) := dk_28 (dk_at dksX5_arrival_1 5 rfl rfl)
theorem dX5_arrival_29 : decode cX5_arrival 29 = .ok (.iadd, 1) := dk_96 (dk_at dksX5_arrival_1 6 rfl rfl)
theorem dX5_arrival_30 : decode cX5_arrival 30 = .ok (.laload, 1) := dk_47 (dk_at dksX5_arrival_1 7 rfl rfl)
theorem dX5_arrival_31 : decode cX5_arrival 31 = .ok (.lreturn, 1) := dk_173 (dk_at dksX5_arrival_1 8 rfl rfl)
abbrev cX5_text : ByteArray := prog_8_method_10_code
def yX5_text : MethodName := ⟨RX5, "text", "()Ljava/lang/String;"⟩
def dkwX5_text_2 : List UInt8 := [28, 47, 182, 0, 121, 16, 59, 182, 0, 118, 87, 132, 2, 1, 167, 255, 206, 43, 182, 0, 124, 176]
abbrev dktX5_text_2 : List UInt8 := dkwX5_text_2 ++ []
def dkwX5_text_1 : List UInt8 := [180, 0, 18, 28, 47, 9, 148, 158, 0, 28, 43, 28, 182, 0, 114, 16, 58, 182, 0, 118, 42, 180, 0, 18]
abbrev dktX5_text_1 : List UInt8 := dkwX5_text_1 ++ dktX5_text_2
def dkwX5_text_0 : List UInt8 := [187, 0, 111, 89, 183, 0, 113, 76, 3, 61, 28, 42, 180, 0, 21, 180, 0, 51, 163, 0, 45, 42]
abbrev dktX5_text_0 : List UInt8 := dkwX5_text_0 ++ dktX5_text_1
theorem dksX5_text_0 : cX5_text.data.toList.drop 0 = dktX5_text_0 := by decide +kernel
theorem dksX5_text_1 : cX5_text.data.toList.drop 22 = dktX5_text_1 := dk_seg dksX5_text_0 22 rfl rfl
theorem dksX5_text_2 : cX5_text.data.toList.drop 46 = dktX5_text_2 := dk_seg dksX5_text_1 24 rfl rfl
theorem dX5_text_0 : decode cX5_text 0 = .ok (.new 111, 3) := dk_187 0 111 (dk_at dksX5_text_0 0 rfl rfl)
theorem dX5_text_3 : decode cX5_text 3 = .ok (.dup, 1) := dk_89 (dk_at dksX5_text_0 3 rfl rfl)
theorem dX5_text_4 : decode cX5_text 4 = .ok (.invokespecial 113, 3) := dk_183 0 113 (dk_at dksX5_text_0 4 rfl rfl)
theorem dX5_text_7 : decode cX5_text 7 = .ok (.astore_n 1, 1) := dk_76 (dk_at dksX5_text_0 7 rfl rfl)
theorem dX5_text_8 : decode cX5_text 8 = .ok (.iconst 0, 1) := dk_3 (dk_at dksX5_text_0 8 rfl rfl)
theorem dX5_text_9 : decode cX5_text 9 = .ok (.istore_n 2, 1) := dk_61 (dk_at dksX5_text_0 9 rfl rfl)
theorem dX5_text_10 : decode cX5_text 10 = .ok (.iload_n 2, 1) := dk_28 (dk_at dksX5_text_0 10 rfl rfl)
theorem dX5_text_11 : decode cX5_text 11 = .ok (.aload_n 0, 1) := dk_42 (dk_at dksX5_text_0 11 rfl rfl)
theorem dX5_text_12 : decode cX5_text 12 = .ok (.getfield 21, 3) := dk_180 0 21 (dk_at dksX5_text_0 12 rfl rfl)
theorem dX5_text_15 : decode cX5_text 15 = .ok (.getfield 51, 3) := dk_180 0 51 (dk_at dksX5_text_0 15 rfl rfl)
theorem dX5_text_18 : decode cX5_text 18 = .ok (.if_icmp .gt 45, 3) := dk_163 0 45 (dk_at dksX5_text_0 18 rfl rfl)
theorem dX5_text_21 : decode cX5_text 21 = .ok (.aload_n 0, 1) := dk_42 (dk_at dksX5_text_0 21 rfl rfl)
theorem dX5_text_22 : decode cX5_text 22 = .ok (.getfield 18, 3) := dk_180 0 18 (dk_at dksX5_text_1 0 rfl rfl)
theorem dX5_text_25 : decode cX5_text 25 = .ok (.iload_n 2, 1) := dk_28 (dk_at dksX5_text_1 3 rfl rfl)
theorem dX5_text_26 : decode cX5_text 26 = .ok (.laload, 1) := dk_47 (dk_at dksX5_text_1 4 rfl rfl)
theorem dX5_text_27 : decode cX5_text 27 = .ok (.lconst 0, 1) := dk_9 (dk_at dksX5_text_1 5 rfl rfl)
theorem dX5_text_28 : decode cX5_text 28 = .ok (.lcmp, 1) := dk_148 (dk_at dksX5_text_1 6 rfl rfl)
theorem dX5_text_29 : decode cX5_text 29 = .ok (.ifCond .le 28, 3) := dk_158 0 28 (dk_at dksX5_text_1 7 rfl rfl)
theorem dX5_text_32 : decode cX5_text 32 = .ok (.aload_n 1, 1) := dk_43 (dk_at dksX5_text_1 10 rfl rfl)
theorem dX5_text_33 : decode cX5_text 33 = .ok (.iload_n 2, 1) := dk_28 (dk_at dksX5_text_1 11 rfl rfl)
theorem dX5_text_34 : decode cX5_text 34 = .ok (.invokevirtual 114, 3) := dk_182 0 114 (dk_at dksX5_text_1 12 rfl rfl)
theorem dX5_text_37 : decode cX5_text 37 = .ok (.bipush 58, 2) := dk_16 58 (dk_at dksX5_text_1 15 rfl rfl)
theorem dX5_text_39 : decode cX5_text 39 = .ok (.invokevirtual 118, 3) := dk_182 0 118 (dk_at dksX5_text_1 17 rfl rfl)
theorem dX5_text_42 : decode cX5_text 42 = .ok (.aload_n 0, 1) := dk_42 (dk_at dksX5_text_1 20 rfl rfl)
theorem dX5_text_43 : decode cX5_text 43 = .ok (.getfield 18, 3) := dk_180 0 18 (dk_at dksX5_text_1 21 rfl rfl)
theorem dX5_text_46 : decode cX5_text 46 = .ok (.iload_n 2, 1) := dk_28 (dk_at dksX5_text_2 0 rfl rfl)
theorem dX5_text_47 : decode cX5_text 47 = .ok (.laload, 1) := dk_47 (dk_at dksX5_text_2 1 rfl rfl)
theorem dX5_text_48 : decode cX5_text 48 = .ok (.invokevirtual 121, 3) := dk_182 0 121 (dk_at dksX5_text_2 2 rfl rfl)
theorem dX5_text_51 : decode cX5_text 51 = .ok (.bipush 59, 2) := dk_16 59 (dk_at dksX5_text_2 5 rfl rfl)
theorem dX5_text_53 : decode cX5_text 53 = .ok (.invokevirtual 118, 3) := dk_182 0 118 (dk_at dksX5_text_2 7 rfl rfl)
theorem dX5_text_56 : decode cX5_text 56 = .ok (.pop, 1) := dk_87 (dk_at dksX5_text_2 10 rfl rfl)
theorem dX5_text_57 : decode cX5_text 57 = .ok (.iinc 2 1, 3) := dk_132 2 1 (dk_at dksX5_text_2 11 rfl rfl)
theorem dX5_text_60 : decode cX5_text 60 = .ok (.goto (-50), 3) := dk_167 255 206 (dk_at dksX5_text_2 14 rfl rfl)
theorem dX5_text_63 : decode cX5_text 63 = .ok (.aload_n 1, 1) := dk_43 (dk_at dksX5_text_2 17 rfl rfl)
theorem dX5_text_64 : decode cX5_text 64 = .ok (.invokevirtual 124, 3) := dk_182 0 124 (dk_at dksX5_text_2 18 rfl rfl)
theorem dX5_text_67 : decode cX5_text 67 = .ok (.areturn, 1) := dk_176 (dk_at dksX5_text_2 21 rfl rfl)
theorem q73 : (Jvm.Cond.initialized "LineEchoes$Runner") ∈ lw_all := lw_g (lw_at lw_m1 5 rfl) rfl
theorem q123 : (Jvm.Cond.fieldLinkNest "LineEchoes$Runner" (96 : Nat) "LineEchoes$Line" "lengths" "[I" "LineEchoes") ∈ lw_tbl := lw_at lw_m1 55 rfl
theorem q127 : (Jvm.Cond.fieldLinkNest "LineEchoes$Runner" (90 : Nat) "LineEchoes$Line" "fractions" "[I" "LineEchoes") ∈ lw_tbl := lw_at lw_m1 59 rfl
theorem q133 : (Jvm.Cond.fieldLinkNest "LineEchoes$Runner" (60 : Nat) "LineEchoes$Line" "n" "I" "LineEchoes") ∈ lw_tbl := lw_at lw_m1 65 rfl
theorem q136 : (Jvm.Cond.fieldLinkNest "LineEchoes$Runner" (70 : Nat) "LineEchoes$Line" "pulseTimes" "[I" "LineEchoes") ∈ lw_tbl := lw_at lw_m1 68 rfl
theorem q139 : (Jvm.Cond.fieldLinkNest "LineEchoes$Runner" (74 : Nat) "LineEchoes$Line" "pulseEnergies" "[I" "LineEchoes") ∈ lw_tbl := lw_at lw_m1 71 rfl
theorem q142 : (Jvm.Cond.fieldLinkNest "LineEchoes$Runner" (67 : Nat) "LineEchoes$Line" "pulses" "I" "LineEchoes") ∈ lw_tbl := lw_at lw_m1 74 rfl
theorem q146 : (Jvm.Cond.fieldLinkNest "LineEchoes$Runner" (77 : Nat) "LineEchoes$Line" "front" "I" "LineEchoes") ∈ lw_tbl := lw_at lw_m1 78 rfl
theorem q148 : (Jvm.Cond.fieldLinkNest "LineEchoes$Runner" (93 : Nat) "LineEchoes$Line" "least" "I" "LineEchoes") ∈ lw_tbl := lw_at lw_m1 80 rfl
theorem q151 : (Jvm.Cond.fieldLinkNest "LineEchoes$Runner" (51 : Nat) "LineEchoes$Line" "window" "I" "LineEchoes") ∈ lw_tbl := lw_at lw_m1 83 rfl
theorem q204 : (Jvm.Cond.instantiable "LineEchoes$Runner" (10 : Nat)) ∈ lw_all := lw_g (lw_at lw_m1 136 rfl) rfl
theorem q206 : (Jvm.Cond.instanceMethod ({ cls := "LineEchoes$Runner", name := "<init>", desc := "()V" } : Jvm.MethodName)) ∈ lw_all := lw_g (lw_at lw_m1 138 rfl) rfl
theorem q207 : (Jvm.Cond.code ({ cls := "LineEchoes$Runner", name := "<init>", desc := "()V" } : Jvm.MethodName) prog_8_method_1_code (1 : Nat) (Option.none : Option Jvm.ClassFile.FieldType)) ∈ lw_all := lw_g (lw_at lw_m1 139 rfl) rfl
theorem q208 : (Jvm.Cond.methodLink "LineEchoes$Runner" (3 : Nat) ({ cls := "java/lang/Object", name := "<init>", desc := "()V" } : Jvm.MethodName)) ∈ lw_all := lw_g (lw_at lw_m1 140 rfl) rfl
theorem q209 : (Jvm.Cond.fieldLink "LineEchoes$Runner" (9 : Nat) "LineEchoes$Runner" "fromNear" "[J") ∈ lw_all := lw_g (lw_at lw_m1 141 rfl) rfl
theorem q210 : (Jvm.Cond.fieldLink "LineEchoes$Runner" (15 : Nat) "LineEchoes$Runner" "fromFar" "[J") ∈ lw_all := lw_g (lw_at lw_m1 142 rfl) rfl
theorem q211 : (Jvm.Cond.fieldLink "LineEchoes$Runner" (18 : Nat) "LineEchoes$Runner" "echoes" "[J") ∈ lw_all := lw_g (lw_at lw_m1 143 rfl) rfl
theorem q212 : (Jvm.Cond.fieldLink "LineEchoes$Runner" (21 : Nat) "LineEchoes$Runner" "line" "LLineEchoes$Line;") ∈ lw_all := lw_g (lw_at lw_m1 144 rfl) rfl
theorem q213 : (Jvm.Cond.fieldLink "LineEchoes$Runner" (31 : Nat) "LineEchoes$Runner" "brought" "J") ∈ lw_all := lw_g (lw_at lw_m1 145 rfl) rfl
theorem q214 : (Jvm.Cond.fieldLink "LineEchoes$Runner" (35 : Nat) "LineEchoes$Runner" "left" "J") ∈ lw_all := lw_g (lw_at lw_m1 146 rfl) rfl
theorem q215 : (Jvm.Cond.fieldLink "LineEchoes$Runner" (38 : Nat) "LineEchoes$Runner" "dropped" "J") ∈ lw_all := lw_g (lw_at lw_m1 147 rfl) rfl
theorem q216 : (Jvm.Cond.fieldLink "LineEchoes$Runner" (41 : Nat) "LineEchoes$Runner" "away" "J") ∈ lw_all := lw_g (lw_at lw_m1 148 rfl) rfl
theorem q217 : (Jvm.Cond.fieldLink "LineEchoes$Runner" (44 : Nat) "LineEchoes$Runner" "mergings" "I") ∈ lw_all := lw_g (lw_at lw_m1 149 rfl) rfl
theorem q218 : (Jvm.Cond.fieldLink "LineEchoes$Runner" (48 : Nat) "LineEchoes$Runner" "drops" "I") ∈ lw_all := lw_g (lw_at lw_m1 150 rfl) rfl
theorem q219 : (Jvm.Cond.laysFinal "LineEchoes$Runner" "LineEchoes$Runner" "fromNear" "[J") ∈ lw_all := lw_g (lw_at lw_m1 151 rfl) rfl
theorem q220 : (Jvm.Cond.soleField "LineEchoes$Runner" "fromNear") ∈ lw_all := lw_g (lw_at lw_m1 152 rfl) rfl
theorem q221 : (Jvm.Cond.laysFinal "LineEchoes$Runner" "LineEchoes$Runner" "fromFar" "[J") ∈ lw_all := lw_g (lw_at lw_m1 153 rfl) rfl
theorem q222 : (Jvm.Cond.soleField "LineEchoes$Runner" "fromFar") ∈ lw_all := lw_g (lw_at lw_m1 154 rfl) rfl
theorem q223 : (Jvm.Cond.laysFinal "LineEchoes$Runner" "LineEchoes$Runner" "echoes" "[J") ∈ lw_all := lw_g (lw_at lw_m1 155 rfl) rfl
theorem q224 : (Jvm.Cond.soleField "LineEchoes$Runner" "echoes") ∈ lw_all := lw_g (lw_at lw_m1 156 rfl) rfl
theorem q225 : (Jvm.Cond.lays "LineEchoes$Runner" "LineEchoes$Runner" "line" "LLineEchoes$Line;") ∈ lw_all := lw_g (lw_at lw_m1 157 rfl) rfl
theorem q226 : (Jvm.Cond.soleField "LineEchoes$Runner" "line") ∈ lw_all := lw_g (lw_at lw_m1 158 rfl) rfl
theorem q227 : (Jvm.Cond.lays "LineEchoes$Runner" "LineEchoes$Runner" "brought" "J") ∈ lw_all := lw_g (lw_at lw_m1 159 rfl) rfl
theorem q228 : (Jvm.Cond.soleField "LineEchoes$Runner" "brought") ∈ lw_all := lw_g (lw_at lw_m1 160 rfl) rfl
theorem q229 : (Jvm.Cond.lays "LineEchoes$Runner" "LineEchoes$Runner" "left" "J") ∈ lw_all := lw_g (lw_at lw_m1 161 rfl) rfl
theorem q230 : (Jvm.Cond.soleField "LineEchoes$Runner" "left") ∈ lw_all := lw_g (lw_at lw_m1 162 rfl) rfl
theorem q231 : (Jvm.Cond.lays "LineEchoes$Runner" "LineEchoes$Runner" "dropped" "J") ∈ lw_all := lw_g (lw_at lw_m1 163 rfl) rfl
theorem q232 : (Jvm.Cond.soleField "LineEchoes$Runner" "dropped") ∈ lw_all := lw_g (lw_at lw_m1 164 rfl) rfl
theorem q233 : (Jvm.Cond.lays "LineEchoes$Runner" "LineEchoes$Runner" "away" "J") ∈ lw_all := lw_g (lw_at lw_m1 165 rfl) rfl
theorem q234 : (Jvm.Cond.soleField "LineEchoes$Runner" "away") ∈ lw_all := lw_g (lw_at lw_m1 166 rfl) rfl
theorem q235 : (Jvm.Cond.lays "LineEchoes$Runner" "LineEchoes$Runner" "mergings" "I") ∈ lw_all := lw_g (lw_at lw_m1 167 rfl) rfl
theorem q236 : (Jvm.Cond.soleField "LineEchoes$Runner" "mergings") ∈ lw_all := lw_g (lw_at lw_m1 168 rfl) rfl
theorem q237 : (Jvm.Cond.lays "LineEchoes$Runner" "LineEchoes$Runner" "drops" "I") ∈ lw_all := lw_g (lw_at lw_m1 169 rfl) rfl
theorem q238 : (Jvm.Cond.soleField "LineEchoes$Runner" "drops") ∈ lw_all := lw_g (lw_at lw_m1 170 rfl) rfl
theorem q239 : (Jvm.Cond.superclass "LineEchoes$Runner" "java/lang/Object") ∈ lw_all := lw_g (lw_at lw_m1 171 rfl) rfl
theorem q308 : (Jvm.Cond.instanceMethod ({ cls := "LineEchoes$Runner", name := "run", desc := "(LLineEchoes$Line;)V" } : Jvm.MethodName)) ∈ lw_all := lw_g (lw_at lw_m2 0 rfl) rfl
theorem q309 : (Jvm.Cond.selects "LineEchoes$Runner" ({ cls := "LineEchoes$Runner", name := "run", desc := "(LLineEchoes$Line;)V" } : Jvm.MethodName) ({ cls := "LineEchoes$Runner", name := "run", desc := "(LLineEchoes$Line;)V" } : Jvm.MethodName)) ∈ lw_all := lw_g (lw_at lw_m2 1 rfl) rfl
theorem q310 : (Jvm.Cond.code ({ cls := "LineEchoes$Runner", name := "run", desc := "(LLineEchoes$Line;)V" } : Jvm.MethodName) prog_8_method_4_code (4 : Nat) (Option.none : Option Jvm.ClassFile.FieldType)) ∈ lw_all := lw_g (lw_at lw_m2 2 rfl) rfl
theorem q311 : (Jvm.Cond.methodLink "LineEchoes$Runner" (25 : Nat) ({ cls := "java/util/Arrays", name := "fill", desc := "([JJ)V" } : Jvm.MethodName)) ∈ lw_all := lw_g (lw_at lw_m2 3 rfl) rfl
theorem q314 : (Jvm.Cond.methodLink "LineEchoes$Runner" (56 : Nat) ({ cls := "LineEchoes$Runner", name := "passFront", desc := "(I)V" } : Jvm.MethodName)) ∈ lw_all := lw_g (lw_at lw_m2 6 rfl) rfl
theorem q315 : (Jvm.Cond.privateMethod ({ cls := "LineEchoes$Runner", name := "passFront", desc := "(I)V" } : Jvm.MethodName)) ∈ lw_tbl := lw_at lw_m2 7 rfl
theorem q316 : (Jvm.Cond.instanceMethod ({ cls := "LineEchoes$Runner", name := "passFront", desc := "(I)V" } : Jvm.MethodName)) ∈ lw_all := lw_g (lw_at lw_m2 8 rfl) rfl
theorem q317 : (Jvm.Cond.code ({ cls := "LineEchoes$Runner", name := "passFront", desc := "(I)V" } : Jvm.MethodName) prog_8_method_5_code (9 : Nat) (Option.none : Option Jvm.ClassFile.FieldType)) ∈ lw_all := lw_g (lw_at lw_m2 9 rfl) rfl
theorem q318 : (Jvm.Cond.methodLink "LineEchoes$Runner" (80 : Nat) ({ cls := "LineEchoes$Echoes", name := "turned", desc := "(JI)J" } : Jvm.MethodName)) ∈ lw_all := lw_g (lw_at lw_m2 10 rfl) rfl
theorem q322 : (Jvm.Cond.methodLink "LineEchoes$Runner" (86 : Nat) ({ cls := "LineEchoes$Runner", name := "setOut", desc := "(IZIJI)V" } : Jvm.MethodName)) ∈ lw_all := lw_g (lw_at lw_m2 14 rfl) rfl
theorem q323 : (Jvm.Cond.privateMethod ({ cls := "LineEchoes$Runner", name := "setOut", desc := "(IZIJI)V" } : Jvm.MethodName)) ∈ lw_tbl := lw_at lw_m2 15 rfl
theorem q324 : (Jvm.Cond.instanceMethod ({ cls := "LineEchoes$Runner", name := "setOut", desc := "(IZIJI)V" } : Jvm.MethodName)) ∈ lw_all := lw_g (lw_at lw_m2 16 rfl) rfl
theorem q325 : (Jvm.Cond.code ({ cls := "LineEchoes$Runner", name := "setOut", desc := "(IZIJI)V" } : Jvm.MethodName) prog_8_method_7_code (8 : Nat) (Option.none : Option Jvm.ClassFile.FieldType)) ∈ lw_all := lw_g (lw_at lw_m2 17 rfl) rfl
theorem q326 : (Jvm.Cond.methodLink "LineEchoes$Runner" (63 : Nat) ({ cls := "LineEchoes$Runner", name := "passJoint", desc := "(II)V" } : Jvm.MethodName)) ∈ lw_all := lw_g (lw_at lw_m2 18 rfl) rfl
theorem q327 : (Jvm.Cond.privateMethod ({ cls := "LineEchoes$Runner", name := "passJoint", desc := "(II)V" } : Jvm.MethodName)) ∈ lw_tbl := lw_at lw_m2 19 rfl
theorem q328 : (Jvm.Cond.instanceMethod ({ cls := "LineEchoes$Runner", name := "passJoint", desc := "(II)V" } : Jvm.MethodName)) ∈ lw_all := lw_g (lw_at lw_m2 20 rfl) rfl
theorem q329 : (Jvm.Cond.code ({ cls := "LineEchoes$Runner", name := "passJoint", desc := "(II)V" } : Jvm.MethodName) prog_8_method_6_code (16 : Nat) (Option.none : Option Jvm.ClassFile.FieldType)) ∈ lw_all := lw_g (lw_at lw_m2 21 rfl) rfl
theorem q345 : (Jvm.Cond.castable "LineEchoes$Runner" "LineEchoes$Echoes") ∈ lw_tbl := lw_at lw_m2 37 rfl
theorem q346 : (Jvm.Cond.selects "LineEchoes$Runner" ({ cls := "LineEchoes$Echoes", name := "at", desc := "(I)J" } : Jvm.MethodName) ({ cls := "LineEchoes$Runner", name := "at", desc := "(I)J" } : Jvm.MethodName)) ∈ lw_all := lw_g (lw_at lw_m2 38 rfl) rfl
theorem q347 : (Jvm.Cond.unhidden "LineEchoes$Runner" "at" "(I)J") ∈ lw_tbl := lw_at lw_m2 39 rfl
theorem q348 : (Jvm.Cond.instanceMethod ({ cls := "LineEchoes$Runner", name := "at", desc := "(I)J" } : Jvm.MethodName)) ∈ lw_all := lw_g (lw_at lw_m2 40 rfl) rfl
theorem q349 : (Jvm.Cond.publicMethod ({ cls := "LineEchoes$Runner", name := "at", desc := "(I)J" } : Jvm.MethodName)) ∈ lw_tbl := lw_at lw_m2 41 rfl
theorem q350 : (Jvm.Cond.code ({ cls := "LineEchoes$Runner", name := "at", desc := "(I)J" } : Jvm.MethodName) prog_8_method_2_code (2 : Nat) (Option.some Jvm.ClassFile.FieldType.long)) ∈ lw_all := lw_g (lw_at lw_m2 42 rfl) rfl
theorem q352 : (Jvm.Cond.unhidden "LineEchoes$Runner" "count" "(I)I") ∈ lw_tbl := lw_at lw_m2 44 rfl
theorem q415 : (Jvm.Cond.unhidden "LineEchoes$Runner" "firstDifference" "(LLineEchoes$Echoes;I)I") ∈ lw_tbl := lw_at lw_m2 107 rfl
theorem q1040 : (Jvm.Cond.instanceMethod ({ cls := "LineEchoes$Runner", name := "total", desc := "(I)J" } : Jvm.MethodName)) ∈ lw_all := lw_g (lw_at lw_m5 12 rfl) rfl
theorem q1041 : (Jvm.Cond.selects "LineEchoes$Runner" ({ cls := "LineEchoes$Runner", name := "total", desc := "(I)J" } : Jvm.MethodName) ({ cls := "LineEchoes$Runner", name := "total", desc := "(I)J" } : Jvm.MethodName)) ∈ lw_all := lw_g (lw_at lw_m5 13 rfl) rfl
theorem q1042 : (Jvm.Cond.code ({ cls := "LineEchoes$Runner", name := "total", desc := "(I)J" } : Jvm.MethodName) prog_8_method_9_code (2 : Nat) (Option.some Jvm.ClassFile.FieldType.long)) ∈ lw_all := lw_g (lw_at lw_m5 14 rfl) rfl
theorem q1043 : (Jvm.Cond.methodLink "LineEchoes$Runner" (99 : Nat) ({ cls := "LineEchoes$Runner", name := "sumOfEchoes", desc := "()J" } : Jvm.MethodName)) ∈ lw_all := lw_g (lw_at lw_m5 15 rfl) rfl
theorem q1044 : (Jvm.Cond.privateMethod ({ cls := "LineEchoes$Runner", name := "sumOfEchoes", desc := "()J" } : Jvm.MethodName)) ∈ lw_tbl := lw_at lw_m5 16 rfl
theorem q1045 : (Jvm.Cond.instanceMethod ({ cls := "LineEchoes$Runner", name := "sumOfEchoes", desc := "()J" } : Jvm.MethodName)) ∈ lw_all := lw_g (lw_at lw_m5 17 rfl) rfl
theorem q1046 : (Jvm.Cond.code ({ cls := "LineEchoes$Runner", name := "sumOfEchoes", desc := "()J" } : Jvm.MethodName) prog_8_method_8_code (8 : Nat) (Option.some Jvm.ClassFile.FieldType.long)) ∈ lw_all := lw_g (lw_at lw_m5 18 rfl) rfl
theorem q1048 : (Jvm.Cond.unhidden "LineEchoes$Runner" "greatest" "(I)J") ∈ lw_tbl := lw_at lw_m5 20 rfl
theorem q1211 : (Jvm.Cond.instanceMethod ({ cls := "LineEchoes$Runner", name := "arrival", desc := "(IIZ)J" } : Jvm.MethodName)) ∈ lw_all := lw_g (lw_at lw_m5 183 rfl) rfl
theorem q1212 : (Jvm.Cond.selects "LineEchoes$Runner" ({ cls := "LineEchoes$Runner", name := "arrival", desc := "(IIZ)J" } : Jvm.MethodName) ({ cls := "LineEchoes$Runner", name := "arrival", desc := "(IIZ)J" } : Jvm.MethodName)) ∈ lw_all := lw_g (lw_at lw_m5 184 rfl) rfl
theorem q1213 : (Jvm.Cond.code ({ cls := "LineEchoes$Runner", name := "arrival", desc := "(IIZ)J" } : Jvm.MethodName) prog_8_method_3_code (4 : Nat) (Option.some Jvm.ClassFile.FieldType.long)) ∈ lw_all := lw_g (lw_at lw_m5 185 rfl) rfl
theorem q1222 : (Jvm.Cond.instanceMethod ({ cls := "LineEchoes$Runner", name := "text", desc := "()Ljava/lang/String;" } : Jvm.MethodName)) ∈ lw_all := lw_g (lw_at lw_m5 194 rfl) rfl
theorem q1223 : (Jvm.Cond.selects "LineEchoes$Runner" ({ cls := "LineEchoes$Runner", name := "text", desc := "()Ljava/lang/String;" } : Jvm.MethodName) ({ cls := "LineEchoes$Runner", name := "text", desc := "()Ljava/lang/String;" } : Jvm.MethodName)) ∈ lw_all := lw_g (lw_at lw_m5 195 rfl) rfl
theorem q1224 : (Jvm.Cond.code ({ cls := "LineEchoes$Runner", name := "text", desc := "()Ljava/lang/String;" } : Jvm.MethodName) prog_8_method_10_code (3 : Nat) (Option.some (Jvm.ClassFile.FieldType.object "java/lang/String"))) ∈ lw_all := lw_g (lw_at lw_m5 196 rfl) rfl
theorem q1225 : (Jvm.Cond.classLink "LineEchoes$Runner" (111 : Nat) "java/lang/StringBuilder") ∈ lw_all := lw_g (lw_at lw_m5 197 rfl) rfl
theorem q1226 : (Jvm.Cond.methodLink "LineEchoes$Runner" (113 : Nat) ({ cls := "java/lang/StringBuilder", name := "<init>", desc := "()V" } : Jvm.MethodName)) ∈ lw_all := lw_g (lw_at lw_m5 198 rfl) rfl
theorem q1227 : (Jvm.Cond.methodLink "LineEchoes$Runner" (114 : Nat) ({ cls := "java/lang/StringBuilder", name := "append", desc := "(I)Ljava/lang/StringBuilder;" } : Jvm.MethodName)) ∈ lw_all := lw_g (lw_at lw_m5 199 rfl) rfl
theorem q1228 : (Jvm.Cond.methodLink "LineEchoes$Runner" (118 : Nat) ({ cls := "java/lang/StringBuilder", name := "append", desc := "(C)Ljava/lang/StringBuilder;" } : Jvm.MethodName)) ∈ lw_all := lw_g (lw_at lw_m5 200 rfl) rfl
theorem q1229 : (Jvm.Cond.methodLink "LineEchoes$Runner" (121 : Nat) ({ cls := "java/lang/StringBuilder", name := "append", desc := "(J)Ljava/lang/StringBuilder;" } : Jvm.MethodName)) ∈ lw_all := lw_g (lw_at lw_m5 201 rfl) rfl
theorem q1256 : (Jvm.Cond.methodLink "LineEchoes$Runner" (124 : Nat) ({ cls := "java/lang/StringBuilder", name := "toString", desc := "()Ljava/lang/String;" } : Jvm.MethodName)) ∈ lw_all := lw_g (lw_at lw_m5 228 rfl) rfl
theorem q1781 : (Jvm.Cond.selects "LineEchoes$Runner" ({ cls := "LineEchoes$Runner", name := "at", desc := "(I)J" } : Jvm.MethodName) ({ cls := "LineEchoes$Runner", name := "at", desc := "(I)J" } : Jvm.MethodName)) ∈ lw_all := lw_g (lw_at lw_m8 33 rfl) rfl
theorem in_X5 : ∀ w ∈ wsX50, w ∈ lw_all := lw_in wsX50 [219, 221, 223, 225, 227, 229, 231, 233, 235, 237] (by decide +kernel) (by decide +kernel)

/-! LineEchoes$Echoes -/
set_option maxRecDepth 100000
def RX7 : String := "LineEchoes$Echoes"
abbrev cX7_turned : ByteArray := prog_3_method_2_code
def yX7_turned : MethodName := ⟨RX7, "turned", "(JI)J"⟩
def dkwX7_turned_0 : List UInt8 := [30, 28, 133, 105, 20, 0, 3, 109, 173]
abbrev dktX7_turned_0 : List UInt8 := dkwX7_turned_0 ++ []
theorem dksX7_turned_0 : cX7_turned.data.toList.drop 0 = dktX7_turned_0 := by decide +kernel
theorem dX7_turned_0 : decode cX7_turned 0 = .ok (.lload_n 0, 1) := dk_30 (dk_at dksX7_turned_0 0 rfl rfl)
theorem dX7_turned_1 : decode cX7_turned 1 = .ok (.iload_n 2, 1) := dk_28 (dk_at dksX7_turned_0 1 rfl rfl)
theorem dX7_turned_2 : decode cX7_turned 2 = .ok (.i2l, 1) := dk_133 (dk_at dksX7_turned_0 2 rfl rfl)
theorem dX7_turned_3 : decode cX7_turned 3 = .ok (.lmul, 1) := dk_105 (dk_at dksX7_turned_0 3 rfl rfl)
theorem dX7_turned_4 : decode cX7_turned 4 = .ok (.ldc2_w 3, 3) := dk_20 0 3 (dk_at dksX7_turned_0 4 rfl rfl)
theorem dX7_turned_7 : decode cX7_turned 7 = .ok (.ldiv, 1) := dk_109 (dk_at dksX7_turned_0 7 rfl rfl)
theorem dX7_turned_8 : decode cX7_turned 8 = .ok (.lreturn, 1) := dk_173 (dk_at dksX7_turned_0 8 rfl rfl)
abbrev cX7_count : ByteArray := prog_3_method_3_code
def yX7_count : MethodName := ⟨RX7, "count", "(I)I"⟩
def dkwX7_count_1 : List UInt8 := [167, 0, 4, 3, 96, 61, 132, 3, 1, 167, 255, 228, 28, 172]
abbrev dktX7_count_1 : List UInt8 := dkwX7_count_1 ++ []
def dkwX7_count_0 : List UInt8 := [3, 61, 3, 62, 29, 27, 163, 0, 29, 28, 42, 29, 185, 0, 5, 2, 0, 9, 148, 158, 0, 7, 4]
abbrev dktX7_count_0 : List UInt8 := dkwX7_count_0 ++ dktX7_count_1
theorem dksX7_count_0 : cX7_count.data.toList.drop 0 = dktX7_count_0 := by decide +kernel
theorem dksX7_count_1 : cX7_count.data.toList.drop 23 = dktX7_count_1 := dk_seg dksX7_count_0 23 rfl rfl
theorem dX7_count_0 : decode cX7_count 0 = .ok (.iconst 0, 1) := dk_3 (dk_at dksX7_count_0 0 rfl rfl)
theorem dX7_count_1 : decode cX7_count 1 = .ok (.istore_n 2, 1) := dk_61 (dk_at dksX7_count_0 1 rfl rfl)
theorem dX7_count_2 : decode cX7_count 2 = .ok (.iconst 0, 1) := dk_3 (dk_at dksX7_count_0 2 rfl rfl)
theorem dX7_count_3 : decode cX7_count 3 = .ok (.istore_n 3, 1) := dk_62 (dk_at dksX7_count_0 3 rfl rfl)
theorem dX7_count_4 : decode cX7_count 4 = .ok (.iload_n 3, 1) := dk_29 (dk_at dksX7_count_0 4 rfl rfl)
theorem dX7_count_5 : decode cX7_count 5 = .ok (.iload_n 1, 1) := dk_27 (dk_at dksX7_count_0 5 rfl rfl)
theorem dX7_count_6 : decode cX7_count 6 = .ok (.if_icmp .gt 29, 3) := dk_163 0 29 (dk_at dksX7_count_0 6 rfl rfl)
theorem dX7_count_9 : decode cX7_count 9 = .ok (.iload_n 2, 1) := dk_28 (dk_at dksX7_count_0 9 rfl rfl)
theorem dX7_count_10 : decode cX7_count 10 = .ok (.aload_n 0, 1) := dk_42 (dk_at dksX7_count_0 10 rfl rfl)
theorem dX7_count_11 : decode cX7_count 11 = .ok (.iload_n 3, 1) := dk_29 (dk_at dksX7_count_0 11 rfl rfl)
theorem dX7_count_12 : decode cX7_count 12 = .ok (.invokeinterface 5 2, 5) := by decide +kernel
theorem dX7_count_17 : decode cX7_count 17 = .ok (.lconst 0, 1) := dk_9 (dk_at dksX7_count_0 17 rfl rfl)
theorem dX7_count_18 : decode cX7_count 18 = .ok (.lcmp, 1) := dk_148 (dk_at dksX7_count_0 18 rfl rfl)
theorem dX7_count_19 : decode cX7_count 19 = .ok (.ifCond .le 7, 3) := dk_158 0 7 (dk_at dksX7_count_0 19 rfl rfl)
theorem dX7_count_22 : decode cX7_count 22 = .ok (.iconst 1, 1) := dk_4 (dk_at dksX7_count_0 22 rfl rfl)
theorem dX7_count_23 : decode cX7_count 23 = .ok (.goto 4, 3) := dk_167 0 4 (dk_at dksX7_count_1 0 rfl rfl)
theorem dX7_count_26 : decode cX7_count 26 = .ok (.iconst 0, 1) := dk_3 (dk_at dksX7_count_1 3 rfl rfl)
theorem dX7_count_27 : decode cX7_count 27 = .ok (.iadd, 1) := dk_96 (dk_at dksX7_count_1 4 rfl rfl)
theorem dX7_count_28 : decode cX7_count 28 = .ok (.istore_n 2, 1) := dk_61 (dk_at dksX7_count_1 5 rfl rfl)
theorem dX7_count_29 : decode cX7_count 29 = .ok (.iinc 3 1, 3) := dk_132 3 1 (dk_at dksX7_count_1 6 rfl rfl)
theorem dX7_count_32 : decode cX7_count 32 = .ok (.goto (-28), 3) := dk_167 255 228 (dk_at dksX7_count_1 9 rfl rfl)
theorem dX7_count_35 : decode cX7_count 35 = .ok (.iload_n 2, 1) := dk_28 (dk_at dksX7_count_1 12 rfl rfl)
theorem dX7_count_36 : decode cX7_count 36 = .ok (.ireturn, 1) := dk_172 (dk_at dksX7_count_1 13 rfl rfl)
abbrev cX7_firstDifference : ByteArray := prog_3_method_5_code
def yX7_firstDifference : MethodName := ⟨RX7, "firstDifference", "(LLineEchoes$Echoes;I)I"⟩
def dkwX7_firstDifference_1 : List UInt8 := [153, 0, 5, 29, 172, 132, 3, 1, 167, 255, 228, 2, 172]
abbrev dktX7_firstDifference_1 : List UInt8 := dkwX7_firstDifference_1 ++ []
def dkwX7_firstDifference_0 : List UInt8 := [3, 62, 29, 28, 163, 0, 29, 42, 29, 185, 0, 5, 2, 0, 43, 29, 185, 0, 5, 2, 0, 148]
abbrev dktX7_firstDifference_0 : List UInt8 := dkwX7_firstDifference_0 ++ dktX7_firstDifference_1
theorem dksX7_firstDifference_0 : cX7_firstDifference.data.toList.drop 0 = dktX7_firstDifference_0 := by decide +kernel
theorem dksX7_firstDifference_1 : cX7_firstDifference.data.toList.drop 22 = dktX7_firstDifference_1 := dk_seg dksX7_firstDifference_0 22 rfl rfl
theorem dX7_firstDifference_0 : decode cX7_firstDifference 0 = .ok (.iconst 0, 1) := dk_3 (dk_at dksX7_firstDifference_0 0 rfl rfl)
theorem dX7_firstDifference_1 : decode cX7_firstDifference 1 = .ok (.istore_n 3, 1) := dk_62 (dk_at dksX7_firstDifference_0 1 rfl rfl)
theorem dX7_firstDifference_2 : decode cX7_firstDifference 2 = .ok (.iload_n 3, 1) := dk_29 (dk_at dksX7_firstDifference_0 2 rfl rfl)
theorem dX7_firstDifference_3 : decode cX7_firstDifference 3 = .ok (.iload_n 2, 1) := dk_28 (dk_at dksX7_firstDifference_0 3 rfl rfl)
theorem dX7_firstDifference_4 : decode cX7_firstDifference 4 = .ok (.if_icmp .gt 29, 3) := dk_163 0 29 (dk_at dksX7_firstDifference_0 4 rfl rfl)
theorem dX7_firstDifference_7 : decode cX7_firstDifference 7 = .ok (.aload_n 0, 1) := dk_42 (dk_at dksX7_firstDifference_0 7 rfl rfl)
theorem dX7_firstDifference_8 : decode cX7_firstDifference 8 = .ok (.iload_n 3, 1) := dk_29 (dk_at dksX7_firstDifference_0 8 rfl rfl)
theorem dX7_firstDifference_9 : decode cX7_firstDifference 9 = .ok (.invokeinterface 5 2, 5) := by decide +kernel
theorem dX7_firstDifference_14 : decode cX7_firstDifference 14 = .ok (.aload_n 1, 1) := dk_43 (dk_at dksX7_firstDifference_0 14 rfl rfl)
theorem dX7_firstDifference_15 : decode cX7_firstDifference 15 = .ok (.iload_n 3, 1) := dk_29 (dk_at dksX7_firstDifference_0 15 rfl rfl)
theorem dX7_firstDifference_16 : decode cX7_firstDifference 16 = .ok (.invokeinterface 5 2, 5) := by decide +kernel
theorem dX7_firstDifference_21 : decode cX7_firstDifference 21 = .ok (.lcmp, 1) := dk_148 (dk_at dksX7_firstDifference_0 21 rfl rfl)
theorem dX7_firstDifference_22 : decode cX7_firstDifference 22 = .ok (.ifCond .eq 5, 3) := dk_153 0 5 (dk_at dksX7_firstDifference_1 0 rfl rfl)
theorem dX7_firstDifference_25 : decode cX7_firstDifference 25 = .ok (.iload_n 3, 1) := dk_29 (dk_at dksX7_firstDifference_1 3 rfl rfl)
theorem dX7_firstDifference_26 : decode cX7_firstDifference 26 = .ok (.ireturn, 1) := dk_172 (dk_at dksX7_firstDifference_1 4 rfl rfl)
theorem dX7_firstDifference_27 : decode cX7_firstDifference 27 = .ok (.iinc 3 1, 3) := dk_132 3 1 (dk_at dksX7_firstDifference_1 5 rfl rfl)
theorem dX7_firstDifference_30 : decode cX7_firstDifference 30 = .ok (.goto (-28), 3) := dk_167 255 228 (dk_at dksX7_firstDifference_1 8 rfl rfl)
theorem dX7_firstDifference_33 : decode cX7_firstDifference 33 = .ok (.iconst (-1), 1) := dk_2 (dk_at dksX7_firstDifference_1 11 rfl rfl)
theorem dX7_firstDifference_34 : decode cX7_firstDifference 34 = .ok (.ireturn, 1) := dk_172 (dk_at dksX7_firstDifference_1 12 rfl rfl)
abbrev cX7_greatest : ByteArray := prog_3_method_4_code
def yX7_greatest : MethodName := ⟨RX7, "greatest", "(I)J"⟩
def dkwX7_greatest_1 : List UInt8 := [132, 4, 1, 167, 255, 234, 32, 173]
abbrev dktX7_greatest_1 : List UInt8 := dkwX7_greatest_1 ++ []
def dkwX7_greatest_0 : List UInt8 := [9, 65, 3, 54, 4, 21, 4, 27, 163, 0, 22, 32, 42, 21, 4, 185, 0, 5, 2, 0, 184, 0, 11, 65]
abbrev dktX7_greatest_0 : List UInt8 := dkwX7_greatest_0 ++ dktX7_greatest_1
theorem dksX7_greatest_0 : cX7_greatest.data.toList.drop 0 = dktX7_greatest_0 := by decide +kernel
theorem dksX7_greatest_1 : cX7_greatest.data.toList.drop 24 = dktX7_greatest_1 := dk_seg dksX7_greatest_0 24 rfl rfl
theorem dX7_greatest_0 : decode cX7_greatest 0 = .ok (.lconst 0, 1) := dk_9 (dk_at dksX7_greatest_0 0 rfl rfl)
theorem dX7_greatest_1 : decode cX7_greatest 1 = .ok (.lstore_n 2, 1) := dk_65 (dk_at dksX7_greatest_0 1 rfl rfl)
theorem dX7_greatest_2 : decode cX7_greatest 2 = .ok (.iconst 0, 1) := dk_3 (dk_at dksX7_greatest_0 2 rfl rfl)
theorem dX7_greatest_3 : decode cX7_greatest 3 = .ok (.istore 4, 2) := dk_54 4 (dk_at dksX7_greatest_0 3 rfl rfl)
theorem dX7_greatest_5 : decode cX7_greatest 5 = .ok (.iload 4, 2) := dk_21 4 (dk_at dksX7_greatest_0 5 rfl rfl)
theorem dX7_greatest_7 : decode cX7_greatest 7 = .ok (.iload_n 1, 1) := dk_27 (dk_at dksX7_greatest_0 7 rfl rfl)
theorem dX7_greatest_8 : decode cX7_greatest 8 = .ok (.if_icmp .gt 22, 3) := dk_163 0 22 (dk_at dksX7_greatest_0 8 rfl rfl)
theorem dX7_greatest_11 : decode cX7_greatest 11 = .ok (.lload_n 2, 1) := dk_32 (dk_at dksX7_greatest_0 11 rfl rfl)
theorem dX7_greatest_12 : decode cX7_greatest 12 = .ok (.aload_n 0, 1) := dk_42 (dk_at dksX7_greatest_0 12 rfl rfl)
theorem dX7_greatest_13 : decode cX7_greatest 13 = .ok (.iload 4, 2) := dk_21 4 (dk_at dksX7_greatest_0 13 rfl rfl)
theorem dX7_greatest_15 : decode cX7_greatest 15 = .ok (.invokeinterface 5 2, 5) := by decide +kernel
theorem dX7_greatest_20 : decode cX7_greatest 20 = .ok (.invokestatic 11, 3) := dk_184 0 11 (dk_at dksX7_greatest_0 20 rfl rfl)
theorem dX7_greatest_23 : decode cX7_greatest 23 = .ok (.lstore_n 2, 1) := dk_65 (dk_at dksX7_greatest_0 23 rfl rfl)
theorem dX7_greatest_24 : decode cX7_greatest 24 = .ok (.iinc 4 1, 3) := dk_132 4 1 (dk_at dksX7_greatest_1 0 rfl rfl)
theorem dX7_greatest_27 : decode cX7_greatest 27 = .ok (.goto (-22), 3) := dk_167 255 234 (dk_at dksX7_greatest_1 3 rfl rfl)
theorem dX7_greatest_30 : decode cX7_greatest 30 = .ok (.lload_n 2, 1) := dk_32 (dk_at dksX7_greatest_1 6 rfl rfl)
theorem dX7_greatest_31 : decode cX7_greatest 31 = .ok (.lreturn, 1) := dk_173 (dk_at dksX7_greatest_1 7 rfl rfl)
theorem q85 : (Jvm.Cond.initialized "LineEchoes$Echoes") ∈ lw_all := lw_g (lw_at lw_m1 17 rfl) rfl
theorem q319 : (Jvm.Cond.static ({ cls := "LineEchoes$Echoes", name := "turned", desc := "(JI)J" } : Jvm.MethodName)) ∈ lw_all := lw_g (lw_at lw_m2 11 rfl) rfl
theorem q320 : (Jvm.Cond.code ({ cls := "LineEchoes$Echoes", name := "turned", desc := "(JI)J" } : Jvm.MethodName) prog_3_method_2_code (3 : Nat) (Option.some Jvm.ClassFile.FieldType.long)) ∈ lw_all := lw_g (lw_at lw_m2 12 rfl) rfl
theorem q321 : (Jvm.Cond.constantLong "LineEchoes$Echoes" (3 : Nat) (1000 : Int64)) ∈ lw_all := lw_g (lw_at lw_m2 13 rfl) rfl
theorem q337 : (Jvm.Cond.interfaceMethod "LineEchoes$Echoes" "LineEchoes$Echoes" "at" "(I)J") ∈ lw_tbl := lw_at lw_m2 29 rfl
theorem q338 : (Jvm.Cond.declares ({ cls := "LineEchoes$Echoes", name := "at", desc := "(I)J" } : Jvm.MethodName)) ∈ lw_tbl := lw_at lw_m2 30 rfl
theorem q351 : (Jvm.Cond.declares ({ cls := "LineEchoes$Echoes", name := "count", desc := "(I)I" } : Jvm.MethodName)) ∈ lw_tbl := lw_at lw_m2 43 rfl
theorem q353 : (Jvm.Cond.instanceMethod ({ cls := "LineEchoes$Echoes", name := "count", desc := "(I)I" } : Jvm.MethodName)) ∈ lw_all := lw_g (lw_at lw_m2 45 rfl) rfl
theorem q354 : (Jvm.Cond.publicMethod ({ cls := "LineEchoes$Echoes", name := "count", desc := "(I)I" } : Jvm.MethodName)) ∈ lw_tbl := lw_at lw_m2 46 rfl
theorem q355 : (Jvm.Cond.code ({ cls := "LineEchoes$Echoes", name := "count", desc := "(I)I" } : Jvm.MethodName) prog_3_method_3_code (4 : Nat) (Option.some Jvm.ClassFile.FieldType.int)) ∈ lw_all := lw_g (lw_at lw_m2 47 rfl) rfl
theorem q356 : (Jvm.Cond.interfaceEntry "LineEchoes$Echoes" (5 : Nat)) ∈ lw_tbl := lw_at lw_m2 48 rfl
theorem q357 : (Jvm.Cond.methodLink "LineEchoes$Echoes" (5 : Nat) ({ cls := "LineEchoes$Echoes", name := "at", desc := "(I)J" } : Jvm.MethodName)) ∈ lw_all := lw_g (lw_at lw_m2 49 rfl) rfl
theorem q414 : (Jvm.Cond.declares ({ cls := "LineEchoes$Echoes", name := "firstDifference", desc := "(LLineEchoes$Echoes;I)I" } : Jvm.MethodName)) ∈ lw_tbl := lw_at lw_m2 106 rfl
theorem q416 : (Jvm.Cond.instanceMethod ({ cls := "LineEchoes$Echoes", name := "firstDifference", desc := "(LLineEchoes$Echoes;I)I" } : Jvm.MethodName)) ∈ lw_all := lw_g (lw_at lw_m2 108 rfl) rfl
theorem q417 : (Jvm.Cond.publicMethod ({ cls := "LineEchoes$Echoes", name := "firstDifference", desc := "(LLineEchoes$Echoes;I)I" } : Jvm.MethodName)) ∈ lw_tbl := lw_at lw_m2 109 rfl
theorem q418 : (Jvm.Cond.code ({ cls := "LineEchoes$Echoes", name := "firstDifference", desc := "(LLineEchoes$Echoes;I)I" } : Jvm.MethodName) prog_3_method_5_code (4 : Nat) (Option.some Jvm.ClassFile.FieldType.int)) ∈ lw_all := lw_g (lw_at lw_m2 110 rfl) rfl
theorem q1047 : (Jvm.Cond.declares ({ cls := "LineEchoes$Echoes", name := "greatest", desc := "(I)J" } : Jvm.MethodName)) ∈ lw_tbl := lw_at lw_m5 19 rfl
theorem q1049 : (Jvm.Cond.instanceMethod ({ cls := "LineEchoes$Echoes", name := "greatest", desc := "(I)J" } : Jvm.MethodName)) ∈ lw_all := lw_g (lw_at lw_m5 21 rfl) rfl
theorem q1050 : (Jvm.Cond.publicMethod ({ cls := "LineEchoes$Echoes", name := "greatest", desc := "(I)J" } : Jvm.MethodName)) ∈ lw_tbl := lw_at lw_m5 22 rfl
theorem q1051 : (Jvm.Cond.code ({ cls := "LineEchoes$Echoes", name := "greatest", desc := "(I)J" } : Jvm.MethodName) prog_3_method_4_code (5 : Nat) (Option.some Jvm.ClassFile.FieldType.long)) ∈ lw_all := lw_g (lw_at lw_m5 23 rfl) rfl
theorem q1052 : (Jvm.Cond.methodLink "LineEchoes$Echoes" (11 : Nat) ({ cls := "java/lang/Math", name := "max", desc := "(JJ)J" } : Jvm.MethodName)) ∈ lw_all := lw_g (lw_at lw_m5 24 rfl) rfl

/-! LineEchoes$Peeling -/
set_option maxRecDepth 100000
def RX8 : String := "LineEchoes$Peeling"
def TX8 : u_T := fun k => match k with
  | 0 => ("LineEchoes$Peeling", "line", "LLineEchoes$Line;", true)
  | 1 => ("LineEchoes$Peeling", "result", "I", false)
  | _ => ("LineEchoes$Peeling", "ended", "I", false)
def tyX8 : Nat → FieldType := fun k => match k with
  | 0 => .object "LineEchoes$Line"
  | 1 => .int
  | _ => .int
abbrev wsX80 : List Cond := u_ws RX8 TX8 3
theorem nmX8 : ∀ a, a < 3 → ∀ b, b < 3 → a ≠ b → (TX8 a).2.1 ≠ (TX8 b).2.1 := by decide +kernel
theorem tyX8_ok : ∀ k, k < 3 → parseFieldDescriptor (TX8 k).2.2.1 = some (tyX8 k) := by decide +kernel
abbrev cX8_of : ByteArray := prog_6_method_2_code
def yX8_of : MethodName := ⟨RX8, "of", "(LLineEchoes$Line;LLineEchoes$Echoes;LLineEchoes$Runner;)LLineEchoes$Peeling;"⟩
def dkwX8_of_1 : List UInt8 := [182, 0, 31, 54, 4, 167, 255, 243, 45, 176]
abbrev dktX8_of_1 : List UInt8 := dkwX8_of_1 ++ []
def dkwX8_of_0 : List UInt8 := [187, 0, 10, 89, 42, 182, 0, 22, 183, 0, 28, 78, 4, 54, 4, 21, 4, 153, 0, 14, 45, 43, 44]
abbrev dktX8_of_0 : List UInt8 := dkwX8_of_0 ++ dktX8_of_1
theorem dksX8_of_0 : cX8_of.data.toList.drop 0 = dktX8_of_0 := by decide +kernel
theorem dksX8_of_1 : cX8_of.data.toList.drop 23 = dktX8_of_1 := dk_seg dksX8_of_0 23 rfl rfl
theorem dX8_of_0 : decode cX8_of 0 = .ok (.new 10, 3) := dk_187 0 10 (dk_at dksX8_of_0 0 rfl rfl)
theorem dX8_of_3 : decode cX8_of 3 = .ok (.dup, 1) := dk_89 (dk_at dksX8_of_0 3 rfl rfl)
theorem dX8_of_4 : decode cX8_of 4 = .ok (.aload_n 0, 1) := dk_42 (dk_at dksX8_of_0 4 rfl rfl)
theorem dX8_of_5 : decode cX8_of 5 = .ok (.invokevirtual 22, 3) := dk_182 0 22 (dk_at dksX8_of_0 5 rfl rfl)
theorem dX8_of_8 : decode cX8_of 8 = .ok (.invokespecial 28, 3) := dk_183 0 28 (dk_at dksX8_of_0 8 rfl rfl)
theorem dX8_of_11 : decode cX8_of 11 = .ok (.astore_n 3, 1) := dk_78 (dk_at dksX8_of_0 11 rfl rfl)
theorem dX8_of_12 : decode cX8_of 12 = .ok (.iconst 1, 1) := dk_4 (dk_at dksX8_of_0 12 rfl rfl)
theorem dX8_of_13 : decode cX8_of 13 = .ok (.istore 4, 2) := dk_54 4 (dk_at dksX8_of_0 13 rfl rfl)
theorem dX8_of_15 : decode cX8_of 15 = .ok (.iload 4, 2) := dk_21 4 (dk_at dksX8_of_0 15 rfl rfl)
theorem dX8_of_17 : decode cX8_of 17 = .ok (.ifCond .eq 14, 3) := dk_153 0 14 (dk_at dksX8_of_0 17 rfl rfl)
theorem dX8_of_20 : decode cX8_of 20 = .ok (.aload_n 3, 1) := dk_45 (dk_at dksX8_of_0 20 rfl rfl)
theorem dX8_of_21 : decode cX8_of 21 = .ok (.aload_n 1, 1) := dk_43 (dk_at dksX8_of_0 21 rfl rfl)
theorem dX8_of_22 : decode cX8_of 22 = .ok (.aload_n 2, 1) := dk_44 (dk_at dksX8_of_0 22 rfl rfl)
theorem dX8_of_23 : decode cX8_of 23 = .ok (.invokevirtual 31, 3) := dk_182 0 31 (dk_at dksX8_of_1 0 rfl rfl)
theorem dX8_of_26 : decode cX8_of 26 = .ok (.istore 4, 2) := dk_54 4 (dk_at dksX8_of_1 3 rfl rfl)
theorem dX8_of_28 : decode cX8_of 28 = .ok (.goto (-13), 3) := dk_167 255 243 (dk_at dksX8_of_1 5 rfl rfl)
theorem dX8_of_31 : decode cX8_of 31 = .ok (.aload_n 3, 1) := dk_45 (dk_at dksX8_of_1 8 rfl rfl)
theorem dX8_of_32 : decode cX8_of 32 = .ok (.areturn, 1) := dk_176 (dk_at dksX8_of_1 9 rfl rfl)
abbrev cX8_init : ByteArray := prog_6_method_1_code
def yX8_init : MethodName := ⟨RX8, "<init>", "(LLineEchoes$Line;)V"⟩
def dkwX8_init_0 : List UInt8 := [42, 183, 0, 3, 42, 3, 181, 0, 9, 42, 2, 181, 0, 15, 42, 43, 181, 0, 18, 177]
abbrev dktX8_init_0 : List UInt8 := dkwX8_init_0 ++ []
theorem dksX8_init_0 : cX8_init.data.toList.drop 0 = dktX8_init_0 := by decide +kernel
theorem dX8_init_0 : decode cX8_init 0 = .ok (.aload_n 0, 1) := dk_42 (dk_at dksX8_init_0 0 rfl rfl)
theorem dX8_init_1 : decode cX8_init 1 = .ok (.invokespecial 3, 3) := dk_183 0 3 (dk_at dksX8_init_0 1 rfl rfl)
theorem dX8_init_4 : decode cX8_init 4 = .ok (.aload_n 0, 1) := dk_42 (dk_at dksX8_init_0 4 rfl rfl)
theorem dX8_init_5 : decode cX8_init 5 = .ok (.iconst 0, 1) := dk_3 (dk_at dksX8_init_0 5 rfl rfl)
theorem dX8_init_6 : decode cX8_init 6 = .ok (.putfield 9, 3) := dk_181 0 9 (dk_at dksX8_init_0 6 rfl rfl)
theorem dX8_init_9 : decode cX8_init 9 = .ok (.aload_n 0, 1) := dk_42 (dk_at dksX8_init_0 9 rfl rfl)
theorem dX8_init_10 : decode cX8_init 10 = .ok (.iconst (-1), 1) := dk_2 (dk_at dksX8_init_0 10 rfl rfl)
theorem dX8_init_11 : decode cX8_init 11 = .ok (.putfield 15, 3) := dk_181 0 15 (dk_at dksX8_init_0 11 rfl rfl)
theorem dX8_init_14 : decode cX8_init 14 = .ok (.aload_n 0, 1) := dk_42 (dk_at dksX8_init_0 14 rfl rfl)
theorem dX8_init_15 : decode cX8_init 15 = .ok (.aload_n 1, 1) := dk_43 (dk_at dksX8_init_0 15 rfl rfl)
theorem dX8_init_16 : decode cX8_init 16 = .ok (.putfield 18, 3) := dk_181 0 18 (dk_at dksX8_init_0 16 rfl rfl)
theorem dX8_init_19 : decode cX8_init 19 = .ok (.return_, 1) := dk_177 (dk_at dksX8_init_0 19 rfl rfl)
abbrev cX8_takesPart : ByteArray := prog_6_method_4_code
def yX8_takesPart : MethodName := ⟨RX8, "takesPart", "(LLineEchoes$Echoes;LLineEchoes$Runner;)Z"⟩
def dkwX8_takesPart_9 : List UInt8 := [182, 0, 77, 42, 4, 29, 182, 0, 61, 172, 4, 172]
abbrev dktX8_takesPart_9 : List UInt8 := dkwX8_takesPart_9 ++ []
def dkwX8_takesPart_8 : List UInt8 := [185, 0, 54, 2, 0, 148, 153, 0, 26, 42, 180, 0, 18, 42, 180, 0, 18, 180, 0, 47, 4, 100]
abbrev dktX8_takesPart_8 : List UInt8 := dkwX8_takesPart_8 ++ dktX8_takesPart_9
def dkwX8_takesPart_7 : List UInt8 := [180, 0, 47, 4, 100, 21, 6, 79, 44, 42, 180, 0, 18, 182, 0, 35, 44, 29, 182, 0, 60, 43, 29]
abbrev dktX8_takesPart_7 : List UInt8 := dkwX8_takesPart_7 ++ dktX8_takesPart_8
def dkwX8_takesPart_6 : List UInt8 := [185, 0, 54, 2, 0, 44, 182, 0, 69, 54, 6, 42, 180, 0, 18, 180, 0, 73, 42, 180, 0, 18]
abbrev dktX8_takesPart_6 : List UInt8 := dkwX8_takesPart_6 ++ dktX8_takesPart_7
def dkwX8_takesPart_5 : List UInt8 := [42, 180, 0, 18, 42, 180, 0, 18, 180, 0, 47, 21, 5, 3, 182, 0, 65, 42, 29, 43, 29]
abbrev dktX8_takesPart_5 : List UInt8 := dkwX8_takesPart_5 ++ dktX8_takesPart_6
def dkwX8_takesPart_4 : List UInt8 := [16, 20, 163, 0, 15, 42, 180, 0, 18, 180, 0, 47, 16, 8, 160, 0, 10, 42, 5, 29, 182, 0, 61, 172]
abbrev dktX8_takesPart_4 : List UInt8 := dkwX8_takesPart_4 ++ dktX8_takesPart_5
def dkwX8_takesPart_3 : List UInt8 := [21, 4, 104, 163, 0, 10, 42, 4, 29, 182, 0, 61, 172, 29, 5, 108, 21, 4, 100, 54, 5, 21, 5]
abbrev dktX8_takesPart_3 : List UInt8 := dkwX8_takesPart_3 ++ dktX8_takesPart_4
def dkwX8_takesPart_2 : List UInt8 := [185, 0, 54, 2, 0, 44, 29, 182, 0, 60, 148, 155, 0, 18, 29, 5, 112, 4, 159, 0, 11, 29, 5]
abbrev dktX8_takesPart_2 : List UInt8 := dkwX8_takesPart_2 ++ dktX8_takesPart_3
def dkwX8_takesPart_1 : List UInt8 := [160, 0, 5, 3, 172, 42, 180, 0, 18, 42, 180, 0, 18, 180, 0, 47, 182, 0, 50, 54, 4, 43, 29]
abbrev dktX8_takesPart_1 : List UInt8 := dkwX8_takesPart_1 ++ dktX8_takesPart_2
def dkwX8_takesPart_0 : List UInt8 := [44, 42, 180, 0, 18, 182, 0, 35, 44, 43, 42, 180, 0, 18, 180, 0, 40, 182, 0, 43, 62, 29, 2]
abbrev dktX8_takesPart_0 : List UInt8 := dkwX8_takesPart_0 ++ dktX8_takesPart_1
theorem dksX8_takesPart_0 : cX8_takesPart.data.toList.drop 0 = dktX8_takesPart_0 := by decide +kernel
theorem dksX8_takesPart_1 : cX8_takesPart.data.toList.drop 23 = dktX8_takesPart_1 := dk_seg dksX8_takesPart_0 23 rfl rfl
theorem dksX8_takesPart_2 : cX8_takesPart.data.toList.drop 46 = dktX8_takesPart_2 := dk_seg dksX8_takesPart_1 23 rfl rfl
theorem dksX8_takesPart_3 : cX8_takesPart.data.toList.drop 69 = dktX8_takesPart_3 := dk_seg dksX8_takesPart_2 23 rfl rfl
theorem dksX8_takesPart_4 : cX8_takesPart.data.toList.drop 92 = dktX8_takesPart_4 := dk_seg dksX8_takesPart_3 23 rfl rfl
theorem dksX8_takesPart_5 : cX8_takesPart.data.toList.drop 116 = dktX8_takesPart_5 := dk_seg dksX8_takesPart_4 24 rfl rfl
theorem dksX8_takesPart_6 : cX8_takesPart.data.toList.drop 137 = dktX8_takesPart_6 := dk_seg dksX8_takesPart_5 21 rfl rfl
theorem dksX8_takesPart_7 : cX8_takesPart.data.toList.drop 159 = dktX8_takesPart_7 := dk_seg dksX8_takesPart_6 22 rfl rfl
theorem dksX8_takesPart_8 : cX8_takesPart.data.toList.drop 182 = dktX8_takesPart_8 := dk_seg dksX8_takesPart_7 23 rfl rfl
theorem dksX8_takesPart_9 : cX8_takesPart.data.toList.drop 204 = dktX8_takesPart_9 := dk_seg dksX8_takesPart_8 22 rfl rfl
theorem dX8_takesPart_0 : decode cX8_takesPart 0 = .ok (.aload_n 2, 1) := dk_44 (dk_at dksX8_takesPart_0 0 rfl rfl)
theorem dX8_takesPart_1 : decode cX8_takesPart 1 = .ok (.aload_n 0, 1) := dk_42 (dk_at dksX8_takesPart_0 1 rfl rfl)
theorem dX8_takesPart_2 : decode cX8_takesPart 2 = .ok (.getfield 18, 3) := dk_180 0 18 (dk_at dksX8_takesPart_0 2 rfl rfl)
theorem dX8_takesPart_5 : decode cX8_takesPart 5 = .ok (.invokevirtual 35, 3) := dk_182 0 35 (dk_at dksX8_takesPart_0 5 rfl rfl)
theorem dX8_takesPart_8 : decode cX8_takesPart 8 = .ok (.aload_n 2, 1) := dk_44 (dk_at dksX8_takesPart_0 8 rfl rfl)
theorem dX8_takesPart_9 : decode cX8_takesPart 9 = .ok (.aload_n 1, 1) := dk_43 (dk_at dksX8_takesPart_0 9 rfl rfl)
theorem dX8_takesPart_10 : decode cX8_takesPart 10 = .ok (.aload_n 0, 1) := dk_42 (dk_at dksX8_takesPart_0 10 rfl rfl)
theorem dX8_takesPart_11 : decode cX8_takesPart 11 = .ok (.getfield 18, 3) := dk_180 0 18 (dk_at dksX8_takesPart_0 11 rfl rfl)
theorem dX8_takesPart_14 : decode cX8_takesPart 14 = .ok (.getfield 40, 3) := dk_180 0 40 (dk_at dksX8_takesPart_0 14 rfl rfl)
theorem dX8_takesPart_17 : decode cX8_takesPart 17 = .ok (.invokevirtual 43, 3) := dk_182 0 43 (dk_at dksX8_takesPart_0 17 rfl rfl)
theorem dX8_takesPart_20 : decode cX8_takesPart 20 = .ok (.istore_n 3, 1) := dk_62 (dk_at dksX8_takesPart_0 20 rfl rfl)
theorem dX8_takesPart_21 : decode cX8_takesPart 21 = .ok (.iload_n 3, 1) := dk_29 (dk_at dksX8_takesPart_0 21 rfl rfl)
theorem dX8_takesPart_22 : decode cX8_takesPart 22 = .ok (.iconst (-1), 1) := dk_2 (dk_at dksX8_takesPart_0 22 rfl rfl)
theorem dX8_takesPart_23 : decode cX8_takesPart 23 = .ok (.if_icmp .ne 5, 3) := dk_160 0 5 (dk_at dksX8_takesPart_1 0 rfl rfl)
theorem dX8_takesPart_26 : decode cX8_takesPart 26 = .ok (.iconst 0, 1) := dk_3 (dk_at dksX8_takesPart_1 3 rfl rfl)
theorem dX8_takesPart_27 : decode cX8_takesPart 27 = .ok (.ireturn, 1) := dk_172 (dk_at dksX8_takesPart_1 4 rfl rfl)
theorem dX8_takesPart_28 : decode cX8_takesPart 28 = .ok (.aload_n 0, 1) := dk_42 (dk_at dksX8_takesPart_1 5 rfl rfl)
theorem dX8_takesPart_29 : decode cX8_takesPart 29 = .ok (.getfield 18, 3) := dk_180 0 18 (dk_at dksX8_takesPart_1 6 rfl rfl)
theorem dX8_takesPart_32 : decode cX8_takesPart 32 = .ok (.aload_n 0, 1) := dk_42 (dk_at dksX8_takesPart_1 9 rfl rfl)
theorem dX8_takesPart_33 : decode cX8_takesPart 33 = .ok (.getfield 18, 3) := dk_180 0 18 (dk_at dksX8_takesPart_1 10 rfl rfl)
theorem dX8_takesPart_36 : decode cX8_takesPart 36 = .ok (.getfield 47, 3) := dk_180 0 47 (dk_at dksX8_takesPart_1 13 rfl rfl)
theorem dX8_takesPart_39 : decode cX8_takesPart 39 = .ok (.invokevirtual 50, 3) := dk_182 0 50 (dk_at dksX8_takesPart_1 16 rfl rfl)
theorem dX8_takesPart_42 : decode cX8_takesPart 42 = .ok (.istore 4, 2) := dk_54 4 (dk_at dksX8_takesPart_1 19 rfl rfl)
theorem dX8_takesPart_44 : decode cX8_takesPart 44 = .ok (.aload_n 1, 1) := dk_43 (dk_at dksX8_takesPart_1 21 rfl rfl)
theorem dX8_takesPart_45 : decode cX8_takesPart 45 = .ok (.iload_n 3, 1) := dk_29 (dk_at dksX8_takesPart_1 22 rfl rfl)
theorem dX8_takesPart_46 : decode cX8_takesPart 46 = .ok (.invokeinterface 54 2, 5) := by decide +kernel
theorem dX8_takesPart_51 : decode cX8_takesPart 51 = .ok (.aload_n 2, 1) := dk_44 (dk_at dksX8_takesPart_2 5 rfl rfl)
theorem dX8_takesPart_52 : decode cX8_takesPart 52 = .ok (.iload_n 3, 1) := dk_29 (dk_at dksX8_takesPart_2 6 rfl rfl)
theorem dX8_takesPart_53 : decode cX8_takesPart 53 = .ok (.invokevirtual 60, 3) := dk_182 0 60 (dk_at dksX8_takesPart_2 7 rfl rfl)
theorem dX8_takesPart_56 : decode cX8_takesPart 56 = .ok (.lcmp, 1) := dk_148 (dk_at dksX8_takesPart_2 10 rfl rfl)
theorem dX8_takesPart_57 : decode cX8_takesPart 57 = .ok (.ifCond .lt 18, 3) := dk_155 0 18 (dk_at dksX8_takesPart_2 11 rfl rfl)
theorem dX8_takesPart_60 : decode cX8_takesPart 60 = .ok (.iload_n 3, 1) := dk_29 (dk_at dksX8_takesPart_2 14 rfl rfl)
theorem dX8_takesPart_61 : decode cX8_takesPart 61 = .ok (.iconst 2, 1) := dk_5 (dk_at dksX8_takesPart_2 15 rfl rfl)
theorem dX8_takesPart_62 : decode cX8_takesPart 62 = .ok (.irem, 1) := dk_112 (dk_at dksX8_takesPart_2 16 rfl rfl)
theorem dX8_takesPart_63 : decode cX8_takesPart 63 = .ok (.iconst 1, 1) := dk_4 (dk_at dksX8_takesPart_2 17 rfl rfl)
theorem dX8_takesPart_64 : decode cX8_takesPart 64 = .ok (.if_icmp .eq 11, 3) := dk_159 0 11 (dk_at dksX8_takesPart_2 18 rfl rfl)
theorem dX8_takesPart_67 : decode cX8_takesPart 67 = .ok (.iload_n 3, 1) := dk_29 (dk_at dksX8_takesPart_2 21 rfl rfl)
theorem dX8_takesPart_68 : decode cX8_takesPart 68 = .ok (.iconst 2, 1) := dk_5 (dk_at dksX8_takesPart_2 22 rfl rfl)
theorem dX8_takesPart_69 : decode cX8_takesPart 69 = .ok (.iload 4, 2) := dk_21 4 (dk_at dksX8_takesPart_3 0 rfl rfl)
theorem dX8_takesPart_71 : decode cX8_takesPart 71 = .ok (.imul, 1) := dk_104 (dk_at dksX8_takesPart_3 2 rfl rfl)
theorem dX8_takesPart_72 : decode cX8_takesPart 72 = .ok (.if_icmp .gt 10, 3) := dk_163 0 10 (dk_at dksX8_takesPart_3 3 rfl rfl)
theorem dX8_takesPart_75 : decode cX8_takesPart 75 = .ok (.aload_n 0, 1) := dk_42 (dk_at dksX8_takesPart_3 6 rfl rfl)
theorem dX8_takesPart_76 : decode cX8_takesPart 76 = .ok (.iconst 1, 1) := dk_4 (dk_at dksX8_takesPart_3 7 rfl rfl)
theorem dX8_takesPart_77 : decode cX8_takesPart 77 = .ok (.iload_n 3, 1) := dk_29 (dk_at dksX8_takesPart_3 8 rfl rfl)
theorem dX8_takesPart_78 : decode cX8_takesPart 78 = .ok (.invokevirtual 61, 3) := dk_182 0 61 (dk_at dksX8_takesPart_3 9 rfl rfl)
theorem dX8_takesPart_81 : decode cX8_takesPart 81 = .ok (.ireturn, 1) := dk_172 (dk_at dksX8_takesPart_3 12 rfl rfl)
theorem dX8_takesPart_82 : decode cX8_takesPart 82 = .ok (.iload_n 3, 1) := dk_29 (dk_at dksX8_takesPart_3 13 rfl rfl)
theorem dX8_takesPart_83 : decode cX8_takesPart 83 = .ok (.iconst 2, 1) := dk_5 (dk_at dksX8_takesPart_3 14 rfl rfl)
theorem dX8_takesPart_84 : decode cX8_takesPart 84 = .ok (.idiv, 1) := dk_108 (dk_at dksX8_takesPart_3 15 rfl rfl)
theorem dX8_takesPart_85 : decode cX8_takesPart 85 = .ok (.iload 4, 2) := dk_21 4 (dk_at dksX8_takesPart_3 16 rfl rfl)
theorem dX8_takesPart_87 : decode cX8_takesPart 87 = .ok (.isub, 1) := dk_100 (dk_at dksX8_takesPart_3 18 rfl rfl)
theorem dX8_takesPart_88 : decode cX8_takesPart 88 = .ok (.istore 5, 2) := dk_54 5 (dk_at dksX8_takesPart_3 19 rfl rfl)
theorem dX8_takesPart_90 : decode cX8_takesPart 90 = .ok (.iload 5, 2) := dk_21 5 (dk_at dksX8_takesPart_3 21 rfl rfl)
theorem dX8_takesPart_92 : decode cX8_takesPart 92 = .ok (.bipush 20, 2) := dk_16 20 (dk_at dksX8_takesPart_4 0 rfl rfl)
theorem dX8_takesPart_94 : decode cX8_takesPart 94 = .ok (.if_icmp .gt 15, 3) := dk_163 0 15 (dk_at dksX8_takesPart_4 2 rfl rfl)
theorem dX8_takesPart_97 : decode cX8_takesPart 97 = .ok (.aload_n 0, 1) := dk_42 (dk_at dksX8_takesPart_4 5 rfl rfl)
theorem dX8_takesPart_98 : decode cX8_takesPart 98 = .ok (.getfield 18, 3) := dk_180 0 18 (dk_at dksX8_takesPart_4 6 rfl rfl)
theorem dX8_takesPart_101 : decode cX8_takesPart 101 = .ok (.getfield 47, 3) := dk_180 0 47 (dk_at dksX8_takesPart_4 9 rfl rfl)
theorem dX8_takesPart_104 : decode cX8_takesPart 104 = .ok (.bipush 8, 2) := dk_16 8 (dk_at dksX8_takesPart_4 12 rfl rfl)
theorem dX8_takesPart_106 : decode cX8_takesPart 106 = .ok (.if_icmp .ne 10, 3) := dk_160 0 10 (dk_at dksX8_takesPart_4 14 rfl rfl)
theorem dX8_takesPart_109 : decode cX8_takesPart 109 = .ok (.aload_n 0, 1) := dk_42 (dk_at dksX8_takesPart_4 17 rfl rfl)
theorem dX8_takesPart_110 : decode cX8_takesPart 110 = .ok (.iconst 2, 1) := dk_5 (dk_at dksX8_takesPart_4 18 rfl rfl)
theorem dX8_takesPart_111 : decode cX8_takesPart 111 = .ok (.iload_n 3, 1) := dk_29 (dk_at dksX8_takesPart_4 19 rfl rfl)
theorem dX8_takesPart_112 : decode cX8_takesPart 112 = .ok (.invokevirtual 61, 3) := dk_182 0 61 (dk_at dksX8_takesPart_4 20 rfl rfl)
theorem dX8_takesPart_115 : decode cX8_takesPart 115 = .ok (.ireturn, 1) := dk_172 (dk_at dksX8_takesPart_4 23 rfl rfl)
theorem dX8_takesPart_116 : decode cX8_takesPart 116 = .ok (.aload_n 0, 1) := dk_42 (dk_at dksX8_takesPart_5 0 rfl rfl)
theorem dX8_takesPart_117 : decode cX8_takesPart 117 = .ok (.getfield 18, 3) := dk_180 0 18 (dk_at dksX8_takesPart_5 1 rfl rfl)
theorem dX8_takesPart_120 : decode cX8_takesPart 120 = .ok (.aload_n 0, 1) := dk_42 (dk_at dksX8_takesPart_5 4 rfl rfl)
theorem dX8_takesPart_121 : decode cX8_takesPart 121 = .ok (.getfield 18, 3) := dk_180 0 18 (dk_at dksX8_takesPart_5 5 rfl rfl)
theorem dX8_takesPart_124 : decode cX8_takesPart 124 = .ok (.getfield 47, 3) := dk_180 0 47 (dk_at dksX8_takesPart_5 8 rfl rfl)
theorem dX8_takesPart_127 : decode cX8_takesPart 127 = .ok (.iload 5, 2) := dk_21 5 (dk_at dksX8_takesPart_5 11 rfl rfl)
theorem dX8_takesPart_129 : decode cX8_takesPart 129 = .ok (.iconst 0, 1) := dk_3 (dk_at dksX8_takesPart_5 13 rfl rfl)
theorem dX8_takesPart_130 : decode cX8_takesPart 130 = .ok (.invokevirtual 65, 3) := dk_182 0 65 (dk_at dksX8_takesPart_5 14 rfl rfl)
theorem dX8_takesPart_133 : decode cX8_takesPart 133 = .ok (.aload_n 0, 1) := dk_42 (dk_at dksX8_takesPart_5 17 rfl rfl)
theorem dX8_takesPart_134 : decode cX8_takesPart 134 = .ok (.iload_n 3, 1) := dk_29 (dk_at dksX8_takesPart_5 18 rfl rfl)
theorem dX8_takesPart_135 : decode cX8_takesPart 135 = .ok (.aload_n 1, 1) := dk_43 (dk_at dksX8_takesPart_5 19 rfl rfl)
theorem dX8_takesPart_136 : decode cX8_takesPart 136 = .ok (.iload_n 3, 1) := dk_29 (dk_at dksX8_takesPart_5 20 rfl rfl)
theorem dX8_takesPart_137 : decode cX8_takesPart 137 = .ok (.invokeinterface 54 2, 5) := by decide +kernel
theorem dX8_takesPart_142 : decode cX8_takesPart 142 = .ok (.aload_n 2, 1) := dk_44 (dk_at dksX8_takesPart_6 5 rfl rfl)
theorem dX8_takesPart_143 : decode cX8_takesPart 143 = .ok (.invokevirtual 69, 3) := dk_182 0 69 (dk_at dksX8_takesPart_6 6 rfl rfl)
theorem dX8_takesPart_146 : decode cX8_takesPart 146 = .ok (.istore 6, 2) := dk_54 6 (dk_at dksX8_takesPart_6 9 rfl rfl)
theorem dX8_takesPart_148 : decode cX8_takesPart 148 = .ok (.aload_n 0, 1) := dk_42 (dk_at dksX8_takesPart_6 11 rfl rfl)
theorem dX8_takesPart_149 : decode cX8_takesPart 149 = .ok (.getfield 18, 3) := dk_180 0 18 (dk_at dksX8_takesPart_6 12 rfl rfl)
theorem dX8_takesPart_152 : decode cX8_takesPart 152 = .ok (.getfield 73, 3) := dk_180 0 73 (dk_at dksX8_takesPart_6 15 rfl rfl)
theorem dX8_takesPart_155 : decode cX8_takesPart 155 = .ok (.aload_n 0, 1) := dk_42 (dk_at dksX8_takesPart_6 18 rfl rfl)
theorem dX8_takesPart_156 : decode cX8_takesPart 156 = .ok (.getfield 18, 3) := dk_180 0 18 (dk_at dksX8_takesPart_6 19 rfl rfl)
theorem dX8_takesPart_159 : decode cX8_takesPart 159 = .ok (.getfield 47, 3) := dk_180 0 47 (dk_at dksX8_takesPart_7 0 rfl rfl)
theorem dX8_takesPart_162 : decode cX8_takesPart 162 = .ok (.iconst 1, 1) := dk_4 (dk_at dksX8_takesPart_7 3 rfl rfl)
theorem dX8_takesPart_163 : decode cX8_takesPart 163 = .ok (.isub, 1) := dk_100 (dk_at dksX8_takesPart_7 4 rfl rfl)
theorem dX8_takesPart_164 : decode cX8_takesPart 164 = .ok (.iload 6, 2) := dk_21 6 (dk_at dksX8_takesPart_7 5 rfl rfl)
theorem dX8_takesPart_166 : decode cX8_takesPart 166 = .ok (.iastore, 1) := dk_79 (dk_at dksX8_takesPart_7 7 rfl rfl)
theorem dX8_takesPart_167 : decode cX8_takesPart 167 = .ok (.aload_n 2, 1) := dk_44 (dk_at dksX8_takesPart_7 8 rfl rfl)
theorem dX8_takesPart_168 : decode cX8_takesPart 168 = .ok (.aload_n 0, 1) := dk_42 (dk_at dksX8_takesPart_7 9 rfl rfl)
theorem dX8_takesPart_169 : decode cX8_takesPart 169 = .ok (.getfield 18, 3) := dk_180 0 18 (dk_at dksX8_takesPart_7 10 rfl rfl)
theorem dX8_takesPart_172 : decode cX8_takesPart 172 = .ok (.invokevirtual 35, 3) := dk_182 0 35 (dk_at dksX8_takesPart_7 13 rfl rfl)
theorem dX8_takesPart_175 : decode cX8_takesPart 175 = .ok (.aload_n 2, 1) := dk_44 (dk_at dksX8_takesPart_7 16 rfl rfl)
theorem dX8_takesPart_176 : decode cX8_takesPart 176 = .ok (.iload_n 3, 1) := dk_29 (dk_at dksX8_takesPart_7 17 rfl rfl)
theorem dX8_takesPart_177 : decode cX8_takesPart 177 = .ok (.invokevirtual 60, 3) := dk_182 0 60 (dk_at dksX8_takesPart_7 18 rfl rfl)
theorem dX8_takesPart_180 : decode cX8_takesPart 180 = .ok (.aload_n 1, 1) := dk_43 (dk_at dksX8_takesPart_7 21 rfl rfl)
theorem dX8_takesPart_181 : decode cX8_takesPart 181 = .ok (.iload_n 3, 1) := dk_29 (dk_at dksX8_takesPart_7 22 rfl rfl)
theorem dX8_takesPart_182 : decode cX8_takesPart 182 = .ok (.invokeinterface 54 2, 5) := by decide +kernel
theorem dX8_takesPart_187 : decode cX8_takesPart 187 = .ok (.lcmp, 1) := dk_148 (dk_at dksX8_takesPart_8 5 rfl rfl)
theorem dX8_takesPart_188 : decode cX8_takesPart 188 = .ok (.ifCond .eq 26, 3) := dk_153 0 26 (dk_at dksX8_takesPart_8 6 rfl rfl)
theorem dX8_takesPart_191 : decode cX8_takesPart 191 = .ok (.aload_n 0, 1) := dk_42 (dk_at dksX8_takesPart_8 9 rfl rfl)
theorem dX8_takesPart_192 : decode cX8_takesPart 192 = .ok (.getfield 18, 3) := dk_180 0 18 (dk_at dksX8_takesPart_8 10 rfl rfl)
theorem dX8_takesPart_195 : decode cX8_takesPart 195 = .ok (.aload_n 0, 1) := dk_42 (dk_at dksX8_takesPart_8 13 rfl rfl)
theorem dX8_takesPart_196 : decode cX8_takesPart 196 = .ok (.getfield 18, 3) := dk_180 0 18 (dk_at dksX8_takesPart_8 14 rfl rfl)
theorem dX8_takesPart_199 : decode cX8_takesPart 199 = .ok (.getfield 47, 3) := dk_180 0 47 (dk_at dksX8_takesPart_8 17 rfl rfl)
theorem dX8_takesPart_202 : decode cX8_takesPart 202 = .ok (.iconst 1, 1) := dk_4 (dk_at dksX8_takesPart_8 20 rfl rfl)
theorem dX8_takesPart_203 : decode cX8_takesPart 203 = .ok (.isub, 1) := dk_100 (dk_at dksX8_takesPart_8 21 rfl rfl)
theorem dX8_takesPart_204 : decode cX8_takesPart 204 = .ok (.invokevirtual 77, 3) := dk_182 0 77 (dk_at dksX8_takesPart_9 0 rfl rfl)
theorem dX8_takesPart_207 : decode cX8_takesPart 207 = .ok (.aload_n 0, 1) := dk_42 (dk_at dksX8_takesPart_9 3 rfl rfl)
theorem dX8_takesPart_208 : decode cX8_takesPart 208 = .ok (.iconst 1, 1) := dk_4 (dk_at dksX8_takesPart_9 4 rfl rfl)
theorem dX8_takesPart_209 : decode cX8_takesPart 209 = .ok (.iload_n 3, 1) := dk_29 (dk_at dksX8_takesPart_9 5 rfl rfl)
theorem dX8_takesPart_210 : decode cX8_takesPart 210 = .ok (.invokevirtual 61, 3) := dk_182 0 61 (dk_at dksX8_takesPart_9 6 rfl rfl)
theorem dX8_takesPart_213 : decode cX8_takesPart 213 = .ok (.ireturn, 1) := dk_172 (dk_at dksX8_takesPart_9 9 rfl rfl)
theorem dX8_takesPart_214 : decode cX8_takesPart 214 = .ok (.iconst 1, 1) := dk_4 (dk_at dksX8_takesPart_9 10 rfl rfl)
theorem dX8_takesPart_215 : decode cX8_takesPart 215 = .ok (.ireturn, 1) := dk_172 (dk_at dksX8_takesPart_9 11 rfl rfl)
abbrev cX8_end : ByteArray := prog_6_method_3_code
def yX8_end : MethodName := ⟨RX8, "end", "(II)Z"⟩
def dkwX8_end_0 : List UInt8 := [42, 27, 181, 0, 9, 42, 28, 181, 0, 15, 3, 172]
abbrev dktX8_end_0 : List UInt8 := dkwX8_end_0 ++ []
theorem dksX8_end_0 : cX8_end.data.toList.drop 0 = dktX8_end_0 := by decide +kernel
theorem dX8_end_0 : decode cX8_end 0 = .ok (.aload_n 0, 1) := dk_42 (dk_at dksX8_end_0 0 rfl rfl)
theorem dX8_end_1 : decode cX8_end 1 = .ok (.iload_n 1, 1) := dk_27 (dk_at dksX8_end_0 1 rfl rfl)
theorem dX8_end_2 : decode cX8_end 2 = .ok (.putfield 9, 3) := dk_181 0 9 (dk_at dksX8_end_0 2 rfl rfl)
theorem dX8_end_5 : decode cX8_end 5 = .ok (.aload_n 0, 1) := dk_42 (dk_at dksX8_end_0 5 rfl rfl)
theorem dX8_end_6 : decode cX8_end 6 = .ok (.iload_n 2, 1) := dk_28 (dk_at dksX8_end_0 6 rfl rfl)
theorem dX8_end_7 : decode cX8_end 7 = .ok (.putfield 15, 3) := dk_181 0 15 (dk_at dksX8_end_0 7 rfl rfl)
theorem dX8_end_10 : decode cX8_end 10 = .ok (.iconst 0, 1) := dk_3 (dk_at dksX8_end_0 10 rfl rfl)
theorem dX8_end_11 : decode cX8_end 11 = .ok (.ireturn, 1) := dk_172 (dk_at dksX8_end_0 11 rfl rfl)
abbrev cX8_fraction : ByteArray := prog_6_method_5_code
def yX8_fraction : MethodName := ⟨RX8, "fraction", "(IJLLineEchoes$Runner;)I"⟩
def dkwX8_fraction_3 : List UInt8 := [21, 7, 4, 96, 54, 5, 167, 255, 188, 21, 5, 172]
abbrev dktX8_fraction_3 : List UInt8 := dkwX8_fraction_3 ++ []
def dkwX8_fraction_2 : List UInt8 := [180, 0, 18, 182, 0, 35, 25, 4, 27, 182, 0, 60, 32, 148, 155, 0, 10, 21, 7, 54, 6, 167, 0, 9]
abbrev dktX8_fraction_2 : List UInt8 := dkwX8_fraction_2 ++ dktX8_fraction_3
def dkwX8_fraction_1 : List UInt8 := [42, 180, 0, 18, 180, 0, 73, 42, 180, 0, 18, 180, 0, 47, 4, 100, 21, 7, 79, 25, 4, 42]
abbrev dktX8_fraction_1 : List UInt8 := dkwX8_fraction_1 ++ dktX8_fraction_2
def dkwX8_fraction_0 : List UInt8 := [4, 54, 5, 17, 3, 232, 54, 6, 21, 5, 21, 6, 162, 0, 67, 21, 5, 21, 6, 96, 5, 108, 54, 7]
abbrev dktX8_fraction_0 : List UInt8 := dkwX8_fraction_0 ++ dktX8_fraction_1
theorem dksX8_fraction_0 : cX8_fraction.data.toList.drop 0 = dktX8_fraction_0 := by decide +kernel
theorem dksX8_fraction_1 : cX8_fraction.data.toList.drop 24 = dktX8_fraction_1 := dk_seg dksX8_fraction_0 24 rfl rfl
theorem dksX8_fraction_2 : cX8_fraction.data.toList.drop 46 = dktX8_fraction_2 := dk_seg dksX8_fraction_1 22 rfl rfl
theorem dksX8_fraction_3 : cX8_fraction.data.toList.drop 70 = dktX8_fraction_3 := dk_seg dksX8_fraction_2 24 rfl rfl
theorem dX8_fraction_0 : decode cX8_fraction 0 = .ok (.iconst 1, 1) := dk_4 (dk_at dksX8_fraction_0 0 rfl rfl)
theorem dX8_fraction_1 : decode cX8_fraction 1 = .ok (.istore 5, 2) := dk_54 5 (dk_at dksX8_fraction_0 1 rfl rfl)
theorem dX8_fraction_3 : decode cX8_fraction 3 = .ok (.sipush 1000, 3) := dk_17 3 232 (dk_at dksX8_fraction_0 3 rfl rfl)
theorem dX8_fraction_6 : decode cX8_fraction 6 = .ok (.istore 6, 2) := dk_54 6 (dk_at dksX8_fraction_0 6 rfl rfl)
theorem dX8_fraction_8 : decode cX8_fraction 8 = .ok (.iload 5, 2) := dk_21 5 (dk_at dksX8_fraction_0 8 rfl rfl)
theorem dX8_fraction_10 : decode cX8_fraction 10 = .ok (.iload 6, 2) := dk_21 6 (dk_at dksX8_fraction_0 10 rfl rfl)
theorem dX8_fraction_12 : decode cX8_fraction 12 = .ok (.if_icmp .ge 67, 3) := dk_162 0 67 (dk_at dksX8_fraction_0 12 rfl rfl)
theorem dX8_fraction_15 : decode cX8_fraction 15 = .ok (.iload 5, 2) := dk_21 5 (dk_at dksX8_fraction_0 15 rfl rfl)
theorem dX8_fraction_17 : decode cX8_fraction 17 = .ok (.iload 6, 2) := dk_21 6 (dk_at dksX8_fraction_0 17 rfl rfl)
theorem dX8_fraction_19 : decode cX8_fraction 19 = .ok (.iadd, 1) := dk_96 (dk_at dksX8_fraction_0 19 rfl rfl)
theorem dX8_fraction_20 : decode cX8_fraction 20 = .ok (.iconst 2, 1) := dk_5 (dk_at dksX8_fraction_0 20 rfl rfl)
theorem dX8_fraction_21 : decode cX8_fraction 21 = .ok (.idiv, 1) := dk_108 (dk_at dksX8_fraction_0 21 rfl rfl)
theorem dX8_fraction_22 : decode cX8_fraction 22 = .ok (.istore 7, 2) := dk_54 7 (dk_at dksX8_fraction_0 22 rfl rfl)
theorem dX8_fraction_24 : decode cX8_fraction 24 = .ok (.aload_n 0, 1) := dk_42 (dk_at dksX8_fraction_1 0 rfl rfl)
theorem dX8_fraction_25 : decode cX8_fraction 25 = .ok (.getfield 18, 3) := dk_180 0 18 (dk_at dksX8_fraction_1 1 rfl rfl)
theorem dX8_fraction_28 : decode cX8_fraction 28 = .ok (.getfield 73, 3) := dk_180 0 73 (dk_at dksX8_fraction_1 4 rfl rfl)
theorem dX8_fraction_31 : decode cX8_fraction 31 = .ok (.aload_n 0, 1) := dk_42 (dk_at dksX8_fraction_1 7 rfl rfl)
theorem dX8_fraction_32 : decode cX8_fraction 32 = .ok (.getfield 18, 3) := dk_180 0 18 (dk_at dksX8_fraction_1 8 rfl rfl)
theorem dX8_fraction_35 : decode cX8_fraction 35 = .ok (.getfield 47, 3) := dk_180 0 47 (dk_at dksX8_fraction_1 11 rfl rfl)
theorem dX8_fraction_38 : decode cX8_fraction 38 = .ok (.iconst 1, 1) := dk_4 (dk_at dksX8_fraction_1 14 rfl rfl)
theorem dX8_fraction_39 : decode cX8_fraction 39 = .ok (.isub, 1) := dk_100 (dk_at dksX8_fraction_1 15 rfl rfl)
theorem dX8_fraction_40 : decode cX8_fraction 40 = .ok (.iload 7, 2) := dk_21 7 (dk_at dksX8_fraction_1 16 rfl rfl)
theorem dX8_fraction_42 : decode cX8_fraction 42 = .ok (.iastore, 1) := dk_79 (dk_at dksX8_fraction_1 18 rfl rfl)
theorem dX8_fraction_43 : decode cX8_fraction 43 = .ok (.aload 4, 2) := dk_25 4 (dk_at dksX8_fraction_1 19 rfl rfl)
theorem dX8_fraction_45 : decode cX8_fraction 45 = .ok (.aload_n 0, 1) := dk_42 (dk_at dksX8_fraction_1 21 rfl rfl)
theorem dX8_fraction_46 : decode cX8_fraction 46 = .ok (.getfield 18, 3) := dk_180 0 18 (dk_at dksX8_fraction_2 0 rfl rfl)
theorem dX8_fraction_49 : decode cX8_fraction 49 = .ok (.invokevirtual 35, 3) := dk_182 0 35 (dk_at dksX8_fraction_2 3 rfl rfl)
theorem dX8_fraction_52 : decode cX8_fraction 52 = .ok (.aload 4, 2) := dk_25 4 (dk_at dksX8_fraction_2 6 rfl rfl)
theorem dX8_fraction_54 : decode cX8_fraction 54 = .ok (.iload_n 1, 1) := dk_27 (dk_at dksX8_fraction_2 8 rfl rfl)
theorem dX8_fraction_55 : decode cX8_fraction 55 = .ok (.invokevirtual 60, 3) := dk_182 0 60 (dk_at dksX8_fraction_2 9 rfl rfl)
theorem dX8_fraction_58 : decode cX8_fraction 58 = .ok (.lload_n 2, 1) := dk_32 (dk_at dksX8_fraction_2 12 rfl rfl)
theorem dX8_fraction_59 : decode cX8_fraction 59 = .ok (.lcmp, 1) := dk_148 (dk_at dksX8_fraction_2 13 rfl rfl)
theorem dX8_fraction_60 : decode cX8_fraction 60 = .ok (.ifCond .lt 10, 3) := dk_155 0 10 (dk_at dksX8_fraction_2 14 rfl rfl)
theorem dX8_fraction_63 : decode cX8_fraction 63 = .ok (.iload 7, 2) := dk_21 7 (dk_at dksX8_fraction_2 17 rfl rfl)
theorem dX8_fraction_65 : decode cX8_fraction 65 = .ok (.istore 6, 2) := dk_54 6 (dk_at dksX8_fraction_2 19 rfl rfl)
theorem dX8_fraction_67 : decode cX8_fraction 67 = .ok (.goto 9, 3) := dk_167 0 9 (dk_at dksX8_fraction_2 21 rfl rfl)
theorem dX8_fraction_70 : decode cX8_fraction 70 = .ok (.iload 7, 2) := dk_21 7 (dk_at dksX8_fraction_3 0 rfl rfl)
theorem dX8_fraction_72 : decode cX8_fraction 72 = .ok (.iconst 1, 1) := dk_4 (dk_at dksX8_fraction_3 2 rfl rfl)
theorem dX8_fraction_73 : decode cX8_fraction 73 = .ok (.iadd, 1) := dk_96 (dk_at dksX8_fraction_3 3 rfl rfl)
theorem dX8_fraction_74 : decode cX8_fraction 74 = .ok (.istore 5, 2) := dk_54 5 (dk_at dksX8_fraction_3 4 rfl rfl)
theorem dX8_fraction_76 : decode cX8_fraction 76 = .ok (.goto (-68), 3) := dk_167 255 188 (dk_at dksX8_fraction_3 6 rfl rfl)
theorem dX8_fraction_79 : decode cX8_fraction 79 = .ok (.iload 5, 2) := dk_21 5 (dk_at dksX8_fraction_3 9 rfl rfl)
theorem dX8_fraction_81 : decode cX8_fraction 81 = .ok (.ireturn, 1) := dk_172 (dk_at dksX8_fraction_3 11 rfl rfl)
abbrev cX8_value : ByteArray := prog_6_method_6_code
def yX8_value : MethodName := ⟨RX8, "value", "(I)I"⟩
def dkwX8_value_2 : List UInt8 := [180, 0, 47, 182, 0, 50, 172]
abbrev dktX8_value_2 : List UInt8 := dkwX8_value_2 ++ []
def dkwX8_value_1 : List UInt8 := [5, 160, 0, 13, 42, 180, 0, 18, 180, 0, 47, 167, 0, 17, 42, 180, 0, 18, 42, 180, 0, 18]
abbrev dktX8_value_1 : List UInt8 := dkwX8_value_1 ++ dktX8_value_2
def dkwX8_value_0 : List UInt8 := [27, 154, 0, 10, 42, 180, 0, 9, 167, 0, 44, 27, 4, 160, 0, 10, 42, 180, 0, 15, 167, 0, 32, 27]
abbrev dktX8_value_0 : List UInt8 := dkwX8_value_0 ++ dktX8_value_1
theorem dksX8_value_0 : cX8_value.data.toList.drop 0 = dktX8_value_0 := by decide +kernel
theorem dksX8_value_1 : cX8_value.data.toList.drop 24 = dktX8_value_1 := dk_seg dksX8_value_0 24 rfl rfl
theorem dksX8_value_2 : cX8_value.data.toList.drop 46 = dktX8_value_2 := dk_seg dksX8_value_1 22 rfl rfl
theorem dX8_value_0 : decode cX8_value 0 = .ok (.iload_n 1, 1) := dk_27 (dk_at dksX8_value_0 0 rfl rfl)
theorem dX8_value_1 : decode cX8_value 1 = .ok (.ifCond .ne 10, 3) := dk_154 0 10 (dk_at dksX8_value_0 1 rfl rfl)
theorem dX8_value_4 : decode cX8_value 4 = .ok (.aload_n 0, 1) := dk_42 (dk_at dksX8_value_0 4 rfl rfl)
theorem dX8_value_5 : decode cX8_value 5 = .ok (.getfield 9, 3) := dk_180 0 9 (dk_at dksX8_value_0 5 rfl rfl)
theorem dX8_value_8 : decode cX8_value 8 = .ok (.goto 44, 3) := dk_167 0 44 (dk_at dksX8_value_0 8 rfl rfl)
theorem dX8_value_11 : decode cX8_value 11 = .ok (.iload_n 1, 1) := dk_27 (dk_at dksX8_value_0 11 rfl rfl)
theorem dX8_value_12 : decode cX8_value 12 = .ok (.iconst 1, 1) := dk_4 (dk_at dksX8_value_0 12 rfl rfl)
theorem dX8_value_13 : decode cX8_value 13 = .ok (.if_icmp .ne 10, 3) := dk_160 0 10 (dk_at dksX8_value_0 13 rfl rfl)
theorem dX8_value_16 : decode cX8_value 16 = .ok (.aload_n 0, 1) := dk_42 (dk_at dksX8_value_0 16 rfl rfl)
theorem dX8_value_17 : decode cX8_value 17 = .ok (.getfield 15, 3) := dk_180 0 15 (dk_at dksX8_value_0 17 rfl rfl)
theorem dX8_value_20 : decode cX8_value 20 = .ok (.goto 32, 3) := dk_167 0 32 (dk_at dksX8_value_0 20 rfl rfl)
theorem dX8_value_23 : decode cX8_value 23 = .ok (.iload_n 1, 1) := dk_27 (dk_at dksX8_value_0 23 rfl rfl)
theorem dX8_value_24 : decode cX8_value 24 = .ok (.iconst 2, 1) := dk_5 (dk_at dksX8_value_1 0 rfl rfl)
theorem dX8_value_25 : decode cX8_value 25 = .ok (.if_icmp .ne 13, 3) := dk_160 0 13 (dk_at dksX8_value_1 1 rfl rfl)
theorem dX8_value_28 : decode cX8_value 28 = .ok (.aload_n 0, 1) := dk_42 (dk_at dksX8_value_1 4 rfl rfl)
theorem dX8_value_29 : decode cX8_value 29 = .ok (.getfield 18, 3) := dk_180 0 18 (dk_at dksX8_value_1 5 rfl rfl)
theorem dX8_value_32 : decode cX8_value 32 = .ok (.getfield 47, 3) := dk_180 0 47 (dk_at dksX8_value_1 8 rfl rfl)
theorem dX8_value_35 : decode cX8_value 35 = .ok (.goto 17, 3) := dk_167 0 17 (dk_at dksX8_value_1 11 rfl rfl)
theorem dX8_value_38 : decode cX8_value 38 = .ok (.aload_n 0, 1) := dk_42 (dk_at dksX8_value_1 14 rfl rfl)
theorem dX8_value_39 : decode cX8_value 39 = .ok (.getfield 18, 3) := dk_180 0 18 (dk_at dksX8_value_1 15 rfl rfl)
theorem dX8_value_42 : decode cX8_value 42 = .ok (.aload_n 0, 1) := dk_42 (dk_at dksX8_value_1 18 rfl rfl)
theorem dX8_value_43 : decode cX8_value 43 = .ok (.getfield 18, 3) := dk_180 0 18 (dk_at dksX8_value_1 19 rfl rfl)
theorem dX8_value_46 : decode cX8_value 46 = .ok (.getfield 47, 3) := dk_180 0 47 (dk_at dksX8_value_2 0 rfl rfl)
theorem dX8_value_49 : decode cX8_value 49 = .ok (.invokevirtual 50, 3) := dk_182 0 50 (dk_at dksX8_value_2 3 rfl rfl)
theorem dX8_value_52 : decode cX8_value 52 = .ok (.ireturn, 1) := dk_172 (dk_at dksX8_value_2 6 rfl rfl)
theorem q96 : (Jvm.Cond.initialized "LineEchoes$Peeling") ∈ lw_all := lw_g (lw_at lw_m1 28 rfl) rfl
theorem q126 : (Jvm.Cond.fieldLinkNest "LineEchoes$Peeling" (73 : Nat) "LineEchoes$Line" "fractions" "[I" "LineEchoes") ∈ lw_tbl := lw_at lw_m1 58 rfl
theorem q132 : (Jvm.Cond.fieldLinkNest "LineEchoes$Peeling" (47 : Nat) "LineEchoes$Line" "n" "I" "LineEchoes") ∈ lw_tbl := lw_at lw_m1 64 rfl
theorem q150 : (Jvm.Cond.fieldLinkNest "LineEchoes$Peeling" (40 : Nat) "LineEchoes$Line" "window" "I" "LineEchoes") ∈ lw_tbl := lw_at lw_m1 82 rfl
theorem q385 : (Jvm.Cond.static ({ cls := "LineEchoes$Peeling", name := "of", desc := "(LLineEchoes$Line;LLineEchoes$Echoes;LLineEchoes$Runner;)LLineEchoes$Peeling;" } : Jvm.MethodName)) ∈ lw_all := lw_g (lw_at lw_m2 77 rfl) rfl
theorem q386 : (Jvm.Cond.code ({ cls := "LineEchoes$Peeling", name := "of", desc := "(LLineEchoes$Line;LLineEchoes$Echoes;LLineEchoes$Runner;)LLineEchoes$Peeling;" } : Jvm.MethodName) prog_6_method_2_code (5 : Nat) (Option.some (Jvm.ClassFile.FieldType.object "LineEchoes$Peeling"))) ∈ lw_all := lw_g (lw_at lw_m2 78 rfl) rfl
theorem q387 : (Jvm.Cond.classLink "LineEchoes$Peeling" (10 : Nat) "LineEchoes$Peeling") ∈ lw_all := lw_g (lw_at lw_m2 79 rfl) rfl
theorem q388 : (Jvm.Cond.instantiable "LineEchoes$Peeling" (3 : Nat)) ∈ lw_all := lw_g (lw_at lw_m2 80 rfl) rfl
theorem q389 : (Jvm.Cond.methodLink "LineEchoes$Peeling" (22 : Nat) ({ cls := "LineEchoes$Line", name := "forPeeling", desc := "()LLineEchoes$Line;" } : Jvm.MethodName)) ∈ lw_all := lw_g (lw_at lw_m2 81 rfl) rfl
theorem q393 : (Jvm.Cond.methodLink "LineEchoes$Peeling" (28 : Nat) ({ cls := "LineEchoes$Peeling", name := "<init>", desc := "(LLineEchoes$Line;)V" } : Jvm.MethodName)) ∈ lw_all := lw_g (lw_at lw_m2 85 rfl) rfl
theorem q394 : (Jvm.Cond.instanceMethod ({ cls := "LineEchoes$Peeling", name := "<init>", desc := "(LLineEchoes$Line;)V" } : Jvm.MethodName)) ∈ lw_all := lw_g (lw_at lw_m2 86 rfl) rfl
theorem q395 : (Jvm.Cond.code ({ cls := "LineEchoes$Peeling", name := "<init>", desc := "(LLineEchoes$Line;)V" } : Jvm.MethodName) prog_6_method_1_code (2 : Nat) (Option.none : Option Jvm.ClassFile.FieldType)) ∈ lw_all := lw_g (lw_at lw_m2 87 rfl) rfl
theorem q396 : (Jvm.Cond.methodLink "LineEchoes$Peeling" (3 : Nat) ({ cls := "java/lang/Object", name := "<init>", desc := "()V" } : Jvm.MethodName)) ∈ lw_all := lw_g (lw_at lw_m2 88 rfl) rfl
theorem q397 : (Jvm.Cond.fieldLink "LineEchoes$Peeling" (18 : Nat) "LineEchoes$Peeling" "line" "LLineEchoes$Line;") ∈ lw_all := lw_g (lw_at lw_m2 89 rfl) rfl
theorem q400 : (Jvm.Cond.fieldLink "LineEchoes$Peeling" (9 : Nat) "LineEchoes$Peeling" "result" "I") ∈ lw_all := lw_g (lw_at lw_m2 92 rfl) rfl
theorem q401 : (Jvm.Cond.fieldLink "LineEchoes$Peeling" (15 : Nat) "LineEchoes$Peeling" "ended" "I") ∈ lw_all := lw_g (lw_at lw_m2 93 rfl) rfl
theorem q402 : (Jvm.Cond.laysFinal "LineEchoes$Peeling" "LineEchoes$Peeling" "line" "LLineEchoes$Line;") ∈ lw_all := lw_g (lw_at lw_m2 94 rfl) rfl
theorem q403 : (Jvm.Cond.soleField "LineEchoes$Peeling" "line") ∈ lw_all := lw_g (lw_at lw_m2 95 rfl) rfl
theorem q404 : (Jvm.Cond.lays "LineEchoes$Peeling" "LineEchoes$Peeling" "result" "I") ∈ lw_all := lw_g (lw_at lw_m2 96 rfl) rfl
theorem q405 : (Jvm.Cond.soleField "LineEchoes$Peeling" "result") ∈ lw_all := lw_g (lw_at lw_m2 97 rfl) rfl
theorem q406 : (Jvm.Cond.lays "LineEchoes$Peeling" "LineEchoes$Peeling" "ended" "I") ∈ lw_all := lw_g (lw_at lw_m2 98 rfl) rfl
theorem q407 : (Jvm.Cond.soleField "LineEchoes$Peeling" "ended") ∈ lw_all := lw_g (lw_at lw_m2 99 rfl) rfl
theorem q408 : (Jvm.Cond.superclass "LineEchoes$Peeling" "java/lang/Object") ∈ lw_all := lw_g (lw_at lw_m2 100 rfl) rfl
theorem q409 : (Jvm.Cond.methodLink "LineEchoes$Peeling" (31 : Nat) ({ cls := "LineEchoes$Peeling", name := "takesPart", desc := "(LLineEchoes$Echoes;LLineEchoes$Runner;)Z" } : Jvm.MethodName)) ∈ lw_all := lw_g (lw_at lw_m2 101 rfl) rfl
theorem q410 : (Jvm.Cond.privateMethod ({ cls := "LineEchoes$Peeling", name := "takesPart", desc := "(LLineEchoes$Echoes;LLineEchoes$Runner;)Z" } : Jvm.MethodName)) ∈ lw_tbl := lw_at lw_m2 102 rfl
theorem q411 : (Jvm.Cond.instanceMethod ({ cls := "LineEchoes$Peeling", name := "takesPart", desc := "(LLineEchoes$Echoes;LLineEchoes$Runner;)Z" } : Jvm.MethodName)) ∈ lw_all := lw_g (lw_at lw_m2 103 rfl) rfl
theorem q412 : (Jvm.Cond.code ({ cls := "LineEchoes$Peeling", name := "takesPart", desc := "(LLineEchoes$Echoes;LLineEchoes$Runner;)Z" } : Jvm.MethodName) prog_6_method_4_code (7 : Nat) (Option.some Jvm.ClassFile.FieldType.boolean)) ∈ lw_all := lw_g (lw_at lw_m2 104 rfl) rfl
theorem q413 : (Jvm.Cond.methodLink "LineEchoes$Peeling" (35 : Nat) ({ cls := "LineEchoes$Runner", name := "run", desc := "(LLineEchoes$Line;)V" } : Jvm.MethodName)) ∈ lw_all := lw_g (lw_at lw_m2 105 rfl) rfl
theorem q419 : (Jvm.Cond.methodLink "LineEchoes$Peeling" (50 : Nat) ({ cls := "LineEchoes$Line", name := "sum", desc := "(I)I" } : Jvm.MethodName)) ∈ lw_all := lw_g (lw_at lw_m2 111 rfl) rfl
theorem q420 : (Jvm.Cond.interfaceEntry "LineEchoes$Peeling" (54 : Nat)) ∈ lw_tbl := lw_at lw_m2 112 rfl
theorem q421 : (Jvm.Cond.methodLink "LineEchoes$Peeling" (54 : Nat) ({ cls := "LineEchoes$Echoes", name := "at", desc := "(I)J" } : Jvm.MethodName)) ∈ lw_all := lw_g (lw_at lw_m2 113 rfl) rfl
theorem q422 : (Jvm.Cond.methodLink "LineEchoes$Peeling" (60 : Nat) ({ cls := "LineEchoes$Runner", name := "at", desc := "(I)J" } : Jvm.MethodName)) ∈ lw_all := lw_g (lw_at lw_m2 114 rfl) rfl
theorem q423 : (Jvm.Cond.methodLink "LineEchoes$Peeling" (61 : Nat) ({ cls := "LineEchoes$Peeling", name := "end", desc := "(II)Z" } : Jvm.MethodName)) ∈ lw_all := lw_g (lw_at lw_m2 115 rfl) rfl
theorem q424 : (Jvm.Cond.privateMethod ({ cls := "LineEchoes$Peeling", name := "end", desc := "(II)Z" } : Jvm.MethodName)) ∈ lw_tbl := lw_at lw_m2 116 rfl
theorem q425 : (Jvm.Cond.instanceMethod ({ cls := "LineEchoes$Peeling", name := "end", desc := "(II)Z" } : Jvm.MethodName)) ∈ lw_all := lw_g (lw_at lw_m2 117 rfl) rfl
theorem q426 : (Jvm.Cond.code ({ cls := "LineEchoes$Peeling", name := "end", desc := "(II)Z" } : Jvm.MethodName) prog_6_method_3_code (3 : Nat) (Option.some Jvm.ClassFile.FieldType.boolean)) ∈ lw_all := lw_g (lw_at lw_m2 118 rfl) rfl
theorem q427 : (Jvm.Cond.methodLink "LineEchoes$Peeling" (65 : Nat) ({ cls := "LineEchoes$Line", name := "insert", desc := "(III)V" } : Jvm.MethodName)) ∈ lw_all := lw_g (lw_at lw_m2 119 rfl) rfl
theorem q431 : (Jvm.Cond.methodLink "LineEchoes$Peeling" (69 : Nat) ({ cls := "LineEchoes$Peeling", name := "fraction", desc := "(IJLLineEchoes$Runner;)I" } : Jvm.MethodName)) ∈ lw_all := lw_g (lw_at lw_m2 123 rfl) rfl
theorem q432 : (Jvm.Cond.privateMethod ({ cls := "LineEchoes$Peeling", name := "fraction", desc := "(IJLLineEchoes$Runner;)I" } : Jvm.MethodName)) ∈ lw_tbl := lw_at lw_m2 124 rfl
theorem q433 : (Jvm.Cond.instanceMethod ({ cls := "LineEchoes$Peeling", name := "fraction", desc := "(IJLLineEchoes$Runner;)I" } : Jvm.MethodName)) ∈ lw_all := lw_g (lw_at lw_m2 125 rfl) rfl
theorem q434 : (Jvm.Cond.code ({ cls := "LineEchoes$Peeling", name := "fraction", desc := "(IJLLineEchoes$Runner;)I" } : Jvm.MethodName) prog_6_method_5_code (8 : Nat) (Option.some Jvm.ClassFile.FieldType.int)) ∈ lw_all := lw_g (lw_at lw_m2 126 rfl) rfl
theorem q435 : (Jvm.Cond.methodLink "LineEchoes$Peeling" (77 : Nat) ({ cls := "LineEchoes$Line", name := "remove", desc := "(I)V" } : Jvm.MethodName)) ∈ lw_all := lw_g (lw_at lw_m2 127 rfl) rfl
theorem q1076 : (Jvm.Cond.instanceMethod ({ cls := "LineEchoes$Peeling", name := "value", desc := "(I)I" } : Jvm.MethodName)) ∈ lw_all := lw_g (lw_at lw_m5 48 rfl) rfl
theorem q1077 : (Jvm.Cond.selects "LineEchoes$Peeling" ({ cls := "LineEchoes$Peeling", name := "value", desc := "(I)I" } : Jvm.MethodName) ({ cls := "LineEchoes$Peeling", name := "value", desc := "(I)I" } : Jvm.MethodName)) ∈ lw_all := lw_g (lw_at lw_m5 49 rfl) rfl
theorem q1078 : (Jvm.Cond.code ({ cls := "LineEchoes$Peeling", name := "value", desc := "(I)I" } : Jvm.MethodName) prog_6_method_6_code (2 : Nat) (Option.some Jvm.ClassFile.FieldType.int)) ∈ lw_all := lw_g (lw_at lw_m5 50 rfl) rfl
theorem in_X8 : ∀ w ∈ wsX80, w ∈ lw_all := lw_in wsX80 [402, 404, 406] (by decide +kernel) (by decide +kernel)

/-! LineEchoes$Reader -/
set_option maxRecDepth 100000
def RX9 : String := "LineEchoes$Reader"
def TX9 : u_T := fun k => match k with
  | 0 => ("LineEchoes$Reader", "at", "I", false)
  | 1 => ("LineEchoes$Reader", "fault", "I", false)
  | 2 => ("LineEchoes$Reader", "word", "Ljava/lang/String;", false)
  | 3 => ("LineEchoes$Reader", "numbers", "[I", true)
  | _ => ("LineEchoes$Reader", "this$0", "LLineEchoes;", true)
def tyX9 : Nat → FieldType := fun k => match k with
  | 0 => .int
  | 1 => .int
  | 2 => .object "java/lang/String"
  | 3 => .array .int
  | _ => .object "LineEchoes"
abbrev wsX90 : List Cond := u_ws RX9 TX9 5
theorem nmX9 : ∀ a, a < 5 → ∀ b, b < 5 → a ≠ b → (TX9 a).2.1 ≠ (TX9 b).2.1 := by decide +kernel
theorem tyX9_ok : ∀ k, k < 5 → parseFieldDescriptor (TX9 k).2.2.1 = some (tyX9 k) := by decide +kernel
abbrev cX9_init : ByteArray := prog_7_method_1_code
def yX9_init : MethodName := ⟨RX9, "<init>", "(LLineEchoes;)V"⟩
def dkwX9_init_1 : List UInt8 := [181, 0, 25, 177]
abbrev dktX9_init_1 : List UInt8 := dkwX9_init_1 ++ []
def dkwX9_init_0 : List UInt8 := [42, 43, 181, 0, 3, 42, 183, 0, 9, 42, 2, 181, 0, 15, 42, 18, 19, 181, 0, 21, 42, 6, 188, 10]
abbrev dktX9_init_0 : List UInt8 := dkwX9_init_0 ++ dktX9_init_1
theorem dksX9_init_0 : cX9_init.data.toList.drop 0 = dktX9_init_0 := by decide +kernel
theorem dksX9_init_1 : cX9_init.data.toList.drop 24 = dktX9_init_1 := dk_seg dksX9_init_0 24 rfl rfl
theorem dX9_init_0 : decode cX9_init 0 = .ok (.aload_n 0, 1) := dk_42 (dk_at dksX9_init_0 0 rfl rfl)
theorem dX9_init_1 : decode cX9_init 1 = .ok (.aload_n 1, 1) := dk_43 (dk_at dksX9_init_0 1 rfl rfl)
theorem dX9_init_2 : decode cX9_init 2 = .ok (.putfield 3, 3) := dk_181 0 3 (dk_at dksX9_init_0 2 rfl rfl)
theorem dX9_init_5 : decode cX9_init 5 = .ok (.aload_n 0, 1) := dk_42 (dk_at dksX9_init_0 5 rfl rfl)
theorem dX9_init_6 : decode cX9_init 6 = .ok (.invokespecial 9, 3) := dk_183 0 9 (dk_at dksX9_init_0 6 rfl rfl)
theorem dX9_init_9 : decode cX9_init 9 = .ok (.aload_n 0, 1) := dk_42 (dk_at dksX9_init_0 9 rfl rfl)
theorem dX9_init_10 : decode cX9_init 10 = .ok (.iconst (-1), 1) := dk_2 (dk_at dksX9_init_0 10 rfl rfl)
theorem dX9_init_11 : decode cX9_init 11 = .ok (.putfield 15, 3) := dk_181 0 15 (dk_at dksX9_init_0 11 rfl rfl)
theorem dX9_init_14 : decode cX9_init 14 = .ok (.aload_n 0, 1) := dk_42 (dk_at dksX9_init_0 14 rfl rfl)
theorem dX9_init_15 : decode cX9_init 15 = .ok (.ldc 19, 2) := dk_18 19 (dk_at dksX9_init_0 15 rfl rfl)
theorem dX9_init_17 : decode cX9_init 17 = .ok (.putfield 21, 3) := dk_181 0 21 (dk_at dksX9_init_0 17 rfl rfl)
theorem dX9_init_20 : decode cX9_init 20 = .ok (.aload_n 0, 1) := dk_42 (dk_at dksX9_init_0 20 rfl rfl)
theorem dX9_init_21 : decode cX9_init 21 = .ok (.iconst 3, 1) := dk_6 (dk_at dksX9_init_0 21 rfl rfl)
theorem dX9_init_22 : decode cX9_init 22 = .ok (.newarray .int, 2) := dk_188_10 (dk_at dksX9_init_0 22 rfl rfl)
theorem dX9_init_24 : decode cX9_init 24 = .ok (.putfield 25, 3) := dk_181 0 25 (dk_at dksX9_init_1 0 rfl rfl)
theorem dX9_init_27 : decode cX9_init 27 = .ok (.return_, 1) := dk_177 (dk_at dksX9_init_1 3 rfl rfl)
abbrev cX9_next : ByteArray := prog_7_method_4_code
def yX9_next : MethodName := ⟨RX9, "next", "()Z"⟩
def dkwX9_next_1 : List UInt8 := [159, 0, 5, 3, 172, 42, 182, 0, 51, 154, 0, 11, 42, 42, 180, 0, 29, 181, 0, 15, 4, 172]
abbrev dktX9_next_1 : List UInt8 := dkwX9_next_1 ++ []
def dkwX9_next_0 : List UInt8 := [42, 182, 0, 47, 60, 42, 180, 0, 29, 42, 180, 0, 3, 180, 0, 32, 159, 0, 11, 42, 180, 0, 15, 2]
abbrev dktX9_next_0 : List UInt8 := dkwX9_next_0 ++ dktX9_next_1
theorem dksX9_next_0 : cX9_next.data.toList.drop 0 = dktX9_next_0 := by decide +kernel
theorem dksX9_next_1 : cX9_next.data.toList.drop 24 = dktX9_next_1 := dk_seg dksX9_next_0 24 rfl rfl
theorem dX9_next_0 : decode cX9_next 0 = .ok (.aload_n 0, 1) := dk_42 (dk_at dksX9_next_0 0 rfl rfl)
theorem dX9_next_1 : decode cX9_next 1 = .ok (.invokevirtual 47, 3) := dk_182 0 47 (dk_at dksX9_next_0 1 rfl rfl)
theorem dX9_next_4 : decode cX9_next 4 = .ok (.istore_n 1, 1) := dk_60 (dk_at dksX9_next_0 4 rfl rfl)
theorem dX9_next_5 : decode cX9_next 5 = .ok (.aload_n 0, 1) := dk_42 (dk_at dksX9_next_0 5 rfl rfl)
theorem dX9_next_6 : decode cX9_next 6 = .ok (.getfield 29, 3) := dk_180 0 29 (dk_at dksX9_next_0 6 rfl rfl)
theorem dX9_next_9 : decode cX9_next 9 = .ok (.aload_n 0, 1) := dk_42 (dk_at dksX9_next_0 9 rfl rfl)
theorem dX9_next_10 : decode cX9_next 10 = .ok (.getfield 3, 3) := dk_180 0 3 (dk_at dksX9_next_0 10 rfl rfl)
theorem dX9_next_13 : decode cX9_next 13 = .ok (.getfield 32, 3) := dk_180 0 32 (dk_at dksX9_next_0 13 rfl rfl)
theorem dX9_next_16 : decode cX9_next 16 = .ok (.if_icmp .eq 11, 3) := dk_159 0 11 (dk_at dksX9_next_0 16 rfl rfl)
theorem dX9_next_19 : decode cX9_next 19 = .ok (.aload_n 0, 1) := dk_42 (dk_at dksX9_next_0 19 rfl rfl)
theorem dX9_next_20 : decode cX9_next 20 = .ok (.getfield 15, 3) := dk_180 0 15 (dk_at dksX9_next_0 20 rfl rfl)
theorem dX9_next_23 : decode cX9_next 23 = .ok (.iconst (-1), 1) := dk_2 (dk_at dksX9_next_0 23 rfl rfl)
theorem dX9_next_24 : decode cX9_next 24 = .ok (.if_icmp .eq 5, 3) := dk_159 0 5 (dk_at dksX9_next_1 0 rfl rfl)
theorem dX9_next_27 : decode cX9_next 27 = .ok (.iconst 0, 1) := dk_3 (dk_at dksX9_next_1 3 rfl rfl)
theorem dX9_next_28 : decode cX9_next 28 = .ok (.ireturn, 1) := dk_172 (dk_at dksX9_next_1 4 rfl rfl)
theorem dX9_next_29 : decode cX9_next 29 = .ok (.aload_n 0, 1) := dk_42 (dk_at dksX9_next_1 5 rfl rfl)
theorem dX9_next_30 : decode cX9_next 30 = .ok (.invokevirtual 51, 3) := dk_182 0 51 (dk_at dksX9_next_1 6 rfl rfl)
theorem dX9_next_33 : decode cX9_next 33 = .ok (.ifCond .ne 11, 3) := dk_154 0 11 (dk_at dksX9_next_1 9 rfl rfl)
theorem dX9_next_36 : decode cX9_next 36 = .ok (.aload_n 0, 1) := dk_42 (dk_at dksX9_next_1 12 rfl rfl)
theorem dX9_next_37 : decode cX9_next 37 = .ok (.aload_n 0, 1) := dk_42 (dk_at dksX9_next_1 13 rfl rfl)
theorem dX9_next_38 : decode cX9_next 38 = .ok (.getfield 29, 3) := dk_180 0 29 (dk_at dksX9_next_1 14 rfl rfl)
theorem dX9_next_41 : decode cX9_next 41 = .ok (.putfield 15, 3) := dk_181 0 15 (dk_at dksX9_next_1 17 rfl rfl)
theorem dX9_next_44 : decode cX9_next 44 = .ok (.iconst 1, 1) := dk_4 (dk_at dksX9_next_1 20 rfl rfl)
theorem dX9_next_45 : decode cX9_next 45 = .ok (.ireturn, 1) := dk_172 (dk_at dksX9_next_1 21 rfl rfl)
abbrev cX9_spaces : ByteArray := prog_7_method_3_code
def yX9_spaces : MethodName := ⟨RX9, "spaces", "()Z"⟩
def dkwX9_spaces_1 : List UInt8 := [181, 0, 29, 167, 255, 235, 42, 180, 0, 29, 27, 164, 0, 7, 4, 167, 0, 4, 3, 172]
abbrev dktX9_spaces_1 : List UInt8 := dkwX9_spaces_1 ++ []
def dkwX9_spaces_0 : List UInt8 := [42, 180, 0, 29, 60, 42, 16, 32, 16, 32, 182, 0, 43, 153, 0, 16, 42, 89, 180, 0, 29, 4, 96]
abbrev dktX9_spaces_0 : List UInt8 := dkwX9_spaces_0 ++ dktX9_spaces_1
theorem dksX9_spaces_0 : cX9_spaces.data.toList.drop 0 = dktX9_spaces_0 := by decide +kernel
theorem dksX9_spaces_1 : cX9_spaces.data.toList.drop 23 = dktX9_spaces_1 := dk_seg dksX9_spaces_0 23 rfl rfl
theorem dX9_spaces_0 : decode cX9_spaces 0 = .ok (.aload_n 0, 1) := dk_42 (dk_at dksX9_spaces_0 0 rfl rfl)
theorem dX9_spaces_1 : decode cX9_spaces 1 = .ok (.getfield 29, 3) := dk_180 0 29 (dk_at dksX9_spaces_0 1 rfl rfl)
theorem dX9_spaces_4 : decode cX9_spaces 4 = .ok (.istore_n 1, 1) := dk_60 (dk_at dksX9_spaces_0 4 rfl rfl)
theorem dX9_spaces_5 : decode cX9_spaces 5 = .ok (.aload_n 0, 1) := dk_42 (dk_at dksX9_spaces_0 5 rfl rfl)
theorem dX9_spaces_6 : decode cX9_spaces 6 = .ok (.bipush 32, 2) := dk_16 32 (dk_at dksX9_spaces_0 6 rfl rfl)
theorem dX9_spaces_8 : decode cX9_spaces 8 = .ok (.bipush 32, 2) := dk_16 32 (dk_at dksX9_spaces_0 8 rfl rfl)
theorem dX9_spaces_10 : decode cX9_spaces 10 = .ok (.invokevirtual 43, 3) := dk_182 0 43 (dk_at dksX9_spaces_0 10 rfl rfl)
theorem dX9_spaces_13 : decode cX9_spaces 13 = .ok (.ifCond .eq 16, 3) := dk_153 0 16 (dk_at dksX9_spaces_0 13 rfl rfl)
theorem dX9_spaces_16 : decode cX9_spaces 16 = .ok (.aload_n 0, 1) := dk_42 (dk_at dksX9_spaces_0 16 rfl rfl)
theorem dX9_spaces_17 : decode cX9_spaces 17 = .ok (.dup, 1) := dk_89 (dk_at dksX9_spaces_0 17 rfl rfl)
theorem dX9_spaces_18 : decode cX9_spaces 18 = .ok (.getfield 29, 3) := dk_180 0 29 (dk_at dksX9_spaces_0 18 rfl rfl)
theorem dX9_spaces_21 : decode cX9_spaces 21 = .ok (.iconst 1, 1) := dk_4 (dk_at dksX9_spaces_0 21 rfl rfl)
theorem dX9_spaces_22 : decode cX9_spaces 22 = .ok (.iadd, 1) := dk_96 (dk_at dksX9_spaces_0 22 rfl rfl)
theorem dX9_spaces_23 : decode cX9_spaces 23 = .ok (.putfield 29, 3) := dk_181 0 29 (dk_at dksX9_spaces_1 0 rfl rfl)
theorem dX9_spaces_26 : decode cX9_spaces 26 = .ok (.goto (-21), 3) := dk_167 255 235 (dk_at dksX9_spaces_1 3 rfl rfl)
theorem dX9_spaces_29 : decode cX9_spaces 29 = .ok (.aload_n 0, 1) := dk_42 (dk_at dksX9_spaces_1 6 rfl rfl)
theorem dX9_spaces_30 : decode cX9_spaces 30 = .ok (.getfield 29, 3) := dk_180 0 29 (dk_at dksX9_spaces_1 7 rfl rfl)
theorem dX9_spaces_33 : decode cX9_spaces 33 = .ok (.iload_n 1, 1) := dk_27 (dk_at dksX9_spaces_1 10 rfl rfl)
theorem dX9_spaces_34 : decode cX9_spaces 34 = .ok (.if_icmp .le 7, 3) := dk_164 0 7 (dk_at dksX9_spaces_1 11 rfl rfl)
theorem dX9_spaces_37 : decode cX9_spaces 37 = .ok (.iconst 1, 1) := dk_4 (dk_at dksX9_spaces_1 14 rfl rfl)
theorem dX9_spaces_38 : decode cX9_spaces 38 = .ok (.goto 4, 3) := dk_167 0 4 (dk_at dksX9_spaces_1 15 rfl rfl)
theorem dX9_spaces_41 : decode cX9_spaces 41 = .ok (.iconst 0, 1) := dk_3 (dk_at dksX9_spaces_1 18 rfl rfl)
theorem dX9_spaces_42 : decode cX9_spaces 42 = .ok (.ireturn, 1) := dk_172 (dk_at dksX9_spaces_1 19 rfl rfl)
abbrev cX9_isAt : ByteArray := prog_7_method_2_code
def yX9_isAt : MethodName := ⟨RX9, "isAt", "(II)Z"⟩
def dkwX9_isAt_1 : List UInt8 := [180, 0, 29, 51, 133, 27, 133, 28, 133, 184, 0, 39, 153, 0, 7, 4, 167, 0, 4, 3, 172]
abbrev dktX9_isAt_1 : List UInt8 := dkwX9_isAt_1 ++ []
def dkwX9_isAt_0 : List UInt8 := [42, 180, 0, 29, 42, 180, 0, 3, 180, 0, 32, 162, 0, 30, 42, 180, 0, 3, 180, 0, 35, 42]
abbrev dktX9_isAt_0 : List UInt8 := dkwX9_isAt_0 ++ dktX9_isAt_1
theorem dksX9_isAt_0 : cX9_isAt.data.toList.drop 0 = dktX9_isAt_0 := by decide +kernel
theorem dksX9_isAt_1 : cX9_isAt.data.toList.drop 22 = dktX9_isAt_1 := dk_seg dksX9_isAt_0 22 rfl rfl
theorem dX9_isAt_0 : decode cX9_isAt 0 = .ok (.aload_n 0, 1) := dk_42 (dk_at dksX9_isAt_0 0 rfl rfl)
theorem dX9_isAt_1 : decode cX9_isAt 1 = .ok (.getfield 29, 3) := dk_180 0 29 (dk_at dksX9_isAt_0 1 rfl rfl)
theorem dX9_isAt_4 : decode cX9_isAt 4 = .ok (.aload_n 0, 1) := dk_42 (dk_at dksX9_isAt_0 4 rfl rfl)
theorem dX9_isAt_5 : decode cX9_isAt 5 = .ok (.getfield 3, 3) := dk_180 0 3 (dk_at dksX9_isAt_0 5 rfl rfl)
theorem dX9_isAt_8 : decode cX9_isAt 8 = .ok (.getfield 32, 3) := dk_180 0 32 (dk_at dksX9_isAt_0 8 rfl rfl)
theorem dX9_isAt_11 : decode cX9_isAt 11 = .ok (.if_icmp .ge 30, 3) := dk_162 0 30 (dk_at dksX9_isAt_0 11 rfl rfl)
theorem dX9_isAt_14 : decode cX9_isAt 14 = .ok (.aload_n 0, 1) := dk_42 (dk_at dksX9_isAt_0 14 rfl rfl)
theorem dX9_isAt_15 : decode cX9_isAt 15 = .ok (.getfield 3, 3) := dk_180 0 3 (dk_at dksX9_isAt_0 15 rfl rfl)
theorem dX9_isAt_18 : decode cX9_isAt 18 = .ok (.getfield 35, 3) := dk_180 0 35 (dk_at dksX9_isAt_0 18 rfl rfl)
theorem dX9_isAt_21 : decode cX9_isAt 21 = .ok (.aload_n 0, 1) := dk_42 (dk_at dksX9_isAt_0 21 rfl rfl)
theorem dX9_isAt_22 : decode cX9_isAt 22 = .ok (.getfield 29, 3) := dk_180 0 29 (dk_at dksX9_isAt_1 0 rfl rfl)
theorem dX9_isAt_25 : decode cX9_isAt 25 = .ok (.baload, 1) := dk_51 (dk_at dksX9_isAt_1 3 rfl rfl)
theorem dX9_isAt_26 : decode cX9_isAt 26 = .ok (.i2l, 1) := dk_133 (dk_at dksX9_isAt_1 4 rfl rfl)
theorem dX9_isAt_27 : decode cX9_isAt 27 = .ok (.iload_n 1, 1) := dk_27 (dk_at dksX9_isAt_1 5 rfl rfl)
theorem dX9_isAt_28 : decode cX9_isAt 28 = .ok (.i2l, 1) := dk_133 (dk_at dksX9_isAt_1 6 rfl rfl)
theorem dX9_isAt_29 : decode cX9_isAt 29 = .ok (.iload_n 2, 1) := dk_28 (dk_at dksX9_isAt_1 7 rfl rfl)
theorem dX9_isAt_30 : decode cX9_isAt 30 = .ok (.i2l, 1) := dk_133 (dk_at dksX9_isAt_1 8 rfl rfl)
theorem dX9_isAt_31 : decode cX9_isAt 31 = .ok (.invokestatic 39, 3) := dk_184 0 39 (dk_at dksX9_isAt_1 9 rfl rfl)
theorem dX9_isAt_34 : decode cX9_isAt 34 = .ok (.ifCond .eq 7, 3) := dk_153 0 7 (dk_at dksX9_isAt_1 12 rfl rfl)
theorem dX9_isAt_37 : decode cX9_isAt 37 = .ok (.iconst 1, 1) := dk_4 (dk_at dksX9_isAt_1 15 rfl rfl)
theorem dX9_isAt_38 : decode cX9_isAt 38 = .ok (.goto 4, 3) := dk_167 0 4 (dk_at dksX9_isAt_1 16 rfl rfl)
theorem dX9_isAt_41 : decode cX9_isAt 41 = .ok (.iconst 0, 1) := dk_3 (dk_at dksX9_isAt_1 19 rfl rfl)
theorem dX9_isAt_42 : decode cX9_isAt 42 = .ok (.ireturn, 1) := dk_172 (dk_at dksX9_isAt_1 20 rfl rfl)
abbrev cX9_readCommand : ByteArray := prog_7_method_5_code
def yX9_readCommand : MethodName := ⟨RX9, "readCommand", "()Z"⟩
def dkwX9_readCommand_6 : List UInt8 := [167, 0, 4, 3, 96, 181, 0, 29, 21, 5, 172]
abbrev dktX9_readCommand_6 : List UInt8 := dkwX9_readCommand_6 ++ []
def dkwX9_readCommand_5 : List UInt8 := [54, 4, 42, 16, 59, 16, 59, 182, 0, 43, 54, 5, 42, 89, 180, 0, 29, 21, 5, 153, 0, 7, 4]
abbrev dktX9_readCommand_5 : List UInt8 := dkwX9_readCommand_5 ++ dktX9_readCommand_6
def dkwX9_readCommand_4 : List UInt8 := [153, 0, 12, 42, 21, 4, 182, 0, 69, 154, 0, 5, 3, 172, 132, 4, 1, 167, 255, 229, 42, 182, 0, 47]
abbrev dktX9_readCommand_4 : List UInt8 := dkwX9_readCommand_4 ++ dktX9_readCommand_5
def dkwX9_readCommand_3 : List UInt8 := [2, 160, 0, 10, 42, 27, 181, 0, 29, 3, 172, 3, 54, 4, 21, 4, 29, 162, 0, 27, 42, 182, 0, 47]
abbrev dktX9_readCommand_3 : List UInt8 := dkwX9_readCommand_3 ++ dktX9_readCommand_4
def dkwX9_readCommand_2 : List UInt8 := [96, 181, 0, 29, 167, 255, 217, 42, 44, 182, 0, 61, 181, 0, 21, 42, 180, 0, 21, 184, 0, 65, 62, 29]
abbrev dktX9_readCommand_2 : List UInt8 := dkwX9_readCommand_2 ++ dktX9_readCommand_3
def dkwX9_readCommand_1 : List UInt8 := [44, 42, 180, 0, 3, 180, 0, 35, 42, 180, 0, 29, 51, 146, 182, 0, 57, 87, 42, 89, 180, 0, 29, 4]
abbrev dktX9_readCommand_1 : List UInt8 := dkwX9_readCommand_1 ++ dktX9_readCommand_2
def dkwX9_readCommand_0 : List UInt8 := [42, 180, 0, 29, 60, 187, 0, 54, 89, 183, 0, 56, 77, 42, 16, 97, 16, 122, 182, 0, 43, 153, 0, 34]
abbrev dktX9_readCommand_0 : List UInt8 := dkwX9_readCommand_0 ++ dktX9_readCommand_1
theorem dksX9_readCommand_0 : cX9_readCommand.data.toList.drop 0 = dktX9_readCommand_0 := by decide +kernel
theorem dksX9_readCommand_1 : cX9_readCommand.data.toList.drop 24 = dktX9_readCommand_1 := dk_seg dksX9_readCommand_0 24 rfl rfl
theorem dksX9_readCommand_2 : cX9_readCommand.data.toList.drop 48 = dktX9_readCommand_2 := dk_seg dksX9_readCommand_1 24 rfl rfl
theorem dksX9_readCommand_3 : cX9_readCommand.data.toList.drop 72 = dktX9_readCommand_3 := dk_seg dksX9_readCommand_2 24 rfl rfl
theorem dksX9_readCommand_4 : cX9_readCommand.data.toList.drop 96 = dktX9_readCommand_4 := dk_seg dksX9_readCommand_3 24 rfl rfl
theorem dksX9_readCommand_5 : cX9_readCommand.data.toList.drop 120 = dktX9_readCommand_5 := dk_seg dksX9_readCommand_4 24 rfl rfl
theorem dksX9_readCommand_6 : cX9_readCommand.data.toList.drop 143 = dktX9_readCommand_6 := dk_seg dksX9_readCommand_5 23 rfl rfl
theorem dX9_readCommand_0 : decode cX9_readCommand 0 = .ok (.aload_n 0, 1) := dk_42 (dk_at dksX9_readCommand_0 0 rfl rfl)
theorem dX9_readCommand_1 : decode cX9_readCommand 1 = .ok (.getfield 29, 3) := dk_180 0 29 (dk_at dksX9_readCommand_0 1 rfl rfl)
theorem dX9_readCommand_4 : decode cX9_readCommand 4 = .ok (.istore_n 1, 1) := dk_60 (dk_at dksX9_readCommand_0 4 rfl rfl)
theorem dX9_readCommand_5 : decode cX9_readCommand 5 = .ok (.new 54, 3) := dk_187 0 54 (dk_at dksX9_readCommand_0 5 rfl rfl)
theorem dX9_readCommand_8 : decode cX9_readCommand 8 = .ok (.dup, 1) := dk_89 (dk_at dksX9_readCommand_0 8 rfl rfl)
theorem dX9_readCommand_9 : decode cX9_readCommand 9 = .ok (.invokespecial 56, 3) := dk_183 0 56 (dk_at dksX9_readCommand_0 9 rfl rfl)
theorem dX9_readCommand_12 : decode cX9_readCommand 12 = .ok (.astore_n 2, 1) := dk_77 (dk_at dksX9_readCommand_0 12 rfl rfl)
theorem dX9_readCommand_13 : decode cX9_readCommand 13 = .ok (.aload_n 0, 1) := dk_42 (dk_at dksX9_readCommand_0 13 rfl rfl)
theorem dX9_readCommand_14 : decode cX9_readCommand 14 = .ok (.bipush 97, 2) := dk_16 97 (dk_at dksX9_readCommand_0 14 rfl rfl)
theorem dX9_readCommand_16 : decode cX9_readCommand 16 = .ok (.bipush 122, 2) := dk_16 122 (dk_at dksX9_readCommand_0 16 rfl rfl)
theorem dX9_readCommand_18 : decode cX9_readCommand 18 = .ok (.invokevirtual 43, 3) := dk_182 0 43 (dk_at dksX9_readCommand_0 18 rfl rfl)
theorem dX9_readCommand_21 : decode cX9_readCommand 21 = .ok (.ifCond .eq 34, 3) := dk_153 0 34 (dk_at dksX9_readCommand_0 21 rfl rfl)
theorem dX9_readCommand_24 : decode cX9_readCommand 24 = .ok (.aload_n 2, 1) := dk_44 (dk_at dksX9_readCommand_1 0 rfl rfl)
theorem dX9_readCommand_25 : decode cX9_readCommand 25 = .ok (.aload_n 0, 1) := dk_42 (dk_at dksX9_readCommand_1 1 rfl rfl)
theorem dX9_readCommand_26 : decode cX9_readCommand 26 = .ok (.getfield 3, 3) := dk_180 0 3 (dk_at dksX9_readCommand_1 2 rfl rfl)
theorem dX9_readCommand_29 : decode cX9_readCommand 29 = .ok (.getfield 35, 3) := dk_180 0 35 (dk_at dksX9_readCommand_1 5 rfl rfl)
theorem dX9_readCommand_32 : decode cX9_readCommand 32 = .ok (.aload_n 0, 1) := dk_42 (dk_at dksX9_readCommand_1 8 rfl rfl)
theorem dX9_readCommand_33 : decode cX9_readCommand 33 = .ok (.getfield 29, 3) := dk_180 0 29 (dk_at dksX9_readCommand_1 9 rfl rfl)
theorem dX9_readCommand_36 : decode cX9_readCommand 36 = .ok (.baload, 1) := dk_51 (dk_at dksX9_readCommand_1 12 rfl rfl)
theorem dX9_readCommand_37 : decode cX9_readCommand 37 = .ok (.i2c, 1) := dk_146 (dk_at dksX9_readCommand_1 13 rfl rfl)
theorem dX9_readCommand_38 : decode cX9_readCommand 38 = .ok (.invokevirtual 57, 3) := dk_182 0 57 (dk_at dksX9_readCommand_1 14 rfl rfl)
theorem dX9_readCommand_41 : decode cX9_readCommand 41 = .ok (.pop, 1) := dk_87 (dk_at dksX9_readCommand_1 17 rfl rfl)
theorem dX9_readCommand_42 : decode cX9_readCommand 42 = .ok (.aload_n 0, 1) := dk_42 (dk_at dksX9_readCommand_1 18 rfl rfl)
theorem dX9_readCommand_43 : decode cX9_readCommand 43 = .ok (.dup, 1) := dk_89 (dk_at dksX9_readCommand_1 19 rfl rfl)
theorem dX9_readCommand_44 : decode cX9_readCommand 44 = .ok (.getfield 29, 3) := dk_180 0 29 (dk_at dksX9_readCommand_1 20 rfl rfl)
theorem dX9_readCommand_47 : decode cX9_readCommand 47 = .ok (.iconst 1, 1) := dk_4 (dk_at dksX9_readCommand_1 23 rfl rfl)
theorem dX9_readCommand_48 : decode cX9_readCommand 48 = .ok (.iadd, 1) := dk_96 (dk_at dksX9_readCommand_2 0 rfl rfl)
theorem dX9_readCommand_49 : decode cX9_readCommand 49 = .ok (.putfield 29, 3) := dk_181 0 29 (dk_at dksX9_readCommand_2 1 rfl rfl)
theorem dX9_readCommand_52 : decode cX9_readCommand 52 = .ok (.goto (-39), 3) := dk_167 255 217 (dk_at dksX9_readCommand_2 4 rfl rfl)
theorem dX9_readCommand_55 : decode cX9_readCommand 55 = .ok (.aload_n 0, 1) := dk_42 (dk_at dksX9_readCommand_2 7 rfl rfl)
theorem dX9_readCommand_56 : decode cX9_readCommand 56 = .ok (.aload_n 2, 1) := dk_44 (dk_at dksX9_readCommand_2 8 rfl rfl)
theorem dX9_readCommand_57 : decode cX9_readCommand 57 = .ok (.invokevirtual 61, 3) := dk_182 0 61 (dk_at dksX9_readCommand_2 9 rfl rfl)
theorem dX9_readCommand_60 : decode cX9_readCommand 60 = .ok (.putfield 21, 3) := dk_181 0 21 (dk_at dksX9_readCommand_2 12 rfl rfl)
theorem dX9_readCommand_63 : decode cX9_readCommand 63 = .ok (.aload_n 0, 1) := dk_42 (dk_at dksX9_readCommand_2 15 rfl rfl)
theorem dX9_readCommand_64 : decode cX9_readCommand 64 = .ok (.getfield 21, 3) := dk_180 0 21 (dk_at dksX9_readCommand_2 16 rfl rfl)
theorem dX9_readCommand_67 : decode cX9_readCommand 67 = .ok (.invokestatic 65, 3) := dk_184 0 65 (dk_at dksX9_readCommand_2 19 rfl rfl)
theorem dX9_readCommand_70 : decode cX9_readCommand 70 = .ok (.istore_n 3, 1) := dk_62 (dk_at dksX9_readCommand_2 22 rfl rfl)
theorem dX9_readCommand_71 : decode cX9_readCommand 71 = .ok (.iload_n 3, 1) := dk_29 (dk_at dksX9_readCommand_2 23 rfl rfl)
theorem dX9_readCommand_72 : decode cX9_readCommand 72 = .ok (.iconst (-1), 1) := dk_2 (dk_at dksX9_readCommand_3 0 rfl rfl)
theorem dX9_readCommand_73 : decode cX9_readCommand 73 = .ok (.if_icmp .ne 10, 3) := dk_160 0 10 (dk_at dksX9_readCommand_3 1 rfl rfl)
theorem dX9_readCommand_76 : decode cX9_readCommand 76 = .ok (.aload_n 0, 1) := dk_42 (dk_at dksX9_readCommand_3 4 rfl rfl)
theorem dX9_readCommand_77 : decode cX9_readCommand 77 = .ok (.iload_n 1, 1) := dk_27 (dk_at dksX9_readCommand_3 5 rfl rfl)
theorem dX9_readCommand_78 : decode cX9_readCommand 78 = .ok (.putfield 29, 3) := dk_181 0 29 (dk_at dksX9_readCommand_3 6 rfl rfl)
theorem dX9_readCommand_81 : decode cX9_readCommand 81 = .ok (.iconst 0, 1) := dk_3 (dk_at dksX9_readCommand_3 9 rfl rfl)
theorem dX9_readCommand_82 : decode cX9_readCommand 82 = .ok (.ireturn, 1) := dk_172 (dk_at dksX9_readCommand_3 10 rfl rfl)
theorem dX9_readCommand_83 : decode cX9_readCommand 83 = .ok (.iconst 0, 1) := dk_3 (dk_at dksX9_readCommand_3 11 rfl rfl)
theorem dX9_readCommand_84 : decode cX9_readCommand 84 = .ok (.istore 4, 2) := dk_54 4 (dk_at dksX9_readCommand_3 12 rfl rfl)
theorem dX9_readCommand_86 : decode cX9_readCommand 86 = .ok (.iload 4, 2) := dk_21 4 (dk_at dksX9_readCommand_3 14 rfl rfl)
theorem dX9_readCommand_88 : decode cX9_readCommand 88 = .ok (.iload_n 3, 1) := dk_29 (dk_at dksX9_readCommand_3 16 rfl rfl)
theorem dX9_readCommand_89 : decode cX9_readCommand 89 = .ok (.if_icmp .ge 27, 3) := dk_162 0 27 (dk_at dksX9_readCommand_3 17 rfl rfl)
theorem dX9_readCommand_92 : decode cX9_readCommand 92 = .ok (.aload_n 0, 1) := dk_42 (dk_at dksX9_readCommand_3 20 rfl rfl)
theorem dX9_readCommand_93 : decode cX9_readCommand 93 = .ok (.invokevirtual 47, 3) := dk_182 0 47 (dk_at dksX9_readCommand_3 21 rfl rfl)
theorem dX9_readCommand_96 : decode cX9_readCommand 96 = .ok (.ifCond .eq 12, 3) := dk_153 0 12 (dk_at dksX9_readCommand_4 0 rfl rfl)
theorem dX9_readCommand_99 : decode cX9_readCommand 99 = .ok (.aload_n 0, 1) := dk_42 (dk_at dksX9_readCommand_4 3 rfl rfl)
theorem dX9_readCommand_100 : decode cX9_readCommand 100 = .ok (.iload 4, 2) := dk_21 4 (dk_at dksX9_readCommand_4 4 rfl rfl)
theorem dX9_readCommand_102 : decode cX9_readCommand 102 = .ok (.invokevirtual 69, 3) := dk_182 0 69 (dk_at dksX9_readCommand_4 6 rfl rfl)
theorem dX9_readCommand_105 : decode cX9_readCommand 105 = .ok (.ifCond .ne 5, 3) := dk_154 0 5 (dk_at dksX9_readCommand_4 9 rfl rfl)
theorem dX9_readCommand_108 : decode cX9_readCommand 108 = .ok (.iconst 0, 1) := dk_3 (dk_at dksX9_readCommand_4 12 rfl rfl)
theorem dX9_readCommand_109 : decode cX9_readCommand 109 = .ok (.ireturn, 1) := dk_172 (dk_at dksX9_readCommand_4 13 rfl rfl)
theorem dX9_readCommand_110 : decode cX9_readCommand 110 = .ok (.iinc 4 1, 3) := dk_132 4 1 (dk_at dksX9_readCommand_4 14 rfl rfl)
theorem dX9_readCommand_113 : decode cX9_readCommand 113 = .ok (.goto (-27), 3) := dk_167 255 229 (dk_at dksX9_readCommand_4 17 rfl rfl)
theorem dX9_readCommand_116 : decode cX9_readCommand 116 = .ok (.aload_n 0, 1) := dk_42 (dk_at dksX9_readCommand_4 20 rfl rfl)
theorem dX9_readCommand_117 : decode cX9_readCommand 117 = .ok (.invokevirtual 47, 3) := dk_182 0 47 (dk_at dksX9_readCommand_4 21 rfl rfl)
theorem dX9_readCommand_120 : decode cX9_readCommand 120 = .ok (.istore 4, 2) := dk_54 4 (dk_at dksX9_readCommand_5 0 rfl rfl)
theorem dX9_readCommand_122 : decode cX9_readCommand 122 = .ok (.aload_n 0, 1) := dk_42 (dk_at dksX9_readCommand_5 2 rfl rfl)
theorem dX9_readCommand_123 : decode cX9_readCommand 123 = .ok (.bipush 59, 2) := dk_16 59 (dk_at dksX9_readCommand_5 3 rfl rfl)
theorem dX9_readCommand_125 : decode cX9_readCommand 125 = .ok (.bipush 59, 2) := dk_16 59 (dk_at dksX9_readCommand_5 5 rfl rfl)
theorem dX9_readCommand_127 : decode cX9_readCommand 127 = .ok (.invokevirtual 43, 3) := dk_182 0 43 (dk_at dksX9_readCommand_5 7 rfl rfl)
theorem dX9_readCommand_130 : decode cX9_readCommand 130 = .ok (.istore 5, 2) := dk_54 5 (dk_at dksX9_readCommand_5 10 rfl rfl)
theorem dX9_readCommand_132 : decode cX9_readCommand 132 = .ok (.aload_n 0, 1) := dk_42 (dk_at dksX9_readCommand_5 12 rfl rfl)
theorem dX9_readCommand_133 : decode cX9_readCommand 133 = .ok (.dup, 1) := dk_89 (dk_at dksX9_readCommand_5 13 rfl rfl)
theorem dX9_readCommand_134 : decode cX9_readCommand 134 = .ok (.getfield 29, 3) := dk_180 0 29 (dk_at dksX9_readCommand_5 14 rfl rfl)
theorem dX9_readCommand_137 : decode cX9_readCommand 137 = .ok (.iload 5, 2) := dk_21 5 (dk_at dksX9_readCommand_5 17 rfl rfl)
theorem dX9_readCommand_139 : decode cX9_readCommand 139 = .ok (.ifCond .eq 7, 3) := dk_153 0 7 (dk_at dksX9_readCommand_5 19 rfl rfl)
theorem dX9_readCommand_142 : decode cX9_readCommand 142 = .ok (.iconst 1, 1) := dk_4 (dk_at dksX9_readCommand_5 22 rfl rfl)
theorem dX9_readCommand_143 : decode cX9_readCommand 143 = .ok (.goto 4, 3) := dk_167 0 4 (dk_at dksX9_readCommand_6 0 rfl rfl)
theorem dX9_readCommand_146 : decode cX9_readCommand 146 = .ok (.iconst 0, 1) := dk_3 (dk_at dksX9_readCommand_6 3 rfl rfl)
theorem dX9_readCommand_147 : decode cX9_readCommand 147 = .ok (.iadd, 1) := dk_96 (dk_at dksX9_readCommand_6 4 rfl rfl)
theorem dX9_readCommand_148 : decode cX9_readCommand 148 = .ok (.putfield 29, 3) := dk_181 0 29 (dk_at dksX9_readCommand_6 5 rfl rfl)
theorem dX9_readCommand_151 : decode cX9_readCommand 151 = .ok (.iload 5, 2) := dk_21 5 (dk_at dksX9_readCommand_6 8 rfl rfl)
theorem dX9_readCommand_153 : decode cX9_readCommand 153 = .ok (.ireturn, 1) := dk_172 (dk_at dksX9_readCommand_6 10 rfl rfl)
abbrev cX9_readNumber : ByteArray := prog_7_method_6_code
def yX9_readNumber : MethodName := ⟨RX9, "readNumber", "(I)Z"⟩
def dkwX9_readNumber_4 : List UInt8 := [154, 0, 7, 4, 167, 0, 4, 3, 172]
abbrev dktX9_readNumber_4 : List UInt8 := dkwX9_readNumber_4 ++ []
def dkwX9_readNumber_3 : List UInt8 := [181, 0, 29, 167, 255, 193, 42, 180, 0, 29, 28, 164, 0, 18, 42, 16, 48, 16, 57, 182, 0, 43]
abbrev dktX9_readNumber_3 : List UInt8 := dkwX9_readNumber_3 ++ dktX9_readNumber_4
def dkwX9_readNumber_2 : List UInt8 := [42, 180, 0, 3, 180, 0, 35, 42, 180, 0, 29, 51, 96, 16, 48, 100, 79, 42, 89, 180, 0, 29, 4, 96]
abbrev dktX9_readNumber_2 : List UInt8 := dkwX9_readNumber_2 ++ dktX9_readNumber_3
def dkwX9_readNumber_1 : List UInt8 := [180, 0, 29, 28, 16, 6, 96, 162, 0, 47, 42, 180, 0, 25, 27, 16, 10, 42, 180, 0, 25, 27, 46, 104]
abbrev dktX9_readNumber_1 : List UInt8 := dkwX9_readNumber_1 ++ dktX9_readNumber_2
def dkwX9_readNumber_0 : List UInt8 := [42, 180, 0, 29, 61, 42, 180, 0, 25, 27, 3, 79, 42, 16, 48, 16, 57, 182, 0, 43, 153, 0, 58, 42]
abbrev dktX9_readNumber_0 : List UInt8 := dkwX9_readNumber_0 ++ dktX9_readNumber_1
theorem dksX9_readNumber_0 : cX9_readNumber.data.toList.drop 0 = dktX9_readNumber_0 := by decide +kernel
theorem dksX9_readNumber_1 : cX9_readNumber.data.toList.drop 24 = dktX9_readNumber_1 := dk_seg dksX9_readNumber_0 24 rfl rfl
theorem dksX9_readNumber_2 : cX9_readNumber.data.toList.drop 48 = dktX9_readNumber_2 := dk_seg dksX9_readNumber_1 24 rfl rfl
theorem dksX9_readNumber_3 : cX9_readNumber.data.toList.drop 72 = dktX9_readNumber_3 := dk_seg dksX9_readNumber_2 24 rfl rfl
theorem dksX9_readNumber_4 : cX9_readNumber.data.toList.drop 94 = dktX9_readNumber_4 := dk_seg dksX9_readNumber_3 22 rfl rfl
theorem dX9_readNumber_0 : decode cX9_readNumber 0 = .ok (.aload_n 0, 1) := dk_42 (dk_at dksX9_readNumber_0 0 rfl rfl)
theorem dX9_readNumber_1 : decode cX9_readNumber 1 = .ok (.getfield 29, 3) := dk_180 0 29 (dk_at dksX9_readNumber_0 1 rfl rfl)
theorem dX9_readNumber_4 : decode cX9_readNumber 4 = .ok (.istore_n 2, 1) := dk_61 (dk_at dksX9_readNumber_0 4 rfl rfl)
theorem dX9_readNumber_5 : decode cX9_readNumber 5 = .ok (.aload_n 0, 1) := dk_42 (dk_at dksX9_readNumber_0 5 rfl rfl)
theorem dX9_readNumber_6 : decode cX9_readNumber 6 = .ok (.getfield 25, 3) := dk_180 0 25 (dk_at dksX9_readNumber_0 6 rfl rfl)
theorem dX9_readNumber_9 : decode cX9_readNumber 9 = .ok (.iload_n 1, 1) := dk_27 (dk_at dksX9_readNumber_0 9 rfl rfl)
theorem dX9_readNumber_10 : decode cX9_readNumber 10 = .ok (.iconst 0, 1) := dk_3 (dk_at dksX9_readNumber_0 10 rfl rfl)
theorem dX9_readNumber_11 : decode cX9_readNumber 11 = .ok (.iastore, 1) := dk_79 (dk_at dksX9_readNumber_0 11 rfl rfl)
theorem dX9_readNumber_12 : decode cX9_readNumber 12 = .ok (.aload_n 0, 1) := dk_42 (dk_at dksX9_readNumber_0 12 rfl rfl)
theorem dX9_readNumber_13 : decode cX9_readNumber 13 = .ok (.bipush 48, 2) := dk_16 48 (dk_at dksX9_readNumber_0 13 rfl rfl)
theorem dX9_readNumber_15 : decode cX9_readNumber 15 = .ok (.bipush 57, 2) := dk_16 57 (dk_at dksX9_readNumber_0 15 rfl rfl)
theorem dX9_readNumber_17 : decode cX9_readNumber 17 = .ok (.invokevirtual 43, 3) := dk_182 0 43 (dk_at dksX9_readNumber_0 17 rfl rfl)
theorem dX9_readNumber_20 : decode cX9_readNumber 20 = .ok (.ifCond .eq 58, 3) := dk_153 0 58 (dk_at dksX9_readNumber_0 20 rfl rfl)
theorem dX9_readNumber_23 : decode cX9_readNumber 23 = .ok (.aload_n 0, 1) := dk_42 (dk_at dksX9_readNumber_0 23 rfl rfl)
theorem dX9_readNumber_24 : decode cX9_readNumber 24 = .ok (.getfield 29, 3) := dk_180 0 29 (dk_at dksX9_readNumber_1 0 rfl rfl)
theorem dX9_readNumber_27 : decode cX9_readNumber 27 = .ok (.iload_n 2, 1) := dk_28 (dk_at dksX9_readNumber_1 3 rfl rfl)
theorem dX9_readNumber_28 : decode cX9_readNumber 28 = .ok (.bipush 6, 2) := dk_16 6 (dk_at dksX9_readNumber_1 4 rfl rfl)
theorem dX9_readNumber_30 : decode cX9_readNumber 30 = .ok (.iadd, 1) := dk_96 (dk_at dksX9_readNumber_1 6 rfl rfl)
theorem dX9_readNumber_31 : decode cX9_readNumber 31 = .ok (.if_icmp .ge 47, 3) := dk_162 0 47 (dk_at dksX9_readNumber_1 7 rfl rfl)
theorem dX9_readNumber_34 : decode cX9_readNumber 34 = .ok (.aload_n 0, 1) := dk_42 (dk_at dksX9_readNumber_1 10 rfl rfl)
theorem dX9_readNumber_35 : decode cX9_readNumber 35 = .ok (.getfield 25, 3) := dk_180 0 25 (dk_at dksX9_readNumber_1 11 rfl rfl)
theorem dX9_readNumber_38 : decode cX9_readNumber 38 = .ok (.iload_n 1, 1) := dk_27 (dk_at dksX9_readNumber_1 14 rfl rfl)
theorem dX9_readNumber_39 : decode cX9_readNumber 39 = .ok (.bipush 10, 2) := dk_16 10 (dk_at dksX9_readNumber_1 15 rfl rfl)
theorem dX9_readNumber_41 : decode cX9_readNumber 41 = .ok (.aload_n 0, 1) := dk_42 (dk_at dksX9_readNumber_1 17 rfl rfl)
theorem dX9_readNumber_42 : decode cX9_readNumber 42 = .ok (.getfield 25, 3) := dk_180 0 25 (dk_at dksX9_readNumber_1 18 rfl rfl)
theorem dX9_readNumber_45 : decode cX9_readNumber 45 = .ok (.iload_n 1, 1) := dk_27 (dk_at dksX9_readNumber_1 21 rfl rfl)
theorem dX9_readNumber_46 : decode cX9_readNumber 46 = .ok (.iaload, 1) := dk_46 (dk_at dksX9_readNumber_1 22 rfl rfl)
theorem dX9_readNumber_47 : decode cX9_readNumber 47 = .ok (.imul, 1) := dk_104 (dk_at dksX9_readNumber_1 23 rfl rfl)
theorem dX9_readNumber_48 : decode cX9_readNumber 48 = .ok (.aload_n 0, 1) := dk_42 (dk_at dksX9_readNumber_2 0 rfl rfl)
theorem dX9_readNumber_49 : decode cX9_readNumber 49 = .ok (.getfield 3, 3) := dk_180 0 3 (dk_at dksX9_readNumber_2 1 rfl rfl)
theorem dX9_readNumber_52 : decode cX9_readNumber 52 = .ok (.getfield 35, 3) := dk_180 0 35 (dk_at dksX9_readNumber_2 4 rfl rfl)
theorem dX9_readNumber_55 : decode cX9_readNumber 55 = .ok (.aload_n 0, 1) := dk_42 (dk_at dksX9_readNumber_2 7 rfl rfl)
theorem dX9_readNumber_56 : decode cX9_readNumber 56 = .ok (.getfield 29, 3) := dk_180 0 29 (dk_at dksX9_readNumber_2 8 rfl rfl)
theorem dX9_readNumber_59 : decode cX9_readNumber 59 = .ok (.baload, 1) := dk_51 (dk_at dksX9_readNumber_2 11 rfl rfl)
theorem dX9_readNumber_60 : decode cX9_readNumber 60 = .ok (.iadd, 1) := dk_96 (dk_at dksX9_readNumber_2 12 rfl rfl)
theorem dX9_readNumber_61 : decode cX9_readNumber 61 = .ok (.bipush 48, 2) := dk_16 48 (dk_at dksX9_readNumber_2 13 rfl rfl)
theorem dX9_readNumber_63 : decode cX9_readNumber 63 = .ok (.isub, 1) := dk_100 (dk_at dksX9_readNumber_2 15 rfl rfl)
theorem dX9_readNumber_64 : decode cX9_readNumber 64 = .ok (.iastore, 1) := dk_79 (dk_at dksX9_readNumber_2 16 rfl rfl)
theorem dX9_readNumber_65 : decode cX9_readNumber 65 = .ok (.aload_n 0, 1) := dk_42 (dk_at dksX9_readNumber_2 17 rfl rfl)
theorem dX9_readNumber_66 : decode cX9_readNumber 66 = .ok (.dup, 1) := dk_89 (dk_at dksX9_readNumber_2 18 rfl rfl)
theorem dX9_readNumber_67 : decode cX9_readNumber 67 = .ok (.getfield 29, 3) := dk_180 0 29 (dk_at dksX9_readNumber_2 19 rfl rfl)
theorem dX9_readNumber_70 : decode cX9_readNumber 70 = .ok (.iconst 1, 1) := dk_4 (dk_at dksX9_readNumber_2 22 rfl rfl)
theorem dX9_readNumber_71 : decode cX9_readNumber 71 = .ok (.iadd, 1) := dk_96 (dk_at dksX9_readNumber_2 23 rfl rfl)
theorem dX9_readNumber_72 : decode cX9_readNumber 72 = .ok (.putfield 29, 3) := dk_181 0 29 (dk_at dksX9_readNumber_3 0 rfl rfl)
theorem dX9_readNumber_75 : decode cX9_readNumber 75 = .ok (.goto (-63), 3) := dk_167 255 193 (dk_at dksX9_readNumber_3 3 rfl rfl)
theorem dX9_readNumber_78 : decode cX9_readNumber 78 = .ok (.aload_n 0, 1) := dk_42 (dk_at dksX9_readNumber_3 6 rfl rfl)
theorem dX9_readNumber_79 : decode cX9_readNumber 79 = .ok (.getfield 29, 3) := dk_180 0 29 (dk_at dksX9_readNumber_3 7 rfl rfl)
theorem dX9_readNumber_82 : decode cX9_readNumber 82 = .ok (.iload_n 2, 1) := dk_28 (dk_at dksX9_readNumber_3 10 rfl rfl)
theorem dX9_readNumber_83 : decode cX9_readNumber 83 = .ok (.if_icmp .le 18, 3) := dk_164 0 18 (dk_at dksX9_readNumber_3 11 rfl rfl)
theorem dX9_readNumber_86 : decode cX9_readNumber 86 = .ok (.aload_n 0, 1) := dk_42 (dk_at dksX9_readNumber_3 14 rfl rfl)
theorem dX9_readNumber_87 : decode cX9_readNumber 87 = .ok (.bipush 48, 2) := dk_16 48 (dk_at dksX9_readNumber_3 15 rfl rfl)
theorem dX9_readNumber_89 : decode cX9_readNumber 89 = .ok (.bipush 57, 2) := dk_16 57 (dk_at dksX9_readNumber_3 17 rfl rfl)
theorem dX9_readNumber_91 : decode cX9_readNumber 91 = .ok (.invokevirtual 43, 3) := dk_182 0 43 (dk_at dksX9_readNumber_3 19 rfl rfl)
theorem dX9_readNumber_94 : decode cX9_readNumber 94 = .ok (.ifCond .ne 7, 3) := dk_154 0 7 (dk_at dksX9_readNumber_4 0 rfl rfl)
theorem dX9_readNumber_97 : decode cX9_readNumber 97 = .ok (.iconst 1, 1) := dk_4 (dk_at dksX9_readNumber_4 3 rfl rfl)
theorem dX9_readNumber_98 : decode cX9_readNumber 98 = .ok (.goto 4, 3) := dk_167 0 4 (dk_at dksX9_readNumber_4 4 rfl rfl)
theorem dX9_readNumber_101 : decode cX9_readNumber 101 = .ok (.iconst 0, 1) := dk_3 (dk_at dksX9_readNumber_4 7 rfl rfl)
theorem dX9_readNumber_102 : decode cX9_readNumber 102 = .ok (.ireturn, 1) := dk_172 (dk_at dksX9_readNumber_4 8 rfl rfl)
abbrev cX9_carryOutOn : ByteArray := prog_7_method_7_code
def yX9_carryOutOn : MethodName := ⟨RX9, "carryOutOn", "(LLineEchoes$Bench;)I"⟩
def dkwX9_carryOutOn_1 : List UInt8 := [180, 0, 25, 5, 46, 182, 0, 73, 172]
abbrev dktX9_carryOutOn_1 : List UInt8 := dkwX9_carryOutOn_1 ++ []
def dkwX9_carryOutOn_0 : List UInt8 := [42, 180, 0, 3, 43, 42, 180, 0, 21, 42, 180, 0, 25, 3, 46, 42, 180, 0, 25, 4, 46, 42]
abbrev dktX9_carryOutOn_0 : List UInt8 := dkwX9_carryOutOn_0 ++ dktX9_carryOutOn_1
theorem dksX9_carryOutOn_0 : cX9_carryOutOn.data.toList.drop 0 = dktX9_carryOutOn_0 := by decide +kernel
theorem dksX9_carryOutOn_1 : cX9_carryOutOn.data.toList.drop 22 = dktX9_carryOutOn_1 := dk_seg dksX9_carryOutOn_0 22 rfl rfl
theorem dX9_carryOutOn_0 : decode cX9_carryOutOn 0 = .ok (.aload_n 0, 1) := dk_42 (dk_at dksX9_carryOutOn_0 0 rfl rfl)
theorem dX9_carryOutOn_1 : decode cX9_carryOutOn 1 = .ok (.getfield 3, 3) := dk_180 0 3 (dk_at dksX9_carryOutOn_0 1 rfl rfl)
theorem dX9_carryOutOn_4 : decode cX9_carryOutOn 4 = .ok (.aload_n 1, 1) := dk_43 (dk_at dksX9_carryOutOn_0 4 rfl rfl)
theorem dX9_carryOutOn_5 : decode cX9_carryOutOn 5 = .ok (.aload_n 0, 1) := dk_42 (dk_at dksX9_carryOutOn_0 5 rfl rfl)
theorem dX9_carryOutOn_6 : decode cX9_carryOutOn 6 = .ok (.getfield 21, 3) := dk_180 0 21 (dk_at dksX9_carryOutOn_0 6 rfl rfl)
theorem dX9_carryOutOn_9 : decode cX9_carryOutOn 9 = .ok (.aload_n 0, 1) := dk_42 (dk_at dksX9_carryOutOn_0 9 rfl rfl)
theorem dX9_carryOutOn_10 : decode cX9_carryOutOn 10 = .ok (.getfield 25, 3) := dk_180 0 25 (dk_at dksX9_carryOutOn_0 10 rfl rfl)
theorem dX9_carryOutOn_13 : decode cX9_carryOutOn 13 = .ok (.iconst 0, 1) := dk_3 (dk_at dksX9_carryOutOn_0 13 rfl rfl)
theorem dX9_carryOutOn_14 : decode cX9_carryOutOn 14 = .ok (.iaload, 1) := dk_46 (dk_at dksX9_carryOutOn_0 14 rfl rfl)
theorem dX9_carryOutOn_15 : decode cX9_carryOutOn 15 = .ok (.aload_n 0, 1) := dk_42 (dk_at dksX9_carryOutOn_0 15 rfl rfl)
theorem dX9_carryOutOn_16 : decode cX9_carryOutOn 16 = .ok (.getfield 25, 3) := dk_180 0 25 (dk_at dksX9_carryOutOn_0 16 rfl rfl)
theorem dX9_carryOutOn_19 : decode cX9_carryOutOn 19 = .ok (.iconst 1, 1) := dk_4 (dk_at dksX9_carryOutOn_0 19 rfl rfl)
theorem dX9_carryOutOn_20 : decode cX9_carryOutOn 20 = .ok (.iaload, 1) := dk_46 (dk_at dksX9_carryOutOn_0 20 rfl rfl)
theorem dX9_carryOutOn_21 : decode cX9_carryOutOn 21 = .ok (.aload_n 0, 1) := dk_42 (dk_at dksX9_carryOutOn_0 21 rfl rfl)
theorem dX9_carryOutOn_22 : decode cX9_carryOutOn 22 = .ok (.getfield 25, 3) := dk_180 0 25 (dk_at dksX9_carryOutOn_1 0 rfl rfl)
theorem dX9_carryOutOn_25 : decode cX9_carryOutOn 25 = .ok (.iconst 2, 1) := dk_5 (dk_at dksX9_carryOutOn_1 3 rfl rfl)
theorem dX9_carryOutOn_26 : decode cX9_carryOutOn 26 = .ok (.iaload, 1) := dk_46 (dk_at dksX9_carryOutOn_1 4 rfl rfl)
theorem dX9_carryOutOn_27 : decode cX9_carryOutOn 27 = .ok (.invokevirtual 73, 3) := dk_182 0 73 (dk_at dksX9_carryOutOn_1 5 rfl rfl)
theorem dX9_carryOutOn_30 : decode cX9_carryOutOn 30 = .ok (.ireturn, 1) := dk_172 (dk_at dksX9_carryOutOn_1 8 rfl rfl)
theorem q97 : (Jvm.Cond.initialized "LineEchoes$Reader") ∈ lw_all := lw_g (lw_at lw_m1 29 rfl) rfl
theorem q244 : (Jvm.Cond.fieldLinkNest "LineEchoes$Reader" (35 : Nat) "LineEchoes" "script" "[B" "LineEchoes") ∈ lw_tbl := lw_at lw_m1 176 rfl
theorem q246 : (Jvm.Cond.fieldLinkNest "LineEchoes$Reader" (32 : Nat) "LineEchoes" "scriptLength" "I" "LineEchoes") ∈ lw_tbl := lw_at lw_m1 178 rfl
theorem q452 : (Jvm.Cond.instantiable "LineEchoes$Reader" (5 : Nat)) ∈ lw_all := lw_g (lw_at lw_m2 144 rfl) rfl
theorem q454 : (Jvm.Cond.instanceMethod ({ cls := "LineEchoes$Reader", name := "<init>", desc := "(LLineEchoes;)V" } : Jvm.MethodName)) ∈ lw_all := lw_g (lw_at lw_m2 146 rfl) rfl
theorem q455 : (Jvm.Cond.code ({ cls := "LineEchoes$Reader", name := "<init>", desc := "(LLineEchoes;)V" } : Jvm.MethodName) prog_7_method_1_code (2 : Nat) (Option.none : Option Jvm.ClassFile.FieldType)) ∈ lw_all := lw_g (lw_at lw_m2 147 rfl) rfl
theorem q456 : (Jvm.Cond.methodLink "LineEchoes$Reader" (9 : Nat) ({ cls := "java/lang/Object", name := "<init>", desc := "()V" } : Jvm.MethodName)) ∈ lw_all := lw_g (lw_at lw_m2 148 rfl) rfl
theorem q457 : (Jvm.Cond.stringRef "LineEchoes$Reader" (19 : Nat) "") ∈ lw_tbl := lw_at lw_m2 149 rfl
theorem q458 : (Jvm.Cond.fieldLink "LineEchoes$Reader" (29 : Nat) "LineEchoes$Reader" "at" "I") ∈ lw_all := lw_g (lw_at lw_m2 150 rfl) rfl
theorem q459 : (Jvm.Cond.fieldLink "LineEchoes$Reader" (15 : Nat) "LineEchoes$Reader" "fault" "I") ∈ lw_all := lw_g (lw_at lw_m2 151 rfl) rfl
theorem q461 : (Jvm.Cond.fieldLink "LineEchoes$Reader" (21 : Nat) "LineEchoes$Reader" "word" "Ljava/lang/String;") ∈ lw_all := lw_g (lw_at lw_m2 153 rfl) rfl
theorem q462 : (Jvm.Cond.fieldLink "LineEchoes$Reader" (25 : Nat) "LineEchoes$Reader" "numbers" "[I") ∈ lw_all := lw_g (lw_at lw_m2 154 rfl) rfl
theorem q463 : (Jvm.Cond.fieldLink "LineEchoes$Reader" (3 : Nat) "LineEchoes$Reader" "this$0" "LLineEchoes;") ∈ lw_all := lw_g (lw_at lw_m2 155 rfl) rfl
theorem q464 : (Jvm.Cond.lays "LineEchoes$Reader" "LineEchoes$Reader" "at" "I") ∈ lw_all := lw_g (lw_at lw_m2 156 rfl) rfl
theorem q465 : (Jvm.Cond.soleField "LineEchoes$Reader" "at") ∈ lw_all := lw_g (lw_at lw_m2 157 rfl) rfl
theorem q466 : (Jvm.Cond.lays "LineEchoes$Reader" "LineEchoes$Reader" "fault" "I") ∈ lw_all := lw_g (lw_at lw_m2 158 rfl) rfl
theorem q467 : (Jvm.Cond.soleField "LineEchoes$Reader" "fault") ∈ lw_all := lw_g (lw_at lw_m2 159 rfl) rfl
theorem q468 : (Jvm.Cond.lays "LineEchoes$Reader" "LineEchoes$Reader" "word" "Ljava/lang/String;") ∈ lw_all := lw_g (lw_at lw_m2 160 rfl) rfl
theorem q469 : (Jvm.Cond.soleField "LineEchoes$Reader" "word") ∈ lw_all := lw_g (lw_at lw_m2 161 rfl) rfl
theorem q470 : (Jvm.Cond.laysFinal "LineEchoes$Reader" "LineEchoes$Reader" "numbers" "[I") ∈ lw_all := lw_g (lw_at lw_m2 162 rfl) rfl
theorem q471 : (Jvm.Cond.soleField "LineEchoes$Reader" "numbers") ∈ lw_all := lw_g (lw_at lw_m2 163 rfl) rfl
theorem q472 : (Jvm.Cond.laysFinal "LineEchoes$Reader" "LineEchoes$Reader" "this$0" "LLineEchoes;") ∈ lw_all := lw_g (lw_at lw_m2 164 rfl) rfl
theorem q473 : (Jvm.Cond.soleField "LineEchoes$Reader" "this$0") ∈ lw_all := lw_g (lw_at lw_m2 165 rfl) rfl
theorem q474 : (Jvm.Cond.superclass "LineEchoes$Reader" "java/lang/Object") ∈ lw_all := lw_g (lw_at lw_m2 166 rfl) rfl
theorem q476 : (Jvm.Cond.instanceMethod ({ cls := "LineEchoes$Reader", name := "next", desc := "()Z" } : Jvm.MethodName)) ∈ lw_all := lw_g (lw_at lw_m2 168 rfl) rfl
theorem q477 : (Jvm.Cond.selects "LineEchoes$Reader" ({ cls := "LineEchoes$Reader", name := "next", desc := "()Z" } : Jvm.MethodName) ({ cls := "LineEchoes$Reader", name := "next", desc := "()Z" } : Jvm.MethodName)) ∈ lw_all := lw_g (lw_at lw_m2 169 rfl) rfl
theorem q478 : (Jvm.Cond.code ({ cls := "LineEchoes$Reader", name := "next", desc := "()Z" } : Jvm.MethodName) prog_7_method_4_code (2 : Nat) (Option.some Jvm.ClassFile.FieldType.boolean)) ∈ lw_all := lw_g (lw_at lw_m2 170 rfl) rfl
theorem q479 : (Jvm.Cond.methodLink "LineEchoes$Reader" (47 : Nat) ({ cls := "LineEchoes$Reader", name := "spaces", desc := "()Z" } : Jvm.MethodName)) ∈ lw_all := lw_g (lw_at lw_m2 171 rfl) rfl
theorem q480 : (Jvm.Cond.privateMethod ({ cls := "LineEchoes$Reader", name := "spaces", desc := "()Z" } : Jvm.MethodName)) ∈ lw_tbl := lw_at lw_m2 172 rfl
theorem q481 : (Jvm.Cond.instanceMethod ({ cls := "LineEchoes$Reader", name := "spaces", desc := "()Z" } : Jvm.MethodName)) ∈ lw_all := lw_g (lw_at lw_m2 173 rfl) rfl
theorem q482 : (Jvm.Cond.code ({ cls := "LineEchoes$Reader", name := "spaces", desc := "()Z" } : Jvm.MethodName) prog_7_method_3_code (2 : Nat) (Option.some Jvm.ClassFile.FieldType.boolean)) ∈ lw_all := lw_g (lw_at lw_m2 174 rfl) rfl
theorem q483 : (Jvm.Cond.methodLink "LineEchoes$Reader" (43 : Nat) ({ cls := "LineEchoes$Reader", name := "isAt", desc := "(II)Z" } : Jvm.MethodName)) ∈ lw_all := lw_g (lw_at lw_m2 175 rfl) rfl
theorem q484 : (Jvm.Cond.privateMethod ({ cls := "LineEchoes$Reader", name := "isAt", desc := "(II)Z" } : Jvm.MethodName)) ∈ lw_tbl := lw_at lw_m2 176 rfl
theorem q485 : (Jvm.Cond.instanceMethod ({ cls := "LineEchoes$Reader", name := "isAt", desc := "(II)Z" } : Jvm.MethodName)) ∈ lw_all := lw_g (lw_at lw_m2 177 rfl) rfl
theorem q486 : (Jvm.Cond.code ({ cls := "LineEchoes$Reader", name := "isAt", desc := "(II)Z" } : Jvm.MethodName) prog_7_method_2_code (3 : Nat) (Option.some Jvm.ClassFile.FieldType.boolean)) ∈ lw_all := lw_g (lw_at lw_m2 178 rfl) rfl
theorem q487 : (Jvm.Cond.methodLinkNest "LineEchoes$Reader" (39 : Nat) ({ cls := "LineEchoes", name := "inRange", desc := "(JJJ)Z" } : Jvm.MethodName) "LineEchoes") ∈ lw_tbl := lw_at lw_m2 179 rfl
theorem q490 : (Jvm.Cond.methodLink "LineEchoes$Reader" (51 : Nat) ({ cls := "LineEchoes$Reader", name := "readCommand", desc := "()Z" } : Jvm.MethodName)) ∈ lw_all := lw_g (lw_at lw_m2 182 rfl) rfl
theorem q491 : (Jvm.Cond.privateMethod ({ cls := "LineEchoes$Reader", name := "readCommand", desc := "()Z" } : Jvm.MethodName)) ∈ lw_tbl := lw_at lw_m2 183 rfl
theorem q492 : (Jvm.Cond.instanceMethod ({ cls := "LineEchoes$Reader", name := "readCommand", desc := "()Z" } : Jvm.MethodName)) ∈ lw_all := lw_g (lw_at lw_m2 184 rfl) rfl
theorem q493 : (Jvm.Cond.code ({ cls := "LineEchoes$Reader", name := "readCommand", desc := "()Z" } : Jvm.MethodName) prog_7_method_5_code (6 : Nat) (Option.some Jvm.ClassFile.FieldType.boolean)) ∈ lw_all := lw_g (lw_at lw_m2 185 rfl) rfl
theorem q494 : (Jvm.Cond.classLink "LineEchoes$Reader" (54 : Nat) "java/lang/StringBuilder") ∈ lw_all := lw_g (lw_at lw_m2 186 rfl) rfl
theorem q496 : (Jvm.Cond.methodLink "LineEchoes$Reader" (56 : Nat) ({ cls := "java/lang/StringBuilder", name := "<init>", desc := "()V" } : Jvm.MethodName)) ∈ lw_all := lw_g (lw_at lw_m2 188 rfl) rfl
theorem q525 : (Jvm.Cond.methodLink "LineEchoes$Reader" (57 : Nat) ({ cls := "java/lang/StringBuilder", name := "append", desc := "(C)Ljava/lang/StringBuilder;" } : Jvm.MethodName)) ∈ lw_all := lw_g (lw_at lw_m2 217 rfl) rfl
theorem q618 : (Jvm.Cond.methodLink "LineEchoes$Reader" (61 : Nat) ({ cls := "java/lang/StringBuilder", name := "toString", desc := "()Ljava/lang/String;" } : Jvm.MethodName)) ∈ lw_all := lw_g (lw_at lw_m3 70 rfl) rfl
theorem q823 : (Jvm.Cond.methodLinkNest "LineEchoes$Reader" (65 : Nat) ({ cls := "LineEchoes", name := "numbersOf", desc := "(Ljava/lang/String;)I" } : Jvm.MethodName) "LineEchoes") ∈ lw_tbl := lw_at lw_m4 35 rfl
theorem q903 : (Jvm.Cond.methodLink "LineEchoes$Reader" (69 : Nat) ({ cls := "LineEchoes$Reader", name := "readNumber", desc := "(I)Z" } : Jvm.MethodName)) ∈ lw_all := lw_g (lw_at lw_m4 115 rfl) rfl
theorem q904 : (Jvm.Cond.privateMethod ({ cls := "LineEchoes$Reader", name := "readNumber", desc := "(I)Z" } : Jvm.MethodName)) ∈ lw_tbl := lw_at lw_m4 116 rfl
theorem q905 : (Jvm.Cond.instanceMethod ({ cls := "LineEchoes$Reader", name := "readNumber", desc := "(I)Z" } : Jvm.MethodName)) ∈ lw_all := lw_g (lw_at lw_m4 117 rfl) rfl
theorem q906 : (Jvm.Cond.code ({ cls := "LineEchoes$Reader", name := "readNumber", desc := "(I)Z" } : Jvm.MethodName) prog_7_method_6_code (3 : Nat) (Option.some Jvm.ClassFile.FieldType.boolean)) ∈ lw_all := lw_g (lw_at lw_m4 118 rfl) rfl
theorem q933 : (Jvm.Cond.instanceMethod ({ cls := "LineEchoes$Reader", name := "carryOutOn", desc := "(LLineEchoes$Bench;)I" } : Jvm.MethodName)) ∈ lw_all := lw_g (lw_at lw_m4 145 rfl) rfl
theorem q934 : (Jvm.Cond.selects "LineEchoes$Reader" ({ cls := "LineEchoes$Reader", name := "carryOutOn", desc := "(LLineEchoes$Bench;)I" } : Jvm.MethodName) ({ cls := "LineEchoes$Reader", name := "carryOutOn", desc := "(LLineEchoes$Bench;)I" } : Jvm.MethodName)) ∈ lw_all := lw_g (lw_at lw_m4 146 rfl) rfl
theorem q935 : (Jvm.Cond.code ({ cls := "LineEchoes$Reader", name := "carryOutOn", desc := "(LLineEchoes$Bench;)I" } : Jvm.MethodName) prog_7_method_7_code (2 : Nat) (Option.some Jvm.ClassFile.FieldType.int)) ∈ lw_all := lw_g (lw_at lw_m4 147 rfl) rfl
theorem q936 : (Jvm.Cond.methodLinkNest "LineEchoes$Reader" (73 : Nat) ({ cls := "LineEchoes", name := "carryOut", desc := "(LLineEchoes$Bench;Ljava/lang/String;III)I" } : Jvm.MethodName) "LineEchoes") ∈ lw_tbl := lw_at lw_m4 148 rfl
theorem in_X9 : ∀ w ∈ wsX90, w ∈ lw_all := lw_in wsX90 [464, 466, 468, 470, 472] (by decide +kernel) (by decide +kernel)

/-! LineEchoes$Bench -/
set_option maxRecDepth 100000
def RX2 : String := "LineEchoes$Bench"
def TX2 : u_T := fun k => match k with
  | 0 => ("LineEchoes$Bench", "line", "LLineEchoes$Line;", false)
  | 1 => ("LineEchoes$Bench", "sound", "LLineEchoes$Kept;", false)
  | _ => ("LineEchoes$Bench", "observed", "LLineEchoes$Kept;", false)
def tyX2 : Nat → FieldType := fun k => match k with
  | 0 => .object "LineEchoes$Line"
  | 1 => .object "LineEchoes$Kept"
  | _ => .object "LineEchoes$Kept"
abbrev wsX20 : List Cond := u_ws RX2 TX2 3
theorem nmX2 : ∀ a, a < 3 → ∀ b, b < 3 → a ≠ b → (TX2 a).2.1 ≠ (TX2 b).2.1 := by decide +kernel
theorem tyX2_ok : ∀ k, k < 3 → parseFieldDescriptor (TX2 k).2.2.1 = some (tyX2 k) := by decide +kernel
abbrev cX2_init : ByteArray := prog_2_method_1_code
def yX2_init : MethodName := ⟨RX2, "<init>", "()V"⟩
def dkwX2_init_1 : List UInt8 := [187, 0, 21, 89, 183, 0, 23, 181, 0, 28, 177]
abbrev dktX2_init_1 : List UInt8 := dkwX2_init_1 ++ []
def dkwX2_init_0 : List UInt8 := [42, 183, 0, 3, 42, 184, 0, 9, 181, 0, 15, 42, 187, 0, 21, 89, 183, 0, 23, 181, 0, 24, 42]
abbrev dktX2_init_0 : List UInt8 := dkwX2_init_0 ++ dktX2_init_1
theorem dksX2_init_0 : cX2_init.data.toList.drop 0 = dktX2_init_0 := by decide +kernel
theorem dksX2_init_1 : cX2_init.data.toList.drop 23 = dktX2_init_1 := dk_seg dksX2_init_0 23 rfl rfl
theorem dX2_init_0 : decode cX2_init 0 = .ok (.aload_n 0, 1) := dk_42 (dk_at dksX2_init_0 0 rfl rfl)
theorem dX2_init_1 : decode cX2_init 1 = .ok (.invokespecial 3, 3) := dk_183 0 3 (dk_at dksX2_init_0 1 rfl rfl)
theorem dX2_init_4 : decode cX2_init 4 = .ok (.aload_n 0, 1) := dk_42 (dk_at dksX2_init_0 4 rfl rfl)
theorem dX2_init_5 : decode cX2_init 5 = .ok (.invokestatic 9, 3) := dk_184 0 9 (dk_at dksX2_init_0 5 rfl rfl)
theorem dX2_init_8 : decode cX2_init 8 = .ok (.putfield 15, 3) := dk_181 0 15 (dk_at dksX2_init_0 8 rfl rfl)
theorem dX2_init_11 : decode cX2_init 11 = .ok (.aload_n 0, 1) := dk_42 (dk_at dksX2_init_0 11 rfl rfl)
theorem dX2_init_12 : decode cX2_init 12 = .ok (.new 21, 3) := dk_187 0 21 (dk_at dksX2_init_0 12 rfl rfl)
theorem dX2_init_15 : decode cX2_init 15 = .ok (.dup, 1) := dk_89 (dk_at dksX2_init_0 15 rfl rfl)
theorem dX2_init_16 : decode cX2_init 16 = .ok (.invokespecial 23, 3) := dk_183 0 23 (dk_at dksX2_init_0 16 rfl rfl)
theorem dX2_init_19 : decode cX2_init 19 = .ok (.putfield 24, 3) := dk_181 0 24 (dk_at dksX2_init_0 19 rfl rfl)
theorem dX2_init_22 : decode cX2_init 22 = .ok (.aload_n 0, 1) := dk_42 (dk_at dksX2_init_0 22 rfl rfl)
theorem dX2_init_23 : decode cX2_init 23 = .ok (.new 21, 3) := dk_187 0 21 (dk_at dksX2_init_1 0 rfl rfl)
theorem dX2_init_26 : decode cX2_init 26 = .ok (.dup, 1) := dk_89 (dk_at dksX2_init_1 3 rfl rfl)
theorem dX2_init_27 : decode cX2_init 27 = .ok (.invokespecial 23, 3) := dk_183 0 23 (dk_at dksX2_init_1 4 rfl rfl)
theorem dX2_init_30 : decode cX2_init 30 = .ok (.putfield 28, 3) := dk_181 0 28 (dk_at dksX2_init_1 7 rfl rfl)
theorem dX2_init_33 : decode cX2_init 33 = .ok (.return_, 1) := dk_177 (dk_at dksX2_init_1 10 rfl rfl)
abbrev cX2_copy : ByteArray := prog_2_method_2_code
def yX2_copy : MethodName := ⟨RX2, "copy", "()LLineEchoes$Bench;"⟩
def dkwX2_copy_1 : List UInt8 := [181, 0, 24, 43, 42, 180, 0, 28, 181, 0, 28, 43, 176]
abbrev dktX2_copy_1 : List UInt8 := dkwX2_copy_1 ++ []
def dkwX2_copy_0 : List UInt8 := [187, 0, 16, 89, 183, 0, 31, 76, 43, 42, 180, 0, 15, 182, 0, 32, 181, 0, 15, 43, 42, 180, 0, 24]
abbrev dktX2_copy_0 : List UInt8 := dkwX2_copy_0 ++ dktX2_copy_1
theorem dksX2_copy_0 : cX2_copy.data.toList.drop 0 = dktX2_copy_0 := by decide +kernel
theorem dksX2_copy_1 : cX2_copy.data.toList.drop 24 = dktX2_copy_1 := dk_seg dksX2_copy_0 24 rfl rfl
theorem dX2_copy_0 : decode cX2_copy 0 = .ok (.new 16, 3) := dk_187 0 16 (dk_at dksX2_copy_0 0 rfl rfl)
theorem dX2_copy_3 : decode cX2_copy 3 = .ok (.dup, 1) := dk_89 (dk_at dksX2_copy_0 3 rfl rfl)
theorem dX2_copy_4 : decode cX2_copy 4 = .ok (.invokespecial 31, 3) := dk_183 0 31 (dk_at dksX2_copy_0 4 rfl rfl)
theorem dX2_copy_7 : decode cX2_copy 7 = .ok (.astore_n 1, 1) := dk_76 (dk_at dksX2_copy_0 7 rfl rfl)
theorem dX2_copy_8 : decode cX2_copy 8 = .ok (.aload_n 1, 1) := dk_43 (dk_at dksX2_copy_0 8 rfl rfl)
theorem dX2_copy_9 : decode cX2_copy 9 = .ok (.aload_n 0, 1) := dk_42 (dk_at dksX2_copy_0 9 rfl rfl)
theorem dX2_copy_10 : decode cX2_copy 10 = .ok (.getfield 15, 3) := dk_180 0 15 (dk_at dksX2_copy_0 10 rfl rfl)
theorem dX2_copy_13 : decode cX2_copy 13 = .ok (.invokevirtual 32, 3) := dk_182 0 32 (dk_at dksX2_copy_0 13 rfl rfl)
theorem dX2_copy_16 : decode cX2_copy 16 = .ok (.putfield 15, 3) := dk_181 0 15 (dk_at dksX2_copy_0 16 rfl rfl)
theorem dX2_copy_19 : decode cX2_copy 19 = .ok (.aload_n 1, 1) := dk_43 (dk_at dksX2_copy_0 19 rfl rfl)
theorem dX2_copy_20 : decode cX2_copy 20 = .ok (.aload_n 0, 1) := dk_42 (dk_at dksX2_copy_0 20 rfl rfl)
theorem dX2_copy_21 : decode cX2_copy 21 = .ok (.getfield 24, 3) := dk_180 0 24 (dk_at dksX2_copy_0 21 rfl rfl)
theorem dX2_copy_24 : decode cX2_copy 24 = .ok (.putfield 24, 3) := dk_181 0 24 (dk_at dksX2_copy_1 0 rfl rfl)
theorem dX2_copy_27 : decode cX2_copy 27 = .ok (.aload_n 1, 1) := dk_43 (dk_at dksX2_copy_1 3 rfl rfl)
theorem dX2_copy_28 : decode cX2_copy 28 = .ok (.aload_n 0, 1) := dk_42 (dk_at dksX2_copy_1 4 rfl rfl)
theorem dX2_copy_29 : decode cX2_copy 29 = .ok (.getfield 28, 3) := dk_180 0 28 (dk_at dksX2_copy_1 5 rfl rfl)
theorem dX2_copy_32 : decode cX2_copy 32 = .ok (.putfield 28, 3) := dk_181 0 28 (dk_at dksX2_copy_1 8 rfl rfl)
theorem dX2_copy_35 : decode cX2_copy 35 = .ok (.aload_n 1, 1) := dk_43 (dk_at dksX2_copy_1 11 rfl rfl)
theorem dX2_copy_36 : decode cX2_copy 36 = .ok (.areturn, 1) := dk_176 (dk_at dksX2_copy_1 12 rfl rfl)
abbrev cX2_keepSound : ByteArray := prog_2_method_11_code
def yX2_keepSound : MethodName := ⟨RX2, "keepSound", "(LLineEchoes$Runner;)I"⟩
def dkwX2_keepSound_1 : List UInt8 := [42, 180, 0, 15, 180, 0, 109, 182, 0, 116, 172]
abbrev dktX2_keepSound_1 : List UInt8 := dkwX2_keepSound_1 ++ []
def dkwX2_keepSound_0 : List UInt8 := [43, 42, 180, 0, 15, 182, 0, 103, 42, 43, 42, 180, 0, 15, 180, 0, 109, 184, 0, 112, 181, 0, 24, 43]
abbrev dktX2_keepSound_0 : List UInt8 := dkwX2_keepSound_0 ++ dktX2_keepSound_1
theorem dksX2_keepSound_0 : cX2_keepSound.data.toList.drop 0 = dktX2_keepSound_0 := by decide +kernel
theorem dksX2_keepSound_1 : cX2_keepSound.data.toList.drop 24 = dktX2_keepSound_1 := dk_seg dksX2_keepSound_0 24 rfl rfl
theorem dX2_keepSound_0 : decode cX2_keepSound 0 = .ok (.aload_n 1, 1) := dk_43 (dk_at dksX2_keepSound_0 0 rfl rfl)
theorem dX2_keepSound_1 : decode cX2_keepSound 1 = .ok (.aload_n 0, 1) := dk_42 (dk_at dksX2_keepSound_0 1 rfl rfl)
theorem dX2_keepSound_2 : decode cX2_keepSound 2 = .ok (.getfield 15, 3) := dk_180 0 15 (dk_at dksX2_keepSound_0 2 rfl rfl)
theorem dX2_keepSound_5 : decode cX2_keepSound 5 = .ok (.invokevirtual 103, 3) := dk_182 0 103 (dk_at dksX2_keepSound_0 5 rfl rfl)
theorem dX2_keepSound_8 : decode cX2_keepSound 8 = .ok (.aload_n 0, 1) := dk_42 (dk_at dksX2_keepSound_0 8 rfl rfl)
theorem dX2_keepSound_9 : decode cX2_keepSound 9 = .ok (.aload_n 1, 1) := dk_43 (dk_at dksX2_keepSound_0 9 rfl rfl)
theorem dX2_keepSound_10 : decode cX2_keepSound 10 = .ok (.aload_n 0, 1) := dk_42 (dk_at dksX2_keepSound_0 10 rfl rfl)
theorem dX2_keepSound_11 : decode cX2_keepSound 11 = .ok (.getfield 15, 3) := dk_180 0 15 (dk_at dksX2_keepSound_0 11 rfl rfl)
theorem dX2_keepSound_14 : decode cX2_keepSound 14 = .ok (.getfield 109, 3) := dk_180 0 109 (dk_at dksX2_keepSound_0 14 rfl rfl)
theorem dX2_keepSound_17 : decode cX2_keepSound 17 = .ok (.invokestatic 112, 3) := dk_184 0 112 (dk_at dksX2_keepSound_0 17 rfl rfl)
theorem dX2_keepSound_20 : decode cX2_keepSound 20 = .ok (.putfield 24, 3) := dk_181 0 24 (dk_at dksX2_keepSound_0 20 rfl rfl)
theorem dX2_keepSound_23 : decode cX2_keepSound 23 = .ok (.aload_n 1, 1) := dk_43 (dk_at dksX2_keepSound_0 23 rfl rfl)
theorem dX2_keepSound_24 : decode cX2_keepSound 24 = .ok (.aload_n 0, 1) := dk_42 (dk_at dksX2_keepSound_1 0 rfl rfl)
theorem dX2_keepSound_25 : decode cX2_keepSound 25 = .ok (.getfield 15, 3) := dk_180 0 15 (dk_at dksX2_keepSound_1 1 rfl rfl)
theorem dX2_keepSound_28 : decode cX2_keepSound 28 = .ok (.getfield 109, 3) := dk_180 0 109 (dk_at dksX2_keepSound_1 4 rfl rfl)
theorem dX2_keepSound_31 : decode cX2_keepSound 31 = .ok (.invokevirtual 116, 3) := dk_182 0 116 (dk_at dksX2_keepSound_1 7 rfl rfl)
theorem dX2_keepSound_34 : decode cX2_keepSound 34 = .ok (.ireturn, 1) := dk_172 (dk_at dksX2_keepSound_1 10 rfl rfl)
abbrev cX2_differences : ByteArray := prog_2_method_14_code
def yX2_differences : MethodName := ⟨RX2, "differences", "(LLineEchoes$Runner;)I"⟩
def dkwX2_differences_2 : List UInt8 := [132, 3, 1, 167, 255, 217, 28, 172]
abbrev dktX2_differences_2 : List UInt8 := dkwX2_differences_2 ++ []
def dkwX2_differences_1 : List UInt8 := [43, 29, 182, 0, 129, 42, 180, 0, 24, 29, 182, 0, 133, 148, 154, 0, 7, 3, 167, 0, 4, 4, 96, 61]
abbrev dktX2_differences_1 : List UInt8 := dkwX2_differences_1 ++ dktX2_differences_2
def dkwX2_differences_0 : List UInt8 := [43, 42, 180, 0, 15, 182, 0, 103, 3, 61, 3, 62, 29, 42, 180, 0, 15, 180, 0, 109, 163, 0, 34, 28]
abbrev dktX2_differences_0 : List UInt8 := dkwX2_differences_0 ++ dktX2_differences_1
theorem dksX2_differences_0 : cX2_differences.data.toList.drop 0 = dktX2_differences_0 := by decide +kernel
theorem dksX2_differences_1 : cX2_differences.data.toList.drop 24 = dktX2_differences_1 := dk_seg dksX2_differences_0 24 rfl rfl
theorem dksX2_differences_2 : cX2_differences.data.toList.drop 48 = dktX2_differences_2 := dk_seg dksX2_differences_1 24 rfl rfl
theorem dX2_differences_0 : decode cX2_differences 0 = .ok (.aload_n 1, 1) := dk_43 (dk_at dksX2_differences_0 0 rfl rfl)
theorem dX2_differences_1 : decode cX2_differences 1 = .ok (.aload_n 0, 1) := dk_42 (dk_at dksX2_differences_0 1 rfl rfl)
theorem dX2_differences_2 : decode cX2_differences 2 = .ok (.getfield 15, 3) := dk_180 0 15 (dk_at dksX2_differences_0 2 rfl rfl)
theorem dX2_differences_5 : decode cX2_differences 5 = .ok (.invokevirtual 103, 3) := dk_182 0 103 (dk_at dksX2_differences_0 5 rfl rfl)
theorem dX2_differences_8 : decode cX2_differences 8 = .ok (.iconst 0, 1) := dk_3 (dk_at dksX2_differences_0 8 rfl rfl)
theorem dX2_differences_9 : decode cX2_differences 9 = .ok (.istore_n 2, 1) := dk_61 (dk_at dksX2_differences_0 9 rfl rfl)
theorem dX2_differences_10 : decode cX2_differences 10 = .ok (.iconst 0, 1) := dk_3 (dk_at dksX2_differences_0 10 rfl rfl)
theorem dX2_differences_11 : decode cX2_differences 11 = .ok (.istore_n 3, 1) := dk_62 (dk_at dksX2_differences_0 11 rfl rfl)
theorem dX2_differences_12 : decode cX2_differences 12 = .ok (.iload_n 3, 1) := dk_29 (dk_at dksX2_differences_0 12 rfl rfl)
theorem dX2_differences_13 : decode cX2_differences 13 = .ok (.aload_n 0, 1) := dk_42 (dk_at dksX2_differences_0 13 rfl rfl)
theorem dX2_differences_14 : decode cX2_differences 14 = .ok (.getfield 15, 3) := dk_180 0 15 (dk_at dksX2_differences_0 14 rfl rfl)
theorem dX2_differences_17 : decode cX2_differences 17 = .ok (.getfield 109, 3) := dk_180 0 109 (dk_at dksX2_differences_0 17 rfl rfl)
theorem dX2_differences_20 : decode cX2_differences 20 = .ok (.if_icmp .gt 34, 3) := dk_163 0 34 (dk_at dksX2_differences_0 20 rfl rfl)
theorem dX2_differences_23 : decode cX2_differences 23 = .ok (.iload_n 2, 1) := dk_28 (dk_at dksX2_differences_0 23 rfl rfl)
theorem dX2_differences_24 : decode cX2_differences 24 = .ok (.aload_n 1, 1) := dk_43 (dk_at dksX2_differences_1 0 rfl rfl)
theorem dX2_differences_25 : decode cX2_differences 25 = .ok (.iload_n 3, 1) := dk_29 (dk_at dksX2_differences_1 1 rfl rfl)
theorem dX2_differences_26 : decode cX2_differences 26 = .ok (.invokevirtual 129, 3) := dk_182 0 129 (dk_at dksX2_differences_1 2 rfl rfl)
theorem dX2_differences_29 : decode cX2_differences 29 = .ok (.aload_n 0, 1) := dk_42 (dk_at dksX2_differences_1 5 rfl rfl)
theorem dX2_differences_30 : decode cX2_differences 30 = .ok (.getfield 24, 3) := dk_180 0 24 (dk_at dksX2_differences_1 6 rfl rfl)
theorem dX2_differences_33 : decode cX2_differences 33 = .ok (.iload_n 3, 1) := dk_29 (dk_at dksX2_differences_1 9 rfl rfl)
theorem dX2_differences_34 : decode cX2_differences 34 = .ok (.invokevirtual 133, 3) := dk_182 0 133 (dk_at dksX2_differences_1 10 rfl rfl)
theorem dX2_differences_37 : decode cX2_differences 37 = .ok (.lcmp, 1) := dk_148 (dk_at dksX2_differences_1 13 rfl rfl)
theorem dX2_differences_38 : decode cX2_differences 38 = .ok (.ifCond .ne 7, 3) := dk_154 0 7 (dk_at dksX2_differences_1 14 rfl rfl)
theorem dX2_differences_41 : decode cX2_differences 41 = .ok (.iconst 0, 1) := dk_3 (dk_at dksX2_differences_1 17 rfl rfl)
theorem dX2_differences_42 : decode cX2_differences 42 = .ok (.goto 4, 3) := dk_167 0 4 (dk_at dksX2_differences_1 18 rfl rfl)
theorem dX2_differences_45 : decode cX2_differences 45 = .ok (.iconst 1, 1) := dk_4 (dk_at dksX2_differences_1 21 rfl rfl)
theorem dX2_differences_46 : decode cX2_differences 46 = .ok (.iadd, 1) := dk_96 (dk_at dksX2_differences_1 22 rfl rfl)
theorem dX2_differences_47 : decode cX2_differences 47 = .ok (.istore_n 2, 1) := dk_61 (dk_at dksX2_differences_1 23 rfl rfl)
theorem dX2_differences_48 : decode cX2_differences 48 = .ok (.iinc 3 1, 3) := dk_132 3 1 (dk_at dksX2_differences_2 0 rfl rfl)
theorem dX2_differences_51 : decode cX2_differences 51 = .ok (.goto (-39), 3) := dk_167 255 217 (dk_at dksX2_differences_2 3 rfl rfl)
theorem dX2_differences_54 : decode cX2_differences 54 = .ok (.iload_n 2, 1) := dk_28 (dk_at dksX2_differences_2 6 rfl rfl)
theorem dX2_differences_55 : decode cX2_differences 55 = .ok (.ireturn, 1) := dk_172 (dk_at dksX2_differences_2 7 rfl rfl)
abbrev cX2_observe : ByteArray := prog_2_method_12_code
def yX2_observe : MethodName := ⟨RX2, "observe", "(LLineEchoes$Runner;)I"⟩
def dkwX2_observe_1 : List UInt8 := [42, 180, 0, 15, 180, 0, 109, 182, 0, 116, 172]
abbrev dktX2_observe_1 : List UInt8 := dkwX2_observe_1 ++ []
def dkwX2_observe_0 : List UInt8 := [43, 42, 180, 0, 15, 182, 0, 103, 42, 43, 42, 180, 0, 15, 180, 0, 109, 184, 0, 112, 181, 0, 28, 43]
abbrev dktX2_observe_0 : List UInt8 := dkwX2_observe_0 ++ dktX2_observe_1
theorem dksX2_observe_0 : cX2_observe.data.toList.drop 0 = dktX2_observe_0 := by decide +kernel
theorem dksX2_observe_1 : cX2_observe.data.toList.drop 24 = dktX2_observe_1 := dk_seg dksX2_observe_0 24 rfl rfl
theorem dX2_observe_0 : decode cX2_observe 0 = .ok (.aload_n 1, 1) := dk_43 (dk_at dksX2_observe_0 0 rfl rfl)
theorem dX2_observe_1 : decode cX2_observe 1 = .ok (.aload_n 0, 1) := dk_42 (dk_at dksX2_observe_0 1 rfl rfl)
theorem dX2_observe_2 : decode cX2_observe 2 = .ok (.getfield 15, 3) := dk_180 0 15 (dk_at dksX2_observe_0 2 rfl rfl)
theorem dX2_observe_5 : decode cX2_observe 5 = .ok (.invokevirtual 103, 3) := dk_182 0 103 (dk_at dksX2_observe_0 5 rfl rfl)
theorem dX2_observe_8 : decode cX2_observe 8 = .ok (.aload_n 0, 1) := dk_42 (dk_at dksX2_observe_0 8 rfl rfl)
theorem dX2_observe_9 : decode cX2_observe 9 = .ok (.aload_n 1, 1) := dk_43 (dk_at dksX2_observe_0 9 rfl rfl)
theorem dX2_observe_10 : decode cX2_observe 10 = .ok (.aload_n 0, 1) := dk_42 (dk_at dksX2_observe_0 10 rfl rfl)
theorem dX2_observe_11 : decode cX2_observe 11 = .ok (.getfield 15, 3) := dk_180 0 15 (dk_at dksX2_observe_0 11 rfl rfl)
theorem dX2_observe_14 : decode cX2_observe 14 = .ok (.getfield 109, 3) := dk_180 0 109 (dk_at dksX2_observe_0 14 rfl rfl)
theorem dX2_observe_17 : decode cX2_observe 17 = .ok (.invokestatic 112, 3) := dk_184 0 112 (dk_at dksX2_observe_0 17 rfl rfl)
theorem dX2_observe_20 : decode cX2_observe 20 = .ok (.putfield 28, 3) := dk_181 0 28 (dk_at dksX2_observe_0 20 rfl rfl)
theorem dX2_observe_23 : decode cX2_observe 23 = .ok (.aload_n 1, 1) := dk_43 (dk_at dksX2_observe_0 23 rfl rfl)
theorem dX2_observe_24 : decode cX2_observe 24 = .ok (.aload_n 0, 1) := dk_42 (dk_at dksX2_observe_1 0 rfl rfl)
theorem dX2_observe_25 : decode cX2_observe 25 = .ok (.getfield 15, 3) := dk_180 0 15 (dk_at dksX2_observe_1 1 rfl rfl)
theorem dX2_observe_28 : decode cX2_observe 28 = .ok (.getfield 109, 3) := dk_180 0 109 (dk_at dksX2_observe_1 4 rfl rfl)
theorem dX2_observe_31 : decode cX2_observe 31 = .ok (.invokevirtual 116, 3) := dk_182 0 116 (dk_at dksX2_observe_1 7 rfl rfl)
theorem dX2_observe_34 : decode cX2_observe 34 = .ok (.ireturn, 1) := dk_172 (dk_at dksX2_observe_1 10 rfl rfl)
abbrev cX2_adopt : ByteArray := prog_2_method_13_code
def yX2_adopt : MethodName := ⟨RX2, "adopt", "(LLineEchoes$Runner;)I"⟩
def dkwX2_adopt_1 : List UInt8 := [180, 0, 15, 180, 0, 35, 172]
abbrev dktX2_adopt_1 : List UInt8 := dkwX2_adopt_1 ++ []
def dkwX2_adopt_0 : List UInt8 := [42, 180, 0, 15, 42, 180, 0, 15, 42, 180, 0, 28, 43, 184, 0, 120, 180, 0, 125, 182, 0, 126, 42]
abbrev dktX2_adopt_0 : List UInt8 := dkwX2_adopt_0 ++ dktX2_adopt_1
theorem dksX2_adopt_0 : cX2_adopt.data.toList.drop 0 = dktX2_adopt_0 := by decide +kernel
theorem dksX2_adopt_1 : cX2_adopt.data.toList.drop 23 = dktX2_adopt_1 := dk_seg dksX2_adopt_0 23 rfl rfl
theorem dX2_adopt_0 : decode cX2_adopt 0 = .ok (.aload_n 0, 1) := dk_42 (dk_at dksX2_adopt_0 0 rfl rfl)
theorem dX2_adopt_1 : decode cX2_adopt 1 = .ok (.getfield 15, 3) := dk_180 0 15 (dk_at dksX2_adopt_0 1 rfl rfl)
theorem dX2_adopt_4 : decode cX2_adopt 4 = .ok (.aload_n 0, 1) := dk_42 (dk_at dksX2_adopt_0 4 rfl rfl)
theorem dX2_adopt_5 : decode cX2_adopt 5 = .ok (.getfield 15, 3) := dk_180 0 15 (dk_at dksX2_adopt_0 5 rfl rfl)
theorem dX2_adopt_8 : decode cX2_adopt 8 = .ok (.aload_n 0, 1) := dk_42 (dk_at dksX2_adopt_0 8 rfl rfl)
theorem dX2_adopt_9 : decode cX2_adopt 9 = .ok (.getfield 28, 3) := dk_180 0 28 (dk_at dksX2_adopt_0 9 rfl rfl)
theorem dX2_adopt_12 : decode cX2_adopt 12 = .ok (.aload_n 1, 1) := dk_43 (dk_at dksX2_adopt_0 12 rfl rfl)
theorem dX2_adopt_13 : decode cX2_adopt 13 = .ok (.invokestatic 120, 3) := dk_184 0 120 (dk_at dksX2_adopt_0 13 rfl rfl)
theorem dX2_adopt_16 : decode cX2_adopt 16 = .ok (.getfield 125, 3) := dk_180 0 125 (dk_at dksX2_adopt_0 16 rfl rfl)
theorem dX2_adopt_19 : decode cX2_adopt 19 = .ok (.invokevirtual 126, 3) := dk_182 0 126 (dk_at dksX2_adopt_0 19 rfl rfl)
theorem dX2_adopt_22 : decode cX2_adopt 22 = .ok (.aload_n 0, 1) := dk_42 (dk_at dksX2_adopt_0 22 rfl rfl)
theorem dX2_adopt_23 : decode cX2_adopt 23 = .ok (.getfield 15, 3) := dk_180 0 15 (dk_at dksX2_adopt_1 0 rfl rfl)
theorem dX2_adopt_26 : decode cX2_adopt 26 = .ok (.getfield 35, 3) := dk_180 0 35 (dk_at dksX2_adopt_1 3 rfl rfl)
theorem dX2_adopt_29 : decode cX2_adopt 29 = .ok (.ireturn, 1) := dk_172 (dk_at dksX2_adopt_1 6 rfl rfl)
abbrev cX2_addPart : ByteArray := prog_2_method_6_code
def yX2_addPart : MethodName := ⟨RX2, "addPart", "(II)I"⟩
def dkwX2_addPart_1 : List UInt8 := [182, 0, 70, 42, 180, 0, 15, 180, 0, 35, 172]
abbrev dktX2_addPart_1 : List UInt8 := dkwX2_addPart_1 ++ []
def dkwX2_addPart_0 : List UInt8 := [27, 28, 184, 0, 63, 42, 182, 0, 67, 42, 180, 0, 15, 42, 180, 0, 15, 180, 0, 35, 27, 28]
abbrev dktX2_addPart_0 : List UInt8 := dkwX2_addPart_0 ++ dktX2_addPart_1
theorem dksX2_addPart_0 : cX2_addPart.data.toList.drop 0 = dktX2_addPart_0 := by decide +kernel
theorem dksX2_addPart_1 : cX2_addPart.data.toList.drop 22 = dktX2_addPart_1 := dk_seg dksX2_addPart_0 22 rfl rfl
theorem dX2_addPart_0 : decode cX2_addPart 0 = .ok (.iload_n 1, 1) := dk_27 (dk_at dksX2_addPart_0 0 rfl rfl)
theorem dX2_addPart_1 : decode cX2_addPart 1 = .ok (.iload_n 2, 1) := dk_28 (dk_at dksX2_addPart_0 1 rfl rfl)
theorem dX2_addPart_2 : decode cX2_addPart 2 = .ok (.invokestatic 63, 3) := dk_184 0 63 (dk_at dksX2_addPart_0 2 rfl rfl)
theorem dX2_addPart_5 : decode cX2_addPart 5 = .ok (.aload_n 0, 1) := dk_42 (dk_at dksX2_addPart_0 5 rfl rfl)
theorem dX2_addPart_6 : decode cX2_addPart 6 = .ok (.invokevirtual 67, 3) := dk_182 0 67 (dk_at dksX2_addPart_0 6 rfl rfl)
theorem dX2_addPart_9 : decode cX2_addPart 9 = .ok (.aload_n 0, 1) := dk_42 (dk_at dksX2_addPart_0 9 rfl rfl)
theorem dX2_addPart_10 : decode cX2_addPart 10 = .ok (.getfield 15, 3) := dk_180 0 15 (dk_at dksX2_addPart_0 10 rfl rfl)
theorem dX2_addPart_13 : decode cX2_addPart 13 = .ok (.aload_n 0, 1) := dk_42 (dk_at dksX2_addPart_0 13 rfl rfl)
theorem dX2_addPart_14 : decode cX2_addPart 14 = .ok (.getfield 15, 3) := dk_180 0 15 (dk_at dksX2_addPart_0 14 rfl rfl)
theorem dX2_addPart_17 : decode cX2_addPart 17 = .ok (.getfield 35, 3) := dk_180 0 35 (dk_at dksX2_addPart_0 17 rfl rfl)
theorem dX2_addPart_20 : decode cX2_addPart 20 = .ok (.iload_n 1, 1) := dk_27 (dk_at dksX2_addPart_0 20 rfl rfl)
theorem dX2_addPart_21 : decode cX2_addPart 21 = .ok (.iload_n 2, 1) := dk_28 (dk_at dksX2_addPart_0 21 rfl rfl)
theorem dX2_addPart_22 : decode cX2_addPart 22 = .ok (.invokevirtual 70, 3) := dk_182 0 70 (dk_at dksX2_addPart_1 0 rfl rfl)
theorem dX2_addPart_25 : decode cX2_addPart 25 = .ok (.aload_n 0, 1) := dk_42 (dk_at dksX2_addPart_1 3 rfl rfl)
theorem dX2_addPart_26 : decode cX2_addPart 26 = .ok (.getfield 15, 3) := dk_180 0 15 (dk_at dksX2_addPart_1 4 rfl rfl)
theorem dX2_addPart_29 : decode cX2_addPart 29 = .ok (.getfield 35, 3) := dk_180 0 35 (dk_at dksX2_addPart_1 7 rfl rfl)
theorem dX2_addPart_32 : decode cX2_addPart 32 = .ok (.ireturn, 1) := dk_172 (dk_at dksX2_addPart_1 10 rfl rfl)
abbrev cX2_requireValues : ByteArray := prog_2_method_4_code
def yX2_requireValues : MethodName := ⟨RX2, "requireValues", "(II)V"⟩
def dkwX2_requireValues_1 : List UInt8 := [4, 167, 0, 4, 3, 18, 53, 184, 0, 55, 177]
abbrev dktX2_requireValues_1 : List UInt8 := dkwX2_requireValues_1 ++ []
def dkwX2_requireValues_0 : List UInt8 := [26, 133, 10, 20, 0, 49, 184, 0, 39, 153, 0, 19, 27, 133, 9, 20, 0, 51, 184, 0, 39, 153, 0, 7]
abbrev dktX2_requireValues_0 : List UInt8 := dkwX2_requireValues_0 ++ dktX2_requireValues_1
theorem dksX2_requireValues_0 : cX2_requireValues.data.toList.drop 0 = dktX2_requireValues_0 := by decide +kernel
theorem dksX2_requireValues_1 : cX2_requireValues.data.toList.drop 24 = dktX2_requireValues_1 := dk_seg dksX2_requireValues_0 24 rfl rfl
theorem dX2_requireValues_0 : decode cX2_requireValues 0 = .ok (.iload_n 0, 1) := dk_26 (dk_at dksX2_requireValues_0 0 rfl rfl)
theorem dX2_requireValues_1 : decode cX2_requireValues 1 = .ok (.i2l, 1) := dk_133 (dk_at dksX2_requireValues_0 1 rfl rfl)
theorem dX2_requireValues_2 : decode cX2_requireValues 2 = .ok (.lconst 1, 1) := dk_10 (dk_at dksX2_requireValues_0 2 rfl rfl)
theorem dX2_requireValues_3 : decode cX2_requireValues 3 = .ok (.ldc2_w 49, 3) := dk_20 0 49 (dk_at dksX2_requireValues_0 3 rfl rfl)
theorem dX2_requireValues_6 : decode cX2_requireValues 6 = .ok (.invokestatic 39, 3) := dk_184 0 39 (dk_at dksX2_requireValues_0 6 rfl rfl)
theorem dX2_requireValues_9 : decode cX2_requireValues 9 = .ok (.ifCond .eq 19, 3) := dk_153 0 19 (dk_at dksX2_requireValues_0 9 rfl rfl)
theorem dX2_requireValues_12 : decode cX2_requireValues 12 = .ok (.iload_n 1, 1) := dk_27 (dk_at dksX2_requireValues_0 12 rfl rfl)
theorem dX2_requireValues_13 : decode cX2_requireValues 13 = .ok (.i2l, 1) := dk_133 (dk_at dksX2_requireValues_0 13 rfl rfl)
theorem dX2_requireValues_14 : decode cX2_requireValues 14 = .ok (.lconst 0, 1) := dk_9 (dk_at dksX2_requireValues_0 14 rfl rfl)
theorem dX2_requireValues_15 : decode cX2_requireValues 15 = .ok (.ldc2_w 51, 3) := dk_20 0 51 (dk_at dksX2_requireValues_0 15 rfl rfl)
theorem dX2_requireValues_18 : decode cX2_requireValues 18 = .ok (.invokestatic 39, 3) := dk_184 0 39 (dk_at dksX2_requireValues_0 18 rfl rfl)
theorem dX2_requireValues_21 : decode cX2_requireValues 21 = .ok (.ifCond .eq 7, 3) := dk_153 0 7 (dk_at dksX2_requireValues_0 21 rfl rfl)
theorem dX2_requireValues_24 : decode cX2_requireValues 24 = .ok (.iconst 1, 1) := dk_4 (dk_at dksX2_requireValues_1 0 rfl rfl)
theorem dX2_requireValues_25 : decode cX2_requireValues 25 = .ok (.goto 4, 3) := dk_167 0 4 (dk_at dksX2_requireValues_1 1 rfl rfl)
theorem dX2_requireValues_28 : decode cX2_requireValues 28 = .ok (.iconst 0, 1) := dk_3 (dk_at dksX2_requireValues_1 4 rfl rfl)
theorem dX2_requireValues_29 : decode cX2_requireValues 29 = .ok (.ldc 53, 2) := dk_18 53 (dk_at dksX2_requireValues_1 5 rfl rfl)
theorem dX2_requireValues_31 : decode cX2_requireValues 31 = .ok (.invokestatic 55, 3) := dk_184 0 55 (dk_at dksX2_requireValues_1 7 rfl rfl)
theorem dX2_requireValues_34 : decode cX2_requireValues 34 = .ok (.return_, 1) := dk_177 (dk_at dksX2_requireValues_1 10 rfl rfl)
abbrev cX2_requireRoom : ByteArray := prog_2_method_5_code
def yX2_requireRoom : MethodName := ⟨RX2, "requireRoom", "()V"⟩
def dkwX2_requireRoom_0 : List UInt8 := [42, 180, 0, 15, 180, 0, 35, 16, 8, 162, 0, 7, 4, 167, 0, 4, 3, 18, 58, 184, 0, 60, 177]
abbrev dktX2_requireRoom_0 : List UInt8 := dkwX2_requireRoom_0 ++ []
theorem dksX2_requireRoom_0 : cX2_requireRoom.data.toList.drop 0 = dktX2_requireRoom_0 := by decide +kernel
theorem dX2_requireRoom_0 : decode cX2_requireRoom 0 = .ok (.aload_n 0, 1) := dk_42 (dk_at dksX2_requireRoom_0 0 rfl rfl)
theorem dX2_requireRoom_1 : decode cX2_requireRoom 1 = .ok (.getfield 15, 3) := dk_180 0 15 (dk_at dksX2_requireRoom_0 1 rfl rfl)
theorem dX2_requireRoom_4 : decode cX2_requireRoom 4 = .ok (.getfield 35, 3) := dk_180 0 35 (dk_at dksX2_requireRoom_0 4 rfl rfl)
theorem dX2_requireRoom_7 : decode cX2_requireRoom 7 = .ok (.bipush 8, 2) := dk_16 8 (dk_at dksX2_requireRoom_0 7 rfl rfl)
theorem dX2_requireRoom_9 : decode cX2_requireRoom 9 = .ok (.if_icmp .ge 7, 3) := dk_162 0 7 (dk_at dksX2_requireRoom_0 9 rfl rfl)
theorem dX2_requireRoom_12 : decode cX2_requireRoom 12 = .ok (.iconst 1, 1) := dk_4 (dk_at dksX2_requireRoom_0 12 rfl rfl)
theorem dX2_requireRoom_13 : decode cX2_requireRoom 13 = .ok (.goto 4, 3) := dk_167 0 4 (dk_at dksX2_requireRoom_0 13 rfl rfl)
theorem dX2_requireRoom_16 : decode cX2_requireRoom 16 = .ok (.iconst 0, 1) := dk_3 (dk_at dksX2_requireRoom_0 16 rfl rfl)
theorem dX2_requireRoom_17 : decode cX2_requireRoom 17 = .ok (.ldc 58, 2) := dk_18 58 (dk_at dksX2_requireRoom_0 17 rfl rfl)
theorem dX2_requireRoom_19 : decode cX2_requireRoom 19 = .ok (.invokestatic 60, 3) := dk_184 0 60 (dk_at dksX2_requireRoom_0 19 rfl rfl)
theorem dX2_requireRoom_22 : decode cX2_requireRoom 22 = .ok (.return_, 1) := dk_177 (dk_at dksX2_requireRoom_0 22 rfl rfl)
abbrev cX2_setPart : ByteArray := prog_2_method_7_code
def yX2_setPart : MethodName := ⟨RX2, "setPart", "(III)I"⟩
def dkwX2_setPart_1 : List UInt8 := [180, 0, 15, 180, 0, 82, 27, 28, 79, 42, 180, 0, 15, 180, 0, 78, 27, 29, 79, 21, 4, 172]
abbrev dktX2_setPart_1 : List UInt8 := dkwX2_setPart_1 ++ []
def dkwX2_setPart_0 : List UInt8 := [42, 27, 182, 0, 74, 28, 29, 184, 0, 63, 42, 180, 0, 15, 180, 0, 78, 27, 46, 54, 4, 42]
abbrev dktX2_setPart_0 : List UInt8 := dkwX2_setPart_0 ++ dktX2_setPart_1
theorem dksX2_setPart_0 : cX2_setPart.data.toList.drop 0 = dktX2_setPart_0 := by decide +kernel
theorem dksX2_setPart_1 : cX2_setPart.data.toList.drop 22 = dktX2_setPart_1 := dk_seg dksX2_setPart_0 22 rfl rfl
theorem dX2_setPart_0 : decode cX2_setPart 0 = .ok (.aload_n 0, 1) := dk_42 (dk_at dksX2_setPart_0 0 rfl rfl)
theorem dX2_setPart_1 : decode cX2_setPart 1 = .ok (.iload_n 1, 1) := dk_27 (dk_at dksX2_setPart_0 1 rfl rfl)
theorem dX2_setPart_2 : decode cX2_setPart 2 = .ok (.invokevirtual 74, 3) := dk_182 0 74 (dk_at dksX2_setPart_0 2 rfl rfl)
theorem dX2_setPart_5 : decode cX2_setPart 5 = .ok (.iload_n 2, 1) := dk_28 (dk_at dksX2_setPart_0 5 rfl rfl)
theorem dX2_setPart_6 : decode cX2_setPart 6 = .ok (.iload_n 3, 1) := dk_29 (dk_at dksX2_setPart_0 6 rfl rfl)
theorem dX2_setPart_7 : decode cX2_setPart 7 = .ok (.invokestatic 63, 3) := dk_184 0 63 (dk_at dksX2_setPart_0 7 rfl rfl)
theorem dX2_setPart_10 : decode cX2_setPart 10 = .ok (.aload_n 0, 1) := dk_42 (dk_at dksX2_setPart_0 10 rfl rfl)
theorem dX2_setPart_11 : decode cX2_setPart 11 = .ok (.getfield 15, 3) := dk_180 0 15 (dk_at dksX2_setPart_0 11 rfl rfl)
theorem dX2_setPart_14 : decode cX2_setPart 14 = .ok (.getfield 78, 3) := dk_180 0 78 (dk_at dksX2_setPart_0 14 rfl rfl)
theorem dX2_setPart_17 : decode cX2_setPart 17 = .ok (.iload_n 1, 1) := dk_27 (dk_at dksX2_setPart_0 17 rfl rfl)
theorem dX2_setPart_18 : decode cX2_setPart 18 = .ok (.iaload, 1) := dk_46 (dk_at dksX2_setPart_0 18 rfl rfl)
theorem dX2_setPart_19 : decode cX2_setPart 19 = .ok (.istore 4, 2) := dk_54 4 (dk_at dksX2_setPart_0 19 rfl rfl)
theorem dX2_setPart_21 : decode cX2_setPart 21 = .ok (.aload_n 0, 1) := dk_42 (dk_at dksX2_setPart_0 21 rfl rfl)
theorem dX2_setPart_22 : decode cX2_setPart 22 = .ok (.getfield 15, 3) := dk_180 0 15 (dk_at dksX2_setPart_1 0 rfl rfl)
theorem dX2_setPart_25 : decode cX2_setPart 25 = .ok (.getfield 82, 3) := dk_180 0 82 (dk_at dksX2_setPart_1 3 rfl rfl)
theorem dX2_setPart_28 : decode cX2_setPart 28 = .ok (.iload_n 1, 1) := dk_27 (dk_at dksX2_setPart_1 6 rfl rfl)
theorem dX2_setPart_29 : decode cX2_setPart 29 = .ok (.iload_n 2, 1) := dk_28 (dk_at dksX2_setPart_1 7 rfl rfl)
theorem dX2_setPart_30 : decode cX2_setPart 30 = .ok (.iastore, 1) := dk_79 (dk_at dksX2_setPart_1 8 rfl rfl)
theorem dX2_setPart_31 : decode cX2_setPart 31 = .ok (.aload_n 0, 1) := dk_42 (dk_at dksX2_setPart_1 9 rfl rfl)
theorem dX2_setPart_32 : decode cX2_setPart 32 = .ok (.getfield 15, 3) := dk_180 0 15 (dk_at dksX2_setPart_1 10 rfl rfl)
theorem dX2_setPart_35 : decode cX2_setPart 35 = .ok (.getfield 78, 3) := dk_180 0 78 (dk_at dksX2_setPart_1 13 rfl rfl)
theorem dX2_setPart_38 : decode cX2_setPart 38 = .ok (.iload_n 1, 1) := dk_27 (dk_at dksX2_setPart_1 16 rfl rfl)
theorem dX2_setPart_39 : decode cX2_setPart 39 = .ok (.iload_n 3, 1) := dk_29 (dk_at dksX2_setPart_1 17 rfl rfl)
theorem dX2_setPart_40 : decode cX2_setPart 40 = .ok (.iastore, 1) := dk_79 (dk_at dksX2_setPart_1 18 rfl rfl)
theorem dX2_setPart_41 : decode cX2_setPart 41 = .ok (.iload 4, 2) := dk_21 4 (dk_at dksX2_setPart_1 19 rfl rfl)
theorem dX2_setPart_43 : decode cX2_setPart 43 = .ok (.ireturn, 1) := dk_172 (dk_at dksX2_setPart_1 21 rfl rfl)
abbrev cX2_requirePart : ByteArray := prog_2_method_3_code
def yX2_requirePart : MethodName := ⟨RX2, "requirePart", "(I)V"⟩
def dkwX2_requirePart_0 : List UInt8 := [27, 133, 9, 42, 180, 0, 15, 180, 0, 35, 4, 100, 133, 184, 0, 39, 18, 43, 184, 0, 45, 177]
abbrev dktX2_requirePart_0 : List UInt8 := dkwX2_requirePart_0 ++ []
theorem dksX2_requirePart_0 : cX2_requirePart.data.toList.drop 0 = dktX2_requirePart_0 := by decide +kernel
theorem dX2_requirePart_0 : decode cX2_requirePart 0 = .ok (.iload_n 1, 1) := dk_27 (dk_at dksX2_requirePart_0 0 rfl rfl)
theorem dX2_requirePart_1 : decode cX2_requirePart 1 = .ok (.i2l, 1) := dk_133 (dk_at dksX2_requirePart_0 1 rfl rfl)
theorem dX2_requirePart_2 : decode cX2_requirePart 2 = .ok (.lconst 0, 1) := dk_9 (dk_at dksX2_requirePart_0 2 rfl rfl)
theorem dX2_requirePart_3 : decode cX2_requirePart 3 = .ok (.aload_n 0, 1) := dk_42 (dk_at dksX2_requirePart_0 3 rfl rfl)
theorem dX2_requirePart_4 : decode cX2_requirePart 4 = .ok (.getfield 15, 3) := dk_180 0 15 (dk_at dksX2_requirePart_0 4 rfl rfl)
theorem dX2_requirePart_7 : decode cX2_requirePart 7 = .ok (.getfield 35, 3) := dk_180 0 35 (dk_at dksX2_requirePart_0 7 rfl rfl)
theorem dX2_requirePart_10 : decode cX2_requirePart 10 = .ok (.iconst 1, 1) := dk_4 (dk_at dksX2_requirePart_0 10 rfl rfl)
theorem dX2_requirePart_11 : decode cX2_requirePart 11 = .ok (.isub, 1) := dk_100 (dk_at dksX2_requirePart_0 11 rfl rfl)
theorem dX2_requirePart_12 : decode cX2_requirePart 12 = .ok (.i2l, 1) := dk_133 (dk_at dksX2_requirePart_0 12 rfl rfl)
theorem dX2_requirePart_13 : decode cX2_requirePart 13 = .ok (.invokestatic 39, 3) := dk_184 0 39 (dk_at dksX2_requirePart_0 13 rfl rfl)
theorem dX2_requirePart_16 : decode cX2_requirePart 16 = .ok (.ldc 43, 2) := dk_18 43 (dk_at dksX2_requirePart_0 16 rfl rfl)
theorem dX2_requirePart_18 : decode cX2_requirePart 18 = .ok (.invokestatic 45, 3) := dk_184 0 45 (dk_at dksX2_requirePart_0 18 rfl rfl)
theorem dX2_requirePart_21 : decode cX2_requirePart 21 = .ok (.return_, 1) := dk_177 (dk_at dksX2_requirePart_0 21 rfl rfl)
abbrev cX2_removePart : ByteArray := prog_2_method_8_code
def yX2_removePart : MethodName := ⟨RX2, "removePart", "(I)I"⟩
def dkwX2_removePart_0 : List UInt8 := [42, 27, 182, 0, 74, 42, 180, 0, 15, 27, 182, 0, 85, 42, 180, 0, 15, 180, 0, 35, 172]
abbrev dktX2_removePart_0 : List UInt8 := dkwX2_removePart_0 ++ []
theorem dksX2_removePart_0 : cX2_removePart.data.toList.drop 0 = dktX2_removePart_0 := by decide +kernel
theorem dX2_removePart_0 : decode cX2_removePart 0 = .ok (.aload_n 0, 1) := dk_42 (dk_at dksX2_removePart_0 0 rfl rfl)
theorem dX2_removePart_1 : decode cX2_removePart 1 = .ok (.iload_n 1, 1) := dk_27 (dk_at dksX2_removePart_0 1 rfl rfl)
theorem dX2_removePart_2 : decode cX2_removePart 2 = .ok (.invokevirtual 74, 3) := dk_182 0 74 (dk_at dksX2_removePart_0 2 rfl rfl)
theorem dX2_removePart_5 : decode cX2_removePart 5 = .ok (.aload_n 0, 1) := dk_42 (dk_at dksX2_removePart_0 5 rfl rfl)
theorem dX2_removePart_6 : decode cX2_removePart 6 = .ok (.getfield 15, 3) := dk_180 0 15 (dk_at dksX2_removePart_0 6 rfl rfl)
theorem dX2_removePart_9 : decode cX2_removePart 9 = .ok (.iload_n 1, 1) := dk_27 (dk_at dksX2_removePart_0 9 rfl rfl)
theorem dX2_removePart_10 : decode cX2_removePart 10 = .ok (.invokevirtual 85, 3) := dk_182 0 85 (dk_at dksX2_removePart_0 10 rfl rfl)
theorem dX2_removePart_13 : decode cX2_removePart 13 = .ok (.aload_n 0, 1) := dk_42 (dk_at dksX2_removePart_0 13 rfl rfl)
theorem dX2_removePart_14 : decode cX2_removePart 14 = .ok (.getfield 15, 3) := dk_180 0 15 (dk_at dksX2_removePart_0 14 rfl rfl)
theorem dX2_removePart_17 : decode cX2_removePart 17 = .ok (.getfield 35, 3) := dk_180 0 35 (dk_at dksX2_removePart_0 17 rfl rfl)
theorem dX2_removePart_20 : decode cX2_removePart 20 = .ok (.ireturn, 1) := dk_172 (dk_at dksX2_removePart_0 20 rfl rfl)
abbrev cX2_splitPart : ByteArray := prog_2_method_9_code
def yX2_splitPart : MethodName := ⟨RX2, "splitPart", "(III)I"⟩
def dkwX2_splitPart_3 : List UInt8 := [27, 28, 29, 182, 0, 70, 42, 180, 0, 15, 180, 0, 35, 172]
abbrev dktX2_splitPart_3 : List UInt8 := dkwX2_splitPart_3 ++ []
def dkwX2_splitPart_2 : List UInt8 := [184, 0, 55, 42, 182, 0, 67, 42, 180, 0, 15, 180, 0, 82, 27, 92, 46, 28, 100, 79, 42, 180, 0, 15]
abbrev dktX2_splitPart_2 : List UInt8 := dkwX2_splitPart_2 ++ dktX2_splitPart_3
def dkwX2_splitPart_1 : List UInt8 := [153, 0, 19, 29, 133, 9, 20, 0, 51, 184, 0, 39, 153, 0, 7, 4, 167, 0, 4, 3, 18, 88]
abbrev dktX2_splitPart_1 : List UInt8 := dkwX2_splitPart_1 ++ dktX2_splitPart_2
def dkwX2_splitPart_0 : List UInt8 := [42, 27, 182, 0, 74, 28, 133, 10, 42, 180, 0, 15, 180, 0, 82, 27, 46, 4, 100, 133, 184, 0, 39]
abbrev dktX2_splitPart_0 : List UInt8 := dkwX2_splitPart_0 ++ dktX2_splitPart_1
theorem dksX2_splitPart_0 : cX2_splitPart.data.toList.drop 0 = dktX2_splitPart_0 := by decide +kernel
theorem dksX2_splitPart_1 : cX2_splitPart.data.toList.drop 23 = dktX2_splitPart_1 := dk_seg dksX2_splitPart_0 23 rfl rfl
theorem dksX2_splitPart_2 : cX2_splitPart.data.toList.drop 45 = dktX2_splitPart_2 := dk_seg dksX2_splitPart_1 22 rfl rfl
theorem dksX2_splitPart_3 : cX2_splitPart.data.toList.drop 69 = dktX2_splitPart_3 := dk_seg dksX2_splitPart_2 24 rfl rfl
theorem dX2_splitPart_0 : decode cX2_splitPart 0 = .ok (.aload_n 0, 1) := dk_42 (dk_at dksX2_splitPart_0 0 rfl rfl)
theorem dX2_splitPart_1 : decode cX2_splitPart 1 = .ok (.iload_n 1, 1) := dk_27 (dk_at dksX2_splitPart_0 1 rfl rfl)
theorem dX2_splitPart_2 : decode cX2_splitPart 2 = .ok (.invokevirtual 74, 3) := dk_182 0 74 (dk_at dksX2_splitPart_0 2 rfl rfl)
theorem dX2_splitPart_5 : decode cX2_splitPart 5 = .ok (.iload_n 2, 1) := dk_28 (dk_at dksX2_splitPart_0 5 rfl rfl)
theorem dX2_splitPart_6 : decode cX2_splitPart 6 = .ok (.i2l, 1) := dk_133 (dk_at dksX2_splitPart_0 6 rfl rfl)
theorem dX2_splitPart_7 : decode cX2_splitPart 7 = .ok (.lconst 1, 1) := dk_10 (dk_at dksX2_splitPart_0 7 rfl rfl)
theorem dX2_splitPart_8 : decode cX2_splitPart 8 = .ok (.aload_n 0, 1) := dk_42 (dk_at dksX2_splitPart_0 8 rfl rfl)
theorem dX2_splitPart_9 : decode cX2_splitPart 9 = .ok (.getfield 15, 3) := dk_180 0 15 (dk_at dksX2_splitPart_0 9 rfl rfl)
theorem dX2_splitPart_12 : decode cX2_splitPart 12 = .ok (.getfield 82, 3) := dk_180 0 82 (dk_at dksX2_splitPart_0 12 rfl rfl)
theorem dX2_splitPart_15 : decode cX2_splitPart 15 = .ok (.iload_n 1, 1) := dk_27 (dk_at dksX2_splitPart_0 15 rfl rfl)
theorem dX2_splitPart_16 : decode cX2_splitPart 16 = .ok (.iaload, 1) := dk_46 (dk_at dksX2_splitPart_0 16 rfl rfl)
theorem dX2_splitPart_17 : decode cX2_splitPart 17 = .ok (.iconst 1, 1) := dk_4 (dk_at dksX2_splitPart_0 17 rfl rfl)
theorem dX2_splitPart_18 : decode cX2_splitPart 18 = .ok (.isub, 1) := dk_100 (dk_at dksX2_splitPart_0 18 rfl rfl)
theorem dX2_splitPart_19 : decode cX2_splitPart 19 = .ok (.i2l, 1) := dk_133 (dk_at dksX2_splitPart_0 19 rfl rfl)
theorem dX2_splitPart_20 : decode cX2_splitPart 20 = .ok (.invokestatic 39, 3) := dk_184 0 39 (dk_at dksX2_splitPart_0 20 rfl rfl)
theorem dX2_splitPart_23 : decode cX2_splitPart 23 = .ok (.ifCond .eq 19, 3) := dk_153 0 19 (dk_at dksX2_splitPart_1 0 rfl rfl)
theorem dX2_splitPart_26 : decode cX2_splitPart 26 = .ok (.iload_n 3, 1) := dk_29 (dk_at dksX2_splitPart_1 3 rfl rfl)
theorem dX2_splitPart_27 : decode cX2_splitPart 27 = .ok (.i2l, 1) := dk_133 (dk_at dksX2_splitPart_1 4 rfl rfl)
theorem dX2_splitPart_28 : decode cX2_splitPart 28 = .ok (.lconst 0, 1) := dk_9 (dk_at dksX2_splitPart_1 5 rfl rfl)
theorem dX2_splitPart_29 : decode cX2_splitPart 29 = .ok (.ldc2_w 51, 3) := dk_20 0 51 (dk_at dksX2_splitPart_1 6 rfl rfl)
theorem dX2_splitPart_32 : decode cX2_splitPart 32 = .ok (.invokestatic 39, 3) := dk_184 0 39 (dk_at dksX2_splitPart_1 9 rfl rfl)
theorem dX2_splitPart_35 : decode cX2_splitPart 35 = .ok (.ifCond .eq 7, 3) := dk_153 0 7 (dk_at dksX2_splitPart_1 12 rfl rfl)
theorem dX2_splitPart_38 : decode cX2_splitPart 38 = .ok (.iconst 1, 1) := dk_4 (dk_at dksX2_splitPart_1 15 rfl rfl)
theorem dX2_splitPart_39 : decode cX2_splitPart 39 = .ok (.goto 4, 3) := dk_167 0 4 (dk_at dksX2_splitPart_1 16 rfl rfl)
theorem dX2_splitPart_42 : decode cX2_splitPart 42 = .ok (.iconst 0, 1) := dk_3 (dk_at dksX2_splitPart_1 19 rfl rfl)
theorem dX2_splitPart_43 : decode cX2_splitPart 43 = .ok (.ldc 88, 2) := dk_18 88 (dk_at dksX2_splitPart_1 20 rfl rfl)
theorem dX2_splitPart_45 : decode cX2_splitPart 45 = .ok (.invokestatic 55, 3) := dk_184 0 55 (dk_at dksX2_splitPart_2 0 rfl rfl)
theorem dX2_splitPart_48 : decode cX2_splitPart 48 = .ok (.aload_n 0, 1) := dk_42 (dk_at dksX2_splitPart_2 3 rfl rfl)
theorem dX2_splitPart_49 : decode cX2_splitPart 49 = .ok (.invokevirtual 67, 3) := dk_182 0 67 (dk_at dksX2_splitPart_2 4 rfl rfl)
theorem dX2_splitPart_52 : decode cX2_splitPart 52 = .ok (.aload_n 0, 1) := dk_42 (dk_at dksX2_splitPart_2 7 rfl rfl)
theorem dX2_splitPart_53 : decode cX2_splitPart 53 = .ok (.getfield 15, 3) := dk_180 0 15 (dk_at dksX2_splitPart_2 8 rfl rfl)
theorem dX2_splitPart_56 : decode cX2_splitPart 56 = .ok (.getfield 82, 3) := dk_180 0 82 (dk_at dksX2_splitPart_2 11 rfl rfl)
theorem dX2_splitPart_59 : decode cX2_splitPart 59 = .ok (.iload_n 1, 1) := dk_27 (dk_at dksX2_splitPart_2 14 rfl rfl)
theorem dX2_splitPart_60 : decode cX2_splitPart 60 = .ok (.dup2, 1) := dk_92 (dk_at dksX2_splitPart_2 15 rfl rfl)
theorem dX2_splitPart_61 : decode cX2_splitPart 61 = .ok (.iaload, 1) := dk_46 (dk_at dksX2_splitPart_2 16 rfl rfl)
theorem dX2_splitPart_62 : decode cX2_splitPart 62 = .ok (.iload_n 2, 1) := dk_28 (dk_at dksX2_splitPart_2 17 rfl rfl)
theorem dX2_splitPart_63 : decode cX2_splitPart 63 = .ok (.isub, 1) := dk_100 (dk_at dksX2_splitPart_2 18 rfl rfl)
theorem dX2_splitPart_64 : decode cX2_splitPart 64 = .ok (.iastore, 1) := dk_79 (dk_at dksX2_splitPart_2 19 rfl rfl)
theorem dX2_splitPart_65 : decode cX2_splitPart 65 = .ok (.aload_n 0, 1) := dk_42 (dk_at dksX2_splitPart_2 20 rfl rfl)
theorem dX2_splitPart_66 : decode cX2_splitPart 66 = .ok (.getfield 15, 3) := dk_180 0 15 (dk_at dksX2_splitPart_2 21 rfl rfl)
theorem dX2_splitPart_69 : decode cX2_splitPart 69 = .ok (.iload_n 1, 1) := dk_27 (dk_at dksX2_splitPart_3 0 rfl rfl)
theorem dX2_splitPart_70 : decode cX2_splitPart 70 = .ok (.iload_n 2, 1) := dk_28 (dk_at dksX2_splitPart_3 1 rfl rfl)
theorem dX2_splitPart_71 : decode cX2_splitPart 71 = .ok (.iload_n 3, 1) := dk_29 (dk_at dksX2_splitPart_3 2 rfl rfl)
theorem dX2_splitPart_72 : decode cX2_splitPart 72 = .ok (.invokevirtual 70, 3) := dk_182 0 70 (dk_at dksX2_splitPart_3 3 rfl rfl)
theorem dX2_splitPart_75 : decode cX2_splitPart 75 = .ok (.aload_n 0, 1) := dk_42 (dk_at dksX2_splitPart_3 6 rfl rfl)
theorem dX2_splitPart_76 : decode cX2_splitPart 76 = .ok (.getfield 15, 3) := dk_180 0 15 (dk_at dksX2_splitPart_3 7 rfl rfl)
theorem dX2_splitPart_79 : decode cX2_splitPart 79 = .ok (.getfield 35, 3) := dk_180 0 35 (dk_at dksX2_splitPart_3 10 rfl rfl)
theorem dX2_splitPart_82 : decode cX2_splitPart 82 = .ok (.ireturn, 1) := dk_172 (dk_at dksX2_splitPart_3 13 rfl rfl)
abbrev cX2_addPulse : ByteArray := prog_2_method_10_code
def yX2_addPulse : MethodName := ⟨RX2, "addPulse", "(II)I"⟩
def dkwX2_addPulse_3 : List UInt8 := [180, 0, 96, 172]
abbrev dktX2_addPulse_3 : List UInt8 := dkwX2_addPulse_3 ++ []
def dkwX2_addPulse_2 : List UInt8 := [167, 0, 4, 3, 18, 99, 184, 0, 60, 42, 180, 0, 15, 27, 28, 182, 0, 100, 42, 180, 0, 15]
abbrev dktX2_addPulse_2 : List UInt8 := dkwX2_addPulse_2 ++ dktX2_addPulse_3
def dkwX2_addPulse_1 : List UInt8 := [4, 167, 0, 4, 3, 18, 94, 184, 0, 55, 42, 180, 0, 15, 180, 0, 96, 7, 162, 0, 7, 4]
abbrev dktX2_addPulse_1 : List UInt8 := dkwX2_addPulse_1 ++ dktX2_addPulse_2
def dkwX2_addPulse_0 : List UInt8 := [27, 133, 9, 20, 0, 90, 184, 0, 39, 153, 0, 19, 28, 133, 10, 20, 0, 92, 184, 0, 39, 153, 0, 7]
abbrev dktX2_addPulse_0 : List UInt8 := dkwX2_addPulse_0 ++ dktX2_addPulse_1
theorem dksX2_addPulse_0 : cX2_addPulse.data.toList.drop 0 = dktX2_addPulse_0 := by decide +kernel
theorem dksX2_addPulse_1 : cX2_addPulse.data.toList.drop 24 = dktX2_addPulse_1 := dk_seg dksX2_addPulse_0 24 rfl rfl
theorem dksX2_addPulse_2 : cX2_addPulse.data.toList.drop 46 = dktX2_addPulse_2 := dk_seg dksX2_addPulse_1 22 rfl rfl
theorem dksX2_addPulse_3 : cX2_addPulse.data.toList.drop 68 = dktX2_addPulse_3 := dk_seg dksX2_addPulse_2 22 rfl rfl
theorem dX2_addPulse_0 : decode cX2_addPulse 0 = .ok (.iload_n 1, 1) := dk_27 (dk_at dksX2_addPulse_0 0 rfl rfl)
theorem dX2_addPulse_1 : decode cX2_addPulse 1 = .ok (.i2l, 1) := dk_133 (dk_at dksX2_addPulse_0 1 rfl rfl)
theorem dX2_addPulse_2 : decode cX2_addPulse 2 = .ok (.lconst 0, 1) := dk_9 (dk_at dksX2_addPulse_0 2 rfl rfl)
theorem dX2_addPulse_3 : decode cX2_addPulse 3 = .ok (.ldc2_w 90, 3) := dk_20 0 90 (dk_at dksX2_addPulse_0 3 rfl rfl)
theorem dX2_addPulse_6 : decode cX2_addPulse 6 = .ok (.invokestatic 39, 3) := dk_184 0 39 (dk_at dksX2_addPulse_0 6 rfl rfl)
theorem dX2_addPulse_9 : decode cX2_addPulse 9 = .ok (.ifCond .eq 19, 3) := dk_153 0 19 (dk_at dksX2_addPulse_0 9 rfl rfl)
theorem dX2_addPulse_12 : decode cX2_addPulse 12 = .ok (.iload_n 2, 1) := dk_28 (dk_at dksX2_addPulse_0 12 rfl rfl)
theorem dX2_addPulse_13 : decode cX2_addPulse 13 = .ok (.i2l, 1) := dk_133 (dk_at dksX2_addPulse_0 13 rfl rfl)
theorem dX2_addPulse_14 : decode cX2_addPulse 14 = .ok (.lconst 1, 1) := dk_10 (dk_at dksX2_addPulse_0 14 rfl rfl)
theorem dX2_addPulse_15 : decode cX2_addPulse 15 = .ok (.ldc2_w 92, 3) := dk_20 0 92 (dk_at dksX2_addPulse_0 15 rfl rfl)
theorem dX2_addPulse_18 : decode cX2_addPulse 18 = .ok (.invokestatic 39, 3) := dk_184 0 39 (dk_at dksX2_addPulse_0 18 rfl rfl)
theorem dX2_addPulse_21 : decode cX2_addPulse 21 = .ok (.ifCond .eq 7, 3) := dk_153 0 7 (dk_at dksX2_addPulse_0 21 rfl rfl)
theorem dX2_addPulse_24 : decode cX2_addPulse 24 = .ok (.iconst 1, 1) := dk_4 (dk_at dksX2_addPulse_1 0 rfl rfl)
theorem dX2_addPulse_25 : decode cX2_addPulse 25 = .ok (.goto 4, 3) := dk_167 0 4 (dk_at dksX2_addPulse_1 1 rfl rfl)
theorem dX2_addPulse_28 : decode cX2_addPulse 28 = .ok (.iconst 0, 1) := dk_3 (dk_at dksX2_addPulse_1 4 rfl rfl)
theorem dX2_addPulse_29 : decode cX2_addPulse 29 = .ok (.ldc 94, 2) := dk_18 94 (dk_at dksX2_addPulse_1 5 rfl rfl)
theorem dX2_addPulse_31 : decode cX2_addPulse 31 = .ok (.invokestatic 55, 3) := dk_184 0 55 (dk_at dksX2_addPulse_1 7 rfl rfl)
theorem dX2_addPulse_34 : decode cX2_addPulse 34 = .ok (.aload_n 0, 1) := dk_42 (dk_at dksX2_addPulse_1 10 rfl rfl)
theorem dX2_addPulse_35 : decode cX2_addPulse 35 = .ok (.getfield 15, 3) := dk_180 0 15 (dk_at dksX2_addPulse_1 11 rfl rfl)
theorem dX2_addPulse_38 : decode cX2_addPulse 38 = .ok (.getfield 96, 3) := dk_180 0 96 (dk_at dksX2_addPulse_1 14 rfl rfl)
theorem dX2_addPulse_41 : decode cX2_addPulse 41 = .ok (.iconst 4, 1) := dk_7 (dk_at dksX2_addPulse_1 17 rfl rfl)
theorem dX2_addPulse_42 : decode cX2_addPulse 42 = .ok (.if_icmp .ge 7, 3) := dk_162 0 7 (dk_at dksX2_addPulse_1 18 rfl rfl)
theorem dX2_addPulse_45 : decode cX2_addPulse 45 = .ok (.iconst 1, 1) := dk_4 (dk_at dksX2_addPulse_1 21 rfl rfl)
theorem dX2_addPulse_46 : decode cX2_addPulse 46 = .ok (.goto 4, 3) := dk_167 0 4 (dk_at dksX2_addPulse_2 0 rfl rfl)
theorem dX2_addPulse_49 : decode cX2_addPulse 49 = .ok (.iconst 0, 1) := dk_3 (dk_at dksX2_addPulse_2 3 rfl rfl)
theorem dX2_addPulse_50 : decode cX2_addPulse 50 = .ok (.ldc 99, 2) := dk_18 99 (dk_at dksX2_addPulse_2 4 rfl rfl)
theorem dX2_addPulse_52 : decode cX2_addPulse 52 = .ok (.invokestatic 60, 3) := dk_184 0 60 (dk_at dksX2_addPulse_2 6 rfl rfl)
theorem dX2_addPulse_55 : decode cX2_addPulse 55 = .ok (.aload_n 0, 1) := dk_42 (dk_at dksX2_addPulse_2 9 rfl rfl)
theorem dX2_addPulse_56 : decode cX2_addPulse 56 = .ok (.getfield 15, 3) := dk_180 0 15 (dk_at dksX2_addPulse_2 10 rfl rfl)
theorem dX2_addPulse_59 : decode cX2_addPulse 59 = .ok (.iload_n 1, 1) := dk_27 (dk_at dksX2_addPulse_2 13 rfl rfl)
theorem dX2_addPulse_60 : decode cX2_addPulse 60 = .ok (.iload_n 2, 1) := dk_28 (dk_at dksX2_addPulse_2 14 rfl rfl)
theorem dX2_addPulse_61 : decode cX2_addPulse 61 = .ok (.invokevirtual 100, 3) := dk_182 0 100 (dk_at dksX2_addPulse_2 15 rfl rfl)
theorem dX2_addPulse_64 : decode cX2_addPulse 64 = .ok (.aload_n 0, 1) := dk_42 (dk_at dksX2_addPulse_2 18 rfl rfl)
theorem dX2_addPulse_65 : decode cX2_addPulse 65 = .ok (.getfield 15, 3) := dk_180 0 15 (dk_at dksX2_addPulse_2 19 rfl rfl)
theorem dX2_addPulse_68 : decode cX2_addPulse 68 = .ok (.getfield 96, 3) := dk_180 0 96 (dk_at dksX2_addPulse_3 0 rfl rfl)
theorem dX2_addPulse_71 : decode cX2_addPulse 71 = .ok (.ireturn, 1) := dk_172 (dk_at dksX2_addPulse_3 3 rfl rfl)
abbrev cX2_fault : ByteArray := prog_2_method_15_code
def yX2_fault : MethodName := ⟨RX2, "fault", "(LLineEchoes$Runner;I)I"⟩
def dkwX2_fault_4 : List UInt8 := [29, 182, 0, 133, 148, 158, 0, 7, 4, 167, 0, 4, 2, 172]
abbrev dktX2_fault_4 : List UInt8 := dkwX2_fault_4 ++ []
def dkwX2_fault_3 : List UInt8 := [29, 172, 21, 4, 172, 42, 180, 0, 15, 21, 4, 182, 0, 142, 172, 43, 29, 182, 0, 129, 42, 180, 0, 24]
abbrev dktX2_fault_3 : List UInt8 := dkwX2_fault_3 ++ dktX2_fault_4
def dkwX2_fault_2 : List UInt8 := [170, 0, 0, 0, 40, 0, 0, 0, 0, 0, 0, 0, 2, 0, 0, 0, 25, 0, 0, 0, 27, 0, 0, 0, 30]
abbrev dktX2_fault_2 : List UInt8 := dkwX2_fault_2 ++ dktX2_fault_3
def dkwX2_fault_1 : List UInt8 := [29, 2, 160, 0, 5, 2, 172, 29, 42, 180, 0, 15, 182, 0, 138, 100, 54, 4, 28]
abbrev dktX2_fault_1 : List UInt8 := dkwX2_fault_1 ++ dktX2_fault_2
def dkwX2_fault_0 : List UInt8 := [43, 42, 180, 0, 15, 182, 0, 103, 43, 42, 180, 0, 24, 42, 180, 0, 15, 180, 0, 109, 182, 0, 134, 62]
abbrev dktX2_fault_0 : List UInt8 := dkwX2_fault_0 ++ dktX2_fault_1
theorem dksX2_fault_0 : cX2_fault.data.toList.drop 0 = dktX2_fault_0 := by decide +kernel
theorem dksX2_fault_1 : cX2_fault.data.toList.drop 24 = dktX2_fault_1 := dk_seg dksX2_fault_0 24 rfl rfl
theorem dksX2_fault_2 : cX2_fault.data.toList.drop 43 = dktX2_fault_2 := dk_seg dksX2_fault_1 19 rfl rfl
theorem dksX2_fault_3 : cX2_fault.data.toList.drop 68 = dktX2_fault_3 := dk_seg dksX2_fault_2 25 rfl rfl
theorem dksX2_fault_4 : cX2_fault.data.toList.drop 92 = dktX2_fault_4 := dk_seg dksX2_fault_3 24 rfl rfl
theorem dX2_fault_0 : decode cX2_fault 0 = .ok (.aload_n 1, 1) := dk_43 (dk_at dksX2_fault_0 0 rfl rfl)
theorem dX2_fault_1 : decode cX2_fault 1 = .ok (.aload_n 0, 1) := dk_42 (dk_at dksX2_fault_0 1 rfl rfl)
theorem dX2_fault_2 : decode cX2_fault 2 = .ok (.getfield 15, 3) := dk_180 0 15 (dk_at dksX2_fault_0 2 rfl rfl)
theorem dX2_fault_5 : decode cX2_fault 5 = .ok (.invokevirtual 103, 3) := dk_182 0 103 (dk_at dksX2_fault_0 5 rfl rfl)
theorem dX2_fault_8 : decode cX2_fault 8 = .ok (.aload_n 1, 1) := dk_43 (dk_at dksX2_fault_0 8 rfl rfl)
theorem dX2_fault_9 : decode cX2_fault 9 = .ok (.aload_n 0, 1) := dk_42 (dk_at dksX2_fault_0 9 rfl rfl)
theorem dX2_fault_10 : decode cX2_fault 10 = .ok (.getfield 24, 3) := dk_180 0 24 (dk_at dksX2_fault_0 10 rfl rfl)
theorem dX2_fault_13 : decode cX2_fault 13 = .ok (.aload_n 0, 1) := dk_42 (dk_at dksX2_fault_0 13 rfl rfl)
theorem dX2_fault_14 : decode cX2_fault 14 = .ok (.getfield 15, 3) := dk_180 0 15 (dk_at dksX2_fault_0 14 rfl rfl)
theorem dX2_fault_17 : decode cX2_fault 17 = .ok (.getfield 109, 3) := dk_180 0 109 (dk_at dksX2_fault_0 17 rfl rfl)
theorem dX2_fault_20 : decode cX2_fault 20 = .ok (.invokevirtual 134, 3) := dk_182 0 134 (dk_at dksX2_fault_0 20 rfl rfl)
theorem dX2_fault_23 : decode cX2_fault 23 = .ok (.istore_n 3, 1) := dk_62 (dk_at dksX2_fault_0 23 rfl rfl)
theorem dX2_fault_24 : decode cX2_fault 24 = .ok (.iload_n 3, 1) := dk_29 (dk_at dksX2_fault_1 0 rfl rfl)
theorem dX2_fault_25 : decode cX2_fault 25 = .ok (.iconst (-1), 1) := dk_2 (dk_at dksX2_fault_1 1 rfl rfl)
theorem dX2_fault_26 : decode cX2_fault 26 = .ok (.if_icmp .ne 5, 3) := dk_160 0 5 (dk_at dksX2_fault_1 2 rfl rfl)
theorem dX2_fault_29 : decode cX2_fault 29 = .ok (.iconst (-1), 1) := dk_2 (dk_at dksX2_fault_1 5 rfl rfl)
theorem dX2_fault_30 : decode cX2_fault 30 = .ok (.ireturn, 1) := dk_172 (dk_at dksX2_fault_1 6 rfl rfl)
theorem dX2_fault_31 : decode cX2_fault 31 = .ok (.iload_n 3, 1) := dk_29 (dk_at dksX2_fault_1 7 rfl rfl)
theorem dX2_fault_32 : decode cX2_fault 32 = .ok (.aload_n 0, 1) := dk_42 (dk_at dksX2_fault_1 8 rfl rfl)
theorem dX2_fault_33 : decode cX2_fault 33 = .ok (.getfield 15, 3) := dk_180 0 15 (dk_at dksX2_fault_1 9 rfl rfl)
theorem dX2_fault_36 : decode cX2_fault 36 = .ok (.invokevirtual 138, 3) := dk_182 0 138 (dk_at dksX2_fault_1 12 rfl rfl)
theorem dX2_fault_39 : decode cX2_fault 39 = .ok (.isub, 1) := dk_100 (dk_at dksX2_fault_1 15 rfl rfl)
theorem dX2_fault_40 : decode cX2_fault 40 = .ok (.istore 4, 2) := dk_54 4 (dk_at dksX2_fault_1 16 rfl rfl)
theorem dX2_fault_42 : decode cX2_fault 42 = .ok (.iload_n 2, 1) := dk_28 (dk_at dksX2_fault_1 18 rfl rfl)
theorem dX2_fault_43 : decode cX2_fault 43 = .ok (.tableswitch 40 0 2 #[25, 27, 30], 25) := by decide +kernel
theorem dX2_fault_68 : decode cX2_fault 68 = .ok (.iload_n 3, 1) := dk_29 (dk_at dksX2_fault_3 0 rfl rfl)
theorem dX2_fault_69 : decode cX2_fault 69 = .ok (.ireturn, 1) := dk_172 (dk_at dksX2_fault_3 1 rfl rfl)
theorem dX2_fault_70 : decode cX2_fault 70 = .ok (.iload 4, 2) := dk_21 4 (dk_at dksX2_fault_3 2 rfl rfl)
theorem dX2_fault_72 : decode cX2_fault 72 = .ok (.ireturn, 1) := dk_172 (dk_at dksX2_fault_3 4 rfl rfl)
theorem dX2_fault_73 : decode cX2_fault 73 = .ok (.aload_n 0, 1) := dk_42 (dk_at dksX2_fault_3 5 rfl rfl)
theorem dX2_fault_74 : decode cX2_fault 74 = .ok (.getfield 15, 3) := dk_180 0 15 (dk_at dksX2_fault_3 6 rfl rfl)
theorem dX2_fault_77 : decode cX2_fault 77 = .ok (.iload 4, 2) := dk_21 4 (dk_at dksX2_fault_3 9 rfl rfl)
theorem dX2_fault_79 : decode cX2_fault 79 = .ok (.invokevirtual 142, 3) := dk_182 0 142 (dk_at dksX2_fault_3 11 rfl rfl)
theorem dX2_fault_82 : decode cX2_fault 82 = .ok (.ireturn, 1) := dk_172 (dk_at dksX2_fault_3 14 rfl rfl)
theorem dX2_fault_83 : decode cX2_fault 83 = .ok (.aload_n 1, 1) := dk_43 (dk_at dksX2_fault_3 15 rfl rfl)
theorem dX2_fault_84 : decode cX2_fault 84 = .ok (.iload_n 3, 1) := dk_29 (dk_at dksX2_fault_3 16 rfl rfl)
theorem dX2_fault_85 : decode cX2_fault 85 = .ok (.invokevirtual 129, 3) := dk_182 0 129 (dk_at dksX2_fault_3 17 rfl rfl)
theorem dX2_fault_88 : decode cX2_fault 88 = .ok (.aload_n 0, 1) := dk_42 (dk_at dksX2_fault_3 20 rfl rfl)
theorem dX2_fault_89 : decode cX2_fault 89 = .ok (.getfield 24, 3) := dk_180 0 24 (dk_at dksX2_fault_3 21 rfl rfl)
theorem dX2_fault_92 : decode cX2_fault 92 = .ok (.iload_n 3, 1) := dk_29 (dk_at dksX2_fault_4 0 rfl rfl)
theorem dX2_fault_93 : decode cX2_fault 93 = .ok (.invokevirtual 133, 3) := dk_182 0 133 (dk_at dksX2_fault_4 1 rfl rfl)
theorem dX2_fault_96 : decode cX2_fault 96 = .ok (.lcmp, 1) := dk_148 (dk_at dksX2_fault_4 4 rfl rfl)
theorem dX2_fault_97 : decode cX2_fault 97 = .ok (.ifCond .le 7, 3) := dk_158 0 7 (dk_at dksX2_fault_4 5 rfl rfl)
theorem dX2_fault_100 : decode cX2_fault 100 = .ok (.iconst 1, 1) := dk_4 (dk_at dksX2_fault_4 8 rfl rfl)
theorem dX2_fault_101 : decode cX2_fault 101 = .ok (.goto 4, 3) := dk_167 0 4 (dk_at dksX2_fault_4 9 rfl rfl)
theorem dX2_fault_104 : decode cX2_fault 104 = .ok (.iconst (-1), 1) := dk_2 (dk_at dksX2_fault_4 12 rfl rfl)
theorem dX2_fault_105 : decode cX2_fault 105 = .ok (.ireturn, 1) := dk_172 (dk_at dksX2_fault_4 13 rfl rfl)
theorem q70 : (Jvm.Cond.initialized "LineEchoes$Bench") ∈ lw_all := lw_g (lw_at lw_m1 2 rfl) rfl
theorem q107 : (Jvm.Cond.instantiable "LineEchoes$Bench" (3 : Nat)) ∈ lw_all := lw_g (lw_at lw_m1 39 rfl) rfl
theorem q109 : (Jvm.Cond.instanceMethod ({ cls := "LineEchoes$Bench", name := "<init>", desc := "()V" } : Jvm.MethodName)) ∈ lw_all := lw_g (lw_at lw_m1 41 rfl) rfl
theorem q110 : (Jvm.Cond.code ({ cls := "LineEchoes$Bench", name := "<init>", desc := "()V" } : Jvm.MethodName) prog_2_method_1_code (1 : Nat) (Option.none : Option Jvm.ClassFile.FieldType)) ∈ lw_all := lw_g (lw_at lw_m1 42 rfl) rfl
theorem q111 : (Jvm.Cond.methodLink "LineEchoes$Bench" (3 : Nat) ({ cls := "java/lang/Object", name := "<init>", desc := "()V" } : Jvm.MethodName)) ∈ lw_all := lw_g (lw_at lw_m1 43 rfl) rfl
theorem q112 : (Jvm.Cond.methodLink "LineEchoes$Bench" (9 : Nat) ({ cls := "LineEchoes$Line", name := "first", desc := "()LLineEchoes$Line;" } : Jvm.MethodName)) ∈ lw_all := lw_g (lw_at lw_m1 44 rfl) rfl
theorem q122 : (Jvm.Cond.fieldLinkNest "LineEchoes$Bench" (82 : Nat) "LineEchoes$Line" "lengths" "[I" "LineEchoes") ∈ lw_tbl := lw_at lw_m1 54 rfl
theorem q128 : (Jvm.Cond.fieldLinkNest "LineEchoes$Bench" (78 : Nat) "LineEchoes$Line" "fractions" "[I" "LineEchoes") ∈ lw_tbl := lw_at lw_m1 60 rfl
theorem q130 : (Jvm.Cond.fieldLinkNest "LineEchoes$Bench" (35 : Nat) "LineEchoes$Line" "n" "I" "LineEchoes") ∈ lw_tbl := lw_at lw_m1 62 rfl
theorem q143 : (Jvm.Cond.fieldLinkNest "LineEchoes$Bench" (96 : Nat) "LineEchoes$Line" "pulses" "I" "LineEchoes") ∈ lw_tbl := lw_at lw_m1 75 rfl
theorem q152 : (Jvm.Cond.fieldLinkNest "LineEchoes$Bench" (109 : Nat) "LineEchoes$Line" "window" "I" "LineEchoes") ∈ lw_tbl := lw_at lw_m1 84 rfl
theorem q179 : (Jvm.Cond.classLink "LineEchoes$Bench" (21 : Nat) "LineEchoes$Kept") ∈ lw_all := lw_g (lw_at lw_m1 111 rfl) rfl
theorem q181 : (Jvm.Cond.methodLinkNest "LineEchoes$Bench" (23 : Nat) ({ cls := "LineEchoes$Kept", name := "<init>", desc := "()V" } : Jvm.MethodName) "LineEchoes") ∈ lw_tbl := lw_at lw_m1 113 rfl
theorem q190 : (Jvm.Cond.fieldLink "LineEchoes$Bench" (15 : Nat) "LineEchoes$Bench" "line" "LLineEchoes$Line;") ∈ lw_all := lw_g (lw_at lw_m1 122 rfl) rfl
theorem q192 : (Jvm.Cond.fieldLink "LineEchoes$Bench" (24 : Nat) "LineEchoes$Bench" "sound" "LLineEchoes$Kept;") ∈ lw_all := lw_g (lw_at lw_m1 124 rfl) rfl
theorem q193 : (Jvm.Cond.fieldLink "LineEchoes$Bench" (28 : Nat) "LineEchoes$Bench" "observed" "LLineEchoes$Kept;") ∈ lw_all := lw_g (lw_at lw_m1 125 rfl) rfl
theorem q195 : (Jvm.Cond.lays "LineEchoes$Bench" "LineEchoes$Bench" "line" "LLineEchoes$Line;") ∈ lw_all := lw_g (lw_at lw_m1 127 rfl) rfl
theorem q196 : (Jvm.Cond.soleField "LineEchoes$Bench" "line") ∈ lw_all := lw_g (lw_at lw_m1 128 rfl) rfl
theorem q197 : (Jvm.Cond.lays "LineEchoes$Bench" "LineEchoes$Bench" "sound" "LLineEchoes$Kept;") ∈ lw_all := lw_g (lw_at lw_m1 129 rfl) rfl
theorem q198 : (Jvm.Cond.soleField "LineEchoes$Bench" "sound") ∈ lw_all := lw_g (lw_at lw_m1 130 rfl) rfl
theorem q199 : (Jvm.Cond.lays "LineEchoes$Bench" "LineEchoes$Bench" "observed" "LLineEchoes$Kept;") ∈ lw_all := lw_g (lw_at lw_m1 131 rfl) rfl
theorem q200 : (Jvm.Cond.soleField "LineEchoes$Bench" "observed") ∈ lw_all := lw_g (lw_at lw_m1 132 rfl) rfl
theorem q201 : (Jvm.Cond.superclass "LineEchoes$Bench" "java/lang/Object") ∈ lw_all := lw_g (lw_at lw_m1 133 rfl) rfl
theorem q267 : (Jvm.Cond.instanceMethod ({ cls := "LineEchoes$Bench", name := "copy", desc := "()LLineEchoes$Bench;" } : Jvm.MethodName)) ∈ lw_all := lw_g (lw_at lw_m1 199 rfl) rfl
theorem q268 : (Jvm.Cond.selects "LineEchoes$Bench" ({ cls := "LineEchoes$Bench", name := "copy", desc := "()LLineEchoes$Bench;" } : Jvm.MethodName) ({ cls := "LineEchoes$Bench", name := "copy", desc := "()LLineEchoes$Bench;" } : Jvm.MethodName)) ∈ lw_all := lw_g (lw_at lw_m1 200 rfl) rfl
theorem q269 : (Jvm.Cond.code ({ cls := "LineEchoes$Bench", name := "copy", desc := "()LLineEchoes$Bench;" } : Jvm.MethodName) prog_2_method_2_code (2 : Nat) (Option.some (Jvm.ClassFile.FieldType.object "LineEchoes$Bench"))) ∈ lw_all := lw_g (lw_at lw_m1 201 rfl) rfl
theorem q270 : (Jvm.Cond.classLink "LineEchoes$Bench" (16 : Nat) "LineEchoes$Bench") ∈ lw_all := lw_g (lw_at lw_m1 202 rfl) rfl
theorem q271 : (Jvm.Cond.methodLink "LineEchoes$Bench" (31 : Nat) ({ cls := "LineEchoes$Bench", name := "<init>", desc := "()V" } : Jvm.MethodName)) ∈ lw_all := lw_g (lw_at lw_m1 203 rfl) rfl
theorem q272 : (Jvm.Cond.methodLink "LineEchoes$Bench" (32 : Nat) ({ cls := "LineEchoes$Line", name := "copy", desc := "()LLineEchoes$Line;" } : Jvm.MethodName)) ∈ lw_all := lw_g (lw_at lw_m1 204 rfl) rfl
theorem q304 : (Jvm.Cond.instanceMethod ({ cls := "LineEchoes$Bench", name := "keepSound", desc := "(LLineEchoes$Runner;)I" } : Jvm.MethodName)) ∈ lw_all := lw_g (lw_at lw_m1 236 rfl) rfl
theorem q305 : (Jvm.Cond.selects "LineEchoes$Bench" ({ cls := "LineEchoes$Bench", name := "keepSound", desc := "(LLineEchoes$Runner;)I" } : Jvm.MethodName) ({ cls := "LineEchoes$Bench", name := "keepSound", desc := "(LLineEchoes$Runner;)I" } : Jvm.MethodName)) ∈ lw_all := lw_g (lw_at lw_m1 237 rfl) rfl
theorem q306 : (Jvm.Cond.code ({ cls := "LineEchoes$Bench", name := "keepSound", desc := "(LLineEchoes$Runner;)I" } : Jvm.MethodName) prog_2_method_11_code (2 : Nat) (Option.some Jvm.ClassFile.FieldType.int)) ∈ lw_all := lw_g (lw_at lw_m1 238 rfl) rfl
theorem q307 : (Jvm.Cond.methodLink "LineEchoes$Bench" (103 : Nat) ({ cls := "LineEchoes$Runner", name := "run", desc := "(LLineEchoes$Line;)V" } : Jvm.MethodName)) ∈ lw_all := lw_g (lw_at lw_m1 239 rfl) rfl
theorem q330 : (Jvm.Cond.methodLink "LineEchoes$Bench" (112 : Nat) ({ cls := "LineEchoes$Kept", name := "of", desc := "(LLineEchoes$Echoes;I)LLineEchoes$Kept;" } : Jvm.MethodName)) ∈ lw_all := lw_g (lw_at lw_m2 22 rfl) rfl
theorem q363 : (Jvm.Cond.instanceMethod ({ cls := "LineEchoes$Bench", name := "differences", desc := "(LLineEchoes$Runner;)I" } : Jvm.MethodName)) ∈ lw_all := lw_g (lw_at lw_m2 55 rfl) rfl
theorem q364 : (Jvm.Cond.selects "LineEchoes$Bench" ({ cls := "LineEchoes$Bench", name := "differences", desc := "(LLineEchoes$Runner;)I" } : Jvm.MethodName) ({ cls := "LineEchoes$Bench", name := "differences", desc := "(LLineEchoes$Runner;)I" } : Jvm.MethodName)) ∈ lw_all := lw_g (lw_at lw_m2 56 rfl) rfl
theorem q365 : (Jvm.Cond.code ({ cls := "LineEchoes$Bench", name := "differences", desc := "(LLineEchoes$Runner;)I" } : Jvm.MethodName) prog_2_method_14_code (4 : Nat) (Option.some Jvm.ClassFile.FieldType.int)) ∈ lw_all := lw_g (lw_at lw_m2 57 rfl) rfl
theorem q366 : (Jvm.Cond.methodLink "LineEchoes$Bench" (129 : Nat) ({ cls := "LineEchoes$Runner", name := "at", desc := "(I)J" } : Jvm.MethodName)) ∈ lw_all := lw_g (lw_at lw_m2 58 rfl) rfl
theorem q367 : (Jvm.Cond.methodLink "LineEchoes$Bench" (133 : Nat) ({ cls := "LineEchoes$Kept", name := "at", desc := "(I)J" } : Jvm.MethodName)) ∈ lw_all := lw_g (lw_at lw_m2 59 rfl) rfl
theorem q373 : (Jvm.Cond.instanceMethod ({ cls := "LineEchoes$Bench", name := "observe", desc := "(LLineEchoes$Runner;)I" } : Jvm.MethodName)) ∈ lw_all := lw_g (lw_at lw_m2 65 rfl) rfl
theorem q374 : (Jvm.Cond.selects "LineEchoes$Bench" ({ cls := "LineEchoes$Bench", name := "observe", desc := "(LLineEchoes$Runner;)I" } : Jvm.MethodName) ({ cls := "LineEchoes$Bench", name := "observe", desc := "(LLineEchoes$Runner;)I" } : Jvm.MethodName)) ∈ lw_all := lw_g (lw_at lw_m2 66 rfl) rfl
theorem q375 : (Jvm.Cond.code ({ cls := "LineEchoes$Bench", name := "observe", desc := "(LLineEchoes$Runner;)I" } : Jvm.MethodName) prog_2_method_12_code (2 : Nat) (Option.some Jvm.ClassFile.FieldType.int)) ∈ lw_all := lw_g (lw_at lw_m2 67 rfl) rfl
theorem q381 : (Jvm.Cond.instanceMethod ({ cls := "LineEchoes$Bench", name := "adopt", desc := "(LLineEchoes$Runner;)I" } : Jvm.MethodName)) ∈ lw_all := lw_g (lw_at lw_m2 73 rfl) rfl
theorem q382 : (Jvm.Cond.selects "LineEchoes$Bench" ({ cls := "LineEchoes$Bench", name := "adopt", desc := "(LLineEchoes$Runner;)I" } : Jvm.MethodName) ({ cls := "LineEchoes$Bench", name := "adopt", desc := "(LLineEchoes$Runner;)I" } : Jvm.MethodName)) ∈ lw_all := lw_g (lw_at lw_m2 74 rfl) rfl
theorem q383 : (Jvm.Cond.code ({ cls := "LineEchoes$Bench", name := "adopt", desc := "(LLineEchoes$Runner;)I" } : Jvm.MethodName) prog_2_method_13_code (2 : Nat) (Option.some Jvm.ClassFile.FieldType.int)) ∈ lw_all := lw_g (lw_at lw_m2 75 rfl) rfl
theorem q384 : (Jvm.Cond.methodLink "LineEchoes$Bench" (120 : Nat) ({ cls := "LineEchoes$Peeling", name := "of", desc := "(LLineEchoes$Line;LLineEchoes$Echoes;LLineEchoes$Runner;)LLineEchoes$Peeling;" } : Jvm.MethodName)) ∈ lw_all := lw_g (lw_at lw_m2 76 rfl) rfl
theorem q398 : (Jvm.Cond.fieldLinkNest "LineEchoes$Bench" (125 : Nat) "LineEchoes$Peeling" "line" "LLineEchoes$Line;" "LineEchoes") ∈ lw_tbl := lw_at lw_m2 90 rfl
theorem q439 : (Jvm.Cond.methodLink "LineEchoes$Bench" (126 : Nat) ({ cls := "LineEchoes$Line", name := "takeParts", desc := "(LLineEchoes$Line;)V" } : Jvm.MethodName)) ∈ lw_all := lw_g (lw_at lw_m2 131 rfl) rfl
theorem q941 : (Jvm.Cond.instanceMethod ({ cls := "LineEchoes$Bench", name := "addPart", desc := "(II)I" } : Jvm.MethodName)) ∈ lw_all := lw_g (lw_at lw_m4 153 rfl) rfl
theorem q942 : (Jvm.Cond.selects "LineEchoes$Bench" ({ cls := "LineEchoes$Bench", name := "addPart", desc := "(II)I" } : Jvm.MethodName) ({ cls := "LineEchoes$Bench", name := "addPart", desc := "(II)I" } : Jvm.MethodName)) ∈ lw_all := lw_g (lw_at lw_m4 154 rfl) rfl
theorem q943 : (Jvm.Cond.code ({ cls := "LineEchoes$Bench", name := "addPart", desc := "(II)I" } : Jvm.MethodName) prog_2_method_6_code (3 : Nat) (Option.some Jvm.ClassFile.FieldType.int)) ∈ lw_all := lw_g (lw_at lw_m4 155 rfl) rfl
theorem q944 : (Jvm.Cond.methodLink "LineEchoes$Bench" (63 : Nat) ({ cls := "LineEchoes$Bench", name := "requireValues", desc := "(II)V" } : Jvm.MethodName)) ∈ lw_all := lw_g (lw_at lw_m4 156 rfl) rfl
theorem q945 : (Jvm.Cond.static ({ cls := "LineEchoes$Bench", name := "requireValues", desc := "(II)V" } : Jvm.MethodName)) ∈ lw_all := lw_g (lw_at lw_m4 157 rfl) rfl
theorem q946 : (Jvm.Cond.code ({ cls := "LineEchoes$Bench", name := "requireValues", desc := "(II)V" } : Jvm.MethodName) prog_2_method_4_code (2 : Nat) (Option.none : Option Jvm.ClassFile.FieldType)) ∈ lw_all := lw_g (lw_at lw_m4 158 rfl) rfl
theorem q947 : (Jvm.Cond.constantLong "LineEchoes$Bench" (49 : Nat) (20 : Int64)) ∈ lw_all := lw_g (lw_at lw_m4 159 rfl) rfl
theorem q948 : (Jvm.Cond.methodLinkNest "LineEchoes$Bench" (39 : Nat) ({ cls := "LineEchoes", name := "inRange", desc := "(JJJ)Z" } : Jvm.MethodName) "LineEchoes") ∈ lw_tbl := lw_at lw_m4 160 rfl
theorem q949 : (Jvm.Cond.constantLong "LineEchoes$Bench" (51 : Nat) (1000 : Int64)) ∈ lw_all := lw_g (lw_at lw_m4 161 rfl) rfl
theorem q950 : (Jvm.Cond.stringRef "LineEchoes$Bench" (53 : Nat) "length or fraction") ∈ lw_tbl := lw_at lw_m4 162 rfl
theorem q951 : (Jvm.Cond.methodLinkNest "LineEchoes$Bench" (55 : Nat) ({ cls := "LineEchoes", name := "requireArgument", desc := "(ZLjava/lang/String;)V" } : Jvm.MethodName) "LineEchoes") ∈ lw_tbl := lw_at lw_m4 163 rfl
theorem q955 : (Jvm.Cond.methodLink "LineEchoes$Bench" (67 : Nat) ({ cls := "LineEchoes$Bench", name := "requireRoom", desc := "()V" } : Jvm.MethodName)) ∈ lw_all := lw_g (lw_at lw_m4 167 rfl) rfl
theorem q956 : (Jvm.Cond.privateMethod ({ cls := "LineEchoes$Bench", name := "requireRoom", desc := "()V" } : Jvm.MethodName)) ∈ lw_tbl := lw_at lw_m4 168 rfl
theorem q957 : (Jvm.Cond.instanceMethod ({ cls := "LineEchoes$Bench", name := "requireRoom", desc := "()V" } : Jvm.MethodName)) ∈ lw_all := lw_g (lw_at lw_m4 169 rfl) rfl
theorem q958 : (Jvm.Cond.code ({ cls := "LineEchoes$Bench", name := "requireRoom", desc := "()V" } : Jvm.MethodName) prog_2_method_5_code (1 : Nat) (Option.none : Option Jvm.ClassFile.FieldType)) ∈ lw_all := lw_g (lw_at lw_m4 170 rfl) rfl
theorem q959 : (Jvm.Cond.stringRef "LineEchoes$Bench" (58 : Nat) "parts") ∈ lw_tbl := lw_at lw_m4 171 rfl
theorem q960 : (Jvm.Cond.methodLinkNest "LineEchoes$Bench" (60 : Nat) ({ cls := "LineEchoes", name := "requireState", desc := "(ZLjava/lang/String;)V" } : Jvm.MethodName) "LineEchoes") ∈ lw_tbl := lw_at lw_m4 172 rfl
theorem q977 : (Jvm.Cond.methodLink "LineEchoes$Bench" (70 : Nat) ({ cls := "LineEchoes$Line", name := "insert", desc := "(III)V" } : Jvm.MethodName)) ∈ lw_all := lw_g (lw_at lw_m4 189 rfl) rfl
theorem q979 : (Jvm.Cond.instanceMethod ({ cls := "LineEchoes$Bench", name := "setPart", desc := "(III)I" } : Jvm.MethodName)) ∈ lw_all := lw_g (lw_at lw_m4 191 rfl) rfl
theorem q980 : (Jvm.Cond.selects "LineEchoes$Bench" ({ cls := "LineEchoes$Bench", name := "setPart", desc := "(III)I" } : Jvm.MethodName) ({ cls := "LineEchoes$Bench", name := "setPart", desc := "(III)I" } : Jvm.MethodName)) ∈ lw_all := lw_g (lw_at lw_m4 192 rfl) rfl
theorem q981 : (Jvm.Cond.code ({ cls := "LineEchoes$Bench", name := "setPart", desc := "(III)I" } : Jvm.MethodName) prog_2_method_7_code (5 : Nat) (Option.some Jvm.ClassFile.FieldType.int)) ∈ lw_all := lw_g (lw_at lw_m4 193 rfl) rfl
theorem q982 : (Jvm.Cond.methodLink "LineEchoes$Bench" (74 : Nat) ({ cls := "LineEchoes$Bench", name := "requirePart", desc := "(I)V" } : Jvm.MethodName)) ∈ lw_all := lw_g (lw_at lw_m4 194 rfl) rfl
theorem q983 : (Jvm.Cond.instanceMethod ({ cls := "LineEchoes$Bench", name := "requirePart", desc := "(I)V" } : Jvm.MethodName)) ∈ lw_all := lw_g (lw_at lw_m4 195 rfl) rfl
theorem q984 : (Jvm.Cond.selects "LineEchoes$Bench" ({ cls := "LineEchoes$Bench", name := "requirePart", desc := "(I)V" } : Jvm.MethodName) ({ cls := "LineEchoes$Bench", name := "requirePart", desc := "(I)V" } : Jvm.MethodName)) ∈ lw_all := lw_g (lw_at lw_m4 196 rfl) rfl
theorem q985 : (Jvm.Cond.code ({ cls := "LineEchoes$Bench", name := "requirePart", desc := "(I)V" } : Jvm.MethodName) prog_2_method_3_code (2 : Nat) (Option.none : Option Jvm.ClassFile.FieldType)) ∈ lw_all := lw_g (lw_at lw_m4 197 rfl) rfl
theorem q986 : (Jvm.Cond.stringRef "LineEchoes$Bench" (43 : Nat) "part") ∈ lw_tbl := lw_at lw_m4 198 rfl
theorem q987 : (Jvm.Cond.methodLinkNest "LineEchoes$Bench" (45 : Nat) ({ cls := "LineEchoes", name := "requireIndex", desc := "(ZLjava/lang/String;)V" } : Jvm.MethodName) "LineEchoes") ∈ lw_tbl := lw_at lw_m4 199 rfl
theorem q1002 : (Jvm.Cond.instanceMethod ({ cls := "LineEchoes$Bench", name := "removePart", desc := "(I)I" } : Jvm.MethodName)) ∈ lw_all := lw_g (lw_at lw_m4 214 rfl) rfl
theorem q1003 : (Jvm.Cond.selects "LineEchoes$Bench" ({ cls := "LineEchoes$Bench", name := "removePart", desc := "(I)I" } : Jvm.MethodName) ({ cls := "LineEchoes$Bench", name := "removePart", desc := "(I)I" } : Jvm.MethodName)) ∈ lw_all := lw_g (lw_at lw_m4 215 rfl) rfl
theorem q1004 : (Jvm.Cond.code ({ cls := "LineEchoes$Bench", name := "removePart", desc := "(I)I" } : Jvm.MethodName) prog_2_method_8_code (2 : Nat) (Option.some Jvm.ClassFile.FieldType.int)) ∈ lw_all := lw_g (lw_at lw_m4 216 rfl) rfl
theorem q1005 : (Jvm.Cond.methodLink "LineEchoes$Bench" (85 : Nat) ({ cls := "LineEchoes$Line", name := "remove", desc := "(I)V" } : Jvm.MethodName)) ∈ lw_all := lw_g (lw_at lw_m4 217 rfl) rfl
theorem q1007 : (Jvm.Cond.instanceMethod ({ cls := "LineEchoes$Bench", name := "splitPart", desc := "(III)I" } : Jvm.MethodName)) ∈ lw_all := lw_g (lw_at lw_m4 219 rfl) rfl
theorem q1008 : (Jvm.Cond.selects "LineEchoes$Bench" ({ cls := "LineEchoes$Bench", name := "splitPart", desc := "(III)I" } : Jvm.MethodName) ({ cls := "LineEchoes$Bench", name := "splitPart", desc := "(III)I" } : Jvm.MethodName)) ∈ lw_all := lw_g (lw_at lw_m4 220 rfl) rfl
theorem q1009 : (Jvm.Cond.code ({ cls := "LineEchoes$Bench", name := "splitPart", desc := "(III)I" } : Jvm.MethodName) prog_2_method_9_code (4 : Nat) (Option.some Jvm.ClassFile.FieldType.int)) ∈ lw_all := lw_g (lw_at lw_m4 221 rfl) rfl
theorem q1010 : (Jvm.Cond.stringRef "LineEchoes$Bench" (88 : Nat) "place or fraction") ∈ lw_tbl := lw_at lw_m4 222 rfl
theorem q1012 : (Jvm.Cond.instanceMethod ({ cls := "LineEchoes$Bench", name := "addPulse", desc := "(II)I" } : Jvm.MethodName)) ∈ lw_all := lw_g (lw_at lw_m4 224 rfl) rfl
theorem q1013 : (Jvm.Cond.selects "LineEchoes$Bench" ({ cls := "LineEchoes$Bench", name := "addPulse", desc := "(II)I" } : Jvm.MethodName) ({ cls := "LineEchoes$Bench", name := "addPulse", desc := "(II)I" } : Jvm.MethodName)) ∈ lw_all := lw_g (lw_at lw_m4 225 rfl) rfl
theorem q1014 : (Jvm.Cond.code ({ cls := "LineEchoes$Bench", name := "addPulse", desc := "(II)I" } : Jvm.MethodName) prog_2_method_10_code (3 : Nat) (Option.some Jvm.ClassFile.FieldType.int)) ∈ lw_all := lw_g (lw_at lw_m4 226 rfl) rfl
theorem q1015 : (Jvm.Cond.constantLong "LineEchoes$Bench" (90 : Nat) (100 : Int64)) ∈ lw_all := lw_g (lw_at lw_m4 227 rfl) rfl
theorem q1016 : (Jvm.Cond.constantLong "LineEchoes$Bench" (92 : Nat) (1000000 : Int64)) ∈ lw_all := lw_g (lw_at lw_m4 228 rfl) rfl
theorem q1017 : (Jvm.Cond.stringRef "LineEchoes$Bench" (94 : Nat) "pulse") ∈ lw_tbl := lw_at lw_m4 229 rfl
theorem q1018 : (Jvm.Cond.stringRef "LineEchoes$Bench" (99 : Nat) "pulses") ∈ lw_tbl := lw_at lw_m4 230 rfl
theorem q1019 : (Jvm.Cond.methodLink "LineEchoes$Bench" (100 : Nat) ({ cls := "LineEchoes$Line", name := "addPulse", desc := "(II)V" } : Jvm.MethodName)) ∈ lw_all := lw_g (lw_at lw_m4 231 rfl) rfl
theorem q1057 : (Jvm.Cond.instanceMethod ({ cls := "LineEchoes$Bench", name := "fault", desc := "(LLineEchoes$Runner;I)I" } : Jvm.MethodName)) ∈ lw_all := lw_g (lw_at lw_m5 29 rfl) rfl
theorem q1058 : (Jvm.Cond.selects "LineEchoes$Bench" ({ cls := "LineEchoes$Bench", name := "fault", desc := "(LLineEchoes$Runner;I)I" } : Jvm.MethodName) ({ cls := "LineEchoes$Bench", name := "fault", desc := "(LLineEchoes$Runner;I)I" } : Jvm.MethodName)) ∈ lw_all := lw_g (lw_at lw_m5 30 rfl) rfl
theorem q1059 : (Jvm.Cond.code ({ cls := "LineEchoes$Bench", name := "fault", desc := "(LLineEchoes$Runner;I)I" } : Jvm.MethodName) prog_2_method_15_code (5 : Nat) (Option.some Jvm.ClassFile.FieldType.int)) ∈ lw_all := lw_g (lw_at lw_m5 31 rfl) rfl
theorem q1060 : (Jvm.Cond.methodLink "LineEchoes$Bench" (138 : Nat) ({ cls := "LineEchoes$Line", name := "earliest", desc := "()I" } : Jvm.MethodName)) ∈ lw_all := lw_g (lw_at lw_m5 32 rfl) rfl
theorem q1065 : (Jvm.Cond.methodLink "LineEchoes$Bench" (142 : Nat) ({ cls := "LineEchoes$Line", name := "partOf", desc := "(I)I" } : Jvm.MethodName)) ∈ lw_all := lw_g (lw_at lw_m5 37 rfl) rfl
theorem in_X2 : ∀ w ∈ wsX20, w ∈ lw_all := lw_in wsX20 [195, 197, 199] (by decide +kernel) (by decide +kernel)

