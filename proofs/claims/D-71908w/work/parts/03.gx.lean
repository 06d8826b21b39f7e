/-! FOUNDATION: one judgement G over (world, pc, locals, stack); rows; contracts -/
set_option maxRecDepth 100000
/-- the listed values of a full list of slots -/
def gz : Nat → List (Option Value) → List (Nat × Value)
  | _, [] => []
  | i, none :: t => gz (i + 1) t
  | i, some v :: t => (i, v) :: gz (i + 1) t
theorem gz_mem : ∀ (L : List (Option Value)) (k i : Nat) (v : Value), (i, v) ∈ gz k L ↔ k ≤ i ∧ L[i - k]? = some (some v)
  | [], k, i, v => by simp [gz]
  | none :: t, k, i, v => by
    rw [gz, gz_mem t (k + 1) i v]
    constructor
    · rintro ⟨h1, h2⟩
      refine ⟨by omega, ?_⟩
      rw [show i - k = (i - (k + 1)) + 1 by omega, List.getElem?_cons_succ]
      exact h2
    · rintro ⟨h1, h2⟩
      rcases Nat.eq_or_lt_of_le h1 with e | e
      · subst e
        rw [Nat.sub_self, List.getElem?_cons_zero] at h2
        cases h2
      · refine ⟨e, ?_⟩
        rw [show i - k = (i - (k + 1)) + 1 by omega, List.getElem?_cons_succ] at h2
        exact h2
  | some w :: t, k, i, v => by
    rw [gz, List.mem_cons, gz_mem t (k + 1) i v]
    constructor
    · rintro (h | ⟨h1, h2⟩)
      · cases h
        exact ⟨Nat.le_refl _, by rw [Nat.sub_self]; rfl⟩
      · refine ⟨by omega, ?_⟩
        rw [show i - k = (i - (k + 1)) + 1 by omega, List.getElem?_cons_succ]
        exact h2
    · rintro ⟨h1, h2⟩
      rcases Nat.eq_or_lt_of_le h1 with e | e
      · subst e
        rw [Nat.sub_self, List.getElem?_cons_zero] at h2
        cases h2
        exact Or.inl rfl
      · refine Or.inr ⟨e, ?_⟩
        rw [show i - k = (i - (k + 1)) + 1 by omega, List.getElem?_cons_succ] at h2
        exact h2
def gl (ls : Array Slot) (nL : Nat) (L : List (Option Value)) : Prop := lv_has ls nL (gz 0 L)
theorem gl_at {ls : Array Slot} {nL : Nat} {L : List (Option Value)} (h : gl ls nL L) {i : Nat} {v : Value} (hi : L[i]? = some (some v)) : ls[i]? = some (.val v) :=
  h.2.2 (i, v) ((gz_mem L 0 i v).mpr ⟨Nat.zero_le _, by rw [Nat.sub_zero]; exact hi⟩)
theorem gl_less {ls : Array Slot} {nL : Nat} {l : List (Nat × Value)} {L : List (Option Value)} (h : lv_has ls nL l) (hl : ∀ (i : Nat) (v : Value), L[i]? = some (some v) → (i, v) ∈ l) : gl ls nL L := by
  refine ⟨h.1, h.2.1, fun q hq => h.2.2 q ?_⟩
  obtain ⟨i, v⟩ := q
  have h2 := ((gz_mem L 0 i v).mp hq).2
  rw [Nat.sub_zero] at h2
  exact hl i v h2
theorem gl_sub {ls : Array Slot} {nL : Nat} {L L' : List (Option Value)} (h : gl ls nL L) (hl : ∀ (i : Nat) (v : Value), L'[i]? = some (some v) → L[i]? = some (some v)) : gl ls nL L' :=
  gl_less h fun i v hi => (gz_mem L 0 i v).mpr ⟨Nat.zero_le _, by rw [Nat.sub_zero]; exact hl i v hi⟩
/-- no long stands just before the place -/
def gok (L : List (Option Value)) (i : Nat) : Bool := match i with
  | 0 => true
  | j + 1 => match L[j]? with
    | some (some w) => w.category == 1
    | _ => true
theorem gok_ne {L : List (Option Value)} {i j : Nat} {w : Value} (h : gok L i = true) (hj : j + 1 = i) (hw : L[j]? = some (some w)) : ¬ w.category = 2 := by
  subst hj
  simp only [gok, hw, beq_iff_eq] at h
  omega
theorem gl_st1 {ls : Array Slot} {nL : Nat} {L : List (Option Value)} {i : Nat} {v : Value} (hp : gok L i = true)
    (h : lv_has ls nL ((i, v) :: (gz 0 L).filter (fun q => !(q.1 == i) && !(q.1 + 1 == i && q.2.category == 2)))) : gl ls nL (L.set i (some v)) := by
  refine gl_less h fun j w hj => ?_
  rcases Nat.decEq j i with e | e
  · rw [List.getElem?_set_ne (Ne.symm e)] at hj
    refine List.mem_cons_of_mem _ (List.mem_filter.mpr ⟨(gz_mem L 0 j w).mpr ⟨Nat.zero_le _, by rw [Nat.sub_zero]; exact hj⟩, ?_⟩)
    have hc : ¬ (j + 1 = i ∧ w.category = 2) := fun q => gok_ne hp q.1 hj q.2
    simp only [Bool.and_eq_true, Bool.not_eq_true', beq_eq_false_iff_ne, ne_eq, Bool.and_eq_false_iff]
    refine ⟨e, ?_⟩
    rcases Nat.decEq (j + 1) i with z | z
    · exact Or.inl z
    · exact Or.inr (fun q => hc ⟨z, q⟩)
  · subst e
    have hlt : j < L.length := by
      have := (List.getElem?_eq_some_iff.mp hj).1
      simpa using this
    rw [List.getElem?_set_self hlt] at hj
    cases hj
    exact List.mem_cons_self
theorem gl_st2 {ls : Array Slot} {nL : Nat} {L : List (Option Value)} {i : Nat} {v : Value} (hp : gok L i = true)
    (h : lv_has ls nL ((i, v) :: (gz 0 L).filter (fun q => !(q.1 == i) && (!(q.1 == i + 1) && !(q.1 + 1 == i && q.2.category == 2))))) : gl ls nL ((L.set i (some v)).set (i + 1) none) := by
  refine gl_less h fun j w hj => ?_
  rcases Nat.decEq j (i + 1) with e1 | e1
  · rw [List.getElem?_set_ne (Ne.symm e1)] at hj
    rcases Nat.decEq j i with e | e
    · rw [List.getElem?_set_ne (Ne.symm e)] at hj
      refine List.mem_cons_of_mem _ (List.mem_filter.mpr ⟨(gz_mem L 0 j w).mpr ⟨Nat.zero_le _, by rw [Nat.sub_zero]; exact hj⟩, ?_⟩)
      have hc : ¬ (j + 1 = i ∧ w.category = 2) := fun q => gok_ne hp q.1 hj q.2
      simp only [Bool.and_eq_true, Bool.not_eq_true', beq_eq_false_iff_ne, ne_eq, Bool.and_eq_false_iff]
      refine ⟨e, e1, ?_⟩
      rcases Nat.decEq (j + 1) i with z | z
      · exact Or.inl z
      · exact Or.inr (fun q => hc ⟨z, q⟩)
    · subst e
      have hlt : j < L.length := by
        have := (List.getElem?_eq_some_iff.mp hj).1
        simpa using this
      rw [List.getElem?_set_self hlt] at hj
      cases hj
      exact List.mem_cons_self
  · subst e1
    have hlt := (List.getElem?_eq_some_iff.mp hj).1
    rw [List.getElem?_set_self (by simpa using hlt)] at hj
    cases hj
/-! what is known all through: classes, arrays' classes, words of nest mates and interfaces, statics -/
def gCl : List vw_C := [(RX1, TX1, 6), (RX2, TX2, 3), (RX3, TX3, 9), (RX4, TX4, 1), (RX5, TX5, 10), (RX6, TX6, 28), (RX8, TX8, 3), (RX9, TX9, 5), (RJ7, TJ7, 4), (RJ11, TJ11, 4), (RJ5, TJ5, 0), (RJ3, TJ3, 0), (RJ4, TJ4, 0)]
abbrev gZt : Type := va_G × (Nat → ClassId)
def gTy (Z : gZt) : List (ClassId × FieldType) := [(Z.2 0, .int), (Z.2 1, .long), (Z.2 2, .byte), (Z.2 3, .object "LineEchoes$Bench")]
/-- words of the tables that don't ride in the lists -/
def gNst : Cond → Bool
  | .fieldLinkNest _ _ _ _ _ _ => true
  | .methodLinkNest _ _ _ _ => true
  | .castable _ _ => true
  | .declares _ => true
  | _ => false
theorem gNst_warm {w : Cond} (hw : gNst w = true) {s U : State} (hW : s.WarmedH U.vm) (h : va_Nw w s) : va_Nw w U := by
  cases w <;> first | (simp [gNst] at hw; done) | exact va_Nw.warmF hW h | exact va_Nw.warmM hW h | exact va_Nw.warmC hW h | exact va_Nw.warmD hW h
theorem gNst_same {w : Cond} (hw : gNst w = true) {s U : State} (hv : s.vm = U.vm) (h : va_Nw w s) : va_Nw w U := by
  cases w <;> first | (simp [gNst] at hw; done) | exact va_Nw.same rfl hv h
theorem gNst_use {w : Cond} (hw : gNst w = true) {args : Array Value} {s : State} (h : va_Nw w s) : w.before args s = true := by
  cases w <;> first | (simp [gNst] at hw; done) | exact va_Nw.use rfl h
theorem gNst_of {w : Cond} (hw : gNst w = true) {args : Array Value} {s : State} (h : w.before args s = true) : va_Nw w s := by
  cases w <;> first | (simp [gNst] at hw; done) | exact va_Nw.of rfl h
def gAt : MethodName := ⟨"LineEchoes$Echoes", "at", "(I)J"⟩
/-- the String constants: owner, entry, text; the first nine by their contents too -/
def gStr : List (String × Nat × String) := [("LineEchoes", 19, "set"), ("LineEchoes", 25, "split"), ("LineEchoes", 27, "part"), ("LineEchoes", 29, "pulse"), ("LineEchoes", 31, "cut"), ("LineEchoes", 33, "sound"), ("LineEchoes", 35, "look"), ("LineEchoes", 37, "adopt"), ("LineEchoes$Reader", 19, ""), ("LineEchoes", 138, "bench"), ("LineEchoes", 157, "the only pulse"), ("LineEchoes", 178, "what"), ("LineEchoes", 188, "time"), ("LineEchoes", 201, "index"), ("LineEchoes", 211, "joint"), ("LineEchoes", 242, "energy"), ("LineEchoes", 266, "part or what"), ("LineEchoes", 275, "byte"), ("LineEchoes", 280, "script"), ("LineEchoes", 299, "nothing saved"), ("LineEchoes$Bench", 53, "length or fraction"), ("LineEchoes$Bench", 58, "parts"), ("LineEchoes$Bench", 43, "part"), ("LineEchoes$Bench", 88, "place or fraction"), ("LineEchoes$Bench", 94, "pulse"), ("LineEchoes$Bench", 99, "pulses")]
/-- the three exceptions, by number -/
def gXn : Nat → String
  | 0 => "java/lang/IndexOutOfBoundsException"
  | 1 => "java/lang/IllegalArgumentException"
  | _ => "java/lang/IllegalStateException"
def gSK (Z : gZt) (i : Nat) : Nat := Z.2 (100 + i)
def gSV (Z : gZt) (i : Nat) : Nat := Z.2 (200 + i)
def gSB : List (List Int32) := [[115, 101, 116], [115, 112, 108, 105, 116], [112, 97, 114, 116], [112, 117, 108, 115, 101], [99, 117, 116], [115, 111, 117, 110, 100], [108, 111, 111, 107], [97, 100, 111, 112, 116], []]
/-- a default method of an interface, found from a class -/
def gDl (x y : MethodName) (U : State) : Prop := (Cond.sameMethod x.cls y.cls x.name x.desc).before #[] U = true ∧ (Cond.landsInDefault x.cls x y).before #[] U = true
theorem gDlE {C : String} {x y : MethodName} {A A' : Array Value} {u U : State} (h : (Cond.landsInDefault C x y).before A (u.setVm U.vm) = true) : (Cond.landsInDefault C x y).before A' U = true := by
  simp only [Cond.before, Cond.holds, Cond.value] at h ⊢
  exact h
theorem gDl.moved {x y : MethodName} (hx : x.cls ≠ "java/lang/invoke/MethodHandle" ∧ x.cls ≠ "java/lang/invoke/VarHandle") {u U : State} (hvm : u.vm.Alike U.vm) (h : gDl x y u) : gDl x y U := by
  obtain ⟨h1, h2⟩ := h
  have tr : ∀ {c : Cond}, c.onTables = true → c.before #[] (u.setVm U.vm) = true → c.before #[] U = true := by
    intro c hc h
    have e := Cond.onTables_vm (A := #[]) (A' := #[]) (U := u) (U' := U) U.vm c hc
    have hU : U.setVm U.vm = U := rfl
    rw [hU] at e
    rw [← e]
    exact h
  obtain ⟨c, k, r, hc, hk, hi, -, -⟩ := Cond.sameMethod_found h1
  obtain ⟨k₀, hk₀, hname⟩ := Vm.findClass_spec hc
  cases hk.symm.trans hk₀
  exact ⟨tr rfl (Cond.sameMethod_setVm hvm hx h1), gDlE (A := #[]) (by rw [Cond.landsInDefault_setVm (args := #[]) hvm (State.methodFound?_setVm_class hvm hc hk hi (signaturePolymorphic_of_name (by rw [hname]; exact hx)) _ _)]; exact h2)⟩
def gDc : MethodName := ⟨"LineEchoes$Runner", "count", "(I)I"⟩
def gDf : MethodName := ⟨"LineEchoes$Runner", "firstDifference", "(LLineEchoes$Echoes;I)I"⟩
def gDg : MethodName := ⟨"LineEchoes$Runner", "greatest", "(I)J"⟩
/-- private methods of AbstractStringBuilder, of a StringBuilder -/
def gPv : List Cond := [Cond.selects "java/lang/StringBuilder" ⟨"java/lang/AbstractStringBuilder", "ensureCapacityInternal", "(I)V"⟩ ⟨"java/lang/AbstractStringBuilder", "ensureCapacityInternal", "(I)V"⟩, Cond.selects "java/lang/StringBuilder" ⟨"java/lang/AbstractStringBuilder", "newCapacity", "(I)I"⟩ ⟨"java/lang/AbstractStringBuilder", "newCapacity", "(I)I"⟩]
def gDW : List Cond := defaultWords_1 ++ gPv
theorem goodTbl {w : Cond} (h : w ∈ gPv) : w.onTables = true := by
  have h2 : gPv.all Cond.onTables = true := by rfl
  exact List.all_eq_true.mp h2 w h
theorem gDgood : ∀ w ∈ gDW, goodWord w = true := by
  intro w hw
  have h : gDW.all goodWord = true := by rfl
  exact List.all_eq_true.mp h w hw
theorem gDon : ∀ w ∈ gDW, w.onTables = true := by
  intro w hw
  have h : gDW.all Cond.onTables = true := by rfl
  exact List.all_eq_true.mp h w hw
def gK (Z : gZt) (U : State) : Prop := va_K Z.1 gCl (gTy Z) U ∧ (∀ w ∈ lw_tbl, gNst w = true → va_Nw w U) ∧ va_AO "LineEchoes$Bench" U ∧ va_Fw RX4 gAt yX4_at U ∧ va_Fw RX5 gAt yX5_at U ∧ (∀ w ∈ gDW, va_Nw w U) ∧ gDl gDc yX7_count U ∧ gDl gDf yX7_firstDifference U ∧ gDl gDg yX7_greatest U ∧ (∀ (i : Nat) (q : String × Nat × String), gStr[i]? = some q → vk_R q.1 q.2.1 q.2.2 (gSK Z i) U) ∧ ∀ i j : Nat, i < 3 → j < 3 → i ≠ j → va_Nc (gXn i) (gXn j) U
theorem gK.warm {Z : gZt} {s U : State} (hW : s.WarmedH U.vm) (h : gK Z s) : gK Z U := by
  obtain ⟨h1, h2, h3, h4, h5, h6, h7, h8, h9, h10, h11⟩ := h
  exact ⟨va_K.moved hW.alike h1, fun w hw hg => gNst_warm hg hW (h2 w hw hg), va_AO.moved hW.alike h3, va_Fw.moved (by decide) hW.alike h4, va_Fw.moved (by decide) hW.alike h5, fun w hw => word_at hW (good_of_word (gDgood w hw)) (h6 w hw), gDl.moved (by decide) hW.alike h7, gDl.moved (by decide) hW.alike h8, gDl.moved (by decide) hW.alike h9, fun i q hq => vk_R.warm hW (h10 i q hq), fun i j hi hj hn => va_Nc.moved hW.alike (h11 i j hi hj hn)⟩
theorem gK.calling {Z : gZt} {a : Array Value} {U : State} {g : JFrame} {mk : MethodId} (h : gK Z U) : gK Z (U.calling g mk a) := by
  obtain ⟨h1, h2, h3, h4, h5, h6, h7, h8, h9, h10, h11⟩ := h
  have hal : U.vm.Alike (U.calling g mk a).vm := Vm.Alike.refl U.vm
  exact ⟨va_K.moved (u := U) (U := U.calling g mk a) hal h1, fun w hw hg => gNst_same (s := U) hg rfl (h2 w hw hg), va_AO.moved (u := U) (U := U.calling g mk a) hal h3, va_Fw.moved (u := U) (U := U.calling g mk a) (by decide) hal h4, va_Fw.moved (u := U) (U := U.calling g mk a) (by decide) hal h5, fun w hw => va_Nw.same (gDon w hw) (u := U) rfl (h6 w hw), gDl.moved (u := U) (U := U.calling g mk a) (by decide) hal h7, gDl.moved (u := U) (U := U.calling g mk a) (by decide) hal h8, gDl.moved (u := U) (U := U.calling g mk a) (by decide) hal h9, fun i q hq => vk_R.same (u := U) rfl (h10 i q hq), fun i j hi hj hn => va_Nc.moved (u := U) (U := U.calling g mk a) hal (h11 i j hi hj hn)⟩
/-- a String constant by its contents -/
def gSc (k v : Nat) (bs : List Int32) (A : Nat → Prop) (U : State) (H : Heap) : Prop := va_O "java/lang/String" k A U H ∧ va_OF "java/lang/String" "coder" "B" (.int 0) k A U H ∧ va_OF "java/lang/String" "value" "[B" (.ref v) k A U H ∧ va_T .byte v bs.length (fun j => .int (bs.getD j 0)) A U H
theorem gSc.moved {k v : Nat} {bs : List Int32} {A : Nat → Prop} {u U : State} {H : Heap} (hvm : u.vm.Alike U.vm) (h : gSc k v bs A u H) : gSc k v bs A U H := ⟨va_O.moved hvm h.1, va_OF.moved hvm h.2.1, va_OF.moved hvm h.2.2.1, va_T.moved hvm h.2.2.2⟩
theorem gSc.kept {k v : Nat} {bs : List Int32} {A : Nat → Prop} {U : State} {H H1 : Heap} (h : gSc k v bs A U H) (hq : ∀ a : Nat, a < H.size → ¬ A a → H1[a]? = H[a]?) : gSc k v bs A U H1 := ⟨h.1.kept hq, h.2.1.kept hq, h.2.2.1.kept hq, h.2.2.2.kept hq⟩
theorem gSc.narrow {k v : Nat} {bs : List Int32} {A B : Nat → Prop} {U : State} {H : Heap} (h : gSc k v bs A U H) (hAB : ∀ q, B q → A q) : gSc k v bs B U H := ⟨h.1.narrow hAB, h.2.1.narrow hAB, h.2.2.1.narrow hAB, h.2.2.2.narrow hAB⟩
/-- the tables of digits of Integer -/
def gDT (j : Nat) : Int32 := nI (48 + j / 10)
def gDO (j : Nat) : Int32 := nI (48 + j % 10)
/-- statics that are never written -/
def gE (Z : gZt) (A : Nat → Prop) (U : State) (H : Heap) : Prop := va_Z "java/lang/String" "COMPACT_STRINGS" "Z" (.int 1) A U H ∧ vx_Zq Bundle.tN "UNASSIGNED_STACK" Bundle.steD A U H ∧ vx_Zq Bundle.tN "SUPPRESSED_SENTINEL" Bundle.listD A U H ∧ (∀ (i : Nat) (bs : List Int32), gSB[i]? = some bs → gSc (gSK Z i) (gSV Z i) bs A U H) ∧ va_Z "java/lang/Integer" "DigitTens" "[B" (.ref (Z.2 300)) A U H ∧ va_T .byte (Z.2 300) 100 (fun j => .int (gDT j)) A U H ∧ va_Z "java/lang/Integer" "DigitOnes" "[B" (.ref (Z.2 301)) A U H ∧ va_T .byte (Z.2 301) 100 (fun j => .int (gDO j)) A U H ∧ va_Zq "jdk/internal/util/Preconditions" "SIOOBE_FORMATTER" "Ljava/util/function/BiFunction;" A U H
theorem gE.moved {Z : gZt} {A : Nat → Prop} {u U : State} {H : Heap} (hvm : u.vm.Alike U.vm) (h : gE Z A u H) : gE Z A U H := by
  obtain ⟨h1, h2, h3, h4, h5, h6, h7, h8, h9⟩ := h
  exact ⟨va_Z.moved hvm h1, vx_Zq.moved hvm h2, vx_Zq.moved hvm h3, fun i bs hb => gSc.moved hvm (h4 i bs hb), va_Z.moved hvm h5, va_T.moved hvm h6, va_Z.moved hvm h7, va_T.moved hvm h8, va_Zq.moved hvm h9⟩
theorem gE.kept {Z : gZt} {A : Nat → Prop} {U : State} {H H1 : Heap} (h : gE Z A U H) (hq : ∀ a : Nat, a < H.size → ¬ A a → H1[a]? = H[a]?) : gE Z A U H1 := by
  obtain ⟨h1, h2, h3, h4, h5, h6, h7, h8, h9⟩ := h
  exact ⟨h1.kept hq, h2.kept hq, h3.kept hq, fun i bs hb => gSc.kept (h4 i bs hb) hq, h5.kept hq, h6.kept hq, h7.kept hq, h8.kept hq, h9.kept hq⟩
theorem gE.narrow {Z : gZt} {A B : Nat → Prop} {U : State} {H : Heap} (h : gE Z A U H) (hAB : ∀ q, B q → A q) : gE Z B U H := by
  obtain ⟨h1, h2, h3, h4, h5, h6, h7, h8, h9⟩ := h
  exact ⟨h1.narrow hAB, h2.narrow hAB, h3.narrow hAB, fun i bs hb => gSc.narrow (h4 i bs hb) hAB, h5.narrow hAB, h6.narrow hAB, h7.narrow hAB, h8.narrow hAB, h9.narrow hAB⟩
/-- what stands fast in a walk: rs are the cells that are read alone -/
def gX (p : Program) (s : State) (m : MethodId) (args : Array Value) (meth : Method) (c : Code) (Z : gZt) (A : Nat → Prop) (cc : ByteArray) (own : String) (nL : Nat) (ret : Option FieldType) (rs : va_W) : Prop :=
  p.tables.exec = Jvm.exec ∧ c.code = cc ∧ meth.sig.returnType = ret ∧ c.maxLocals = nL ∧ s.vm.findClass own = some m.cls ∧ (∀ w ∈ lw_all, w.before args s = true) ∧ meth.locks = false ∧ gK Z s ∧ gE Z A s s.heap ∧ (∀ q, s.heap.size ≤ q → A q) ∧ va_P Z.1 gCl rs s.heap ∧ ∀ (k : Nat) (q : Nat × va_E), rs[k]? = some q → ¬ A q.1
/-- a class of the list, by its number: its words, its types -/
def gC (ci : Nat) (C : String) (T : u_T) (N : Nat) (ty : Nat → FieldType) : Prop := gCl[ci]? = some (C, T, N) ∧ (∀ w ∈ u_ws C T N, w ∈ lw_all) ∧ (∀ k, k < N → parseFieldDescriptor (T k).2.2.1 = some (ty k)) ∧ ∀ a, a < N → ∀ b, b < N → a ≠ b → (T a).2.1 ≠ (T b).2.1
theorem gC0 : gC 0 RX1 TX1 6 tyX1 := ⟨rfl, in_X1, tyX1_ok, nmX1⟩
theorem gC1 : gC 1 RX2 TX2 3 tyX2 := ⟨rfl, in_X2, tyX2_ok, nmX2⟩
theorem gC2 : gC 2 RX3 TX3 9 tyX3 := ⟨rfl, in_X3, tyX3_ok, nmX3⟩
theorem gC3 : gC 3 RX4 TX4 1 tyX4 := ⟨rfl, in_X4, tyX4_ok, nmX4⟩
theorem gC4 : gC 4 RX5 TX5 10 tyX5 := ⟨rfl, in_X5, tyX5_ok, nmX5⟩
theorem gC5 : gC 5 RX6 TX6 28 tyX6 := ⟨rfl, in_X6, tyX6_ok, nmX6⟩
theorem gC6 : gC 6 RX8 TX8 3 tyX8 := ⟨rfl, in_X8, tyX8_ok, nmX8⟩
theorem gC7 : gC 7 RX9 TX9 5 tyX9 := ⟨rfl, in_X9, tyX9_ok, nmX9⟩
theorem gC8 : gC 8 RJ7 TJ7 4 tyJ7 := ⟨rfl, in_J7, tyJ7_ok, nmJ7⟩
theorem gC9 : gC 9 RJ11 TJ11 4 tyJ11 := ⟨rfl, in_J11, tyJ11_ok, nmJ11⟩
