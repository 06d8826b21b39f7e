/-! CALLS of methods that throw (printed by gen/xcall.py) -/
set_option maxRecDepth 100000
def bc0 {β : Type} (o : Option (Unit ⊕ Nat)) (f : Option β) (g : Nat → Option β) : Option β := o.bind (fun q => match q with
  | .inl _ => f
  | .inr k => g k)
theorem bc0_e {β : Type} {o : Option (Unit ⊕ Nat)} {f : Option β} {g : Nat → Option β} {r : β} (h : bc0 o f g = some r) : (∃ k, o = some (.inr k) ∧ g k = some r) ∨ (o = some (.inl ()) ∧ f = some r) := by
  unfold bc0 at h
  match o, h with
  | none, h => cases h
  | some (.inl ()), h => exact Or.inr ⟨rfl, h⟩
  | some (.inr k), h => exact Or.inl ⟨k, rfl, h⟩
def bc1 {T1 β : Type} (o : Option ((T1) ⊕ Nat)) (f : T1 → Option β) (g : Nat → Option β) : Option β := o.bind (fun q => match q with
  | .inl p => f p
  | .inr k => g k)
theorem bc1_e {T1 β : Type} {o : Option ((T1) ⊕ Nat)} {f : T1 → Option β} {g : Nat → Option β} {r : β} (h : bc1 o f g = some r) : (∃ k, o = some (.inr k) ∧ g k = some r) ∨ ∃ x1, o = some (.inl x1) ∧ f x1 = some r := by
  unfold bc1 at h
  match o, h with
  | none, h => cases h
  | some (.inl q), h => exact Or.inr ⟨q, rfl, h⟩
  | some (.inr k), h => exact Or.inl ⟨k, rfl, h⟩
def bc2 {T1 T2 β : Type} (o : Option ((T1 × T2) ⊕ Nat)) (f : T1 → T2 → Option β) (g : Nat → Option β) : Option β := o.bind (fun q => match q with
  | .inl p => f p.1 p.2
  | .inr k => g k)
theorem bc2_e {T1 T2 β : Type} {o : Option ((T1 × T2) ⊕ Nat)} {f : T1 → T2 → Option β} {g : Nat → Option β} {r : β} (h : bc2 o f g = some r) : (∃ k, o = some (.inr k) ∧ g k = some r) ∨ ∃ x1 x2, o = some (.inl (x1, x2)) ∧ f x1 x2 = some r := by
  unfold bc2 at h
  match o, h with
  | none, h => cases h
  | some (.inl q), h => exact Or.inr ⟨q.1, q.2, rfl, h⟩
  | some (.inr k), h => exact Or.inl ⟨k, rfl, h⟩
def bc3 {T1 T2 T3 β : Type} (o : Option ((T1 × T2 × T3) ⊕ Nat)) (f : T1 → T2 → T3 → Option β) (g : Nat → Option β) : Option β := o.bind (fun q => match q with
  | .inl p => f p.1 p.2.1 p.2.2
  | .inr k => g k)
theorem bc3_e {T1 T2 T3 β : Type} {o : Option ((T1 × T2 × T3) ⊕ Nat)} {f : T1 → T2 → T3 → Option β} {g : Nat → Option β} {r : β} (h : bc3 o f g = some r) : (∃ k, o = some (.inr k) ∧ g k = some r) ∨ ∃ x1 x2 x3, o = some (.inl (x1, x2, x3)) ∧ f x1 x2 x3 = some r := by
  unfold bc3 at h
  match o, h with
  | none, h => cases h
  | some (.inl q), h => exact Or.inr ⟨q.1, q.2.1, q.2.2, rfl, h⟩
  | some (.inr k), h => exact Or.inl ⟨k, rfl, h⟩
def bc4 {T1 T2 T3 T4 β : Type} (o : Option ((T1 × T2 × T3 × T4) ⊕ Nat)) (f : T1 → T2 → T3 → T4 → Option β) (g : Nat → Option β) : Option β := o.bind (fun q => match q with
  | .inl p => f p.1 p.2.1 p.2.2.1 p.2.2.2
  | .inr k => g k)
theorem bc4_e {T1 T2 T3 T4 β : Type} {o : Option ((T1 × T2 × T3 × T4) ⊕ Nat)} {f : T1 → T2 → T3 → T4 → Option β} {g : Nat → Option β} {r : β} (h : bc4 o f g = some r) : (∃ k, o = some (.inr k) ∧ g k = some r) ∨ ∃ x1 x2 x3 x4, o = some (.inl (x1, x2, x3, x4)) ∧ f x1 x2 x3 x4 = some r := by
  unfold bc4 at h
  match o, h with
  | none, h => cases h
  | some (.inl q), h => exact Or.inr ⟨q.1, q.2.1, q.2.2.1, q.2.2.2, rfl, h⟩
  | some (.inr k), h => exact Or.inl ⟨k, rfl, h⟩
def bc5 {T1 T2 T3 T4 T5 β : Type} (o : Option ((T1 × T2 × T3 × T4 × T5) ⊕ Nat)) (f : T1 → T2 → T3 → T4 → T5 → Option β) (g : Nat → Option β) : Option β := o.bind (fun q => match q with
  | .inl p => f p.1 p.2.1 p.2.2.1 p.2.2.2.1 p.2.2.2.2
  | .inr k => g k)
theorem bc5_e {T1 T2 T3 T4 T5 β : Type} {o : Option ((T1 × T2 × T3 × T4 × T5) ⊕ Nat)} {f : T1 → T2 → T3 → T4 → T5 → Option β} {g : Nat → Option β} {r : β} (h : bc5 o f g = some r) : (∃ k, o = some (.inr k) ∧ g k = some r) ∨ ∃ x1 x2 x3 x4 x5, o = some (.inl (x1, x2, x3, x4, x5)) ∧ f x1 x2 x3 x4 x5 = some r := by
  unfold bc5 at h
  match o, h with
  | none, h => cases h
  | some (.inl q), h => exact Or.inr ⟨q.1, q.2.1, q.2.2.1, q.2.2.2.1, q.2.2.2.2, rfl, h⟩
  | some (.inr k), h => exact Or.inl ⟨k, rfl, h⟩
def bc6 {T1 T2 T3 T4 T5 T6 β : Type} (o : Option ((T1 × T2 × T3 × T4 × T5 × T6) ⊕ Nat)) (f : T1 → T2 → T3 → T4 → T5 → T6 → Option β) (g : Nat → Option β) : Option β := o.bind (fun q => match q with
  | .inl p => f p.1 p.2.1 p.2.2.1 p.2.2.2.1 p.2.2.2.2.1 p.2.2.2.2.2
  | .inr k => g k)
theorem bc6_e {T1 T2 T3 T4 T5 T6 β : Type} {o : Option ((T1 × T2 × T3 × T4 × T5 × T6) ⊕ Nat)} {f : T1 → T2 → T3 → T4 → T5 → T6 → Option β} {g : Nat → Option β} {r : β} (h : bc6 o f g = some r) : (∃ k, o = some (.inr k) ∧ g k = some r) ∨ ∃ x1 x2 x3 x4 x5 x6, o = some (.inl (x1, x2, x3, x4, x5, x6)) ∧ f x1 x2 x3 x4 x5 x6 = some r := by
  unfold bc6 at h
  match o, h with
  | none, h => cases h
  | some (.inl q), h => exact Or.inr ⟨q.1, q.2.1, q.2.2.1, q.2.2.2.1, q.2.2.2.2.1, q.2.2.2.2.2, rfl, h⟩
  | some (.inr k), h => exact Or.inl ⟨k, rfl, h⟩
def bc7 {T1 T2 T3 T4 T5 T6 T7 β : Type} (o : Option ((T1 × T2 × T3 × T4 × T5 × T6 × T7) ⊕ Nat)) (f : T1 → T2 → T3 → T4 → T5 → T6 → T7 → Option β) (g : Nat → Option β) : Option β := o.bind (fun q => match q with
  | .inl p => f p.1 p.2.1 p.2.2.1 p.2.2.2.1 p.2.2.2.2.1 p.2.2.2.2.2.1 p.2.2.2.2.2.2
  | .inr k => g k)
theorem bc7_e {T1 T2 T3 T4 T5 T6 T7 β : Type} {o : Option ((T1 × T2 × T3 × T4 × T5 × T6 × T7) ⊕ Nat)} {f : T1 → T2 → T3 → T4 → T5 → T6 → T7 → Option β} {g : Nat → Option β} {r : β} (h : bc7 o f g = some r) : (∃ k, o = some (.inr k) ∧ g k = some r) ∨ ∃ x1 x2 x3 x4 x5 x6 x7, o = some (.inl (x1, x2, x3, x4, x5, x6, x7)) ∧ f x1 x2 x3 x4 x5 x6 x7 = some r := by
  unfold bc7 at h
  match o, h with
  | none, h => cases h
  | some (.inl q), h => exact Or.inr ⟨q.1, q.2.1, q.2.2.1, q.2.2.2.1, q.2.2.2.2.1, q.2.2.2.2.2.1, q.2.2.2.2.2.2, rfl, h⟩
  | some (.inr k), h => exact Or.inl ⟨k, rfl, h⟩
def bc8 {T1 T2 T3 T4 T5 T6 T7 T8 β : Type} (o : Option ((T1 × T2 × T3 × T4 × T5 × T6 × T7 × T8) ⊕ Nat)) (f : T1 → T2 → T3 → T4 → T5 → T6 → T7 → T8 → Option β) (g : Nat → Option β) : Option β := o.bind (fun q => match q with
  | .inl p => f p.1 p.2.1 p.2.2.1 p.2.2.2.1 p.2.2.2.2.1 p.2.2.2.2.2.1 p.2.2.2.2.2.2.1 p.2.2.2.2.2.2.2
  | .inr k => g k)
theorem bc8_e {T1 T2 T3 T4 T5 T6 T7 T8 β : Type} {o : Option ((T1 × T2 × T3 × T4 × T5 × T6 × T7 × T8) ⊕ Nat)} {f : T1 → T2 → T3 → T4 → T5 → T6 → T7 → T8 → Option β} {g : Nat → Option β} {r : β} (h : bc8 o f g = some r) : (∃ k, o = some (.inr k) ∧ g k = some r) ∨ ∃ x1 x2 x3 x4 x5 x6 x7 x8, o = some (.inl (x1, x2, x3, x4, x5, x6, x7, x8)) ∧ f x1 x2 x3 x4 x5 x6 x7 x8 = some r := by
  unfold bc8 at h
  match o, h with
  | none, h => cases h
  | some (.inl q), h => exact Or.inr ⟨q.1, q.2.1, q.2.2.1, q.2.2.2.1, q.2.2.2.2.1, q.2.2.2.2.2.1, q.2.2.2.2.2.2.1, q.2.2.2.2.2.2.2, rfl, h⟩
  | some (.inr k), h => exact Or.inl ⟨k, rfl, h⟩
def bc9 {T1 T2 T3 T4 T5 T6 T7 T8 T9 β : Type} (o : Option ((T1 × T2 × T3 × T4 × T5 × T6 × T7 × T8 × T9) ⊕ Nat)) (f : T1 → T2 → T3 → T4 → T5 → T6 → T7 → T8 → T9 → Option β) (g : Nat → Option β) : Option β := o.bind (fun q => match q with
  | .inl p => f p.1 p.2.1 p.2.2.1 p.2.2.2.1 p.2.2.2.2.1 p.2.2.2.2.2.1 p.2.2.2.2.2.2.1 p.2.2.2.2.2.2.2.1 p.2.2.2.2.2.2.2.2
  | .inr k => g k)
theorem bc9_e {T1 T2 T3 T4 T5 T6 T7 T8 T9 β : Type} {o : Option ((T1 × T2 × T3 × T4 × T5 × T6 × T7 × T8 × T9) ⊕ Nat)} {f : T1 → T2 → T3 → T4 → T5 → T6 → T7 → T8 → T9 → Option β} {g : Nat → Option β} {r : β} (h : bc9 o f g = some r) : (∃ k, o = some (.inr k) ∧ g k = some r) ∨ ∃ x1 x2 x3 x4 x5 x6 x7 x8 x9, o = some (.inl (x1, x2, x3, x4, x5, x6, x7, x8, x9)) ∧ f x1 x2 x3 x4 x5 x6 x7 x8 x9 = some r := by
  unfold bc9 at h
  match o, h with
  | none, h => cases h
  | some (.inl q), h => exact Or.inr ⟨q.1, q.2.1, q.2.2.1, q.2.2.2.1, q.2.2.2.2.1, q.2.2.2.2.2.1, q.2.2.2.2.2.2.1, q.2.2.2.2.2.2.2.1, q.2.2.2.2.2.2.2.2, rfl, h⟩
  | some (.inr k), h => exact Or.inl ⟨k, rfl, h⟩
def bc10 {T1 T2 T3 T4 T5 T6 T7 T8 T9 T10 β : Type} (o : Option ((T1 × T2 × T3 × T4 × T5 × T6 × T7 × T8 × T9 × T10) ⊕ Nat)) (f : T1 → T2 → T3 → T4 → T5 → T6 → T7 → T8 → T9 → T10 → Option β) (g : Nat → Option β) : Option β := o.bind (fun q => match q with
  | .inl p => f p.1 p.2.1 p.2.2.1 p.2.2.2.1 p.2.2.2.2.1 p.2.2.2.2.2.1 p.2.2.2.2.2.2.1 p.2.2.2.2.2.2.2.1 p.2.2.2.2.2.2.2.2.1 p.2.2.2.2.2.2.2.2.2
  | .inr k => g k)
theorem bc10_e {T1 T2 T3 T4 T5 T6 T7 T8 T9 T10 β : Type} {o : Option ((T1 × T2 × T3 × T4 × T5 × T6 × T7 × T8 × T9 × T10) ⊕ Nat)} {f : T1 → T2 → T3 → T4 → T5 → T6 → T7 → T8 → T9 → T10 → Option β} {g : Nat → Option β} {r : β} (h : bc10 o f g = some r) : (∃ k, o = some (.inr k) ∧ g k = some r) ∨ ∃ x1 x2 x3 x4 x5 x6 x7 x8 x9 x10, o = some (.inl (x1, x2, x3, x4, x5, x6, x7, x8, x9, x10)) ∧ f x1 x2 x3 x4 x5 x6 x7 x8 x9 x10 = some r := by
  unfold bc10 at h
  match o, h with
  | none, h => cases h
  | some (.inl q), h => exact Or.inr ⟨q.1, q.2.1, q.2.2.1, q.2.2.2.1, q.2.2.2.2.1, q.2.2.2.2.2.1, q.2.2.2.2.2.2.1, q.2.2.2.2.2.2.2.1, q.2.2.2.2.2.2.2.2.1, q.2.2.2.2.2.2.2.2.2, rfl, h⟩
  | some (.inr k), h => exact Or.inl ⟨k, rfl, h⟩
def bc11 {T1 T2 T3 T4 T5 T6 T7 T8 T9 T10 T11 β : Type} (o : Option ((T1 × T2 × T3 × T4 × T5 × T6 × T7 × T8 × T9 × T10 × T11) ⊕ Nat)) (f : T1 → T2 → T3 → T4 → T5 → T6 → T7 → T8 → T9 → T10 → T11 → Option β) (g : Nat → Option β) : Option β := o.bind (fun q => match q with
  | .inl p => f p.1 p.2.1 p.2.2.1 p.2.2.2.1 p.2.2.2.2.1 p.2.2.2.2.2.1 p.2.2.2.2.2.2.1 p.2.2.2.2.2.2.2.1 p.2.2.2.2.2.2.2.2.1 p.2.2.2.2.2.2.2.2.2.1 p.2.2.2.2.2.2.2.2.2.2
  | .inr k => g k)
theorem bc11_e {T1 T2 T3 T4 T5 T6 T7 T8 T9 T10 T11 β : Type} {o : Option ((T1 × T2 × T3 × T4 × T5 × T6 × T7 × T8 × T9 × T10 × T11) ⊕ Nat)} {f : T1 → T2 → T3 → T4 → T5 → T6 → T7 → T8 → T9 → T10 → T11 → Option β} {g : Nat → Option β} {r : β} (h : bc11 o f g = some r) : (∃ k, o = some (.inr k) ∧ g k = some r) ∨ ∃ x1 x2 x3 x4 x5 x6 x7 x8 x9 x10 x11, o = some (.inl (x1, x2, x3, x4, x5, x6, x7, x8, x9, x10, x11)) ∧ f x1 x2 x3 x4 x5 x6 x7 x8 x9 x10 x11 = some r := by
  unfold bc11 at h
  match o, h with
  | none, h => cases h
  | some (.inl q), h => exact Or.inr ⟨q.1, q.2.1, q.2.2.1, q.2.2.2.1, q.2.2.2.2.1, q.2.2.2.2.2.1, q.2.2.2.2.2.2.1, q.2.2.2.2.2.2.2.1, q.2.2.2.2.2.2.2.2.1, q.2.2.2.2.2.2.2.2.2.1, q.2.2.2.2.2.2.2.2.2.2, rfl, h⟩
  | some (.inr k), h => exact Or.inl ⟨k, rfl, h⟩
def bc12 {T1 T2 T3 T4 T5 T6 T7 T8 T9 T10 T11 T12 β : Type} (o : Option ((T1 × T2 × T3 × T4 × T5 × T6 × T7 × T8 × T9 × T10 × T11 × T12) ⊕ Nat)) (f : T1 → T2 → T3 → T4 → T5 → T6 → T7 → T8 → T9 → T10 → T11 → T12 → Option β) (g : Nat → Option β) : Option β := o.bind (fun q => match q with
  | .inl p => f p.1 p.2.1 p.2.2.1 p.2.2.2.1 p.2.2.2.2.1 p.2.2.2.2.2.1 p.2.2.2.2.2.2.1 p.2.2.2.2.2.2.2.1 p.2.2.2.2.2.2.2.2.1 p.2.2.2.2.2.2.2.2.2.1 p.2.2.2.2.2.2.2.2.2.2.1 p.2.2.2.2.2.2.2.2.2.2.2
  | .inr k => g k)
theorem bc12_e {T1 T2 T3 T4 T5 T6 T7 T8 T9 T10 T11 T12 β : Type} {o : Option ((T1 × T2 × T3 × T4 × T5 × T6 × T7 × T8 × T9 × T10 × T11 × T12) ⊕ Nat)} {f : T1 → T2 → T3 → T4 → T5 → T6 → T7 → T8 → T9 → T10 → T11 → T12 → Option β} {g : Nat → Option β} {r : β} (h : bc12 o f g = some r) : (∃ k, o = some (.inr k) ∧ g k = some r) ∨ ∃ x1 x2 x3 x4 x5 x6 x7 x8 x9 x10 x11 x12, o = some (.inl (x1, x2, x3, x4, x5, x6, x7, x8, x9, x10, x11, x12)) ∧ f x1 x2 x3 x4 x5 x6 x7 x8 x9 x10 x11 x12 = some r := by
  unfold bc12 at h
  match o, h with
  | none, h => cases h
  | some (.inl q), h => exact Or.inr ⟨q.1, q.2.1, q.2.2.1, q.2.2.2.1, q.2.2.2.2.1, q.2.2.2.2.2.1, q.2.2.2.2.2.2.1, q.2.2.2.2.2.2.2.1, q.2.2.2.2.2.2.2.2.1, q.2.2.2.2.2.2.2.2.2.1, q.2.2.2.2.2.2.2.2.2.2.1, q.2.2.2.2.2.2.2.2.2.2.2, rfl, h⟩
  | some (.inr k), h => exact Or.inl ⟨k, rfl, h⟩
def bc13 {T1 T2 T3 T4 T5 T6 T7 T8 T9 T10 T11 T12 T13 β : Type} (o : Option ((T1 × T2 × T3 × T4 × T5 × T6 × T7 × T8 × T9 × T10 × T11 × T12 × T13) ⊕ Nat)) (f : T1 → T2 → T3 → T4 → T5 → T6 → T7 → T8 → T9 → T10 → T11 → T12 → T13 → Option β) (g : Nat → Option β) : Option β := o.bind (fun q => match q with
  | .inl p => f p.1 p.2.1 p.2.2.1 p.2.2.2.1 p.2.2.2.2.1 p.2.2.2.2.2.1 p.2.2.2.2.2.2.1 p.2.2.2.2.2.2.2.1 p.2.2.2.2.2.2.2.2.1 p.2.2.2.2.2.2.2.2.2.1 p.2.2.2.2.2.2.2.2.2.2.1 p.2.2.2.2.2.2.2.2.2.2.2.1 p.2.2.2.2.2.2.2.2.2.2.2.2
  | .inr k => g k)
theorem bc13_e {T1 T2 T3 T4 T5 T6 T7 T8 T9 T10 T11 T12 T13 β : Type} {o : Option ((T1 × T2 × T3 × T4 × T5 × T6 × T7 × T8 × T9 × T10 × T11 × T12 × T13) ⊕ Nat)} {f : T1 → T2 → T3 → T4 → T5 → T6 → T7 → T8 → T9 → T10 → T11 → T12 → T13 → Option β} {g : Nat → Option β} {r : β} (h : bc13 o f g = some r) : (∃ k, o = some (.inr k) ∧ g k = some r) ∨ ∃ x1 x2 x3 x4 x5 x6 x7 x8 x9 x10 x11 x12 x13, o = some (.inl (x1, x2, x3, x4, x5, x6, x7, x8, x9, x10, x11, x12, x13)) ∧ f x1 x2 x3 x4 x5 x6 x7 x8 x9 x10 x11 x12 x13 = some r := by
  unfold bc13 at h
  match o, h with
  | none, h => cases h
  | some (.inl q), h => exact Or.inr ⟨q.1, q.2.1, q.2.2.1, q.2.2.2.1, q.2.2.2.2.1, q.2.2.2.2.2.1, q.2.2.2.2.2.2.1, q.2.2.2.2.2.2.2.1, q.2.2.2.2.2.2.2.2.1, q.2.2.2.2.2.2.2.2.2.1, q.2.2.2.2.2.2.2.2.2.2.1, q.2.2.2.2.2.2.2.2.2.2.2.1, q.2.2.2.2.2.2.2.2.2.2.2.2, rfl, h⟩
  | some (.inr k), h => exact Or.inl ⟨k, rfl, h⟩
def bc14 {T1 T2 T3 T4 T5 T6 T7 T8 T9 T10 T11 T12 T13 T14 β : Type} (o : Option ((T1 × T2 × T3 × T4 × T5 × T6 × T7 × T8 × T9 × T10 × T11 × T12 × T13 × T14) ⊕ Nat)) (f : T1 → T2 → T3 → T4 → T5 → T6 → T7 → T8 → T9 → T10 → T11 → T12 → T13 → T14 → Option β) (g : Nat → Option β) : Option β := o.bind (fun q => match q with
  | .inl p => f p.1 p.2.1 p.2.2.1 p.2.2.2.1 p.2.2.2.2.1 p.2.2.2.2.2.1 p.2.2.2.2.2.2.1 p.2.2.2.2.2.2.2.1 p.2.2.2.2.2.2.2.2.1 p.2.2.2.2.2.2.2.2.2.1 p.2.2.2.2.2.2.2.2.2.2.1 p.2.2.2.2.2.2.2.2.2.2.2.1 p.2.2.2.2.2.2.2.2.2.2.2.2.1 p.2.2.2.2.2.2.2.2.2.2.2.2.2
  | .inr k => g k)
theorem bc14_e {T1 T2 T3 T4 T5 T6 T7 T8 T9 T10 T11 T12 T13 T14 β : Type} {o : Option ((T1 × T2 × T3 × T4 × T5 × T6 × T7 × T8 × T9 × T10 × T11 × T12 × T13 × T14) ⊕ Nat)} {f : T1 → T2 → T3 → T4 → T5 → T6 → T7 → T8 → T9 → T10 → T11 → T12 → T13 → T14 → Option β} {g : Nat → Option β} {r : β} (h : bc14 o f g = some r) : (∃ k, o = some (.inr k) ∧ g k = some r) ∨ ∃ x1 x2 x3 x4 x5 x6 x7 x8 x9 x10 x11 x12 x13 x14, o = some (.inl (x1, x2, x3, x4, x5, x6, x7, x8, x9, x10, x11, x12, x13, x14)) ∧ f x1 x2 x3 x4 x5 x6 x7 x8 x9 x10 x11 x12 x13 x14 = some r := by
  unfold bc14 at h
  match o, h with
  | none, h => cases h
  | some (.inl q), h => exact Or.inr ⟨q.1, q.2.1, q.2.2.1, q.2.2.2.1, q.2.2.2.2.1, q.2.2.2.2.2.1, q.2.2.2.2.2.2.1, q.2.2.2.2.2.2.2.1, q.2.2.2.2.2.2.2.2.1, q.2.2.2.2.2.2.2.2.2.1, q.2.2.2.2.2.2.2.2.2.2.1, q.2.2.2.2.2.2.2.2.2.2.2.1, q.2.2.2.2.2.2.2.2.2.2.2.2.1, q.2.2.2.2.2.2.2.2.2.2.2.2.2, rfl, h⟩
  | some (.inr k), h => exact Or.inl ⟨k, rfl, h⟩
def bc15 {T1 T2 T3 T4 T5 T6 T7 T8 T9 T10 T11 T12 T13 T14 T15 β : Type} (o : Option ((T1 × T2 × T3 × T4 × T5 × T6 × T7 × T8 × T9 × T10 × T11 × T12 × T13 × T14 × T15) ⊕ Nat)) (f : T1 → T2 → T3 → T4 → T5 → T6 → T7 → T8 → T9 → T10 → T11 → T12 → T13 → T14 → T15 → Option β) (g : Nat → Option β) : Option β := o.bind (fun q => match q with
  | .inl p => f p.1 p.2.1 p.2.2.1 p.2.2.2.1 p.2.2.2.2.1 p.2.2.2.2.2.1 p.2.2.2.2.2.2.1 p.2.2.2.2.2.2.2.1 p.2.2.2.2.2.2.2.2.1 p.2.2.2.2.2.2.2.2.2.1 p.2.2.2.2.2.2.2.2.2.2.1 p.2.2.2.2.2.2.2.2.2.2.2.1 p.2.2.2.2.2.2.2.2.2.2.2.2.1 p.2.2.2.2.2.2.2.2.2.2.2.2.2.1 p.2.2.2.2.2.2.2.2.2.2.2.2.2.2
  | .inr k => g k)
theorem bc15_e {T1 T2 T3 T4 T5 T6 T7 T8 T9 T10 T11 T12 T13 T14 T15 β : Type} {o : Option ((T1 × T2 × T3 × T4 × T5 × T6 × T7 × T8 × T9 × T10 × T11 × T12 × T13 × T14 × T15) ⊕ Nat)} {f : T1 → T2 → T3 → T4 → T5 → T6 → T7 → T8 → T9 → T10 → T11 → T12 → T13 → T14 → T15 → Option β} {g : Nat → Option β} {r : β} (h : bc15 o f g = some r) : (∃ k, o = some (.inr k) ∧ g k = some r) ∨ ∃ x1 x2 x3 x4 x5 x6 x7 x8 x9 x10 x11 x12 x13 x14 x15, o = some (.inl (x1, x2, x3, x4, x5, x6, x7, x8, x9, x10, x11, x12, x13, x14, x15)) ∧ f x1 x2 x3 x4 x5 x6 x7 x8 x9 x10 x11 x12 x13 x14 x15 = some r := by
  unfold bc15 at h
  match o, h with
  | none, h => cases h
  | some (.inl q), h => exact Or.inr ⟨q.1, q.2.1, q.2.2.1, q.2.2.2.1, q.2.2.2.2.1, q.2.2.2.2.2.1, q.2.2.2.2.2.2.1, q.2.2.2.2.2.2.2.1, q.2.2.2.2.2.2.2.2.1, q.2.2.2.2.2.2.2.2.2.1, q.2.2.2.2.2.2.2.2.2.2.1, q.2.2.2.2.2.2.2.2.2.2.2.1, q.2.2.2.2.2.2.2.2.2.2.2.2.1, q.2.2.2.2.2.2.2.2.2.2.2.2.2.1, q.2.2.2.2.2.2.2.2.2.2.2.2.2.2, rfl, h⟩
  | some (.inr k), h => exact Or.inl ⟨k, rfl, h⟩
def bc16 {T1 T2 T3 T4 T5 T6 T7 T8 T9 T10 T11 T12 T13 T14 T15 T16 β : Type} (o : Option ((T1 × T2 × T3 × T4 × T5 × T6 × T7 × T8 × T9 × T10 × T11 × T12 × T13 × T14 × T15 × T16) ⊕ Nat)) (f : T1 → T2 → T3 → T4 → T5 → T6 → T7 → T8 → T9 → T10 → T11 → T12 → T13 → T14 → T15 → T16 → Option β) (g : Nat → Option β) : Option β := o.bind (fun q => match q with
  | .inl p => f p.1 p.2.1 p.2.2.1 p.2.2.2.1 p.2.2.2.2.1 p.2.2.2.2.2.1 p.2.2.2.2.2.2.1 p.2.2.2.2.2.2.2.1 p.2.2.2.2.2.2.2.2.1 p.2.2.2.2.2.2.2.2.2.1 p.2.2.2.2.2.2.2.2.2.2.1 p.2.2.2.2.2.2.2.2.2.2.2.1 p.2.2.2.2.2.2.2.2.2.2.2.2.1 p.2.2.2.2.2.2.2.2.2.2.2.2.2.1 p.2.2.2.2.2.2.2.2.2.2.2.2.2.2.1 p.2.2.2.2.2.2.2.2.2.2.2.2.2.2.2
  | .inr k => g k)
theorem bc16_e {T1 T2 T3 T4 T5 T6 T7 T8 T9 T10 T11 T12 T13 T14 T15 T16 β : Type} {o : Option ((T1 × T2 × T3 × T4 × T5 × T6 × T7 × T8 × T9 × T10 × T11 × T12 × T13 × T14 × T15 × T16) ⊕ Nat)} {f : T1 → T2 → T3 → T4 → T5 → T6 → T7 → T8 → T9 → T10 → T11 → T12 → T13 → T14 → T15 → T16 → Option β} {g : Nat → Option β} {r : β} (h : bc16 o f g = some r) : (∃ k, o = some (.inr k) ∧ g k = some r) ∨ ∃ x1 x2 x3 x4 x5 x6 x7 x8 x9 x10 x11 x12 x13 x14 x15 x16, o = some (.inl (x1, x2, x3, x4, x5, x6, x7, x8, x9, x10, x11, x12, x13, x14, x15, x16)) ∧ f x1 x2 x3 x4 x5 x6 x7 x8 x9 x10 x11 x12 x13 x14 x15 x16 = some r := by
  unfold bc16 at h
  match o, h with
  | none, h => cases h
  | some (.inl q), h => exact Or.inr ⟨q.1, q.2.1, q.2.2.1, q.2.2.2.1, q.2.2.2.2.1, q.2.2.2.2.2.1, q.2.2.2.2.2.2.1, q.2.2.2.2.2.2.2.1, q.2.2.2.2.2.2.2.2.1, q.2.2.2.2.2.2.2.2.2.1, q.2.2.2.2.2.2.2.2.2.2.1, q.2.2.2.2.2.2.2.2.2.2.2.1, q.2.2.2.2.2.2.2.2.2.2.2.2.1, q.2.2.2.2.2.2.2.2.2.2.2.2.2.1, q.2.2.2.2.2.2.2.2.2.2.2.2.2.2.1, q.2.2.2.2.2.2.2.2.2.2.2.2.2.2.2, rfl, h⟩
  | some (.inr k), h => exact Or.inl ⟨k, rfl, h⟩
def bc17 {T1 T2 T3 T4 T5 T6 T7 T8 T9 T10 T11 T12 T13 T14 T15 T16 T17 β : Type} (o : Option ((T1 × T2 × T3 × T4 × T5 × T6 × T7 × T8 × T9 × T10 × T11 × T12 × T13 × T14 × T15 × T16 × T17) ⊕ Nat)) (f : T1 → T2 → T3 → T4 → T5 → T6 → T7 → T8 → T9 → T10 → T11 → T12 → T13 → T14 → T15 → T16 → T17 → Option β) (g : Nat → Option β) : Option β := o.bind (fun q => match q with
  | .inl p => f p.1 p.2.1 p.2.2.1 p.2.2.2.1 p.2.2.2.2.1 p.2.2.2.2.2.1 p.2.2.2.2.2.2.1 p.2.2.2.2.2.2.2.1 p.2.2.2.2.2.2.2.2.1 p.2.2.2.2.2.2.2.2.2.1 p.2.2.2.2.2.2.2.2.2.2.1 p.2.2.2.2.2.2.2.2.2.2.2.1 p.2.2.2.2.2.2.2.2.2.2.2.2.1 p.2.2.2.2.2.2.2.2.2.2.2.2.2.1 p.2.2.2.2.2.2.2.2.2.2.2.2.2.2.1 p.2.2.2.2.2.2.2.2.2.2.2.2.2.2.2.1 p.2.2.2.2.2.2.2.2.2.2.2.2.2.2.2.2
  | .inr k => g k)
theorem bc17_e {T1 T2 T3 T4 T5 T6 T7 T8 T9 T10 T11 T12 T13 T14 T15 T16 T17 β : Type} {o : Option ((T1 × T2 × T3 × T4 × T5 × T6 × T7 × T8 × T9 × T10 × T11 × T12 × T13 × T14 × T15 × T16 × T17) ⊕ Nat)} {f : T1 → T2 → T3 → T4 → T5 → T6 → T7 → T8 → T9 → T10 → T11 → T12 → T13 → T14 → T15 → T16 → T17 → Option β} {g : Nat → Option β} {r : β} (h : bc17 o f g = some r) : (∃ k, o = some (.inr k) ∧ g k = some r) ∨ ∃ x1 x2 x3 x4 x5 x6 x7 x8 x9 x10 x11 x12 x13 x14 x15 x16 x17, o = some (.inl (x1, x2, x3, x4, x5, x6, x7, x8, x9, x10, x11, x12, x13, x14, x15, x16, x17)) ∧ f x1 x2 x3 x4 x5 x6 x7 x8 x9 x10 x11 x12 x13 x14 x15 x16 x17 = some r := by
  unfold bc17 at h
  match o, h with
  | none, h => cases h
  | some (.inl q), h => exact Or.inr ⟨q.1, q.2.1, q.2.2.1, q.2.2.2.1, q.2.2.2.2.1, q.2.2.2.2.2.1, q.2.2.2.2.2.2.1, q.2.2.2.2.2.2.2.1, q.2.2.2.2.2.2.2.2.1, q.2.2.2.2.2.2.2.2.2.1, q.2.2.2.2.2.2.2.2.2.2.1, q.2.2.2.2.2.2.2.2.2.2.2.1, q.2.2.2.2.2.2.2.2.2.2.2.2.1, q.2.2.2.2.2.2.2.2.2.2.2.2.2.1, q.2.2.2.2.2.2.2.2.2.2.2.2.2.2.1, q.2.2.2.2.2.2.2.2.2.2.2.2.2.2.2.1, q.2.2.2.2.2.2.2.2.2.2.2.2.2.2.2.2, rfl, h⟩
  | some (.inr k), h => exact Or.inl ⟨k, rfl, h⟩
def bc18 {T1 T2 T3 T4 T5 T6 T7 T8 T9 T10 T11 T12 T13 T14 T15 T16 T17 T18 β : Type} (o : Option ((T1 × T2 × T3 × T4 × T5 × T6 × T7 × T8 × T9 × T10 × T11 × T12 × T13 × T14 × T15 × T16 × T17 × T18) ⊕ Nat)) (f : T1 → T2 → T3 → T4 → T5 → T6 → T7 → T8 → T9 → T10 → T11 → T12 → T13 → T14 → T15 → T16 → T17 → T18 → Option β) (g : Nat → Option β) : Option β := o.bind (fun q => match q with
  | .inl p => f p.1 p.2.1 p.2.2.1 p.2.2.2.1 p.2.2.2.2.1 p.2.2.2.2.2.1 p.2.2.2.2.2.2.1 p.2.2.2.2.2.2.2.1 p.2.2.2.2.2.2.2.2.1 p.2.2.2.2.2.2.2.2.2.1 p.2.2.2.2.2.2.2.2.2.2.1 p.2.2.2.2.2.2.2.2.2.2.2.1 p.2.2.2.2.2.2.2.2.2.2.2.2.1 p.2.2.2.2.2.2.2.2.2.2.2.2.2.1 p.2.2.2.2.2.2.2.2.2.2.2.2.2.2.1 p.2.2.2.2.2.2.2.2.2.2.2.2.2.2.2.1 p.2.2.2.2.2.2.2.2.2.2.2.2.2.2.2.2.1 p.2.2.2.2.2.2.2.2.2.2.2.2.2.2.2.2.2
  | .inr k => g k)
theorem bc18_e {T1 T2 T3 T4 T5 T6 T7 T8 T9 T10 T11 T12 T13 T14 T15 T16 T17 T18 β : Type} {o : Option ((T1 × T2 × T3 × T4 × T5 × T6 × T7 × T8 × T9 × T10 × T11 × T12 × T13 × T14 × T15 × T16 × T17 × T18) ⊕ Nat)} {f : T1 → T2 → T3 → T4 → T5 → T6 → T7 → T8 → T9 → T10 → T11 → T12 → T13 → T14 → T15 → T16 → T17 → T18 → Option β} {g : Nat → Option β} {r : β} (h : bc18 o f g = some r) : (∃ k, o = some (.inr k) ∧ g k = some r) ∨ ∃ x1 x2 x3 x4 x5 x6 x7 x8 x9 x10 x11 x12 x13 x14 x15 x16 x17 x18, o = some (.inl (x1, x2, x3, x4, x5, x6, x7, x8, x9, x10, x11, x12, x13, x14, x15, x16, x17, x18)) ∧ f x1 x2 x3 x4 x5 x6 x7 x8 x9 x10 x11 x12 x13 x14 x15 x16 x17 x18 = some r := by
  unfold bc18 at h
  match o, h with
  | none, h => cases h
  | some (.inl q), h => exact Or.inr ⟨q.1, q.2.1, q.2.2.1, q.2.2.2.1, q.2.2.2.2.1, q.2.2.2.2.2.1, q.2.2.2.2.2.2.1, q.2.2.2.2.2.2.2.1, q.2.2.2.2.2.2.2.2.1, q.2.2.2.2.2.2.2.2.2.1, q.2.2.2.2.2.2.2.2.2.2.1, q.2.2.2.2.2.2.2.2.2.2.2.1, q.2.2.2.2.2.2.2.2.2.2.2.2.1, q.2.2.2.2.2.2.2.2.2.2.2.2.2.1, q.2.2.2.2.2.2.2.2.2.2.2.2.2.2.1, q.2.2.2.2.2.2.2.2.2.2.2.2.2.2.2.1, q.2.2.2.2.2.2.2.2.2.2.2.2.2.2.2.2.1, q.2.2.2.2.2.2.2.2.2.2.2.2.2.2.2.2.2, rfl, h⟩
  | some (.inr k), h => exact Or.inl ⟨k, rfl, h⟩
def bc19 {T1 T2 T3 T4 T5 T6 T7 T8 T9 T10 T11 T12 T13 T14 T15 T16 T17 T18 T19 β : Type} (o : Option ((T1 × T2 × T3 × T4 × T5 × T6 × T7 × T8 × T9 × T10 × T11 × T12 × T13 × T14 × T15 × T16 × T17 × T18 × T19) ⊕ Nat)) (f : T1 → T2 → T3 → T4 → T5 → T6 → T7 → T8 → T9 → T10 → T11 → T12 → T13 → T14 → T15 → T16 → T17 → T18 → T19 → Option β) (g : Nat → Option β) : Option β := o.bind (fun q => match q with
  | .inl p => f p.1 p.2.1 p.2.2.1 p.2.2.2.1 p.2.2.2.2.1 p.2.2.2.2.2.1 p.2.2.2.2.2.2.1 p.2.2.2.2.2.2.2.1 p.2.2.2.2.2.2.2.2.1 p.2.2.2.2.2.2.2.2.2.1 p.2.2.2.2.2.2.2.2.2.2.1 p.2.2.2.2.2.2.2.2.2.2.2.1 p.2.2.2.2.2.2.2.2.2.2.2.2.1 p.2.2.2.2.2.2.2.2.2.2.2.2.2.1 p.2.2.2.2.2.2.2.2.2.2.2.2.2.2.1 p.2.2.2.2.2.2.2.2.2.2.2.2.2.2.2.1 p.2.2.2.2.2.2.2.2.2.2.2.2.2.2.2.2.1 p.2.2.2.2.2.2.2.2.2.2.2.2.2.2.2.2.2.1 p.2.2.2.2.2.2.2.2.2.2.2.2.2.2.2.2.2.2
  | .inr k => g k)
theorem bc19_e {T1 T2 T3 T4 T5 T6 T7 T8 T9 T10 T11 T12 T13 T14 T15 T16 T17 T18 T19 β : Type} {o : Option ((T1 × T2 × T3 × T4 × T5 × T6 × T7 × T8 × T9 × T10 × T11 × T12 × T13 × T14 × T15 × T16 × T17 × T18 × T19) ⊕ Nat)} {f : T1 → T2 → T3 → T4 → T5 → T6 → T7 → T8 → T9 → T10 → T11 → T12 → T13 → T14 → T15 → T16 → T17 → T18 → T19 → Option β} {g : Nat → Option β} {r : β} (h : bc19 o f g = some r) : (∃ k, o = some (.inr k) ∧ g k = some r) ∨ ∃ x1 x2 x3 x4 x5 x6 x7 x8 x9 x10 x11 x12 x13 x14 x15 x16 x17 x18 x19, o = some (.inl (x1, x2, x3, x4, x5, x6, x7, x8, x9, x10, x11, x12, x13, x14, x15, x16, x17, x18, x19)) ∧ f x1 x2 x3 x4 x5 x6 x7 x8 x9 x10 x11 x12 x13 x14 x15 x16 x17 x18 x19 = some r := by
  unfold bc19 at h
  match o, h with
  | none, h => cases h
  | some (.inl q), h => exact Or.inr ⟨q.1, q.2.1, q.2.2.1, q.2.2.2.1, q.2.2.2.2.1, q.2.2.2.2.2.1, q.2.2.2.2.2.2.1, q.2.2.2.2.2.2.2.1, q.2.2.2.2.2.2.2.2.1, q.2.2.2.2.2.2.2.2.2.1, q.2.2.2.2.2.2.2.2.2.2.1, q.2.2.2.2.2.2.2.2.2.2.2.1, q.2.2.2.2.2.2.2.2.2.2.2.2.1, q.2.2.2.2.2.2.2.2.2.2.2.2.2.1, q.2.2.2.2.2.2.2.2.2.2.2.2.2.2.1, q.2.2.2.2.2.2.2.2.2.2.2.2.2.2.2.1, q.2.2.2.2.2.2.2.2.2.2.2.2.2.2.2.2.1, q.2.2.2.2.2.2.2.2.2.2.2.2.2.2.2.2.2.1, q.2.2.2.2.2.2.2.2.2.2.2.2.2.2.2.2.2.2, rfl, h⟩
  | some (.inr k), h => exact Or.inl ⟨k, rfl, h⟩
theorem gf_rf {C : String} (x : Option Nat) : fits (.object C) (va_rf x) = true := by cases x <;> rfl
theorem gn_rf {C : String} (x : Option Nat) : narrow (.object C) (va_rf x) = va_rf x := by cases x <;> rfl
/-- what is thrown goes on -/
def gthr {T : Type} (k : Nat) : Option (T ⊕ Nat) := some (.inr k)
theorem gCa0 : Cond.castable (gXn 0) (gXn 0) ∈ lw_tbl := q991
theorem gCa1 : Cond.castable (gXn 1) (gXn 1) ∈ lw_tbl := q656
theorem gCa2 : Cond.castable (gXn 2) (gXn 2) ∈ lw_tbl := q964
section GXC
variable {p : Program} {l : Launch} {e : Env} {R : Room} {s : State} {m : MethodId} {args : Array Value} {below : List Frame} {meth : Method} {c : Code} {Z : gZt} {A : Nat → Prop} {cc : ByteArray} {own : String} {nL : Nat} {ret : Option FieldType} {rs : va_W} {Q : State → Prop} {wd : va_W} {k n pc : Nat} {L : List (Option Value)} {st : List Value}
theorem g_ldcSw (X : gX p s m args meth c Z A cc own nL ret rs) (i : Nat) {ix : Nat} {tx : String} (hq : gStr[i]? = some (own, ix, tx)) (hd : decode cc pc = .ok (.ldc_w ix, 3)) (pc' : Nat) (hp : pc + 3 = pc') (kk : G p l e R s m args below meth c Z A nL Q wd k n pc' L (.ref (gSK Z i) :: st)) : G p l e R s m args below meth c Z A nL Q wd k n pc L st := by
  subst hp
  have hr := X.kk.2.2.2.2.2.2.2.2.2.1 i _ hq
  intro H locs ls hP hD hS hl T hT X9
  obtain ⟨t, a, b⟩ := kk H locs ls hP hD hS hl T hT X9
  exact ⟨t, X9.ldcStringW X.1 (own := own) (text := tx) (index := ix) (a := gSK Z i) X.ow hr.1 hr.2 (g := F0 m pc ls st) rfl (by rw [X.2.1]; exact hd) t a, b⟩
/-- the end of a method that throws, on its way back -/
theorem g_retI {T S : Type} {rv : T → S → Option Value} {wd' : T → S → va_W} {x : T} {wd0 : va_W} {mc ms : Nat} (h : G p l e R s m args below meth c Z A nL (MQ below (gPost Z A (rv x) (wd' x)) args s mc ms A) wd k n pc L st) : G p l e R s m args below meth c Z A nL (vx_MQ below (gQc Z A rv wd' (.inl x)) (gXc Z A wd0 (.inl x)) args s mc ms A) wd k n pc L st := g_retX h
/-- no row of the table -/
def gXt (c : Code) : Prop := ∀ x ∈ c.exceptionTable.toList, False
/-- a call that throws, seen from the caller -/
def gHr (p : Program) (l : Launch) (e : Env) (R : Room) (s : State) (m : MethodId) (args : Array Value) (below : List Frame) (meth : Method) (c : Code) (Z : gZt) (A : Nat → Prop) (nL : Nat) (wd wc wx : va_W) (k n : Nat) (rm : Room) (pc : Nat) (L : List (Option Value)) (st0 st : List Value) (E0 : String) : Prop := ∀ (H : Heap) (locs : List Loc) (ls : Array Slot), va_P Z.1 gCl wd H → va_D A wd → va_S A s.heap H locs → gl ls nL L → vx_Run p l e R s m args below meth c H locs k n rm.cells rm.slots (F0 m pc ls st0) st (fun _ _ _ => False) (gPostX Z (va_A wc H.size) E0 wx) (va_A wc H.size)
theorem g_hrS (X : gX p s m args meth c Z A cc own nL ret rs) {y : MethodName} {bytes : ByteArray} {maxL ix N : Nat}  {rt : Option FieldType} {rm : Room} {As : List Value} {wc rc wx : va_W} {E0 : String} (hM : CtX l y (ws_ y bytes maxL rt) rm Z As wc rc wx E0) (isC isR isO : List Nat) {wr : va_W} (h4 : gAt4 wd rs wc wr rc isC isR isO) (hg : GoodIn lw_all (va_wsS own ix y (ws_ y bytes maxL rt))) (hmd : gMd y N) (hR : gRm R rm maxL) (hn : As.length = N) (hd : decode cc pc = .ok (.invokestatic ix, 3)) (hkk : k + rm.cells ≤ R.cells) (hss : n + rm.slots ≤ R.slots) {st0 : List Value} (hst : st0 = As.reverse ++ st) (hcat : (st.map fun v => v.category).sum ≤ 8) : gHr p l e R s m args below meth c Z A nL wd wc wx k n rm pc L st0 st E0 := fun H locs ls hP hD hS hl =>
  vx_runS X.fix (hM H.size) (va_cwS N X.ts hg rfl rfl rfl hmd hR) ⟨gPre_blind, fun U hU hW => ⟨rfl, g_pre X h4 hP hD hS hU hW⟩⟩ rfl hn hl.1 hst (lv_room hcat) hd ⟨hkk, hss⟩
theorem g_xoS (X : gX p s m args meth c Z A cc own nL ret rs) {y : MethodName} {bytes : ByteArray} {maxL ix N : Nat}  {rt : Option FieldType} {rm : Room} {As : List Value} {wc rc wx : va_W} {E0 : String} (hM : CtX l y (ws_ y bytes maxL rt) rm Z As wc rc wx E0) (isC isR isO : List Nat) {wr : va_W} (h4 : gAt4 wd rs wc wr rc isC isR isO) (hg : GoodIn lw_all (va_wsS own ix y (ws_ y bytes maxL rt))) (hmd : gMd y N) (hR : gRm R rm maxL) (hn : As.length = N) (hd : decode cc pc = .ok (.invokestatic ix, 3)) (Xt : gXt c) {wd0 : va_W} (isK : List Nat) {mc ms : Nat} {Qc : Array Value → State → Outcome → State → Prop} (hkk : k + rm.cells ≤ R.cells) (hss : n + rm.slots ≤ R.slots) {st0 : List Value} (hst : st0 = As.reverse ++ st) (hcat : (st.map fun v => v.category).sum ≤ 8) (hK0 : isK.map (fun i => (wr ++ wx)[i]?) = wd0.map some) (hnK : va_nd isK = true) (hk : k + rm.cells ≤ mc) (hs : n + rm.slots ≤ ms) : G p l e R s m args below meth c Z A nL (vx_MQ below Qc (gPostX Z A E0 wd0) args s mc ms A) wd k n pc L st0 :=
  g_xout X Xt h4 hK0 hnK (g_hrS X hM isC isR isO h4 hg hmd hR hn hd hkk hss hst hcat) hk hs
theorem g_xcS (X : gX p s m args meth c Z A cc own nL ret rs) {y : MethodName} {bytes : ByteArray} {maxL ix N : Nat}  {rt : Option FieldType} {rm : Room} {As : List Value} {wc rc wx : va_W} {E0 : String} (hM : CtX l y (ws_ y bytes maxL rt) rm Z As wc rc wx E0) (isC isR isO : List Nat) {wr : va_W} (h4 : gAt4 wd rs wc wr rc isC isR isO) (hg : GoodIn lw_all (va_wsS own ix y (ws_ y bytes maxL rt))) (hmd : gMd y N) (hR : gRm R rm maxL) (hn : As.length = N) (hd : decode cc pc = .ok (.invokestatic ix, 3)) (pre : List ExceptionTableEntry) (x : ExceptionTableEntry) (suf : List ExceptionTableEntry) {name : String} {Hd : Nat} (hsplit : c.exceptionTable.toList = pre ++ x :: suf) (hkk : k + rm.cells ≤ R.cells) (hss : n + rm.slots ≤ R.slots) {st0 : List Value} (hst : st0 = As.reverse ++ st) (hcat : (st.map fun v => v.category).sum ≤ 8) (hpass : ∀ z ∈ pre, covers z pc = false ∨ (z.catchType ≠ 0 ∧ ∃ nm : String, Cond.classLink own z.catchType nm ∈ lw_all ∧ va_Nc E0 nm s)) (hcov : covers x pc = true) (h0x : x.catchType ≠ 0) (hlink : Cond.classLink own x.catchType name ∈ lw_all) (hcast : Cond.castable E0 name ∈ lw_tbl) (hh : x.handlerPc = Hd) (k' n' : Nat) (hk : k + rm.cells = k') (hs : n + rm.slots = n') (kk : ∀ q : Nat, G p l e R s m args below meth c Z A nL Q (wr ++ wx) k' n' Hd L [.ref q]) : G p l e R s m args below meth c Z A nL Q wd k n pc L st0 :=
  g_xcatch X h4 (g_hrS X hM isC isR isO h4 hg hmd hR hn hd hkk hss hst hcat) pre x suf hsplit hpass hcov h0x hlink hcast hh k' n' hk hs kk
theorem g_hrSN (X : gX p s m args meth c Z A cc own nL ret rs) {y : MethodName} {bytes : ByteArray} {maxL ix N : Nat} {host : String} {rt : Option FieldType} {rm : Room} {As : List Value} {wc rc wx : va_W} {E0 : String} (hM : CtX l y (ws_ y bytes maxL rt) rm Z As wc rc wx E0) (isC isR isO : List Nat) {wr : va_W} (h4 : gAt4 wd rs wc wr rc isC isR isO) (hg : Cond.code y bytes maxL rt ∈ lw_all) (hini : Cond.initialized y.cls ∈ lw_all) (hlk : Cond.methodLinkNest own ix y host ∈ lw_tbl) (hst_ : Cond.static y ∈ lw_all) (hmd : gMd y N) (hR : gRm R rm maxL) (hn : As.length = N) (hd : decode cc pc = .ok (.invokestatic ix, 3)) (hkk : k + rm.cells ≤ R.cells) (hss : n + rm.slots ≤ R.slots) {st0 : List Value} (hst : st0 = As.reverse ++ st) (hcat : (st.map fun v => v.category).sum ≤ 8) : gHr p l e R s m args below meth c Z A nL wd wc wx k n rm pc L st0 st E0 := fun H locs ls hP hD hS hl =>
  vx_runSN X.fix (hM H.size) ⟨va_cnB N X.ts (lw_meth hg) rfl rfl rfl (X.kk.2.1 _ hlk rfl) (X.ts _ hini) hmd hR, X.ts _ hst_, trivial⟩ ⟨gPre_blind, fun U hU hW => ⟨rfl, g_pre X h4 hP hD hS hU hW⟩⟩ rfl hn hl.1 hst (lv_room hcat) hd ⟨hkk, hss⟩
theorem g_xoSN (X : gX p s m args meth c Z A cc own nL ret rs) {y : MethodName} {bytes : ByteArray} {maxL ix N : Nat} {host : String} {rt : Option FieldType} {rm : Room} {As : List Value} {wc rc wx : va_W} {E0 : String} (hM : CtX l y (ws_ y bytes maxL rt) rm Z As wc rc wx E0) (isC isR isO : List Nat) {wr : va_W} (h4 : gAt4 wd rs wc wr rc isC isR isO) (hg : Cond.code y bytes maxL rt ∈ lw_all) (hini : Cond.initialized y.cls ∈ lw_all) (hlk : Cond.methodLinkNest own ix y host ∈ lw_tbl) (hst_ : Cond.static y ∈ lw_all) (hmd : gMd y N) (hR : gRm R rm maxL) (hn : As.length = N) (hd : decode cc pc = .ok (.invokestatic ix, 3)) (Xt : gXt c) {wd0 : va_W} (isK : List Nat) {mc ms : Nat} {Qc : Array Value → State → Outcome → State → Prop} (hkk : k + rm.cells ≤ R.cells) (hss : n + rm.slots ≤ R.slots) {st0 : List Value} (hst : st0 = As.reverse ++ st) (hcat : (st.map fun v => v.category).sum ≤ 8) (hK0 : isK.map (fun i => (wr ++ wx)[i]?) = wd0.map some) (hnK : va_nd isK = true) (hk : k + rm.cells ≤ mc) (hs : n + rm.slots ≤ ms) : G p l e R s m args below meth c Z A nL (vx_MQ below Qc (gPostX Z A E0 wd0) args s mc ms A) wd k n pc L st0 :=
  g_xout X Xt h4 hK0 hnK (g_hrSN X hM isC isR isO h4 hg hini hlk hst_ hmd hR hn hd hkk hss hst hcat) hk hs
theorem g_xcSN (X : gX p s m args meth c Z A cc own nL ret rs) {y : MethodName} {bytes : ByteArray} {maxL ix N : Nat} {host : String} {rt : Option FieldType} {rm : Room} {As : List Value} {wc rc wx : va_W} {E0 : String} (hM : CtX l y (ws_ y bytes maxL rt) rm Z As wc rc wx E0) (isC isR isO : List Nat) {wr : va_W} (h4 : gAt4 wd rs wc wr rc isC isR isO) (hg : Cond.code y bytes maxL rt ∈ lw_all) (hini : Cond.initialized y.cls ∈ lw_all) (hlk : Cond.methodLinkNest own ix y host ∈ lw_tbl) (hst_ : Cond.static y ∈ lw_all) (hmd : gMd y N) (hR : gRm R rm maxL) (hn : As.length = N) (hd : decode cc pc = .ok (.invokestatic ix, 3)) (pre : List ExceptionTableEntry) (x : ExceptionTableEntry) (suf : List ExceptionTableEntry) {name : String} {Hd : Nat} (hsplit : c.exceptionTable.toList = pre ++ x :: suf) (hkk : k + rm.cells ≤ R.cells) (hss : n + rm.slots ≤ R.slots) {st0 : List Value} (hst : st0 = As.reverse ++ st) (hcat : (st.map fun v => v.category).sum ≤ 8) (hpass : ∀ z ∈ pre, covers z pc = false ∨ (z.catchType ≠ 0 ∧ ∃ nm : String, Cond.classLink own z.catchType nm ∈ lw_all ∧ va_Nc E0 nm s)) (hcov : covers x pc = true) (h0x : x.catchType ≠ 0) (hlink : Cond.classLink own x.catchType name ∈ lw_all) (hcast : Cond.castable E0 name ∈ lw_tbl) (hh : x.handlerPc = Hd) (k' n' : Nat) (hk : k + rm.cells = k') (hs : n + rm.slots = n') (kk : ∀ q : Nat, G p l e R s m args below meth c Z A nL Q (wr ++ wx) k' n' Hd L [.ref q]) : G p l e R s m args below meth c Z A nL Q wd k n pc L st0 :=
  g_xcatch X h4 (g_hrSN X hM isC isR isO h4 hg hini hlk hst_ hmd hR hn hd hkk hss hst hcat) pre x suf hsplit hpass hcov h0x hlink hcast hh k' n' hk hs kk
theorem g_hrV (X : gX p s m args meth c Z A cc own nL ret rs) {y : MethodName} {bytes : ByteArray} {maxL ix N : Nat} {b : Nat} {C : String} {rt : Option FieldType} {rm : Room} {As : List Value} {wc rc wx : va_W} {E0 : String} (hM : CtX l y (ws_ y bytes maxL rt) rm Z (.ref b :: As) wc rc wx E0) (isC isR isO : List Nat) {wr : va_W} (h4 : gAt4 wd rs wc wr rc isC isR isO) (q0 : Nat) {ci : Nat} {T : u_T} {M : Nat} {ty : Nat → FieldType} {fs : List Value} (hC : gC ci C T M ty) (hq : (wd ++ rs)[q0]? = some (b, .inr (ci, fs))) (hcl : y.cls = C) (hg : GoodIn lw_all (wsV own ix C y (ws_ y bytes maxL rt))) (hmd : gMd y N) (hR : gRm R rm maxL) (hn : As.length = N) (hd : decode cc pc = .ok (.invokevirtual ix, 3)) (hkk : k + rm.cells ≤ R.cells) (hss : n + rm.slots ≤ R.slots) {st0 : List Value} (hst : st0 = As.reverse ++ .ref b :: st) (hcat : (st.map fun v => v.category).sum ≤ 8) : gHr p l e R s m args below meth c Z A nL wd wc wx k n rm pc L st0 st E0 := fun H locs ls hP hD hS hl =>
  vx_runV X.fix (hM H.size) (cwV N X.ts hg rfl rfl rfl ⟨hcl, hmd⟩ hR) ⟨gPre_blind, va_recv X.K (hP.app (X.ro hS)) hC.1 hq, fun U hU hW => ⟨rfl, g_pre X h4 hP hD hS hU hW⟩⟩ rfl hn hl.1 hst (lv_room hcat) hd ⟨hkk, hss⟩
theorem g_xoV (X : gX p s m args meth c Z A cc own nL ret rs) {y : MethodName} {bytes : ByteArray} {maxL ix N : Nat} {b : Nat} {C : String} {rt : Option FieldType} {rm : Room} {As : List Value} {wc rc wx : va_W} {E0 : String} (hM : CtX l y (ws_ y bytes maxL rt) rm Z (.ref b :: As) wc rc wx E0) (isC isR isO : List Nat) {wr : va_W} (h4 : gAt4 wd rs wc wr rc isC isR isO) (q0 : Nat) {ci : Nat} {T : u_T} {M : Nat} {ty : Nat → FieldType} {fs : List Value} (hC : gC ci C T M ty) (hq : (wd ++ rs)[q0]? = some (b, .inr (ci, fs))) (hcl : y.cls = C) (hg : GoodIn lw_all (wsV own ix C y (ws_ y bytes maxL rt))) (hmd : gMd y N) (hR : gRm R rm maxL) (hn : As.length = N) (hd : decode cc pc = .ok (.invokevirtual ix, 3)) (Xt : gXt c) {wd0 : va_W} (isK : List Nat) {mc ms : Nat} {Qc : Array Value → State → Outcome → State → Prop} (hkk : k + rm.cells ≤ R.cells) (hss : n + rm.slots ≤ R.slots) {st0 : List Value} (hst : st0 = As.reverse ++ .ref b :: st) (hcat : (st.map fun v => v.category).sum ≤ 8) (hK0 : isK.map (fun i => (wr ++ wx)[i]?) = wd0.map some) (hnK : va_nd isK = true) (hk : k + rm.cells ≤ mc) (hs : n + rm.slots ≤ ms) : G p l e R s m args below meth c Z A nL (vx_MQ below Qc (gPostX Z A E0 wd0) args s mc ms A) wd k n pc L st0 :=
  g_xout X Xt h4 hK0 hnK (g_hrV X hM isC isR isO h4 q0 hC hq hcl hg hmd hR hn hd hkk hss hst hcat) hk hs
theorem g_xcV (X : gX p s m args meth c Z A cc own nL ret rs) {y : MethodName} {bytes : ByteArray} {maxL ix N : Nat} {b : Nat} {C : String} {rt : Option FieldType} {rm : Room} {As : List Value} {wc rc wx : va_W} {E0 : String} (hM : CtX l y (ws_ y bytes maxL rt) rm Z (.ref b :: As) wc rc wx E0) (isC isR isO : List Nat) {wr : va_W} (h4 : gAt4 wd rs wc wr rc isC isR isO) (q0 : Nat) {ci : Nat} {T : u_T} {M : Nat} {ty : Nat → FieldType} {fs : List Value} (hC : gC ci C T M ty) (hq : (wd ++ rs)[q0]? = some (b, .inr (ci, fs))) (hcl : y.cls = C) (hg : GoodIn lw_all (wsV own ix C y (ws_ y bytes maxL rt))) (hmd : gMd y N) (hR : gRm R rm maxL) (hn : As.length = N) (hd : decode cc pc = .ok (.invokevirtual ix, 3)) (pre : List ExceptionTableEntry) (x : ExceptionTableEntry) (suf : List ExceptionTableEntry) {name : String} {Hd : Nat} (hsplit : c.exceptionTable.toList = pre ++ x :: suf) (hkk : k + rm.cells ≤ R.cells) (hss : n + rm.slots ≤ R.slots) {st0 : List Value} (hst : st0 = As.reverse ++ .ref b :: st) (hcat : (st.map fun v => v.category).sum ≤ 8) (hpass : ∀ z ∈ pre, covers z pc = false ∨ (z.catchType ≠ 0 ∧ ∃ nm : String, Cond.classLink own z.catchType nm ∈ lw_all ∧ va_Nc E0 nm s)) (hcov : covers x pc = true) (h0x : x.catchType ≠ 0) (hlink : Cond.classLink own x.catchType name ∈ lw_all) (hcast : Cond.castable E0 name ∈ lw_tbl) (hh : x.handlerPc = Hd) (k' n' : Nat) (hk : k + rm.cells = k') (hs : n + rm.slots = n') (kk : ∀ q : Nat, G p l e R s m args below meth c Z A nL Q (wr ++ wx) k' n' Hd L [.ref q]) : G p l e R s m args below meth c Z A nL Q wd k n pc L st0 :=
  g_xcatch X h4 (g_hrV X hM isC isR isO h4 q0 hC hq hcl hg hmd hR hn hd hkk hss hst hcat) pre x suf hsplit hpass hcov h0x hlink hcast hh k' n' hk hs kk
theorem g_hrVN (X : gX p s m args meth c Z A cc own nL ret rs) {y : MethodName} {bytes : ByteArray} {maxL ix N : Nat} {b : Nat} {C host : String} {rt : Option FieldType} {rm : Room} {As : List Value} {wc rc wx : va_W} {E0 : String} (hM : CtX l y (ws_ y bytes maxL rt) rm Z (.ref b :: As) wc rc wx E0) (isC isR isO : List Nat) {wr : va_W} (h4 : gAt4 wd rs wc wr rc isC isR isO) (q0 : Nat) {ci : Nat} {T : u_T} {M : Nat} {ty : Nat → FieldType} {fs : List Value} (hC : gC ci C T M ty) (hq : (wd ++ rs)[q0]? = some (b, .inr (ci, fs))) (hg : Cond.code y bytes maxL rt ∈ lw_all) (hini : Cond.initialized y.cls ∈ lw_all) (hlk : Cond.methodLinkNest own ix y host ∈ lw_tbl) (hins : Cond.instanceMethod y ∈ lw_all) (hsel : Cond.selects C y y ∈ lw_all) (hmd : gMd y N) (hR : gRm R rm maxL) (hn : As.length = N) (hd : decode cc pc = .ok (.invokevirtual ix, 3)) (hkk : k + rm.cells ≤ R.cells) (hss : n + rm.slots ≤ R.slots) {st0 : List Value} (hst : st0 = As.reverse ++ .ref b :: st) (hcat : (st.map fun v => v.category).sum ≤ 8) : gHr p l e R s m args below meth c Z A nL wd wc wx k n rm pc L st0 st E0 := fun H locs ls hP hD hS hl =>
  vx_runVN X.fix (hM H.size) ⟨va_cnB N X.ts (lw_meth hg) rfl rfl rfl (X.kk.2.1 _ hlk rfl) (X.ts _ hini) hmd hR, X.ts _ hins, X.ts _ hsel⟩ ⟨gPre_blind, va_recv X.K (hP.app (X.ro hS)) hC.1 hq, fun U hU hW => ⟨rfl, g_pre X h4 hP hD hS hU hW⟩⟩ rfl hn hl.1 hst (lv_room hcat) hd ⟨hkk, hss⟩
theorem g_xoVN (X : gX p s m args meth c Z A cc own nL ret rs) {y : MethodName} {bytes : ByteArray} {maxL ix N : Nat} {b : Nat} {C host : String} {rt : Option FieldType} {rm : Room} {As : List Value} {wc rc wx : va_W} {E0 : String} (hM : CtX l y (ws_ y bytes maxL rt) rm Z (.ref b :: As) wc rc wx E0) (isC isR isO : List Nat) {wr : va_W} (h4 : gAt4 wd rs wc wr rc isC isR isO) (q0 : Nat) {ci : Nat} {T : u_T} {M : Nat} {ty : Nat → FieldType} {fs : List Value} (hC : gC ci C T M ty) (hq : (wd ++ rs)[q0]? = some (b, .inr (ci, fs))) (hg : Cond.code y bytes maxL rt ∈ lw_all) (hini : Cond.initialized y.cls ∈ lw_all) (hlk : Cond.methodLinkNest own ix y host ∈ lw_tbl) (hins : Cond.instanceMethod y ∈ lw_all) (hsel : Cond.selects C y y ∈ lw_all) (hmd : gMd y N) (hR : gRm R rm maxL) (hn : As.length = N) (hd : decode cc pc = .ok (.invokevirtual ix, 3)) (Xt : gXt c) {wd0 : va_W} (isK : List Nat) {mc ms : Nat} {Qc : Array Value → State → Outcome → State → Prop} (hkk : k + rm.cells ≤ R.cells) (hss : n + rm.slots ≤ R.slots) {st0 : List Value} (hst : st0 = As.reverse ++ .ref b :: st) (hcat : (st.map fun v => v.category).sum ≤ 8) (hK0 : isK.map (fun i => (wr ++ wx)[i]?) = wd0.map some) (hnK : va_nd isK = true) (hk : k + rm.cells ≤ mc) (hs : n + rm.slots ≤ ms) : G p l e R s m args below meth c Z A nL (vx_MQ below Qc (gPostX Z A E0 wd0) args s mc ms A) wd k n pc L st0 :=
  g_xout X Xt h4 hK0 hnK (g_hrVN X hM isC isR isO h4 q0 hC hq hg hini hlk hins hsel hmd hR hn hd hkk hss hst hcat) hk hs
theorem g_xcVN (X : gX p s m args meth c Z A cc own nL ret rs) {y : MethodName} {bytes : ByteArray} {maxL ix N : Nat} {b : Nat} {C host : String} {rt : Option FieldType} {rm : Room} {As : List Value} {wc rc wx : va_W} {E0 : String} (hM : CtX l y (ws_ y bytes maxL rt) rm Z (.ref b :: As) wc rc wx E0) (isC isR isO : List Nat) {wr : va_W} (h4 : gAt4 wd rs wc wr rc isC isR isO) (q0 : Nat) {ci : Nat} {T : u_T} {M : Nat} {ty : Nat → FieldType} {fs : List Value} (hC : gC ci C T M ty) (hq : (wd ++ rs)[q0]? = some (b, .inr (ci, fs))) (hg : Cond.code y bytes maxL rt ∈ lw_all) (hini : Cond.initialized y.cls ∈ lw_all) (hlk : Cond.methodLinkNest own ix y host ∈ lw_tbl) (hins : Cond.instanceMethod y ∈ lw_all) (hsel : Cond.selects C y y ∈ lw_all) (hmd : gMd y N) (hR : gRm R rm maxL) (hn : As.length = N) (hd : decode cc pc = .ok (.invokevirtual ix, 3)) (pre : List ExceptionTableEntry) (x : ExceptionTableEntry) (suf : List ExceptionTableEntry) {name : String} {Hd : Nat} (hsplit : c.exceptionTable.toList = pre ++ x :: suf) (hkk : k + rm.cells ≤ R.cells) (hss : n + rm.slots ≤ R.slots) {st0 : List Value} (hst : st0 = As.reverse ++ .ref b :: st) (hcat : (st.map fun v => v.category).sum ≤ 8) (hpass : ∀ z ∈ pre, covers z pc = false ∨ (z.catchType ≠ 0 ∧ ∃ nm : String, Cond.classLink own z.catchType nm ∈ lw_all ∧ va_Nc E0 nm s)) (hcov : covers x pc = true) (h0x : x.catchType ≠ 0) (hlink : Cond.classLink own x.catchType name ∈ lw_all) (hcast : Cond.castable E0 name ∈ lw_tbl) (hh : x.handlerPc = Hd) (k' n' : Nat) (hk : k + rm.cells = k') (hs : n + rm.slots = n') (kk : ∀ q : Nat, G p l e R s m args below meth c Z A nL Q (wr ++ wx) k' n' Hd L [.ref q]) : G p l e R s m args below meth c Z A nL Q wd k n pc L st0 :=
  g_xcatch X h4 (g_hrVN X hM isC isR isO h4 q0 hC hq hg hini hlk hins hsel hmd hR hn hd hkk hss hst hcat) pre x suf hsplit hpass hcov h0x hlink hcast hh k' n' hk hs kk
/-- calls of methods with handlers, that return -/
theorem g_callSW (X : gX p s m args meth c Z A cc own nL ret rs) {y : MethodName} {bytes : ByteArray} {maxL ix N : Nat} {hh : List (Nat × Nat × Nat × Nat)} {S : Type} {rv : S → Option Value} {wd' : S → va_W} {rt : Option FieldType} {rm : Room} {As : List Value} {wc rc : va_W} (hM : Ct l y (wsW_ y bytes maxL rt hh) rm Z As wc rc rv wd') (isC isR isO : List Nat) {wr : va_W} (h4 : gAt4 wd rs wc wr rc isC isR isO) (hg : GoodIn lw_all (va_wsS own ix y (wsW_ y bytes maxL rt hh))) (hmd : gMd y N) (hR : gRm R rm maxL) (hn : As.length = N) (hd : decode cc pc = .ok (.invokestatic ix, 3)) (pc' : Nat) (hp : pc + 3 = pc') (k' n' : Nat) (hk : k + rm.cells = k') (hs : n + rm.slots = n') (hkk : k' ≤ R.cells) (hss : n' ≤ R.slots) {st0 : List Value} (hst : st0 = As.reverse ++ st) (hcat : (st.map fun v => v.category).sum ≤ 8) {vl : S → Value} (hrv : ∀ u, rv u = some (vl u))
    (kk : ∀ u : S, G p l e R s m args below meth c Z A nL Q (wr ++ wd' u) k' n' pc' L (vl u :: st)) : G p l e R s m args below meth c Z A nL Q wd k n pc L st0 := by
  subst hp; subst hk; subst hs
  refine g_back (rv := rv) (wd' := wd') (st := st) (rm := rm) X h4 (a := As.toArray) (fun H locs ls hP hD hS hl => ?_) (fun u => by rw [hrv u]; exact kk u)
  exact vx_runSW X.fix (hM H.size) (vx_cwSW N X.ts hg rfl rfl rfl hmd hR) ⟨gPre_blind, fun U hU hW => ⟨rfl, g_pre X h4 hP hD hS hU hW⟩⟩ rfl hn hl.1 hst (lv_room hcat) hd ⟨hkk, hss⟩
theorem g_callVW (X : gX p s m args meth c Z A cc own nL ret rs) {y : MethodName} {bytes : ByteArray} {maxL ix N b : Nat} {C : String} {hh : List (Nat × Nat × Nat × Nat)} {S : Type} {rv : S → Option Value} {wd' : S → va_W} {rt : Option FieldType} {rm : Room} {As : List Value} {wc rc : va_W} (hM : Ct l y (wsW_ y bytes maxL rt hh) rm Z (.ref b :: As) wc rc rv wd') (isC isR isO : List Nat) {wr : va_W} (h4 : gAt4 wd rs wc wr rc isC isR isO) (q0 : Nat) {ci : Nat} {T : u_T} {M : Nat} {ty : Nat → FieldType} {fs : List Value} (hC : gC ci C T M ty) (hq : (wd ++ rs)[q0]? = some (b, .inr (ci, fs))) (hcl : y.cls = C) (hg : GoodIn lw_all (wsV own ix C y (wsW_ y bytes maxL rt hh))) (hmd : gMd y N) (hR : gRm R rm maxL) (hn : As.length = N) (hd : decode cc pc = .ok (.invokevirtual ix, 3)) (pc' : Nat) (hp : pc + 3 = pc') (k' n' : Nat) (hk : k + rm.cells = k') (hs : n + rm.slots = n') (hkk : k' ≤ R.cells) (hss : n' ≤ R.slots) {st0 : List Value} (hst : st0 = As.reverse ++ .ref b :: st) (hcat : (st.map fun v => v.category).sum ≤ 8) {vl : S → Value} (hrv : ∀ u, rv u = some (vl u))
    (kk : ∀ u : S, G p l e R s m args below meth c Z A nL Q (wr ++ wd' u) k' n' pc' L (vl u :: st)) : G p l e R s m args below meth c Z A nL Q wd k n pc L st0 := by
  subst hp; subst hk; subst hs
  refine g_back (rv := rv) (wd' := wd') (st := st) (rm := rm) X h4 (a := (Value.ref b :: As).toArray) (fun H locs ls hP hD hS hl => ?_) (fun u => by rw [hrv u]; exact kk u)
  exact vx_runVW X.fix (hM H.size) (vx_cwVW N X.ts hg rfl rfl rfl ⟨hcl, hmd⟩ hR) ⟨gPre_blind, va_recv X.K (hP.app (X.ro hS)) hC.1 hq, fun U hU hW => ⟨rfl, g_pre X h4 hP hD hS hU hW⟩⟩ rfl hn hl.1 hst (lv_room hcat) hd ⟨hkk, hss⟩
end GXC
/-- a contract of a method with handlers, that returns -/
theorem Ct.ofH {l : Launch} {y : MethodName} {rm : Room} {Z : gZt} {avs : List Value} {wd rs : va_W} {S : Type} {rv : S → Option Value} {wd' : S → va_W} (cc : ByteArray) (maxL : Nat) (ret : Option FieldType) (hh : List (Nat × Nat × Nat × Nat)) (own : String) (L0 : List (Option Value)) (j : Nat) (hy : plainName y.cls = true) (hown : y.cls = own) (hlen : (lg_sl avs).length ≤ maxL) (hL : gA avs ++ List.replicate j none = L0)
    (body : ∀ (p : Program) (e : Env) (s : State) (m : MethodId) (args : Array Value) (below : List Frame) (meth : Method) (c : Code) (A : Nat → Prop), gX p s m args meth c Z A cc own maxL ret rs → c.exceptionTable.toList = tableOf hh → G p l e rm s m args below meth c Z A maxL (MQ below (gPost Z A rv wd') args s rm.cells rm.slots A) wd 0 0 0 L0 []) : Ct l y (wsW_ y cc maxL ret hh) rm Z avs wd rs rv wd' := by
  intro sz
  have key : vx_Met l y (wsW_ y cc maxL ret hh) rm (va_Pc avs (gPre Z wd rs sz)) (gPost Z (va_A wd sz) rv wd') (fun _ _ _ => False) rm.cells rm.slots (va_A wd sz) := by
    refine vx_ofWH (cc := cc) (maxL := maxL) (ret := ret) (hh := hh) hy rfl ?_
    intro p e s m args below meth c s₁ B hml hv
    obtain ⟨rfl, hsz, hP, hD0, hK, hE, hR, hN⟩ := hv
    subst hsz
    have hts := atoms_spec (ws := wsW_ y cc maxL ret hh) B.pre
    have ht := vx_table (x := y) B (hts _ List.mem_cons_self)
    have hts : ∀ w ∈ lw_all, w.before _ s = true := fun w h => hts w (List.mem_cons_of_mem _ h)
    have hfc : s.vm.findClass own = some m.cls := by rw [← hown]; exact findClass_of_methodNamed B.named
    have key := body p e s m avs.toArray below meth c (va_A wd s.heap.size) ⟨B.exec, B.bytes, B.returns, hml, hfc, hts, B.notSynchronized, hK, hE, fun q h => Or.inr h, hR, fun k q hk ha => by
      rcases ha with ⟨k2, e2, h2⟩ | h2
      · exact hN k k2 q (q.1, e2) hk h2 rfl
      · have := (hR k q hk).lt
        omega⟩ ht
    rw [lg_entry_eq]
    exact vx_ret (key s.heap [] _ hP hD0.self va_S.rf (gA_gl (lv_entry avs hlen) hL))
  intro p e h1 h2 h3 s m args below h4 h5 h6 h7
  obtain ⟨n, o, g1, g2, g3, g4⟩ := key p e h1 h2 h3 s m args below h4 h5 h6 h7
  refine ⟨n, o, g1, g2, g3, ?_⟩
  rcases g4 with g4 | ⟨q, -, E, ce, L, hf, -⟩
  · exact g4
  · exact hf.elim
