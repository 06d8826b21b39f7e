/-! the pure law, text B -/
set_option maxRecDepth 100000
/-! P1: sums, and the invariant of a run -/
def sg : Nat → (Nat → Int64) → Int64
  | 0, _ => 0
  | k + 1, f => sg k f + f k
theorem sg_congr {f g : Nat → Int64} : ∀ {n : Nat}, (∀ i, i < n → f i = g i) → sg n f = sg n g
  | 0, _ => rfl
  | n + 1, h => by rw [sg, sg, sg_congr (fun i hi => h i (by omega)), h n (by omega)]
theorem sg_upd {f g : Nat → Int64} {p : Nat} {d : Int64} : ∀ {n : Nat}, p < n → (∀ i, i < n → i ≠ p → g i = f i) → g p = f p + d → sg n g = sg n f + d
  | 0, h, _, _ => absurd h (by omega)
  | n + 1, h, h1, h2 => by
    by_cases e : p = n
    · subst e
      rw [sg, sg, h2, sg_congr (fun i hi => h1 i (by omega) (by omega)), Int64.add_assoc]
    · rw [sg, sg, sg_upd (f := f) (by omega) (fun i hi he => h1 i (by omega) he) h2, h1 n (by omega) (by omega)]
      rw [Int64.add_assoc, Int64.add_assoc, Int64.add_comm d]
theorem sg_add {f g : Nat → Int64} : ∀ {n : Nat}, sg n (fun i => f i + g i) = sg n f + sg n g
  | 0 => rfl
  | n + 1 => by
    rw [sg, sg, sg, sg_add]
    rw [Int64.add_assoc, Int64.add_assoc, ← Int64.add_assoc (f n), ← Int64.add_assoc (sg n g), Int64.add_comm (f n)]
theorem sg_zero : ∀ {n : Nat} {f : Nat → Int64}, (∀ i, i < n → f i = 0) → sg n f = 0
  | 0, _, _ => rfl
  | n + 1, f, h => by rw [sg, sg_zero (fun i hi => h i (by omega)), h n (by omega)]; rfl
theorem updL_ne {f : Nat → Int64} {k j : Nat} {x : Int64} (h : j ≠ k) : vp_updL f k x j = f j := by simp [vp_updL, h]
theorem updL_eq {f : Nat → Int64} {k : Nat} {x : Int64} : vp_updL f k x k = x := by simp [vp_updL]
/-- far rows (P times of each) arrive near, near rows (Q times) arrive far -/
def rI (n w : Nat) (len : Nat → Nat) (P Q : Nat → Nat) (fn ff far near : Nat → Int64) (aw : Int64) : Prop :=
  (∀ p, p < n → P p ≤ w + 1 ∧ Q p ≤ w + 1) ∧
  (∀ p, p < n → ∀ a, a ≤ w → fn (201 * (p + 1) + a) = if len p ≤ a ∧ a < len p + P p then far (201 * p + (a - len p)) else 0) ∧
  (∀ p, p < n → ∀ a, a ≤ w → ff (201 * p + a) = if len p ≤ a ∧ a < len p + Q p then near (201 * (p + 1) + (a - len p)) else 0) ∧
  (∀ a, a ≤ w → fn a = 0) ∧ (∀ a, a ≤ w → ff (201 * n + a) = 0) ∧
  aw = sg n (fun p => sg (P p) (fun τ => if w < τ + len p then far (201 * p + τ) else 0) + sg (Q p) (fun τ => if w < τ + len p then near (201 * (p + 1) + τ) else 0))
def up1 (P : Nat → Nat) (p t : Nat) : Nat → Nat := fun q => if q = p then t else P q
theorem rI_far {n w : Nat} {len P Q : Nat → Nat} {fn ff far near : Nat → Int64} {aw : Int64} (h : rI n w len P Q fn ff far near aw) (hw : w ≤ 200) {p t : Nat} (hp : p < n) (hP : P p = t) (ht : t ≤ w) (hl : 1 ≤ len p) (e s : Int64)
    (hs : s = e ∨ s = 0) : rI n w len (up1 P p (t + 1)) Q (if t + len p ≤ w then (if s = e then vp_updL fn (201 * (p + 1) + (t + len p)) e else fn) else fn) ff (vp_updL far (201 * p + t) s) near (if t + len p ≤ w then aw else aw + s) := by
  obtain ⟨h0, h1, h2, h3, h4, h5⟩ := h
  have hfar : ∀ q a, q < n → a ≤ 200 → (q ≠ p ∨ a ≠ t) → vp_updL far (201 * p + t) s (201 * q + a) = far (201 * q + a) := fun q a hq ha hne => updL_ne (by omega)
  refine ⟨fun q hq => ?_, fun q hq a ha => ?_, h2, fun a ha => ?_, h4, ?_⟩
  · have := h0 q hq
    unfold up1
    split <;> omega
  · have hold := h1 q hq a ha
    by_cases hq2 : q = p
    · subst hq2
      by_cases ha2 : a = t + len q
      · subst ha2
        have hcond : len q ≤ t + len q ∧ t + len q < len q + up1 P q (t + 1) q := by unfold up1; simp; omega
        rw [if_pos ha, if_pos hcond, show t + len q - len q = t by omega, updL_eq]
        split
        · rename_i hse
          rw [updL_eq, hse]
        · rename_i hse
          rw [hold, if_neg (by omega)]
          exact ((hs.resolve_left hse)).symm
      · have hc : (len q ≤ a ∧ a < len q + up1 P q (t + 1) q) ↔ (len q ≤ a ∧ a < len q + P q) := by
          unfold up1; simp; omega
        rw [show (if t + len q ≤ w then (if s = e then vp_updL fn (201 * (q + 1) + (t + len q)) e else fn) else fn) (201 * (q + 1) + a) = fn (201 * (q + 1) + a) by
          split
          · split
            · exact updL_ne (by omega)
            · rfl
          · rfl, hold]
        by_cases hh : len q ≤ a ∧ a < len q + P q
        · rw [if_pos hh, if_pos (hc.mpr hh)]
          exact (hfar q _ hq (by omega) (by omega)).symm
        · rw [if_neg hh, if_neg (fun z => hh (hc.mp z))]
    · have hu : up1 P p (t + 1) q = P q := by unfold up1; simp [hq2]
      rw [hu, show (if t + len p ≤ w then (if s = e then vp_updL fn (201 * (p + 1) + (t + len p)) e else fn) else fn) (201 * (q + 1) + a) = fn (201 * (q + 1) + a) by
          split
          · split
            · exact updL_ne (by omega)
            · rfl
          · rfl, hold]
      split
      · exact (hfar q _ hq (by omega) (by omega)).symm
      · rfl
  · rw [← h3 a ha]
    split
    · split
      · exact updL_ne (by omega)
      · rfl
    · rfl
  · have hcg : ∀ q, q < n → q ≠ p → sg (up1 P p (t + 1) q) (fun τ => if w < τ + len q then vp_updL far (201 * p + t) s (201 * q + τ) else 0) = sg (P q) (fun τ => if w < τ + len q then far (201 * q + τ) else 0) := by
      intro q hq hne
      rw [show up1 P p (t + 1) q = P q by unfold up1; simp [hne]]
      refine sg_congr fun i hi => ?_
      have := h0 q hq
      rw [hfar q i hq (by omega) (Or.inl hne)]
    have hself : sg (up1 P p (t + 1) p) (fun τ => if w < τ + len p then vp_updL far (201 * p + t) s (201 * p + τ) else 0) = sg (P p) (fun τ => if w < τ + len p then far (201 * p + τ) else 0) + (if w < t + len p then s else 0) := by
      rw [show up1 P p (t + 1) p = t + 1 by unfold up1; simp, sg, updL_eq, hP]
      congr 1
      refine sg_congr fun i hi => ?_
      rw [hfar p i hp (by omega) (by omega)]
    have hd : (if t + len p ≤ w then aw else aw + s) = aw + (if w < t + len p then s else 0) := by
      by_cases hc : t + len p ≤ w
      · rw [if_pos hc, if_neg (by omega), Int64.add_zero]
      · rw [if_neg hc, if_pos (by omega)]
    rw [hd, h5]
    refine (sg_upd (f := fun p => sg (P p) (fun τ => if w < τ + len p then far (201 * p + τ) else 0) + sg (Q p) (fun τ => if w < τ + len p then near (201 * (p + 1) + τ) else 0)) hp (fun q hq hne => ?_) ?_).symm
    · show _ + _ = _ + _
      rw [hcg q hq hne]
    · show _ + _ = _ + _ + _
      rw [hself, Int64.add_assoc, Int64.add_comm (if w < t + len p then s else 0), ← Int64.add_assoc]
theorem rI_near {n w : Nat} {len P Q : Nat → Nat} {fn ff far near : Nat → Int64} {aw : Int64} (h : rI n w len P Q fn ff far near aw) (hw : w ≤ 200) {p t : Nat} (hp : p < n) (hQ : Q p = t) (ht : t ≤ w) (hl : 1 ≤ len p) (e s : Int64)
    (hs : s = e ∨ s = 0) : rI n w len P (up1 Q p (t + 1)) fn (if t + len p ≤ w then (if s = e then vp_updL ff (201 * p + (t + len p)) e else ff) else ff) far (vp_updL near (201 * (p + 1) + t) s) (if t + len p ≤ w then aw else aw + s) := by
  obtain ⟨h0, h1, h2, h3, h4, h5⟩ := h
  have hnear : ∀ q a, q < n → a ≤ 200 → (q ≠ p ∨ a ≠ t) → vp_updL near (201 * (p + 1) + t) s (201 * (q + 1) + a) = near (201 * (q + 1) + a) := fun q a hq ha hne => updL_ne (by omega)
  refine ⟨fun q hq => ?_, h1, fun q hq a ha => ?_, h3, fun a ha => ?_, ?_⟩
  · have := h0 q hq
    unfold up1
    split <;> omega
  · have hold := h2 q hq a ha
    by_cases hq2 : q = p
    · subst hq2
      by_cases ha2 : a = t + len q
      · subst ha2
        have hcond : len q ≤ t + len q ∧ t + len q < len q + up1 Q q (t + 1) q := by unfold up1; simp; omega
        rw [if_pos ha, if_pos hcond, show t + len q - len q = t by omega, updL_eq]
        split
        · rename_i hse
          rw [updL_eq, hse]
        · rename_i hse
          rw [hold, if_neg (by omega)]
          exact ((hs.resolve_left hse)).symm
      · have hc : (len q ≤ a ∧ a < len q + up1 Q q (t + 1) q) ↔ (len q ≤ a ∧ a < len q + Q q) := by
          unfold up1; simp; omega
        rw [show (if t + len q ≤ w then (if s = e then vp_updL ff (201 * q + (t + len q)) e else ff) else ff) (201 * q + a) = ff (201 * q + a) by
          split
          · split
            · exact updL_ne (by omega)
            · rfl
          · rfl, hold]
        by_cases hh : len q ≤ a ∧ a < len q + Q q
        · rw [if_pos hh, if_pos (hc.mpr hh)]
          exact (hnear q _ hq (by omega) (by omega)).symm
        · rw [if_neg hh, if_neg (fun z => hh (hc.mp z))]
    · have hu : up1 Q p (t + 1) q = Q q := by unfold up1; simp [hq2]
      rw [hu, show (if t + len p ≤ w then (if s = e then vp_updL ff (201 * p + (t + len p)) e else ff) else ff) (201 * q + a) = ff (201 * q + a) by
          split
          · split
            · exact updL_ne (by omega)
            · rfl
          · rfl, hold]
      split
      · exact (hnear q _ hq (by omega) (by omega)).symm
      · rfl
  · rw [← h4 a ha]
    split
    · split
      · exact updL_ne (by omega)
      · rfl
    · rfl
  · have hcg : ∀ q, q < n → q ≠ p → sg (up1 Q p (t + 1) q) (fun τ => if w < τ + len q then vp_updL near (201 * (p + 1) + t) s (201 * (q + 1) + τ) else 0) = sg (Q q) (fun τ => if w < τ + len q then near (201 * (q + 1) + τ) else 0) := by
      intro q hq hne
      rw [show up1 Q p (t + 1) q = Q q by unfold up1; simp [hne]]
      refine sg_congr fun i hi => ?_
      have := h0 q hq
      rw [hnear q i hq (by omega) (Or.inl hne)]
    have hself : sg (up1 Q p (t + 1) p) (fun τ => if w < τ + len p then vp_updL near (201 * (p + 1) + t) s (201 * (p + 1) + τ) else 0) = sg (Q p) (fun τ => if w < τ + len p then near (201 * (p + 1) + τ) else 0) + (if w < t + len p then s else 0) := by
      rw [show up1 Q p (t + 1) p = t + 1 by unfold up1; simp, sg, updL_eq, hQ]
      congr 1
      refine sg_congr fun i hi => ?_
      rw [hnear p i hp (by omega) (by omega)]
    have hd : (if t + len p ≤ w then aw else aw + s) = aw + (if w < t + len p then s else 0) := by
      by_cases hc : t + len p ≤ w
      · rw [if_pos hc, if_neg (by omega), Int64.add_zero]
      · rw [if_neg hc, if_pos (by omega)]
    rw [hd, h5]
    refine (sg_upd (f := fun p => sg (P p) (fun τ => if w < τ + len p then far (201 * p + τ) else 0) + sg (Q p) (fun τ => if w < τ + len p then near (201 * (p + 1) + τ) else 0)) hp (fun q hq hne => ?_) ?_).symm
    · show _ + _ = _ + _
      rw [hcg q hq hne]
    · show _ + _ = _ + _ + _
      rw [hself, ← Int64.add_assoc]
