/-! the pure law, text N -/
set_option maxRecDepth 100000
/-! P12: split, pulses, bench, reverse -/
theorem ifc {α : Sort _} {c : Prop} [i1 : Decidable c] [i2 : Decidable c] {x x' y y' : α} (h : x = x') (h2 : y = y') : @ite α c i1 x y = @ite α c i2 x' y' := by
  subst h; subst h2; congr
section PG
variable {n q w : Nat} {len : Nat → Nat} {lens fracs tms ens : Nat → Int32} {front least : Int32} {snd obs m : Nat → Int64}
theorem whyNotSplit_a (hn : n ≤ 8) (h0 : m 0 = c64 n) (hl : ∀ k, k < n → lens k = c32 (len k) ∧ 1 ≤ len k ∧ len k ≤ 20) (hL : ∀ k, k < n → m (1 + k) = (lens k).toInt64) (x1 x2 x3 : Int32) :
    (∃ k, (k = 0 ∨ k = 1 ∨ k = 2) ∧ F_X2_splitPart (c32 n) lens fracs x1 x2 x3 = some (.inr k) ∧ F_X6_whyNotSplit m x1 x2 x3 = some (c32 (k + 1))) ∨
    (∃ p a b, p < n ∧ n < 8 ∧ x1 = c32 p ∧ x2 = c32 a ∧ 1 ≤ a ∧ a < len p ∧ x3 = c32 b ∧ b ≤ 1000 ∧ F_X6_whyNotSplit m x1 x2 x3 = some 0 ∧ F_X2_splitPart (c32 n) lens fracs x1 x2 x3 = bd3 (F_X3_insert (c32 n) (upd lens p (c32 (len p - a))) fracs (c32 p) (c32 a) (c32 b)) fun r s t => some (.inl (r, r, s, t))) := by
  rcases isPart (p := x1) hn h0 with ⟨e1, e2⟩ | ⟨e1, e2, p, hp, rfl⟩
  · unfold F_X2_splitPart F_X6_whyNotSplit
    rw [e1, e2]
    exact Or.inl ⟨0, Or.inl rfl, rfl, rfl⟩
  · have hlp := hl p hp
    have hroom : F_X2_requireRoom (c32 n) = if n = 8 then some (.inr 2) else some (.inl ()) := by
      unfold F_X2_requireRoom F_X1_requireState
      by_cases h8 : n = 8
      · subst h8; rfl
      · rw [c32_of 8, ile_f (by omega) (by omega), if_neg (by decide), if_neg h8]
        rfl
    have hC : F_X2_splitPart (c32 n) lens fracs (c32 p) x2 x3 = if rgn x2.toInt64 (c64 1) (c64 (len p - 1)) = 0 then some (.inr 1) else if rgn x3.toInt64 (c64 0) (c64 1000) = 0 then some (.inr 1) else if n = 8 then some (.inr 2) else nm (c32 (len p) - x2) fun t1 => bd3 (F_X3_insert (c32 n) (upd lens p t1) fracs (c32 p) x2 x3) fun r s t => some (.inl (r, r, s, t)) := by
      unfold F_X2_splitPart F_X2_splitPart_42 F_X2_splitPart_43
      rw [e1]
      simp only [bc0_l]
      rw [gin_c (by omega) (by omega), c32_nat (by omega), hlp.1]
      rw [show (c32 (len p) - 1).toInt64 = c64 (len p - 1) by rw [c32_of 1, c32_sub hlp.2.1, c32_64 (by omega)]]
      simp only [inC, bd1_some]
      refine ifc rfl (ifc rfl ?_)
      rw [hroom]
      by_cases h8 : n = 8
      · rw [if_pos h8, if_pos h8]; rfl
      · rw [if_neg h8, if_neg h8, show F_X1_requireArgument 1 = some (.inl ()) from rfl]
        simp only [bc0_l, nm]
        rw [gin_c (by omega) (by omega), gin_c (by omega) (by omega)]
    have hM : F_X6_whyNotSplit m (c32 p) x2 x3 = if rgn x2.toInt64 (c64 1) (c64 (len p - 1)) = 0 then some 2 else if rgn x3.toInt64 (c64 0) (c64 1000) = 0 then some 2 else if n = 8 then some 3 else some 0 := by
      unfold F_X6_whyNotSplit F_X6_whyNotSplit_41 F_X6_whyNotSplit_59
      rw [e2]
      simp only [bd1_some]
      rw [if_neg (by decide)]
      rw [show (1 : Int32) + c32 p = c32 (1 + p) from c32_add 1 p, gin_c (by omega) (by omega), c32_nat (by omega), hL p hp, hlp.1]
      rw [show (c32 (len p)).toInt64 - 1 = c64 (len p - 1) by rw [c32_64 (by omega), c64_of 1, c64_sub hlp.2.1]]
      simp only [inM, bd1_some]
      refine ifc rfl (ifc rfl ?_)
      rw [partsM h0]
      simp only [bd1_some]
      by_cases h8 : n = 8
      · subst h8; rfl
      · rw [if_neg h8, c32_of 8, ieq_f h8 (by omega) (by omega)]
    rcases rgn_c x2 1 (len p - 1) (by omega) (by omega) with ⟨h1, -⟩ | ⟨h1, a, rfl, hb, hc⟩
    · rw [if_pos h1] at hC hM
      exact Or.inl ⟨1, Or.inr (Or.inl rfl), hC, hM⟩
    · rw [if_neg (by rw [h1]; decide)] at hC hM
      rcases rgn_c x3 0 1000 (by omega) (by omega) with ⟨h2, -⟩ | ⟨h2, b, rfl, -, he⟩
      · rw [if_pos h2] at hC hM
        exact Or.inl ⟨1, Or.inr (Or.inl rfl), hC, hM⟩
      · rw [if_neg (by rw [h2]; decide)] at hC hM
        by_cases h8 : n = 8
        · rw [if_pos h8] at hC hM
          exact Or.inl ⟨2, Or.inr (Or.inr rfl), hC, hM⟩
        · rw [if_neg h8] at hC hM
          refine Or.inr ⟨p, a, b, hp, by omega, rfl, rfl, hb, by omega, rfl, he, hM, ?_⟩
          rw [hC]
          simp only [nm]
          rw [c32_sub (by omega)]
theorem splitPart_b (R : pgR n q w len lens fracs tms ens front least snd obs m) (x1 x2 x3 : Int32) : (∃ lens' fracs' m' len', F_X2_splitPart (c32 n) lens fracs x1 x2 x3 = some (.inl (c32 (n + 1), c32 (n + 1), lens', fracs')) ∧ F_X6_whyNotSplit m x1 x2 x3 = some 0 ∧ F_X6_splitsPart m x1 x2 x3 = some (c32 (n + 1), m') ∧ pgR (n + 1) q w len' lens' fracs' tms ens front least snd obs m') ∨ (∃ k, (k = 0 ∨ k = 1 ∨ k = 2) ∧ F_X2_splitPart (c32 n) lens fracs x1 x2 x3 = some (.inr k) ∧ F_X6_whyNotSplit m x1 x2 x3 = some (c32 (k + 1))) := by
  have R0 := R
  obtain ⟨hn, hq1, hq, hw1, hw, hl, hen, htm, h0, h17, h18, h19, h20, hL, hF, hT, hE, hS, hO, hfr⟩ := R
  rcases whyNotSplit_a (fracs := fracs) hn h0 hl hL x1 x2 x3 with h | ⟨p, a, b, hp, hn8, rfl, rfl, ha1, ha2, rfl, hb, e1, e2⟩
  · exact Or.inr h
  · have hlp := hl p hp
    rw [insertF hn8 (by omega)] at e2
    obtain ⟨mm', k1, k2, k3⟩ := splitsM (p := p) (nn := n) (a := a) hp (by omega) (c32 b) _ (fun mm => rfl) (n - p) n gFU m (by omega) (by omega) (by show n - p < 5000; omega)
    refine Or.inl ⟨upd (va_cpy (upd lens p (c32 (len p - a))) (upd lens p (c32 (len p - a))) p (p + 1) (n - p)) p (c32 a), upd (va_cpy fracs fracs p (p + 1) (n - p)) p (c32 b), vp_updL (vp_updL (vp_updL (vp_updL mm' 0 (c64 (n + 1))) (2 + p) (c64 (len p - a))) (1 + p) (c64 a)) (9 + p) (c64 b), fun k => if k < p then len k else if k = p then a else if k = p + 1 then len p - a else len (k - 1), e2, e1, ?_, ?_⟩
    · unfold F_X6_splitsPart
      rw [partsM h0]
      simp only [bd1_some]
      rw [k1]
      unfold B_X6_splitsPart_6
      simp only [nm]
      have hmp : mm' (1 + p + 1) = c64 (len p) := by
        have := (k2 (p + 1) (by omega) (by omega)).1
        rw [show 1 + p + 1 = 1 + (p + 1) by omega, this, show p + 1 = 1 + p by omega, hL p hp, hlp.1, c32_64 (by omega)]
      rw [ile_t (by omega) (by omega), c32_of 0, gin_c (by omega) (by omega), gin_c (by omega) (by omega), c32_of 1, c32_add, c32_add, gin_c (by omega) (by omega), gin_c (by omega) (by omega), c32_nat (by omega), c32_nat (by omega), updL_ne (show 1 + p + 1 ≠ 0 by omega), hmp, k3 0 (by omega), h0, c64_of 1, c64_add, c32_64 (show a < 2147483648 by omega), c64_sub (by omega), laysPart _ (by omega)]
      simp only [bd1_some]
      rw [c32_64 (by omega), c32_64 (by omega), show 1 + p + 1 = 2 + p by omega, partsM (n := n + 1) (by rw [updL_ne (by omega), updL_ne (by omega), updL_ne (by omega), updL_eq])]
      rfl
    · have hlk : ∀ k, k < n + 1 → upd (va_cpy (upd lens p (c32 (len p - a))) (upd lens p (c32 (len p - a))) p (p + 1) (n - p)) p (c32 a) k = if k < p then lens k else if k = p then c32 a else if k = p + 1 then c32 (len p - a) else lens (k - 1) := fun k hk => by
        by_cases e : k = p
        · rw [if_neg (by omega), if_pos e, e, upd_eq]
        · rw [upd_ne e, ins_at _ (by omega)]
          by_cases e2 : k < p
          · rw [if_pos (by omega), if_pos e2, upd_ne e]
          · rw [if_neg (by omega), if_neg e2, if_neg e]
            by_cases e3 : k = p + 1
            · rw [if_pos e3, e3, Nat.add_sub_cancel, upd_eq]
            · rw [if_neg e3, upd_ne (by omega)]
      have hfk : ∀ k, k < n + 1 → upd (va_cpy fracs fracs p (p + 1) (n - p)) p (c32 b) k = if k < p then fracs k else if k = p then c32 b else fracs (k - 1) := fun k hk => by
        by_cases e : k = p
        · rw [if_neg (by omega), if_pos e, e, upd_eq]
        · rw [upd_ne e, ins_at _ (by omega)]
          by_cases e2 : k < p
          · rw [if_pos (by omega), if_pos e2]
          · rw [if_neg (by omega), if_neg e2, if_neg e]
      refine pgR_parts R0 (by omega) (fun k h1 h2 => ?_) ?_ (fun k hk => ?_) (fun k hk => ?_) (fun k hk => ?_) (fun k hk => ?_)
      · rw [updL_ne (by omega), updL_ne (by omega), updL_ne (by omega), updL_ne (by omega), k3 k (by omega)]
      · rw [updL_ne (by omega), updL_ne (by omega), updL_ne (by omega), updL_eq]
      · rw [hlk k hk]
        by_cases e : k < p
        · rw [if_pos e, if_pos e]; exact hl k (by omega)
        · rw [if_neg e, if_neg e]
          by_cases e2 : k = p
          · rw [if_pos e2, if_pos e2]; exact ⟨rfl, ha1, by omega⟩
          · rw [if_neg e2, if_neg e2]
            by_cases e3 : k = p + 1
            · rw [if_pos e3, if_pos e3]; exact ⟨rfl, by omega, by omega⟩
            · rw [if_neg e3, if_neg e3]; exact hl (k - 1) (by omega)
      · rw [hlk k hk]
        by_cases e : k < p
        · rw [if_pos e, updL_ne (by omega), updL_ne (by omega), updL_ne (by omega), updL_ne (by omega), k3 _ (by omega)]; exact hL k (by omega)
        · rw [if_neg e]
          by_cases e2 : k = p
          · rw [if_pos e2, e2, updL_ne (by omega), updL_eq, c32_64 (by omega)]
          · rw [if_neg e2]
            by_cases e3 : k = p + 1
            · rw [if_pos e3, e3, updL_ne (by omega), updL_ne (by omega), show 1 + (p + 1) = 2 + p by omega, updL_eq, c32_64 (by omega)]
            · rw [if_neg e3, updL_ne (by omega), updL_ne (by omega), updL_ne (by omega), updL_ne (by omega), (k2 k (by omega) (by omega)).1, ← hL (k - 1) (by omega), show 1 + (k - 1) = k by omega]
      · rw [hfk k hk]
        by_cases e : k < p
        · rw [if_pos e, updL_ne (by omega), updL_ne (by omega), updL_ne (by omega), updL_ne (by omega), k3 _ (by omega)]; exact hF k (by omega)
        · rw [if_neg e]
          by_cases e2 : k = p
          · rw [if_pos e2, e2, updL_eq, c32_64 (by omega)]
          · rw [if_neg e2, updL_ne (by omega), updL_ne (by omega), updL_ne (by omega), updL_ne (by omega), (k2 k (by omega) (by omega)).2, ← hF (k - 1) (by omega), show 9 + (k - 1) = 8 + k by omega]
      · rw [hfk k hk]
        by_cases e : k < p
        · rw [if_pos e]; exact hfr k (by omega)
        · rw [if_neg e]
          by_cases e2 : k = p
          · rw [if_pos e2]; exact c32_ge0 b (by omega)
          · rw [if_neg e2]; exact hfr (k - 1) (by omega)
theorem addPulse_b (R : pgR n q w len lens fracs tms ens front least snd obs m) (x1 x2 : Int32) : (∃ tms' ens' m', F_X2_addPulse (c32 q) tms ens x1 x2 = some (.inl (c32 (q + 1), c32 (q + 1), tms', ens')) ∧ F_X6_whyNoPulse m x1 x2 = some 0 ∧ F_X6_addsPulse m x1 x2 = some (c32 (q + 1), m') ∧ pgR n (q + 1) w len lens fracs tms' ens' front least snd obs m') ∨ (∃ k, (k = 1 ∨ k = 2) ∧ F_X2_addPulse (c32 q) tms ens x1 x2 = some (.inr k) ∧ F_X6_whyNoPulse m x1 x2 = some (c32 k)) := by
  have R0 := R
  obtain ⟨hn, hq1, hq, hw1, hw, hl, hen, htm, h0, h17, h18, h19, h20, hL, hF, hT, hE, hS, hO, hfr⟩ := R
  have hC : F_X2_addPulse (c32 q) tms ens x1 x2 = if rgn x1.toInt64 (c64 0) (c64 100) = 0 then some (.inr 1) else if rgn x2.toInt64 (c64 1) (c64 1000000) = 0 then some (.inr 1) else if q = 4 then some (.inr 2) else bd3 (F_X3_addPulse (c32 q) tms ens x1 x2) fun r s t => some (.inl (r, r, s, t)) := by
    unfold F_X2_addPulse F_X2_addPulse_28 F_X2_addPulse_29
    simp only [bd1_some, inC]
    refine ifc rfl (ifc rfl ?_)
    by_cases h4 : q = 4
    · subst h4; rfl
    · rw [if_neg h4, c32_of 4, ile_f (by omega) (by omega)]; rfl
  have hM : F_X6_whyNoPulse m x1 x2 = if rgn x1.toInt64 (c64 0) (c64 100) = 0 then some 1 else if rgn x2.toInt64 (c64 1) (c64 1000000) = 0 then some 1 else if q = 4 then some 2 else some 0 := by
    unfold F_X6_whyNoPulse F_X6_whyNoPulse_24 F_X6_whyNoPulse_47
    simp only [bd1_some, inM]
    refine ifc rfl (ifc rfl ?_)
    rw [c32_of 20, gin_c (by omega) (by omega), c32_nat (by omega), h20]
    by_cases h4 : q = 4
    · subst h4; rfl
    · rw [if_neg h4, if_neg (by rw [c64_of 4, c64_eq (by omega) (by omega)]; exact h4)]
  rcases rgn_c x1 0 100 (by omega) (by omega) with ⟨h1, -⟩ | ⟨h1, a, rfl, -, hc⟩
  · rw [if_pos h1] at hC hM
    exact Or.inr ⟨1, Or.inl rfl, hC, hM⟩
  · rw [if_neg (by rw [h1]; decide)] at hC hM
    rcases rgn_c x2 1 1000000 (by omega) (by omega) with ⟨h2, -⟩ | ⟨h2, b, rfl, hb1, hb2⟩
    · rw [if_pos h2] at hC hM
      exact Or.inr ⟨1, Or.inl rfl, hC, hM⟩
    · rw [if_neg (by rw [h2]; decide)] at hC hM
      by_cases h4 : q = 4
      · rw [if_pos h4] at hC hM
        exact Or.inr ⟨2, Or.inr rfl, hC, hM⟩
      · rw [if_neg h4] at hC hM
        rw [hC, hM]
        unfold F_X3_addPulse
        rw [gin_c (by omega) (by omega), gin_c (by omega) (by omega), c32_nat (by omega), c32_of 1, c32_add]
        refine Or.inl ⟨upd tms q (c32 a), upd ens q (c32 b), vp_updL (vp_updL (vp_updL m (21 + 2 * q) (c64 a)) (21 + 2 * q + 1) (c64 b)) 20 (c64 (q + 1)), rfl, rfl, ?_, ?_⟩
        · unfold F_X6_addsPulse
          simp only [nm]
          rw [c32_of 20, gin_c (by omega) (by omega), gin_c (by omega) (by omega), gin_c (by omega) (by omega), gin_c (by omega) (by omega), c32_nat (by omega), h20, c64_32, c32_of 2, c32_mul, c32_of 21, c32_add, gin_c (by omega) (by omega), c32_of 1, c32_add, gin_c (by omega) (by omega), c32_nat (by omega), c32_nat (by omega), updL_eq, updL_ne (by omega), updL_ne (by omega), h20, c64_of 1, c64_add, c64_32, c32_64 (by omega), c32_64 (by omega)]
        · refine pgR_pulses R0 (by omega) (by omega) (fun k h1 h2 => ?_) updL_eq (fun k hk => ?_) (fun k hk => ?_) (fun k hk => ?_) (fun k hk => ?_)
          · rw [updL_ne (by omega), updL_ne (by omega), updL_ne (by omega)]
          · by_cases e : k = q
            · rw [e, upd_eq, c32_64 (by omega), c64_of 0, c64_le (by omega) (by omega)]; omega
            · rw [upd_ne e]; exact hen k (by omega)
          · by_cases e : k = q
            · rw [e, upd_eq]; exact ⟨a, hc, rfl⟩
            · rw [upd_ne e]; exact htm k (by omega)
          · by_cases e : k = q
            · rw [e, upd_eq, updL_ne (by omega), updL_ne (by omega), updL_eq, c32_64 (by omega)]
            · rw [upd_ne e, updL_ne (by omega), updL_ne (by omega), updL_ne (by omega)]; exact hT k (by omega)
          · by_cases e : k = q
            · rw [e, upd_eq, updL_ne (by omega), updL_eq, c32_64 (by omega)]
            · rw [upd_ne e, updL_ne (by omega), updL_ne (by omega), updL_ne (by omega)]; exact hE k (by omega)
end PG
