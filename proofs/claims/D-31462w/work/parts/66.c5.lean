/-! scatter: what lived on a dead core goes elsewhere -/
set_option maxRecDepth 100000
set_option maxHeartbeats 8000000
theorem pfuA_of (S : Sx) (a : Nat) : ∀ n c, pfuA S a n c = 0 ∨ ∃ k, pfuA S a n c = k + 1 ∧ 10 < S 1 k ∧ k < c + n := by
  intro n
  induction n with
  | zero => intro c; exact Or.inl rfl
  | succ n ih =>
    intro c
    rw [pfuA]
    split
    · next h => exact Or.inr ⟨c, rfl, h.2, by omega⟩
    · rcases ih (c + 1) with h | ⟨k, h1, h2, h3⟩
      · exact Or.inl h
      · exact Or.inr ⟨k, h1, h2, by omega⟩
theorem pfu_ne {S : Sx} {a c : Nat} (h : S 1 c ≤ 10) : pfu S a ≠ c + 1 := by
  rcases pfuA_of S a (S 0 0) 0 with e | ⟨k, e, h2, _⟩
  · unfold pfu; omega
  · unfold pfu; intro q; have : k = c := by omega
    subst this; omega
theorem ptg_ne {S : Sx} {a c : Nat} (h : S 1 c ≤ 10) : ptg S a ≠ c + 1 := by
  unfold ptg
  split
  · exact pfu_ne h
  · exact pfu_ne h
theorem pplA_up (S : Sx) (a : Nat) : ∀ n c b, (b = 0 ∨ 10 < S 1 (b - 1)) → (pplA S a n c b = 0 ∨ 10 < S 1 (pplA S a n c b - 1)) := by
  intro n
  induction n with
  | zero => intro c b h; exact h
  | succ n ih =>
    intro c b h
    rw [pplA]
    apply ih
    split
    · next h2 =>
      split
      · exact Or.inr (by simpa using h2.2)
      · split
        · exact Or.inr (by simpa using h2.2)
        · exact h
    · exact h
theorem ppl_ne {S : Sx} {a c : Nat} (h : S 1 c ≤ 10) : ppl S a ≠ c + 1 := by
  intro e
  rcases pplA_up S a (S 0 0) 0 0 (Or.inl rfl) with q | q
  · unfold ppl at e; omega
  · unfold ppl at e
    rw [e, Nat.add_sub_cancel] at q
    omega
theorem plo_skip {S : Sx} {t v : Nat} (h : S 10 t ≠ v) (hv : v ≠ 0) : ∀ n, plo (up2 S 10 t 0) v n = plo S v n := by
  intro n
  induction n with
  | zero => rfl
  | succ n ih =>
    rw [plo, plo, ih]
    by_cases hn : n = t
    · subst hn
      rw [up2_s, if_neg (by omega), if_neg h]
    · rw [up2_i hn]
theorem pplA_skip {S : Sx} {t : Nat} (a : Nat) (h : ∀ k, 10 < S 1 k → S 10 t ≠ k + 1) : ∀ n c b, (b = 0 ∨ 10 < S 1 (b - 1)) → pplA (up2 S 10 t 0) a n c b = pplA S a n c b := by
  intro n
  induction n with
  | zero => intro c b _; rfl
  | succ n ih =>
    intro c b hb9
    rw [pplA, pplA]
    have e1 : up2 S 10 t 0 1 c = S 1 c := up2_f (by decide)
    have e8 : up2 S 10 t 0 8 0 = S 8 0 := up2_f (by decide)
    rw [e1, e8]
    by_cases hc : a.testBit c = true ∧ 10 < S 1 c
    · rw [if_pos hc, if_pos hc, plo_skip (h c hc.2) (by omega)]
      by_cases hb0 : b = 0
      · rw [if_pos hb0, if_pos hb0]
        exact ih _ _ (Or.inr (by simpa using hc.2))
      · have hb1 := hb9.resolve_left hb0
        have e2 : plo (up2 S 10 t 0) b (S 8 0) = plo S b (S 8 0) := plo_skip (by
          have := h (b - 1) hb1
          rwa [show b - 1 + 1 = b by omega] at this) hb0 _
        rw [if_neg hb0, if_neg hb0, e2]
        apply ih
        split
        · exact Or.inr (by simpa using hc.2)
        · exact hb9
    · rw [if_neg hc, if_neg hc]
      exact ih _ _ hb9
theorem ppl_skip {S : Sx} {t : Nat} (a : Nat) (h : ∀ k, 10 < S 1 k → S 10 t ≠ k + 1) : ppl (up2 S 10 t 0) a = ppl S a := by
  unfold ppl
  rw [show up2 S 10 t 0 0 0 = S 0 0 from up2_f (by decide)]
  exact pplA_skip a h _ _ _ (Or.inl rfl)
theorem CS.put {Γ : Cx} {g : Gn} {L L1 : Nat} {S S1 S2 : Sx} {H H1 H2 : Heap} {P : Nat → Prop} (h : CS Γ g L S H H1 L1 S1) (hM : MC Γ H2 g L1 S2) (o : Off P H1 H2) (hP : ∀ q, P q → Cg g L1 S1 q) (hv : LVE S1 S2) : CS Γ g L S H H2 L1 S2 :=
  ⟨hM, h.2.1.fresh o (fun q hq z => Cg.back h.2.2.1 h.2.2.2 hq (hP q z)), h.2.2.1, h.2.2.2.trans hv⟩
theorem Cg.lve {g : Gn} {L : Nat} {S S1 : Sx} {q : Nat} (hv : LVE S S1) (h : ¬ Cg g L S q) : ¬ Cg g L S1 q := by
  intro ⟨t, i, hl, e⟩
  exact h ⟨t, i, (hv.li t i).mp hl, e⟩
/-- the third loop, of the threads; also gather's -/
theorem mv13 {S : Sx} {t a9 : Nat} (f j : Nat) (h : ¬ ((f = 10 ∨ f = 11) ∧ j = t)) : up2 (pplace S t) 11 t a9 f j = S f j := by
  rw [up2_n (by omega), pplace, up2_n (by omega), up2_n (by omega)]
