/-! what a call keeps of the component's well-formed states -/
set_option maxRecDepth 100000
theorem pcall_4 {S : Sx} {c p i : Nat} {st cf : Bool} : pcall S c p i st cf 0 4 = S 0 4 := pcall_f (by decide) (by decide) (Or.inr (by decide))
theorem pcall_03 {S : Sx} {c p i : Nat} {st cf : Bool} : pcall S c p i st cf 0 3 = if pthere S p st = 0 then S 0 3 else plist S := by
  unfold pcall
  split
  · rfl
  · rw [up2_s]
theorem pcall_01v {S : Sx} {c p i : Nat} {st cf : Bool} : pcall S c p i st cf 0 1 = if pthere S p st = 0 then S 0 1 else S 0 1 + 1 := by
  unfold pcall
  split
  · rfl
  · rw [up2_i (by decide), up2_s]
theorem pcall_13 {S : Sx} {c p i : Nat} {st cf : Bool} {j : Nat} (h : j ≠ S 0 1) : pcall S c p i st cf 13 j = S 13 j := by
  unfold pcall
  split
  · rfl
  · rw [up2_f (by decide), up2_f (by decide), up2_i h, pcallF_f (by decide) (Or.inl (by decide))]
theorem wc_pcall {S : Sx} (hw : WC S) {c p i : Nat} {st cf : Bool} (hr : S 0 1 < 40000) : WC (pcall S c p i st cf) := by
  obtain ⟨h1, h2, h3, h4, h5, h6⟩ := hw
  refine ⟨wf_pcall h1 hr, by rw [pcall_4]; exact h2, ?_, ?_, ?_, fun j hj => ?_⟩
  · rw [pcall_01v, pcall_03]
    split
    · exact h3
    · unfold plist; split <;> omega
  · rw [pcall_03]
    split
    · exact h4
    · unfold plist; split <;> omega
  · rw [pcall_03]
    split
    · exact h5
    · unfold plist; split <;> omega
  · rw [pcall_03] at hj
    by_cases ht : pthere S p st = 0
    · rw [if_pos ht] at hj
      have e : pcall S c p i st cf = S := by unfold pcall; rw [if_pos ht]
      rw [e]
      exact h6 j hj
    · rw [if_neg ht] at hj
      have h7 : S 0 1 < j ∧ S 0 3 ≤ j := by
        unfold plist at hj
        split at hj <;> omega
      rw [pcall_13 (by omega)]
      exact h6 j h7.2
theorem gr_le {S : Sx} {c p i : Nat} {st cf : Bool} (hw : WC S) : S 0 3 ≤ pcall S c p i st cf 0 3 := by
  obtain ⟨h1, h2, h3, h4, h5, h6⟩ := hw
  rw [pcall_03]
  split
  · exact Nat.le_refl _
  · unfold plist; split <;> omega
