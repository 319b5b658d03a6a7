/-! walks along instances, told by what the iterator finds -/
set_option maxRecDepth 100000
theorem fnd_dt : ∀ v, v < 16 → ∀ k, k < 4 → v.testBit k = true → fnd v false (k + 1) = k + 1 := by decide +kernel
theorem fnd_df : ∀ v, v < 16 → ∀ k, k < 4 → v.testBit k = false → fnd v false (k + 1) = fnd v false k := by decide +kernel
theorem fnd_ut : ∀ v, v < 16 → ∀ k, k < 4 → v.testBit k = true → fnd v true k = k + 1 := by decide +kernel
theorem fnd_uf : ∀ v, v < 16 → ∀ k, k < 4 → v.testBit k = false → fnd v true k = fnd v true (k + 1) := by decide +kernel
theorem fnd_u4 : ∀ v, v < 16 → fnd v true 4 = 0 := by decide +kernel
theorem fnd_tb : ∀ v, v < 16 → ∀ (up : Bool), ∀ k, k < 5 → ∀ j, j < 4 → fnd v up k = j + 1 → v.testBit j = true := by decide +kernel
theorem psU_s {c p : Nat} : ∀ k S, S 6 p < 16 → k ≤ 4 → ∀ j, fnd (S 6 p) false k = j + 1 → psU c p k S = psU c p j (pcall S c p j false false) := by
  intro k
  induction k with
  | zero => intro S hv _ j h; simp [fnd] at h
  | succ k ih =>
    intro S hv hk j h
    rw [psU]
    by_cases hb9 : (S 6 p).testBit k = true
    · rw [fnd_dt _ hv k (by omega) hb9] at h
      obtain rfl : k = j := by omega
      rw [if_pos hb9]
    · rw [fnd_df _ hv k (by omega) (by simpa using hb9)] at h
      rw [if_neg hb9]
      exact ih S hv (by omega) j h
theorem psU_0 {c p : Nat} : ∀ k S, S 6 p < 16 → k ≤ 4 → fnd (S 6 p) false k = 0 → psU c p k S = S := by
  intro k
  induction k with
  | zero => intro S _ _ _; rfl
  | succ k ih =>
    intro S hv hk h
    rw [psU]
    by_cases hb9 : (S 6 p).testBit k = true
    · rw [fnd_dt _ hv k (by omega) hb9] at h
      omega
    · rw [fnd_df _ hv k (by omega) (by simpa using hb9)] at h
      rw [if_neg hb9]
      exact ih S hv (by omega) h
theorem ptU_s {c p : Nat} : ∀ n k S, S 6 p < 16 → n + k = 4 → ∀ j, fnd (S 6 p) true k = j + 1 → ptU c p n k S = ptU c p (3 - j) (j + 1) (pcall S c p j true false) := by
  intro n
  induction n with
  | zero => intro k S hv hk j h; rw [show k = 4 by omega, fnd_u4 _ hv] at h; omega
  | succ n ih =>
    intro k S hv hk j h
    rw [ptU]
    by_cases hb9 : (S 6 p).testBit k = true
    · rw [fnd_ut _ hv k (by omega) hb9] at h
      obtain rfl : k = j := by omega
      rw [if_pos hb9, show 3 - k = n by omega]
    · rw [fnd_uf _ hv k (by omega) (by simpa using hb9)] at h
      rw [if_neg hb9]
      exact ih (k + 1) S hv (by omega) j h
theorem ptU_0 {c p : Nat} : ∀ n k S, S 6 p < 16 → n + k = 4 → fnd (S 6 p) true k = 0 → ptU c p n k S = S := by
  intro n
  induction n with
  | zero => intro k S _ _ _; rfl
  | succ n ih =>
    intro k S hv hk h
    rw [ptU]
    by_cases hb9 : (S 6 p).testBit k = true
    · rw [fnd_ut _ hv k (by omega) hb9] at h
      omega
    · rw [fnd_uf _ hv k (by omega) (by simpa using hb9)] at h
      rw [if_neg hb9]
      exact ih (k + 1) S hv (by omega) h
theorem psA_s {c p : Nat} {cf : Bool} : ∀ n k S, S 6 p < 16 → n + k = 4 → ∀ j, fnd (S 6 p) true k = j + 1 → psA c p cf n k S = (if pfails S c p j true cf = true then (psU c p j (pcall S c p j true cf), false) else psA c p cf (3 - j) (j + 1) (pcall S c p j true cf)) := by
  intro n
  induction n with
  | zero => intro k S hv hk j h; rw [show k = 4 by omega, fnd_u4 _ hv] at h; omega
  | succ n ih =>
    intro k S hv hk j h
    rw [psA]
    by_cases hb9 : (S 6 p).testBit k = true
    · rw [fnd_ut _ hv k (by omega) hb9] at h
      obtain rfl : k = j := by omega
      rw [if_pos hb9, show 3 - k = n by omega]
    · rw [fnd_uf _ hv k (by omega) (by simpa using hb9)] at h
      rw [if_neg hb9]
      exact ih (k + 1) S hv (by omega) j h
theorem psA_0 {c p : Nat} {cf : Bool} : ∀ n k S, S 6 p < 16 → n + k = 4 → fnd (S 6 p) true k = 0 → psA c p cf n k S = (S, true) := by
  intro n
  induction n with
  | zero => intro k S _ _ _; rfl
  | succ n ih =>
    intro k S hv hk h
    rw [psA]
    by_cases hb9 : (S 6 p).testBit k = true
    · rw [fnd_ut _ hv k (by omega) hb9] at h
      omega
    · rw [fnd_uf _ hv k (by omega) (by simpa using hb9)] at h
      rw [if_neg hb9]
      exact ih (k + 1) S hv (by omega) h
theorem ptA_s {c p : Nat} {cf : Bool} : ∀ k S, S 6 p < 16 → k ≤ 4 → ∀ j, fnd (S 6 p) false k = j + 1 → ptA c p cf k S = (if pfails S c p j false cf = true then (ptU c p (4 - (j + 1)) (j + 1) (pcall S c p j false cf), false) else ptA c p cf j (pcall S c p j false cf)) := by
  intro k
  induction k with
  | zero => intro S hv _ j h; simp [fnd] at h
  | succ k ih =>
    intro S hv hk j h
    rw [ptA]
    by_cases hb9 : (S 6 p).testBit k = true
    · rw [fnd_dt _ hv k (by omega) hb9] at h
      obtain rfl : k = j := by omega
      rw [if_pos hb9]
    · rw [fnd_df _ hv k (by omega) (by simpa using hb9)] at h
      rw [if_neg hb9]
      exact ih S hv (by omega) j h
theorem ptA_0 {c p : Nat} {cf : Bool} : ∀ k S, S 6 p < 16 → k ≤ 4 → fnd (S 6 p) false k = 0 → ptA c p cf k S = (S, true) := by
  intro k
  induction k with
  | zero => intro S _ _ _; rfl
  | succ k ih =>
    intro S hv hk h
    rw [ptA]
    by_cases hb9 : (S 6 p).testBit k = true
    · rw [fnd_dt _ hv k (by omega) hb9] at h
      omega
    · rw [fnd_df _ hv k (by omega) (by simpa using hb9)] at h
      rw [if_neg hb9]
      exact ih S hv (by omega) h
