/-! call -/
set_option maxRecDepth 100000
set_option maxHeartbeats 16000000
theorem fjx_fat {c p i : Nat} (st : Bool) (hi : i < 4) : fjx p (fat c i st) = fidx c p i st := by
  unfold fjx fat wo
  cases st
  · show fidx (((c * 4 + i) * 2 + 1) / 8) p (((c * 4 + i) * 2 + 1) / 2 % 4) (decide (((c * 4 + i) * 2 + 1) % 2 = 0)) = _
    rw [show ((c * 4 + i) * 2 + 1) / 8 = c by omega, show ((c * 4 + i) * 2 + 1) / 2 % 4 = i by omega, show decide (((c * 4 + i) * 2 + 1) % 2 = 0) = false from decide_eq_false (by omega)]
  · show fidx (((c * 4 + i) * 2 + 0) / 8) p (((c * 4 + i) * 2 + 0) / 2 % 4) (decide (((c * 4 + i) * 2 + 0) % 2 = 0)) = _
    rw [show ((c * 4 + i) * 2 + 0) / 8 = c by omega, show ((c * 4 + i) * 2 + 0) / 2 % 4 = i by omega, show decide (((c * 4 + i) * 2 + 0) % 2 = 0) = true from decide_eq_true (by omega)]
theorem fidx_inj {c p i c' i' : Nat} {st st' : Bool} (hp : p < 20) (hi : i < 4) (hi' : i' < 4) (h : fidx c p i st = fidx c' p i' st') : c = c' ∧ i = i' ∧ st = st' := by
  unfold fidx at h
  cases st <;> cases st' <;> simp at h ⊢ <;> omega
theorem fjx_inj {p j j' : Nat} (hp : p < 20) (h : fjx p j = fjx p j') : j = j' := by
  unfold fjx at h
  obtain ⟨h1, h2, h3⟩ := fidx_inj hp (by omega) (by omega) h
  have h4 : (j % 2 = 0) = (j' % 2 = 0) := by simpa using h3
  have h5 : (j % 2 = 0) ↔ (j' % 2 = 0) := by rw [h4]
  omega
/-- the component's state is well formed -/
def WC (S : Sx) : Prop := WF S ∧ S 0 4 ≤ 1 ∧ S 0 1 ≤ S 0 3 ∧ 64 ≤ S 0 3 ∧ S 0 3 ≤ 80000 ∧ ∀ j, S 0 3 ≤ j → S 13 j = 0
def cfo (S : Sx) : Bool := decide (S 0 4 = 0)
theorem code_or : ∀ c, c < 8 → ∀ p, p < 20 → ∀ w, w < 9 → ∀ i, i < 4 → ∀ (st f : Bool), ((((bn f ||| (if st then 2 else 0)) ||| i * 2 ^ 2) ||| w * 2 ^ 4) ||| p * 2 ^ 8) ||| c * 2 ^ 13 = 4 * i + 16 * w + 256 * p + 8192 * c + (if st then 2 else 0) + (if f then 1 else 0) := by decide +kernel
/-- what is thrown by a call that fails -/
def XB (Γ : Cx) (g : Gn) (L : Nat) (S : Sx) (H : Heap) (S' : Sx) (i : Nat) : String → Addr → Heap → Prop := fun E q H1 => E = RX6 ∧ (∃ L1, CS Γ g L S H H1 L1 S') ∧ pt Γ H1 q (ob 4 [.null, .null, .null, .null, .null, .int (nI 0), .int (nI i)]) ∧ Gz Γ q ∧ H.size ≤ q
theorem pcallF_v {S : Sx} {c p i : Nat} {st f : Bool} : LVE S (pcallF S c p i st f) := by
  refine ⟨pcallF_f (by decide) (Or.inr (by decide)), ?_, ?_⟩
  · funext j; exact pcallF_f (by decide) (Or.inl (by decide))
  · funext j; exact pcallF_f (by decide) (Or.inl (by decide))
theorem pcall_v {S : Sx} {c p i : Nat} {st cf : Bool} : LVE S (pcall S c p i st cf) := by
  refine ⟨pcall_f (by decide) (by decide) (Or.inr (by decide)), ?_, ?_⟩
  · funext j; exact pcall_f (by decide) (by decide) (Or.inl (by decide))
  · funext j; exact pcall_f (by decide) (by decide) (Or.inl (by decide))
theorem MC.w1o {Γ : Cx} {H H1 : Heap} {g : Gn} {L : Nat} {S S' : Sx} {t0 i0 : Nat} (h : MC Γ H g L S) (h3 : t0 ≠ 3) (hl0 : lv S t0 i0) (hv : LVE S S') (o : Off (fun q => q = g t0 i0) H H1) (hn : CP Γ H1 (nl g L) S' t0 i0) (hr : ∀ t i f j, lv S t i → ¬ (t = t0 ∧ i = i0) → reads t i f j → S' f j = S f j) : MC Γ H1 g L S' :=
  h.st (fun t i => t = t0 ∧ i = i0) hv (fun t i h1 h2 => o.2 _ (MZ.c h h1).lt (fun e => h2 (h.2 t i t0 i0 h1 hl0 (by rw [e, nl_f h3])))) (fun t i _ h2 => by obtain ⟨rfl, rfl⟩ := h2; exact hn) hr
theorem pcallF_7 {S : Sx} {c p i : Nat} {st f : Bool} {j : Nat} (h : j ≠ fidx c p i st) : pcallF S c p i st f 7 j = S 7 j := by
  unfold pcallF
  split
  · rw [up2_f (by decide), up2_i h]
  · rfl
theorem pcallF_s {S : Sx} {c p i : Nat} {st f : Bool} (hf : f = decide (0 < S 7 (fidx c p i st))) : pcallF S c p i st f 7 (fidx c p i st) = S 7 (fidx c p i st) - 1 := by
  unfold pcallF
  split
  · rw [up2_f (by decide), up2_s]
  · next h =>
    have : ¬ 0 < S 7 (fidx c p i st) := by
      intro q
      rw [hf, decide_eq_true q] at h
      exact h rfl
    omega
/-- the world after a failure was taken (or not) -/
theorem MC.take {Γ : Cx} {H H1 : Heap} {g : Gn} {L : Nat} {S : Sx} {c9 p9 i9 : Nat} {st f : Bool} (h : MC Γ H g L S) (hp9 : p9 < 20) (hs2 : S 2 p9 ≠ 0) (hi : i9 < 4) (hf : f = decide (0 < S 7 (fidx c9 p9 i9 st))) (o : Off (fun q => q = g 12 p9) H H1) (hp : pt Γ H1 (g 12 p9) (ia Γ 64 (fun j => nI (upf (fun j => S 7 (fjx p9 j)) (fat c9 i9 st) (S 7 (fjx p9 (fat c9 i9 st)) - 1) j)))) : MC Γ H1 g L (pcallF S c9 p9 i9 st f) := by
  refine h.w1o (t0 := 12) (i0 := p9) (by decide) ⟨hp9, hs2⟩ pcallF_v o ?_ ?_
  · simp only [CP, nl_f (show 12 ≠ 3 by decide)]
    refine hp.ia rfl (fun j _ => ?_)
    congr 1
    by_cases hj : j = fat c9 i9 st
    · subst hj
      rw [upf_s, fjx_fat st hi, pcallF_s hf]
    · rw [upf_i hj, pcallF_7 (fun e => hj (fjx_inj hp9 (by rw [e, fjx_fat st hi])))]
  · intro t i f9 j hl hn hrd
    by_cases h7 : f9 = 7
    · subst h7
      refine pcallF_7 (fun e => ?_)
      have hj : j / 8 % 20 = p9 := by rw [e]; exact fidx_p st hp9 hi
      unfold reads at hrd
      split at hrd
      all_goals first | omega | exact absurd hrd (fun z => z)
    · by_cases h0 : f9 = 0 ∧ j = 2
      · obtain ⟨rfl, rfl⟩ := h0
        unfold reads at hrd
        split at hrd
        all_goals first | omega | exact absurd hrd (fun z => z)
      · exact pcallF_f h7 (by omega)
