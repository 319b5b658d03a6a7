/-! the list grows; an entry is written -/
set_option maxRecDepth 100000
set_option maxHeartbeats 16000000
theorem MC.grew {Γ : Cx} {H H1 : Heap} {g : Gn} {L q N : Nat} {S : Sx} (h : MC Γ H g L S) (hq : H.size ≤ q) (hgq : Gz Γ q) (o : Off (fun r => r = g 0 0) H H1) (hp3 : pt Γ H1 q (ia Γ N (fun j => nI (S 13 j)))) (hp0 : pt Γ H1 (g 0 0) (ob 0 [.ref (g 1 0), .ref (g 2 0), .ref q, .int (nI (S 0 1)), .int (nI (S 0 4)), .ref (g 4 0), .ref (g 5 0), .ref (g 6 0)])) : MC Γ H1 g q (up2 S 0 3 N) := by
  have hv : LVE S (up2 S 0 3 N) := ⟨up2_n (by omega), by funext j; exact up2_n (by omega), by funext j; exact up2_n (by omega)⟩
  have hnl : ∀ t i, t ≠ 3 → nl g q t i = nl g L t i := fun t i ht => by rw [nl_f ht, nl_f ht]
  refine MZ.step (fun t i => (t = 0 ∧ i = 0) ∨ t = 3) h (fun t i h1 h2 => o.2 _ (MZ.c h h1).lt (fun e => h2 (Or.inl (h.2 t i 0 0 h1 rfl (by rw [e, nl_f (show 0 ≠ 3 by decide)]))))) (fun t i h1 h2 => ?_) (fun t i h1 h2 => ?_) (fun t i t' i' h1 h2 e => ?_)
  · have hl := (hv.li t i).mp h1
    have ht3 : t ≠ 3 := fun e => h2 (Or.inr e)
    refine ⟨hl, hnl t i ht3, ?_⟩
    have hs := same_r (g := nl g L) (S' := up2 S 0 3 N) hl (fun f j hr => up2_n (fun z => by
      obtain ⟨rfl, rfl⟩ := z
      unfold reads at hr
      split at hr
      all_goals first | omega | exact absurd hr (fun z => z)))
    match t, i, ht3, hs, hl, h2 with
    | 0, i, _, hs, hl, h2 => exact absurd (Or.inl ⟨rfl, hl⟩) h2
    | 1, i, _, hs, _, _ => exact ⟨hnl 1 i (by decide), fun p hp => ⟨(hs.2 p hp).1, fun _ => hnl 8 p (by decide)⟩⟩
    | 2, 0, _, hs, _, _ => exact ⟨hnl 2 0 (by decide), hnl 2 1 (by decide), hs.2.2⟩
    | 2, i + 1, _, hs, _, _ => exact ⟨hnl 2 _ (by decide), hs.2.1, fun k _ => hnl 7 k (by decide)⟩
    | 4, i, _, hs, _, _ => exact ⟨hnl 4 i (by decide), hs.2.1, hs.2.2.1, fun k _ => hnl 14 k (by decide)⟩
    | 5, i, _, hs, _, _ => exact ⟨hnl 5 i (by decide), hs.2.1, hs.2.2.1, fun k _ => hnl 16 k (by decide)⟩
    | 6, 0, _, hs, _, _ => exact ⟨hnl 6 0 (by decide), hnl 6 1 (by decide), hs.2.2⟩
    | 6, i + 1, _, hs, _, _ => exact ⟨hnl 6 _ (by decide), hs.2.1, fun k _ => hnl 17 k (by decide)⟩
    | 7, i, _, hs, _, _ => exact ⟨hnl 7 i (by decide), hs.2.1, hnl 0 0 (by decide)⟩
    | 8, i, _, hs, _, _ => exact ⟨hnl 8 i (by decide), hs.2.1, hnl 9 i (by decide), hnl 11 i (by decide), hnl 12 i (by decide)⟩
    | 9, i, _, hs, _, _ => exact ⟨hnl 9 i (by decide), hnl 10 i (by decide), hs.2.2⟩
    | 10, i, _, hs, _, _ => exact ⟨hnl 10 i (by decide), hs.2⟩
    | 11, i, _, hs, _, _ => exact ⟨hnl 11 i (by decide), hs.2⟩
    | 12, i, _, hs, _, _ => exact ⟨hnl 12 i (by decide), hs.2⟩
    | 13, i, _, hs, _, _ => exact ⟨hnl 13 i (by decide), hs.2⟩
    | 14, i, _, hs, _, _ => exact ⟨hnl 14 i (by decide), hnl 13 i (by decide), hs.2.2.1, fun k _ => hnl 14 k (by decide), hs.2.2.2.2⟩
    | 15, i, _, hs, _, _ => exact ⟨hnl 15 i (by decide), hs.2⟩
    | 16, i, _, hs, _, _ => exact ⟨hnl 16 i (by decide), hnl 15 i (by decide), hs.2.2.1, fun k _ => hnl 16 k (by decide), hs.2.2.2.2⟩
    | 17, i, _, hs, _, _ => exact ⟨hnl 17 i (by decide), hs.2⟩
  · rcases h2 with ⟨rfl, rfl⟩ | rfl
    · refine ⟨?_, ?_⟩
      · simp only [CP, nl_3, nl_f (show 0 ≠ 3 by decide), nl_f (show 1 ≠ 3 by decide), nl_f (show 2 ≠ 3 by decide), nl_f (show 4 ≠ 3 by decide), nl_f (show 5 ≠ 3 by decide), nl_f (show 6 ≠ 3 by decide)]
        rw [up2_n (by omega), up2_n (by omega)]
        exact hp0
      · rw [nl_f (by decide)]
        exact h.gz (by decide) rfl
    · have hi0 : i = 0 := h1
      subst hi0
      refine ⟨?_, by rw [nl_3]; exact hgq⟩
      simp only [CP, nl_3]
      rw [up2_s]
      exact hp3.ia rfl (fun j _ => by rw [up2_n (by omega)])
  · have h1 := (hv.li t i).mp h1
    have h2 := (hv.li t' i').mp h2
    by_cases ht : t = 3
    · subst ht
      have hi : i = 0 := h1
      subst hi
      by_cases ht' : t' = 3
      · subst ht'
        have hi' : i' = 0 := h2
        subst hi'
        exact ⟨rfl, rfl⟩
      · rw [nl_3, hnl t' i' ht'] at e
        have := (MZ.c h h2).lt
        omega
    · by_cases ht' : t' = 3
      · subst ht'
        have hi' : i' = 0 := h2
        subst hi'
        rw [nl_3, hnl t i ht] at e
        have := (MZ.c h h1).lt
        omega
      · exact h.2 t i t' i' h1 h2 (by rw [← hnl t i ht, ← hnl t' i' ht']; exact e)
/-- an entry is written and counted -/
theorem MC.entry {Γ : Cx} {H H1 : Heap} {g : Gn} {L : Nat} {S : Sx} {v : Nat} (h : MC Γ H g L S) (hlt : S 0 1 < S 0 3) (o : Off (fun r => r = g 0 0 ∨ r = L) H H1) (hp3 : pt Γ H1 L (ia Γ (S 0 3) (upd (fun j => nI (S 13 j)) (S 0 1) (nI v)))) (hp0 : pt Γ H1 (g 0 0) (ob 0 [.ref (g 1 0), .ref (g 2 0), .ref L, .int (nI (S 0 1 + 1)), .int (nI (S 0 4)), .ref (g 4 0), .ref (g 5 0), .ref (g 6 0)])) : MC Γ H1 g L (up2 (up2 S 13 (S 0 1) v) 0 1 (S 0 1 + 1)) := by
  have hv : LVE S (up2 (up2 S 13 (S 0 1) v) 0 1 (S 0 1 + 1)) := ⟨by rw [up2_n (by omega), up2_n (by omega)], by funext j; rw [up2_n (by omega), up2_n (by omega)], by funext j; rw [up2_n (by omega), up2_n (by omega)]⟩
  refine h.st (fun t i => (t = 0 ∧ i = 0) ∨ (t = 3 ∧ i = 0)) hv (fun t i h1 h2 => o.2 _ (MZ.c h h1).lt (fun e => ?_)) (fun t i h1 h2 => ?_) (fun t i f j h1 h2 hr => ?_)
  · rcases e with e | e
    · exact h2 (Or.inl (h.2 t i 0 0 h1 rfl (by rw [e, nl_f (show 0 ≠ 3 by decide)])))
    · exact h2 (Or.inr (h.2 t i 3 0 h1 rfl (by rw [e, nl_3])))
  · rcases h2 with ⟨rfl, rfl⟩ | ⟨rfl, rfl⟩
    · simp only [CP, nl_3, nl_f (show 0 ≠ 3 by decide), nl_f (show 1 ≠ 3 by decide), nl_f (show 2 ≠ 3 by decide), nl_f (show 4 ≠ 3 by decide), nl_f (show 5 ≠ 3 by decide), nl_f (show 6 ≠ 3 by decide)]
      rw [up2_s, up2_n (by omega), up2_n (by omega)]
      exact hp0
    · simp only [CP, nl_3]
      rw [up2_n (show ¬ (0 = 0 ∧ 3 = 1) by omega), up2_n (show ¬ (0 = 13 ∧ 3 = S 0 1) by omega)]
      refine hp3.ia rfl (fun j _ => ?_)
      rw [up2_f (by decide), nI_up2]
  · have hne : ¬ (f = 13 ∧ j = S 0 1) := fun z => by
      obtain ⟨rfl, -⟩ := z
      unfold reads at hr
      split at hr
      all_goals first | omega | exact absurd hr (fun z => z) | skip
      all_goals (simp only [lv] at h1; omega)
    have hne2 : ¬ (f = 0 ∧ j = 1) := fun z => by
      obtain ⟨rfl, rfl⟩ := z
      unfold reads at hr
      split at hr
      all_goals first | omega | exact absurd hr (fun z => z) | skip
      all_goals (simp only [lv] at h1; omega)
    rw [up2_n hne2, up2_n hne]
