/-! moves of interrupts and timers; targets -/
set_option maxRecDepth 100000
set_option maxHeartbeats 4000000
theorem MC.m15 {Γ : Cx} {H H1 : Heap} {g : Gn} {L : Nat} {S S' : Sx} {t9 : Nat} (h : MC Γ H g L S) (ht : t9 < S 8 1) (h16 : S 8 0 ≤ 16 ∧ S 8 1 ≤ 12) (o : Off (fun q => q = g 15 t9) H H1) (hE : ∀ f j, ¬ (((f = 10 ∨ f = 11) ∧ j = 16 + t9) ∨ (f = 12 ∧ j = t9)) → S' f j = S f j) (hp : pt Γ H1 (g 15 t9) (ob 7 [.int (nI (S 9 (16 + t9))), .int (nI (S' 10 (16 + t9)) - 1), .int (nI (S' 11 (16 + t9))), .int (nI (S' 12 t9))])) : MC Γ H1 g L S' := by
  have hv : LVE S S' := ⟨hE 0 0 (by omega), by funext j; exact hE 2 j (by omega), by funext j; exact hE 8 j (by omega)⟩
  refine h.st (fun t i => t = 15 ∧ i = t9) hv (fun t i h1 h2 => o.2 _ (MZ.c h h1).lt (fun e => h2 (h.2 t i 15 t9 h1 ht (by rw [e, nl_f (by decide)])))) (fun t i _ h2 => ?_) (fun t i f j h1 h2 q => hE f j ?_)
  · obtain ⟨rfl, rfl⟩ := h2
    simp only [CP, nl_f (show 15 ≠ 3 by decide)]
    rw [hE 9 (16 + i) (by omega)]
    exact hp
  · intro hc
    unfold reads at q
    split at q
    all_goals first | omega | (exact absurd q (by intro z; exact z)) | skip
    all_goals (simp only [lv] at h1; omega)
theorem MC.m17 {Γ : Cx} {H H1 : Heap} {g : Gn} {L : Nat} {S S' : Sx} {t9 : Nat} (h : MC Γ H g L S) (ht : t9 < S 8 2) (h16 : S 8 0 ≤ 16 ∧ S 8 1 ≤ 12) (o : Off (fun q => q = g 17 t9) H H1) (hE : ∀ f j, ¬ ((f = 10 ∨ f = 11) ∧ j = 32 + t9) → S' f j = S f j) (hp : pt Γ H1 (g 17 t9) (ob 6 [.int (nI 255), .int (nI (S' 10 (32 + t9)) - 1), .int (nI (S' 11 (32 + t9)))])) : MC Γ H1 g L S' := by
  have hv : LVE S S' := ⟨hE 0 0 (by omega), by funext j; exact hE 2 j (by omega), by funext j; exact hE 8 j (by omega)⟩
  refine h.st (fun t i => t = 17 ∧ i = t9) hv (fun t i h1 h2 => o.2 _ (MZ.c h h1).lt (fun e => h2 (h.2 t i 17 t9 h1 ht (by rw [e, nl_f (by decide)])))) (fun t i _ h2 => ?_) (fun t i f j h1 h2 q => hE f j ?_)
  · obtain ⟨rfl, rfl⟩ := h2
    simp only [CP, nl_f (show 17 ≠ 3 by decide)]
    exact hp
  · intro hc
    unfold reads at q
    split at q
    all_goals first | omega | (exact absurd q (by intro z; exact z)) | skip
    all_goals (simp only [lv] at h1; omega)
/-- the lowest bit of v, + 1 -/
def lbA : Nat → Nat → Nat → Nat
  | 0, _, _ => 0
  | n + 1, c, v => if v.testBit c = true then c + 1 else lbA n (c + 1) v
theorem lb_ntz : ∀ v, v < 256 → v ≠ 0 → ntI (nI v) = nI (lbA 8 0 v) - 1 := by decide +kernel
theorem lb_0 : ∀ v, v < 256 → (lbA 8 0 v = 0 ↔ v = 0) := by decide +kernel
theorem pus_tb (S : Sx) : ∀ n c, (pus S n).testBit c = decide (c < n ∧ 10 < S 1 c) := by
  intro n
  induction n with
  | zero => intro c; simp [pus]
  | succ n ih =>
    intro c
    rw [pus]
    split
    · next h =>
      rw [Nat.testBit_or, ih, Nat.testBit_two_pow]
      by_cases hc : n = c
      · subst hc; simp [h]
      · simp only [hc, decide_false, Bool.or_false]
        congr 1
        apply propext
        constructor
        · intro q; exact ⟨by omega, q.2⟩
        · intro q; exact ⟨by omega, q.2⟩
    · next h =>
      rw [ih]
      congr 1
      apply propext
      constructor
      · intro q; exact ⟨by omega, q.2⟩
      · intro q
        refine ⟨?_, q.2⟩
        rcases Nat.lt_or_ge c n with h1 | h1
        · exact h1
        · exfalso
          have : c = n := by omega
          subst this
          exact h q.2
theorem fu_lb (S : Sx) (a v : Nat) : ∀ n m c, (∀ j, c ≤ j → v.testBit j = (a.testBit j && decide (j < c + n ∧ 10 < S 1 j))) → lbA (n + m) c v = pfuA S a n c := by
  intro n
  induction n with
  | zero =>
    intro m
    induction m with
    | zero => intro c _; rfl
    | succ m ihm =>
      intro c h
      rw [show 0 + (m + 1) = (0 + m) + 1 by omega, lbA, if_neg (by rw [h c (Nat.le_refl _)]; simp)]
      exact ihm (c + 1) (fun j hj => by rw [h j (by omega)]; congr 2; apply propext; constructor <;> (intro q; omega))
  | succ n ih =>
    intro m c h
    rw [show n + 1 + m = (n + m) + 1 by omega, lbA, pfuA]
    have hc := h c (Nat.le_refl _)
    by_cases hb9 : a.testBit c = true ∧ 10 < S 1 c
    · rw [if_pos hb9, if_pos (by rw [hc, hb9.1, Bool.true_and]; exact decide_eq_true ⟨by omega, hb9.2⟩)]
    · rw [if_neg hb9, if_neg (by
        rw [hc, Bool.and_eq_true]
        exact fun q => hb9 ⟨q.1, (of_decide_eq_true q.2).2⟩)]
      exact ih m (c + 1) (fun j hj => by rw [h j (by omega)]; congr 2; apply propext; constructor <;> (intro q; exact ⟨by omega, q.2⟩))
theorem fu_and {S : Sx} (hw : WF S) {a : Nat} (ha : a < 256) : lbA 8 0 (pus S (S 0 0) &&& a) = pfu S a := by
  have hb0 := hw.b0
  have e := fu_lb S a (pus S (S 0 0) &&& a) (S 0 0) (8 - S 0 0) 0 (fun j _ => by
    rw [Nat.testBit_and, pus_tb, Bool.and_comm, Nat.zero_add])
  rw [show S 0 0 + (8 - S 0 0) = 8 by omega] at e
  exact e
def ptg (S : Sx) (a : Nat) : Nat := if pfu S a = 0 then pfu S 255 else pfu S a
theorem c_targetOf (l : Launch) (Γ : Cx) (H : Heap) (g : Gn) (L : Nat) (S : Sx) (a9 : Nat) (hM : MC Γ H g L S) (hw : WF S) (ha : a9 < 256) : Mt l Γ yX1_targetOf (ws_ yX1_targetOf cX1_targetOf 3 (some .int)) 5 0 0 [.ref (g 0 0), .int (nI a9)] H (Rd (nI (ptg S a9) - 1) H) := by
  refine mt_of (by decide +kernel) (Nat.le_of_ble_eq_true rfl) ?_
  intro p e s m args below meth c ls Q hx hb hr hlocks hml hts hown hnm hK hS hl hQ
  have hb0 := hw.b0
  have hlt := pus_lt S (S 0 0)
  have h28 : 2 ^ S 0 0 ≤ 2 ^ 8 := Nat.pow_le_pow_right (by decide) (by omega)
  have hle : pus S (S 0 0) &&& a9 ≤ a9 := Nat.and_le_right
  have hlb := lb_0 (pus S (S 0 0) &&& a9) (by omega)
  rw [fu_and hw ha] at hlb
  refine lv_aload_n (pc := 0) hx hb dX1_targetOf_0 rfl (lk hl rfl) ?_
  refine hc_V (pc := 1) hx hb hml hown hts hK hS (c_upSet l Γ _ g _ S hM hw) (cwV 0 hts (lw_V q409 q411 qs3 q70 q412) rfl rfl rfl (by decide +kernel) ⟨(Nat.le_of_ble_eq_true rfl), (Nat.le_of_ble_eq_true rfl)⟩) (hK.recv hM.p0 rfl) rfl hl.1 rfl (Nat.le_of_ble_eq_true rfl) dX1_targetOf_1 ⟨by first | exact Nat.le_of_ble_eq_true rfl | (dsimp only [rmd]; omega) | omega, by first | exact Nat.le_of_ble_eq_true rfl | (dsimp only [rmd]; omega) | omega⟩ (fun v1 H1 locs1 hq1 hS => ?_)
  obtain ⟨rfl, rfl⟩ := hq1
  refine lv_iload_n (pc := 4) hx hb dX1_targetOf_4 rfl (lk hl rfl) ?_
  refine lv_iand (pc := 5) hx hb dX1_targetOf_5 ?_
  refine hw_top (congrArg Value.int (show _ = nI ((pus S (S 0 0)) &&& a9) from n_and _ _ (by omega) (by omega))) ?_
  refine lv_istore_n (pc := 6) hx hb dX1_targetOf_6 rfl hl (Nat.le_of_ble_eq_true rfl) rfl (fun ls hl => ?_)
  refine lv_iload_n (pc := 7) hx hb dX1_targetOf_7 rfl (lk hl rfl) ?_
  refine hn_z_ne (tgt := 18) (pc := 8) hx hb dX1_targetOf_8 (by decide) (by omega) (fun h => ?_) (fun h => ?_)
  · refine lv_iload_n (pc := 18) hx hb dX1_targetOf_18 rfl (lk hl rfl) ?_
    refine hc_S (pc := 19) hx hb hml hown hts hK hS (j_intNtz l Γ _ (nI ((pus S (S 0 0)) &&& a9))) (va_cwS 1 hts (lw_S q1627 q981 q99 q982) rfl rfl rfl (by decide +kernel) ⟨(Nat.le_of_ble_eq_true rfl), (Nat.le_of_ble_eq_true rfl)⟩) rfl hl.1 rfl (Nat.le_of_ble_eq_true rfl) dX1_targetOf_19 ⟨by first | exact Nat.le_of_ble_eq_true rfl | (dsimp only [rmd]; omega) | omega, by first | exact Nat.le_of_ble_eq_true rfl | (dsimp only [rmd]; omega) | omega⟩ (fun v2 H2 locs2 hq2 hS => ?_)
    obtain ⟨rfl, rfl⟩ := hq2
    exact hr_i (pc := 22) hQ hx hb hr hlocks hS (by first | exact Nat.le_of_ble_eq_true rfl | (dsimp only [rmd]; omega) | omega) (by first | exact Nat.le_of_ble_eq_true rfl | (dsimp only [rmd]; omega) | omega) (⟨by rw [lb_ntz _ (by omega) h, fu_and hw ha, ptg, if_neg (fun q => h (hlb.mp q))], rfl⟩) dX1_targetOf_22
  · skip
    refine lv_aload_n (pc := 11) hx hb dX1_targetOf_11 rfl (lk hl rfl) ?_
    refine hc_V (pc := 12) hx hb hml hown hts hK hS (c_control l Γ _ g _ S hM hw) (cwV 0 hts (lw_V q1322 q1324 qs20 q70 q1325) rfl rfl rfl (by decide +kernel) ⟨(Nat.le_of_ble_eq_true rfl), (Nat.le_of_ble_eq_true rfl)⟩) (hK.recv hM.p0 rfl) rfl hl.1 rfl (Nat.le_of_ble_eq_true rfl) dX1_targetOf_12 ⟨by first | exact Nat.le_of_ble_eq_true rfl | (dsimp only [rmd]; omega) | omega, by first | exact Nat.le_of_ble_eq_true rfl | (dsimp only [rmd]; omega) | omega⟩ (fun v3 H3 locs3 hq3 hS => ?_)
    obtain ⟨rfl, rfl⟩ := hq3
    refine lv_goto (tgt := 22) (pc := 15) hx hb dX1_targetOf_15 (by decide) ?_
    exact hr_i (pc := 22) hQ hx hb hr hlocks hS (by first | exact Nat.le_of_ble_eq_true rfl | (dsimp only [rmd]; omega) | omega) (by first | exact Nat.le_of_ble_eq_true rfl | (dsimp only [rmd]; omega) | omega) (⟨by rw [ptg, if_pos (hlb.mpr h)], rfl⟩) dX1_targetOf_22
theorem c_direct (l : Launch) (Γ : Cx) (H : Heap) (g : Gn) (L : Nat) (S : Sx) (t9 a9 : Nat) (y z u : Value) (hM : MC Γ H g L S) (hw : WF S) (hpt : pt Γ H t9 (ob 7 [.int (nI a9), y, z, u])) (hg : Gz Γ t9) (ha : a9 < 256) : Mt l Γ yX1_direct (ws_ yX1_direct cX1_direct 3 none) 5 0 0 [.ref (g 0 0), .ref t9] H (fun v H1 => v = none ∧ pt Γ H1 t9 (ob 7 [.int (nI a9), y, z, .int (nI (if pfu S a9 = 0 then 1 else 0))]) ∧ Off (fun q => q = t9) H H1) := by
  refine mt_of (by decide +kernel) (Nat.le_of_ble_eq_true rfl) ?_
  intro p e s m args below meth c ls Q hx hb hr hlocks hml hts hown hnm hK hS hl hQ
  have hb0 := hw.b0
  have hlt := pus_lt S (S 0 0)
  have h28 : 2 ^ S 0 0 ≤ 2 ^ 8 := Nat.pow_le_pow_right (by decide) (by omega)
  have hle : pus S (S 0 0) &&& a9 ≤ a9 := Nat.and_le_right
  have hlb := lb_0 (pus S (S 0 0) &&& a9) (by omega)
  rw [fu_and hw ha] at hlb
  refine lv_aload_n (pc := 0) hx hb dX1_direct_0 rfl (lk hl rfl) ?_
  refine lv_astore_n (pc := 1) hx hb dX1_direct_1 rfl hl (Nat.le_of_ble_eq_true rfl) rfl (fun ls hl => ?_)
  refine lv_aload_n (pc := 2) hx hb dX1_direct_2 rfl (lk hl rfl) ?_
  refine lv_aload_n (pc := 3) hx hb dX1_direct_3 rfl (lk hl rfl) ?_
  refine hc_V (pc := 4) hx hb hml hown hts hK hS (c_upSet l Γ _ g _ S hM hw) (cwV 0 hts (lw_V q409 q411 qs3 q70 q412) rfl rfl rfl (by decide +kernel) ⟨(Nat.le_of_ble_eq_true rfl), (Nat.le_of_ble_eq_true rfl)⟩) (hK.recv hM.p0 rfl) rfl hl.1 rfl (Nat.le_of_ble_eq_true rfl) dX1_direct_4 ⟨by first | exact Nat.le_of_ble_eq_true rfl | (dsimp only [rmd]; omega) | omega, by first | exact Nat.le_of_ble_eq_true rfl | (dsimp only [rmd]; omega) | omega⟩ (fun v1 H1 locs1 hq1 hS => ?_)
  obtain ⟨rfl, rfl⟩ := hq1
  refine lv_aload_n (pc := 7) hx hb dX1_direct_7 rfl (lk hl rfl) ?_
  refine hw_getN (pc := 8) hx hb hts in_X12 hown hK (hpt) rfl 0 (Nat.le_of_ble_eq_true rfl) q1666 (fun x h => h) rfl dX1_direct_8 ?_
  refine lv_iand (pc := 11) hx hb dX1_direct_11 ?_
  refine hw_top (congrArg Value.int (show _ = nI ((pus S (S 0 0)) &&& a9) from n_and _ _ (by omega) (by omega))) ?_
  refine hn_z_ne (tgt := 19) (pc := 12) hx hb dX1_direct_12 (by decide) (by omega) (fun h => ?_) (fun h => ?_)
  · refine lv_iconst (v := nI 0) (pc := 19) hx hb dX1_direct_19 (by decide) ?_
    refine hw_putN (pc := 20) hx hb hts in_X12 tyX12_ok nmX12 hown hK (hpt) (hg) hS rfl 3 (Nat.le_of_ble_eq_true rfl) q1690 (fun x h => h) rfl rfl (rfl) (rfl) (Nat.le_of_ble_eq_true rfl) dX1_direct_20 (fun Hp1 locsp1 hpp1 zp1 op1 hS => ?_)
    rw [if_neg (fun q => h (hlb.mp q))] at hQ
    exact hr_v (pc := 23) hQ hx hb hr hlocks hS (by first | exact Nat.le_of_ble_eq_true rfl | (dsimp only [rmd]; omega) | omega) (by first | exact Nat.le_of_ble_eq_true rfl | (dsimp only [rmd]; omega) | omega) (⟨rfl, hpp1, Off.put zp1 op1 rfl⟩) dX1_direct_23
  · skip
    refine lv_iconst (v := nI 1) (pc := 15) hx hb dX1_direct_15 (by decide) ?_
    refine lv_goto (tgt := 20) (pc := 16) hx hb dX1_direct_16 (by decide) ?_
    refine hw_putN (pc := 20) hx hb hts in_X12 tyX12_ok nmX12 hown hK (hpt) (hg) hS rfl 3 (Nat.le_of_ble_eq_true rfl) q1690 (fun x h => h) rfl rfl (rfl) (rfl) (Nat.le_of_ble_eq_true rfl) dX1_direct_20 (fun Hp1 locsp1 hpp1 zp1 op1 hS => ?_)
    rw [if_pos (hlb.mpr h)] at hQ
    exact hr_v (pc := 23) hQ hx hb hr hlocks hS (by first | exact Nat.le_of_ble_eq_true rfl | (dsimp only [rmd]; omega) | omega) (by first | exact Nat.le_of_ble_eq_true rfl | (dsimp only [rmd]; omega) | omega) (⟨rfl, hpp1, Off.put zp1 op1 rfl⟩) dX1_direct_23
