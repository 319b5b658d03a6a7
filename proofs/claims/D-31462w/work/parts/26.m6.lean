/-! the reference: by one level; on all cores; forgetting, beginning anew, a new thing -/
set_option maxRecDepth 100000
def pgu (S : Sx) (c : Nat) (cf : Bool) : Sx × Bool := if S 1 c = 10 then (pcomes (up2 S 1 c 11) c, true) else if (psA c (S 1 c) cf 4 0 S).2 = true then (up2 (psA c (S 1 c) cf 4 0 S).1 1 c (S 1 c + 1), true) else ((psA c (S 1 c) cf 4 0 S).1, false)
def pgd (S : Sx) (c : Nat) (cf : Bool) : Sx × Bool := if S 1 c = 11 then (if pfu S (255 - 2 ^ c) = 0 then (S, false) else (pleaves (up2 S 1 c 10) c, true)) else if (ptA c (S 1 c - 1) cf 4 S).2 = true then (up2 (ptA c (S 1 c - 1) cf 4 S).1 1 c (S 1 c - 1), true) else ((ptA c (S 1 c - 1) cf 4 S).1, false)
theorem pcmI_0 (c : Nat) : ∀ n t S f j, f ≠ 10 → f ≠ 11 → f ≠ 12 → pcmI c n t S f j = S f j := by
  intro n
  induction n with
  | zero => intro t S f j _ _ _; rfl
  | succ n ih =>
    intro t S f j h1 h2 h3
    rw [pcmI, ih _ _ _ _ h1 h2 h3]
    split
    · rw [up2_f h2, up2_f h3, up2_f h1]
    · rfl
theorem pcmD_0 (c : Nat) : ∀ n t S f j, f ≠ 10 → f ≠ 11 → f ≠ 12 → pcmD c n t S f j = S f j := by
  intro n
  induction n with
  | zero => intro t S f j _ _ _; rfl
  | succ n ih =>
    intro t S f j h1 h2 h3
    rw [pcmD, ih _ _ _ _ h1 h2 h3]
    split
    · rw [up2_f h2, pplace_f h1]
    · rfl
theorem pcomes_0 (c : Nat) (S : Sx) {f j : Nat} (h1 : f ≠ 10) (h2 : f ≠ 11) (h3 : f ≠ 12) : pcomes S c f j = S f j := by rw [pcomes, pcmD_0 c _ _ _ _ _ h1 h2 h3, pcmI_0 c _ _ _ _ _ h1 h2 h3]
theorem plvT_0 (c : Nat) : ∀ n t S f j, f ≠ 10 → f ≠ 11 → plvT c n t S f j = S f j := by
  intro n
  induction n with
  | zero => intro t S f j _ _; rfl
  | succ n ih =>
    intro t S f j h1 h2
    rw [plvT, ih _ _ _ _ h1 h2]
    split
    · rw [up2_f h2, up2_f h1]
    · rfl
theorem plvI_0 (c : Nat) : ∀ n t S f j, f ≠ 10 → f ≠ 11 → f ≠ 12 → plvI c n t S f j = S f j := by
  intro n
  induction n with
  | zero => intro t S f j _ _ _; rfl
  | succ n ih =>
    intro t S f j h1 h2 h3
    rw [plvI, ih _ _ _ _ h1 h2 h3]
    split
    · rw [up2_f h2, pint_f h1 h3]
    · rfl
theorem plvD_0 (c : Nat) : ∀ n t S f j, f ≠ 10 → f ≠ 11 → plvD c n t S f j = S f j := by
  intro n
  induction n with
  | zero => intro t S f j _ _; rfl
  | succ n ih =>
    intro t S f j h1 h2
    rw [plvD, ih _ _ _ _ h1 h2]
    split
    · rw [up2_f h2, pplace_f h1]
    · rfl
theorem pleaves_0 (c : Nat) (S : Sx) {f j : Nat} (h1 : f ≠ 10) (h2 : f ≠ 11) (h3 : f ≠ 12) : pleaves S c f j = S f j := by rw [pleaves, plvD_0 c _ _ _ _ _ h1 h2, plvI_0 c _ _ _ _ _ h1 h2 h3, plvT_0 c _ _ _ _ _ h1 h2]
/-- one step up or down: what stays, what is well formed -/
theorem pgu_wf {S : Sx} (hw : WF S) {c : Nat} {cf : Bool} (hc : c < 8) (hl : S 1 c < 20) (hr : S 0 1 + 8 ≤ 40000) : WF (pgu S c cf).1 ∧ S 0 1 ≤ (pgu S c cf).1 0 1 ∧ (pgu S c cf).1 0 1 ≤ S 0 1 + 8 := by
  have q := kp_psA c (S 1 c) cf 4 0 S
  have w := q.2.1 hw (by omega)
  have q3 := q.2.2.1
  have q4 := q.2.2.2
  unfold pgu
  split
  · refine ⟨wf_pcomes (hw.up (by omega)) hc, ?_⟩
    dsimp only
    rw [pcomes_0 _ _ (by decide) (by decide) (by decide), up2_f (by decide)]; omega
  · split
    · exact ⟨w.up (by omega), by dsimp only; rw [up2_f (by decide)]; omega, by dsimp only; rw [up2_f (by decide)]; omega⟩
    · exact ⟨w, by omega, by omega⟩
theorem pgd_wf {S : Sx} (hw : WF S) {c : Nat} {cf : Bool} (hr : S 0 1 + 8 ≤ 40000) : WF (pgd S c cf).1 ∧ S 0 1 ≤ (pgd S c cf).1 0 1 ∧ (pgd S c cf).1 0 1 ≤ S 0 1 + 8 := by
  have q := kp_ptA c (S 1 c - 1) cf 4 S
  have w := q.2.1 hw (by omega)
  have q3 := q.2.2.1
  have q4 := q.2.2.2
  have h1 := hw.b1 c
  unfold pgd
  split
  · split
    · exact ⟨hw, Nat.le_refl _, Nat.le_add_right _ _⟩
    · refine ⟨wf_pleaves (hw.up (by omega)) c, ?_⟩
      dsimp only
      rw [pleaves_0 _ _ (by decide) (by decide) (by decide), up2_f (by decide)]; omega
  · split
    · exact ⟨w.up (by omega), by dsimp only; rw [up2_f (by decide)]; omega, by dsimp only; rw [up2_f (by decide)]; omega⟩
    · exact ⟨w, by omega, by omega⟩
set_option maxHeartbeats 8000000 in
theorem m_goesUp (l : Launch) (Γ : Cx) (H : Heap) (μ : Nat → Nat) (S : Sx) (th : Int32) (k : Nat) (cf : Bool) (hM : MW Γ H μ S th) (hw : WF S) (hk : k < 8) (hl9 : S 1 k < 20) (hr9 : S 0 1 + 8 ≤ 40000) : Mt l Γ yX3_goesUp (ws_ yX3_goesUp cX3_goesUp 4 (some .boolean)) 6 0 0 [.ref (μ 0), .int (nI k), .int (b01 cf)] H (MP Γ μ (pgu S k cf).1 th H (some (.int (b01 (pgu S k cf).2)))) := by
  refine mt_of (by decide +kernel) (Nat.le_of_ble_eq_true rfl) ?_
  intro p e s m args below meth c ls Q hx hb hr hlocks hml hts hown hnm hK hS hl hQ
  have ho : Off (Mf μ) H H := Off.rf
  refine lv_aload_n (pc := 0) hx hb dX3_goesUp_0 rfl (lk hl rfl) ?_
  refine hw_get (pc := 1) hx hb hts in_X3 hown hK (hM.p0) rfl 2 (Nat.le_of_ble_eq_true rfl) (hts _ q1779) (fun x h => h) rfl dX3_goesUp_1 ?_
  refine lv_iload_n (pc := 4) hx hb dX3_goesUp_4 rfl (lk hl rfl) ?_
  refine hm_iald (k := 1) (pc := 5) hx hb hK hM (by decide) (show k < 8 from (by omega)) dX3_goesUp_5 ?_
  have := hw.b1 k
  refine lv_istore_n (pc := 6) hx hb dX3_goesUp_6 rfl hl (Nat.le_of_ble_eq_true rfl) rfl (fun ls hl => ?_)
  refine lv_iload_n (pc := 7) hx hb dX3_goesUp_7 rfl (lk hl rfl) ?_
  refine lv_bipush (v := nI 10) (pc := 8) hx hb dX3_goesUp_8 (by decide) ?_
  refine hn_eq (tgt := 25) (pc := 10) hx hb dX3_goesUp_10 (by decide) (by omega) (by omega) (fun h1 => ?_) (fun h1 => ?_)
  · have hw1 : WF (up2 S 1 k 11) := hw.up (by omega)
    refine lv_aload_n (pc := 25) hx hb dX3_goesUp_25 rfl (lk hl rfl) ?_
    refine hw_get (pc := 26) hx hb hts in_X3 hown hK (hM.p0) rfl 2 (Nat.le_of_ble_eq_true rfl) (hts _ q1779) (fun x h => h) rfl dX3_goesUp_26 ?_
    refine lv_iload_n (pc := 29) hx hb dX3_goesUp_29 rfl (lk hl rfl) ?_
    refine lv_dup2_11 (pc := 30) hx hb dX3_goesUp_30 rfl rfl ?_
    refine hm_iald (k := 1) (pc := 31) hx hb hK hM (by decide) (show k < 8 from (by omega)) dX3_goesUp_31 ?_
    have := hw.b1 k
    rw [h1]
    refine lv_iconst (v := nI 1) (pc := 32) hx hb dX3_goesUp_32 (by decide) ?_
    refine lv_iadd (pc := 33) hx hb dX3_goesUp_33 ?_
    refine hw_top (congrArg Value.int (show _ = nI 11 from nI_add _ _)) ?_
    refine hm_iast (k := 1) (pc := 34) hx hb hK hM (by decide) (show k < 8 from (by omega)) hS dX3_goesUp_34 (fun H1 locs1 hM ho1 hS => ?_)
    have ho := ho.trans ho1
    have hw := hw1
    refine lv_iload_n (pc := 35) hx hb dX3_goesUp_35 rfl (lk hl rfl) ?_
    refine lv_bipush (v := nI 10) (pc := 36) hx hb dX3_goesUp_36 (by decide) ?_
    refine hn_ne (tgt := 46) (pc := 38) hx hb dX3_goesUp_38 (by decide) (by omega) (by omega) (fun hn => absurd hn (by omega)) (fun _ => ?_)
    refine lv_aload_n (pc := 41) hx hb dX3_goesUp_41 rfl (lk hl rfl) ?_
    refine lv_iload_n (pc := 42) hx hb dX3_goesUp_42 rfl (lk hl rfl) ?_
    refine hc_V (pc := 43) hx hb hml hown hts hK hS (m_comes l Γ H1 μ (up2 S 1 k 11) th k hM hw (by omega)) (cwV 1 hts (lw_V q1931 q1933 qs59 q83 q1934) rfl rfl rfl (by decide +kernel) ⟨(Nat.le_of_ble_eq_true rfl), (Nat.le_of_ble_eq_true rfl)⟩) (hK.recv hM.p0 rfl) rfl hl.1 rfl (Nat.le_of_ble_eq_true rfl) dX3_goesUp_43 ⟨by first | exact Nat.le_of_ble_eq_true rfl | (dsimp only [rmd]; omega), by first | exact Nat.le_of_ble_eq_true rfl | (dsimp only [rmd]; omega)⟩ (fun v2 H2 locs2 hq2 hS => ?_)
    obtain ⟨rfl, hM, ho2⟩ := hq2
    have ho := ho.trans ho2
    refine lv_iconst (v := nI 1) (pc := 46) hx hb dX3_goesUp_46 (by decide) ?_
    exact hr_z (pc := 47) hQ hx hb hr hlocks hS (by first | exact Nat.le_of_ble_eq_true rfl | (dsimp only [rmd]; omega)) (by first | exact Nat.le_of_ble_eq_true rfl | (dsimp only [rmd]; omega)) (rfl) (⟨by rw [pgu, if_pos h1]; rfl, hM.eq (by rw [pgu, if_pos h1]), ho⟩) dX3_goesUp_47
  · skip
    refine lv_aload_n (pc := 13) hx hb dX3_goesUp_13 rfl (lk hl rfl) ?_
    refine lv_iload_n (pc := 14) hx hb dX3_goesUp_14 rfl (lk hl rfl) ?_
    refine lv_iload_n (pc := 15) hx hb dX3_goesUp_15 rfl (lk hl rfl) ?_
    refine lv_iload_n (pc := 16) hx hb dX3_goesUp_16 rfl (lk hl rfl) ?_
    refine hc_V (pc := 17) hx hb hml hown hts hK hS (m_startsAll l Γ H μ S th k (S 1 k) cf hM hw (by omega) (by omega) (by omega)) (cwV 3 hts (lw_V q1927 q1929 qs58 q83 q1930) rfl rfl rfl (by decide +kernel) ⟨(Nat.le_of_ble_eq_true rfl), (Nat.le_of_ble_eq_true rfl)⟩) (hK.recv hM.p0 rfl) rfl hl.1 rfl (Nat.le_of_ble_eq_true rfl) dX3_goesUp_17 ⟨by first | exact Nat.le_of_ble_eq_true rfl | (dsimp only [rmd]; omega), by first | exact Nat.le_of_ble_eq_true rfl | (dsimp only [rmd]; omega)⟩ (fun v3 H3 locs3 hq3 hS => ?_)
    obtain ⟨rfl, hM, ho3⟩ := hq3
    have ho := ho.trans ho3
    have q := kp_psA k (S 1 k) cf 4 0 S
    have e1 : (psA k (S 1 k) cf 4 0 S).1 1 k = S 1 k := q.1 1 k (by decide) (by decide) (Or.inl (by decide))
    have hw := q.2.1 hw (by omega)
    refine hz_ne (tgt := 25) (pc := 20) hx hb dX3_goesUp_20 (by decide) (fun h2 => ?_) (fun h2 => ?_)
    · refine lv_aload_n (pc := 25) hx hb dX3_goesUp_25 rfl (lk hl rfl) ?_
      refine hw_get (pc := 26) hx hb hts in_X3 hown hK (hM.p0) rfl 2 (Nat.le_of_ble_eq_true rfl) (hts _ q1779) (fun x h => h) rfl dX3_goesUp_26 ?_
      refine lv_iload_n (pc := 29) hx hb dX3_goesUp_29 rfl (lk hl rfl) ?_
      refine lv_dup2_11 (pc := 30) hx hb dX3_goesUp_30 rfl rfl ?_
      refine hm_iald (k := 1) (pc := 31) hx hb hK hM (by decide) (show k < 8 from (by omega)) dX3_goesUp_31 ?_
      rw [e1]
      refine lv_iconst (v := nI 1) (pc := 32) hx hb dX3_goesUp_32 (by decide) ?_
      refine lv_iadd (pc := 33) hx hb dX3_goesUp_33 ?_
      refine hw_top (congrArg Value.int (show _ = nI (S 1 k + 1) from nI_add _ _)) ?_
      refine hm_iast (k := 1) (pc := 34) hx hb hK hM (by decide) (show k < 8 from (by omega)) hS dX3_goesUp_34 (fun H4 locs4 hM ho4 hS => ?_)
      have ho := ho.trans ho4
      refine lv_iload_n (pc := 35) hx hb dX3_goesUp_35 rfl (lk hl rfl) ?_
      refine lv_bipush (v := nI 10) (pc := 36) hx hb dX3_goesUp_36 (by decide) ?_
      refine hn_ne (tgt := 46) (pc := 38) hx hb dX3_goesUp_38 (by decide) (by omega) (by omega) (fun _ => ?_) (fun hn => absurd hn (by omega))
      refine lv_iconst (v := nI 1) (pc := 46) hx hb dX3_goesUp_46 (by decide) ?_
      exact hr_z (pc := 47) hQ hx hb hr hlocks hS (by first | exact Nat.le_of_ble_eq_true rfl | (dsimp only [rmd]; omega)) (by first | exact Nat.le_of_ble_eq_true rfl | (dsimp only [rmd]; omega)) (rfl) (⟨by rw [pgu, if_neg h1, if_pos h2]; rfl, hM.eq (by rw [pgu, if_neg h1, if_pos h2]), ho⟩) dX3_goesUp_47
    · skip
      refine lv_iconst (v := nI 0) (pc := 23) hx hb dX3_goesUp_23 (by decide) ?_
      exact hr_z (pc := 24) hQ hx hb hr hlocks hS (by first | exact Nat.le_of_ble_eq_true rfl | (dsimp only [rmd]; omega)) (by first | exact Nat.le_of_ble_eq_true rfl | (dsimp only [rmd]; omega)) (rfl) (⟨by rw [pgu, if_neg h1, if_neg (by rw [h2]; simp)]; rfl, hM.eq (by rw [pgu, if_neg h1, if_neg (by rw [h2]; simp)]), ho⟩) dX3_goesUp_24
set_option maxHeartbeats 8000000 in
theorem m_goesDown (l : Launch) (Γ : Cx) (H : Heap) (μ : Nat → Nat) (S : Sx) (th : Int32) (k : Nat) (cf : Bool) (hM : MW Γ H μ S th) (hw : WF S) (hk : k < 8) (hl9 : 0 < S 1 k) (hr9 : S 0 1 + 8 ≤ 40000) : Mt l Γ yX3_goesDown (ws_ yX3_goesDown cX3_goesDown 4 (some .boolean)) 6 0 0 [.ref (μ 0), .int (nI k), .int (b01 cf)] H (MP Γ μ (pgd S k cf).1 th H (some (.int (b01 (pgd S k cf).2)))) := by
  refine mt_of (by decide +kernel) (Nat.le_of_ble_eq_true rfl) ?_
  intro p e s m args below meth c ls Q hx hb hr hlocks hml hts hown hnm hK hS hl hQ
  have ho : Off (Mf μ) H H := Off.rf
  have hb1 := hw.b1 k
  refine lv_aload_n (pc := 0) hx hb dX3_goesDown_0 rfl (lk hl rfl) ?_
  refine hw_get (pc := 1) hx hb hts in_X3 hown hK (hM.p0) rfl 2 (Nat.le_of_ble_eq_true rfl) (hts _ q1779) (fun x h => h) rfl dX3_goesDown_1 ?_
  refine lv_iload_n (pc := 4) hx hb dX3_goesDown_4 rfl (lk hl rfl) ?_
  refine hm_iald (k := 1) (pc := 5) hx hb hK hM (by decide) (show k < 8 from (by omega)) dX3_goesDown_5 ?_
  have := hw.b1 k
  refine lv_iconst (v := nI 1) (pc := 6) hx hb dX3_goesDown_6 (by decide) ?_
  refine lv_isub (pc := 7) hx hb dX3_goesDown_7 ?_
  refine hw_top (congrArg Value.int (show _ = nI (S 1 k - 1) from n_sub (show 1 ≤ S 1 k by omega))) ?_
  refine lv_istore_n (pc := 8) hx hb dX3_goesDown_8 rfl hl (Nat.le_of_ble_eq_true rfl) rfl (fun ls hl => ?_)
  refine lv_iload_n (pc := 9) hx hb dX3_goesDown_9 rfl (lk hl rfl) ?_
  refine lv_bipush (v := nI 10) (pc := 10) hx hb dX3_goesDown_10 (by decide) ?_
  refine hn_ne (tgt := 25) (pc := 12) hx hb dX3_goesDown_12 (by decide) (by omega) (by omega) (fun h1 => ?_) (fun h1 => ?_)
  · have h11 : S 1 k ≠ 11 := by omega
    refine lv_aload_n (pc := 25) hx hb dX3_goesDown_25 rfl (lk hl rfl) ?_
    refine lv_iload_n (pc := 26) hx hb dX3_goesDown_26 rfl (lk hl rfl) ?_
    refine lv_iload_n (pc := 27) hx hb dX3_goesDown_27 rfl (lk hl rfl) ?_
    refine lv_iload_n (pc := 28) hx hb dX3_goesDown_28 rfl (lk hl rfl) ?_
    refine hc_V (pc := 29) hx hb hml hown hts hK hS (m_stopsAll l Γ H μ S th k (S 1 k - 1) cf hM hw (by omega) (by omega) (by omega)) (cwV 3 hts (lw_V q1954 q1956 qs64 q83 q1957) rfl rfl rfl (by decide +kernel) ⟨(Nat.le_of_ble_eq_true rfl), (Nat.le_of_ble_eq_true rfl)⟩) (hK.recv hM.p0 rfl) rfl hl.1 rfl (Nat.le_of_ble_eq_true rfl) dX3_goesDown_29 ⟨by first | exact Nat.le_of_ble_eq_true rfl | (dsimp only [rmd]; omega), by first | exact Nat.le_of_ble_eq_true rfl | (dsimp only [rmd]; omega)⟩ (fun v1 H1 locs1 hq1 hS => ?_)
    obtain ⟨rfl, hM, ho1⟩ := hq1
    have ho := ho.trans ho1
    have q := kp_ptA k (S 1 k - 1) cf 4 S
    have e1 : (ptA k (S 1 k - 1) cf 4 S).1 1 k = S 1 k := q.1 1 k (by decide) (by decide) (Or.inl (by decide))
    have hw := q.2.1 hw (by omega)
    refine hz_ne (tgt := 37) (pc := 32) hx hb dX3_goesDown_32 (by decide) (fun h2 => ?_) (fun h2 => ?_)
    · refine lv_aload_n (pc := 37) hx hb dX3_goesDown_37 rfl (lk hl rfl) ?_
      refine hw_get (pc := 38) hx hb hts in_X3 hown hK (hM.p0) rfl 2 (Nat.le_of_ble_eq_true rfl) (hts _ q1779) (fun x h => h) rfl dX3_goesDown_38 ?_
      refine lv_iload_n (pc := 41) hx hb dX3_goesDown_41 rfl (lk hl rfl) ?_
      refine lv_dup2_11 (pc := 42) hx hb dX3_goesDown_42 rfl rfl ?_
      refine hm_iald (k := 1) (pc := 43) hx hb hK hM (by decide) (show k < 8 from (by omega)) dX3_goesDown_43 ?_
      rw [e1]
      refine lv_iconst (v := nI 1) (pc := 44) hx hb dX3_goesDown_44 (by decide) ?_
      refine lv_isub (pc := 45) hx hb dX3_goesDown_45 ?_
      refine hw_top (congrArg Value.int (show _ = nI (S 1 k - 1) from n_sub (show 1 ≤ S 1 k by omega))) ?_
      refine hm_iast (k := 1) (pc := 46) hx hb hK hM (by decide) (show k < 8 from (by omega)) hS dX3_goesDown_46 (fun H2 locs2 hM ho2 hS => ?_)
      have ho := ho.trans ho2
      refine lv_iload_n (pc := 47) hx hb dX3_goesDown_47 rfl (lk hl rfl) ?_
      refine lv_bipush (v := nI 10) (pc := 48) hx hb dX3_goesDown_48 (by decide) ?_
      refine hn_ne (tgt := 58) (pc := 50) hx hb dX3_goesDown_50 (by decide) (by omega) (by omega) (fun _ => ?_) (fun hn => absurd hn (by omega))
      refine lv_iconst (v := nI 1) (pc := 58) hx hb dX3_goesDown_58 (by decide) ?_
      exact hr_z (pc := 59) hQ hx hb hr hlocks hS (by first | exact Nat.le_of_ble_eq_true rfl | (dsimp only [rmd]; omega)) (by first | exact Nat.le_of_ble_eq_true rfl | (dsimp only [rmd]; omega)) (rfl) (⟨by rw [pgd, if_neg h11, if_pos h2]; rfl, hM.eq (by rw [pgd, if_neg h11, if_pos h2]), ho⟩) dX3_goesDown_59
    · skip
      refine lv_iconst (v := nI 0) (pc := 35) hx hb dX3_goesDown_35 (by decide) ?_
      exact hr_z (pc := 36) hQ hx hb hr hlocks hS (by first | exact Nat.le_of_ble_eq_true rfl | (dsimp only [rmd]; omega)) (by first | exact Nat.le_of_ble_eq_true rfl | (dsimp only [rmd]; omega)) (rfl) (⟨by rw [pgd, if_neg h11, if_neg (by rw [h2]; simp)]; rfl, hM.eq (by rw [pgd, if_neg h11, if_neg (by rw [h2]; simp)]), ho⟩) dX3_goesDown_36
  · skip
    have h11 : S 1 k = 11 := by omega
    refine lv_aload_n (pc := 15) hx hb dX3_goesDown_15 rfl (lk hl rfl) ?_
    refine lv_iload_n (pc := 16) hx hb dX3_goesDown_16 rfl (lk hl rfl) ?_
    refine hc_V (pc := 17) hx hb hml hown hts hK hS (m_hasOtherUp l Γ H μ S th k hM hw (by omega)) (cwV 1 hts (lw_V q1950 q1952 qs63 q83 q1953) rfl rfl rfl (by decide +kernel) ⟨(Nat.le_of_ble_eq_true rfl), (Nat.le_of_ble_eq_true rfl)⟩) (hK.recv hM.p0 rfl) rfl hl.1 rfl (Nat.le_of_ble_eq_true rfl) dX3_goesDown_17 ⟨by first | exact Nat.le_of_ble_eq_true rfl | (dsimp only [rmd]; omega), by first | exact Nat.le_of_ble_eq_true rfl | (dsimp only [rmd]; omega)⟩ (fun v3 H3 locs3 hq3 hS => ?_)
    obtain ⟨rfl, rfl⟩ := hq3
    refine hz_ne (tgt := 37) (pc := 20) hx hb dX3_goesDown_20 (by decide) (fun h2 => ?_) (fun h2 => ?_)
    · have h2 := of_decide_eq_true h2
      have hw1 : WF (up2 S 1 k 10) := hw.up (by omega)
      refine lv_aload_n (pc := 37) hx hb dX3_goesDown_37 rfl (lk hl rfl) ?_
      refine hw_get (pc := 38) hx hb hts in_X3 hown hK (hM.p0) rfl 2 (Nat.le_of_ble_eq_true rfl) (hts _ q1779) (fun x h => h) rfl dX3_goesDown_38 ?_
      refine lv_iload_n (pc := 41) hx hb dX3_goesDown_41 rfl (lk hl rfl) ?_
      refine lv_dup2_11 (pc := 42) hx hb dX3_goesDown_42 rfl rfl ?_
      refine hm_iald (k := 1) (pc := 43) hx hb hK hM (by decide) (show k < 8 from (by omega)) dX3_goesDown_43 ?_
      have := hw.b1 k
      rw [h11]
      refine lv_iconst (v := nI 1) (pc := 44) hx hb dX3_goesDown_44 (by decide) ?_
      refine lv_isub (pc := 45) hx hb dX3_goesDown_45 ?_
      refine hw_top (congrArg Value.int (show _ = nI (11 - 1) from n_sub (by omega))) ?_
      refine hw_top (v' := .int (nI 10)) rfl ?_
      refine hm_iast (k := 1) (pc := 46) hx hb hK hM (by decide) (show k < 8 from (by omega)) hS dX3_goesDown_46 (fun H4 locs4 hM ho4 hS => ?_)
      have ho := ho.trans ho4
      have hw := hw1
      refine lv_iload_n (pc := 47) hx hb dX3_goesDown_47 rfl (lk hl rfl) ?_
      refine lv_bipush (v := nI 10) (pc := 48) hx hb dX3_goesDown_48 (by decide) ?_
      refine hn_ne (tgt := 58) (pc := 50) hx hb dX3_goesDown_50 (by decide) (by omega) (by omega) (fun hn => absurd hn (by omega)) (fun _ => ?_)
      refine lv_aload_n (pc := 53) hx hb dX3_goesDown_53 rfl (lk hl rfl) ?_
      refine lv_iload_n (pc := 54) hx hb dX3_goesDown_54 rfl (lk hl rfl) ?_
      refine hc_V (pc := 55) hx hb hml hown hts hK hS (m_leaves l Γ H4 μ (up2 S 1 k 10) th k hM hw (by omega)) (cwV 1 hts (lw_V q1958 q1960 qs65 q83 q1961) rfl rfl rfl (by decide +kernel) ⟨(Nat.le_of_ble_eq_true rfl), (Nat.le_of_ble_eq_true rfl)⟩) (hK.recv hM.p0 rfl) rfl hl.1 rfl (Nat.le_of_ble_eq_true rfl) dX3_goesDown_55 ⟨by first | exact Nat.le_of_ble_eq_true rfl | (dsimp only [rmd]; omega), by first | exact Nat.le_of_ble_eq_true rfl | (dsimp only [rmd]; omega)⟩ (fun v5 H5 locs5 hq5 hS => ?_)
      obtain ⟨rfl, hM, ho5⟩ := hq5
      have ho := ho.trans ho5
      refine lv_iconst (v := nI 1) (pc := 58) hx hb dX3_goesDown_58 (by decide) ?_
      exact hr_z (pc := 59) hQ hx hb hr hlocks hS (by first | exact Nat.le_of_ble_eq_true rfl | (dsimp only [rmd]; omega)) (by first | exact Nat.le_of_ble_eq_true rfl | (dsimp only [rmd]; omega)) (rfl) (⟨by rw [pgd, if_pos h11, if_neg h2]; rfl, hM.eq (by rw [pgd, if_pos h11, if_neg h2]), ho⟩) dX3_goesDown_59
    · skip
      have h2 : pfu S (255 - 2 ^ k) = 0 := Classical.byContradiction fun z => absurd (decide_eq_true z) (by rw [h2]; simp)
      refine lv_iconst (v := nI 0) (pc := 23) hx hb dX3_goesDown_23 (by decide) ?_
      exact hr_z (pc := 24) hQ hx hb hr hlocks hS (by first | exact Nat.le_of_ble_eq_true rfl | (dsimp only [rmd]; omega)) (by first | exact Nat.le_of_ble_eq_true rfl | (dsimp only [rmd]; omega)) (rfl) (⟨by rw [pgd, if_pos h11, if_pos h2]; rfl, hM.eq (by rw [pgd, if_pos h11, if_pos h2]), ho⟩) dX3_goesDown_24
/-- an instance on all cores beyond its place -/
def poU (p i : Nat) : Nat → Sx → Sx
  | 0, S => S
  | k + 1, S => poU p i k (if p < S 1 k then pcall S k p i false false else S)
def poA (p i : Nat) : Nat → Nat → Sx → Sx × Bool
  | 0, _, S => (S, true)
  | n + 1, c, S => if p < S 1 c then (if pfails S c p i true true = true then (poU p i c (pcall S c p i true true), false) else poA p i n (c + 1) (pcall S c p i true true)) else poA p i n (c + 1) S
theorem kp_poU (p i : Nat) : ∀ k S, Kp S (poU p i k S) k := by
  intro k
  induction k with
  | zero => intro S; exact Kp.rf S
  | succ k ih =>
    intro S
    rw [poU]
    split
    · exact ((Kp.call S k p i false false).trans (ih _)).mono (by omega)
    · exact (ih S).mono (by omega)
theorem kp_poA (p i : Nat) : ∀ n c S, Kp S (poA p i n c S).1 (2 * n + c) := by
  intro n
  induction n with
  | zero => intro c S; exact (Kp.rf S).mono (by omega)
  | succ n ih =>
    intro c S
    rw [poA]
    split
    · split
      · exact ((Kp.call S c p i true true).trans (kp_poU p i c _)).mono (by omega)
      · exact ((Kp.call S c p i true true).trans (ih (c + 1) _)).mono (by omega)
    · exact (ih (c + 1) S).mono (by omega)
set_option maxHeartbeats 8000000 in
theorem m_startsOnAll (l : Launch) (Γ : Cx) (H : Heap) (μ : Nat → Nat) (S : Sx) (th : Int32) (p9 i : Nat) (hM : MW Γ H μ S th) (hw : WF S) (hp : p9 < 20) (hi : i < 4) (hr9 : S 0 1 + 16 ≤ 40000) : Mt l Γ yX3_startsOnAll (ws_ yX3_startsOnAll cX3_startsOnAll 6 (some .boolean)) 5 0 0 [.ref (μ 0), .int (nI p9), .int (nI i)] H (MP Γ μ (poA p9 i (S 0 0) 0 S).1 th H (some (.int (b01 (poA p9 i (S 0 0) 0 S).2)))) := by
  refine mt_of (by decide +kernel) (Nat.le_of_ble_eq_true rfl) ?_
  intro p e s m args below meth c ls Q hx hb hr hlocks hml hts hown hnm hK hS hl hQ
  have ho : Off (Mf μ) H H := Off.rf
  have hb0 := hw.b0
  have L2 : ∀ (u : Nat) (S1 : Sx) (H' : Heap) (locs : List Loc) (ls : Array Slot), u ≤ 8 → MW Γ H' μ S1 th → WF S1 → S1 0 1 + u ≤ 40000 → Off (Mf μ) H H' → va_S (Gz Γ) s.heap H' locs → lv_has ls 6 [(0, .ref (μ 0)), (1, .int (nI p9)), (2, .int (nI i)), (4, .int (nI u - 1))] → poU p9 i u S1 = (poA p9 i (S 0 0) 0 S).1 → (poA p9 i (S 0 0) 0 S).2 = false → W p l e (rmd 5 0 0) s m args below meth c H' locs 0 0 Q (F0 m 37 ls []) := by
    intro u
    induction u with
    | zero =>
      intro S1 H' locs ls _ hM hw hr1 ho hS hl he hf
      refine lv_iload (pc := 37) hx hb dX3_startsOnAll_37 (lk hl rfl) ?_
      refine hm_z_lt (tgt := 71) (pc := 39) hx hb dX3_startsOnAll_39 (by decide) (by omega) (fun _ => ?_) (fun hn => absurd hn (by omega))
      refine lv_iconst (v := nI 0) (pc := 71) hx hb dX3_startsOnAll_71 (by decide) ?_
      rw [poU] at he
      exact hr_z (pc := 72) hQ hx hb hr hlocks hS (by first | exact Nat.le_of_ble_eq_true rfl | (dsimp only [rmd]; omega)) (by first | exact Nat.le_of_ble_eq_true rfl | (dsimp only [rmd]; omega)) (rfl) (⟨by rw [hf]; rfl, hM.eq he, ho⟩) dX3_startsOnAll_72
    | succ u ih =>
      intro S1 H' locs ls hu hM hw hr1 ho hS hl he hf
      have hb1 := hw.b1 u
      rw [poU] at he
      rw [nI_pred] at hl
      refine lv_iload (pc := 37) hx hb dX3_startsOnAll_37 (lk hl rfl) ?_
      refine lv_if_lt (tgt := 71) (pc := 39) hx hb dX3_startsOnAll_39 (by decide) (fun q => absurd q (nI_pos (by omega))) (fun _ => ?_)
      refine lv_aload_n (pc := 42) hx hb dX3_startsOnAll_42 rfl (lk hl rfl) ?_
      refine hw_get (pc := 43) hx hb hts in_X3 hown hK (hM.p0) rfl 2 (Nat.le_of_ble_eq_true rfl) (hts _ q1779) (fun x h => h) rfl dX3_startsOnAll_43 ?_
      refine lv_iload (pc := 46) hx hb dX3_startsOnAll_46 (lk hl rfl) ?_
      refine hm_iald (k := 1) (pc := 48) hx hb hK hM (by decide) (show u < 8 from (by omega)) dX3_startsOnAll_48 ?_
      refine lv_iload_n (pc := 49) hx hb dX3_startsOnAll_49 rfl (lk hl rfl) ?_
      refine hn_le (tgt := 65) (pc := 50) hx hb dX3_startsOnAll_50 (by decide) (by omega) (by omega) (fun h1 => ?_) (fun h1 => ?_)
      · refine hw_iinc (v := nI u - 1) (pc := 65) hx hb dX3_startsOnAll_65 hl (lk hl rfl) (n_dec _) (Nat.le_of_ble_eq_true rfl) (fun ls hl => ?_)
        refine lv_goto (tgt := 37) (pc := 68) hx hb dX3_startsOnAll_68 (by decide) ?_
        rw [if_neg (by omega)] at he
        exact ih S1 _ _ _ (by omega) hM hw (by omega) ho hS (lv_c (lk hl rfl) (lv_c (lk hl rfl) (lv_c (lk hl rfl) (lv_c (lk hl rfl) (lv_0 hl))))) he hf
      · skip
        rw [if_pos h1] at he
        refine lv_aload_n (pc := 53) hx hb dX3_startsOnAll_53 rfl (lk hl rfl) ?_
        refine lv_iload (pc := 54) hx hb dX3_startsOnAll_54 (lk hl rfl) ?_
        refine lv_iload_n (pc := 56) hx hb dX3_startsOnAll_56 rfl (lk hl rfl) ?_
        refine lv_iload_n (pc := 57) hx hb dX3_startsOnAll_57 rfl (lk hl rfl) ?_
        refine lv_iconst (v := b01 false) (pc := 58) hx hb dX3_startsOnAll_58 (by decide) ?_
        refine lv_iconst (v := b01 false) (pc := 59) hx hb dX3_startsOnAll_59 (by decide) ?_
        refine hc_V (pc := 60) hx hb hml hown hts hK hS (m_calls l Γ H' μ S1 th u p9 i false false hM hw (by omega) (by omega) (by omega)) (cwV 5 hts (lw_V q1861 q1863 qs48 q83 q1864) rfl rfl rfl (by decide +kernel) ⟨(Nat.le_of_ble_eq_true rfl), (Nat.le_of_ble_eq_true rfl)⟩) (hK.recv hM.p0 rfl) rfl hl.1 rfl (Nat.le_of_ble_eq_true rfl) dX3_startsOnAll_60 ⟨by first | exact Nat.le_of_ble_eq_true rfl | (dsimp only [rmd]; omega), by first | exact Nat.le_of_ble_eq_true rfl | (dsimp only [rmd]; omega)⟩ (fun v1 H1 locs1 hq1 hS => ?_)
        obtain ⟨rfl, hM, ho1⟩ := hq1
        have ho := ho.trans ho1
        refine lv_istore (pc := 63) hx hb dX3_startsOnAll_63 hl (Nat.le_of_ble_eq_true rfl) rfl (fun ls hl => ?_)
        refine hw_iinc (v := nI u - 1) (pc := 65) hx hb dX3_startsOnAll_65 hl (lk hl rfl) (n_dec _) (Nat.le_of_ble_eq_true rfl) (fun ls hl => ?_)
        refine lv_goto (tgt := 37) (pc := 68) hx hb dX3_startsOnAll_68 (by decide) ?_
        have q := Kp.call S1 u p9 i false false
        exact ih _ _ _ _ (by omega) hM (q.2.1 hw (by omega)) (by have := q.2.2.2; omega) ho hS (by repeat first | exact lv_0 hl | refine lv_c (lk hl rfl) ?_) he hf
  have L1 : ∀ (n k : Nat) (S1 : Sx) (H' : Heap) (locs : List Loc) (ls : Array Slot), k + n = S 0 0 → S1 0 0 = S 0 0 → MW Γ H' μ S1 th → WF S1 → S1 0 1 + 2 * n + k ≤ 40000 → Off (Mf μ) H H' → va_S (Gz Γ) s.heap H' locs → lv_has ls 6 [(0, .ref (μ 0)), (1, .int (nI p9)), (2, .int (nI i)), (3, .int (nI k))] → poA p9 i n k S1 = poA p9 i (S 0 0) 0 S → W p l e (rmd 5 0 0) s m args below meth c H' locs 0 0 Q (F0 m 2 ls []) := by
    intro n
    induction n with
    | zero =>
      intro k S1 H' locs ls hi9 h00 hM hw hr1 ho hS hl he
      refine lv_iload_n (pc := 2) hx hb dX3_startsOnAll_2 rfl (lk hl rfl) ?_
      refine lv_aload_n (pc := 3) hx hb dX3_startsOnAll_3 rfl (lk hl rfl) ?_
      refine hw_get (pc := 4) hx hb hts in_X3 hown hK (hM.p0) rfl 1 (Nat.le_of_ble_eq_true rfl) (hts _ q1778) (fun x h => h) rfl dX3_startsOnAll_4 ?_
      refine hn_ge (tgt := 79) (pc := 7) hx hb dX3_startsOnAll_7 (by decide) (by omega) (by omega) (fun _ => ?_) (fun hn => absurd hn (by omega))
      refine lv_iconst (v := nI 1) (pc := 79) hx hb dX3_startsOnAll_79 (by decide) ?_
      rw [poA] at he
      exact hr_z (pc := 80) hQ hx hb hr hlocks hS (by first | exact Nat.le_of_ble_eq_true rfl | (dsimp only [rmd]; omega)) (by first | exact Nat.le_of_ble_eq_true rfl | (dsimp only [rmd]; omega)) (rfl) (⟨by rw [← he]; rfl, hM.eq (by rw [← he]), ho⟩) dX3_startsOnAll_80
    | succ n ih =>
      intro k S1 H' locs ls hi9 h00 hM hw hr1 ho hS hl he
      have hb1 := hw.b1 k
      rw [poA] at he
      refine lv_iload_n (pc := 2) hx hb dX3_startsOnAll_2 rfl (lk hl rfl) ?_
      refine lv_aload_n (pc := 3) hx hb dX3_startsOnAll_3 rfl (lk hl rfl) ?_
      refine hw_get (pc := 4) hx hb hts in_X3 hown hK (hM.p0) rfl 1 (Nat.le_of_ble_eq_true rfl) (hts _ q1778) (fun x h => h) rfl dX3_startsOnAll_4 ?_
      refine hn_ge (tgt := 79) (pc := 7) hx hb dX3_startsOnAll_7 (by decide) (by omega) (by omega) (fun hn => absurd hn (by omega)) (fun _ => ?_)
      refine lv_aload_n (pc := 10) hx hb dX3_startsOnAll_10 rfl (lk hl rfl) ?_
      refine hw_get (pc := 11) hx hb hts in_X3 hown hK (hM.p0) rfl 2 (Nat.le_of_ble_eq_true rfl) (hts _ q1779) (fun x h => h) rfl dX3_startsOnAll_11 ?_
      refine lv_iload_n (pc := 14) hx hb dX3_startsOnAll_14 rfl (lk hl rfl) ?_
      refine hm_iald (k := 1) (pc := 15) hx hb hK hM (by decide) (show k < 8 from (by omega)) dX3_startsOnAll_15 ?_
      refine lv_iload_n (pc := 16) hx hb dX3_startsOnAll_16 rfl (lk hl rfl) ?_
      refine hn_le (tgt := 73) (pc := 17) hx hb dX3_startsOnAll_17 (by decide) (by omega) (by omega) (fun h1 => ?_) (fun h1 => ?_)
      · refine hw_iinc (v := nI (k + 1)) (pc := 73) hx hb dX3_startsOnAll_73 hl (lk hl rfl) (n_inc _ 1) (Nat.le_of_ble_eq_true rfl) (fun ls hl => ?_)
        refine lv_goto (tgt := 2) (pc := 76) hx hb dX3_startsOnAll_76 (by decide) ?_
        rw [if_neg (by omega)] at he
        exact ih (k + 1) S1 _ _ _ (by omega) h00 hM hw (by omega) ho hS (lv_c (lk hl rfl) (lv_c (lk hl rfl) (lv_c (lk hl rfl) (lv_c (lk hl rfl) (lv_0 hl))))) he
      · skip
        rw [if_pos h1] at he
        refine lv_aload_n (pc := 20) hx hb dX3_startsOnAll_20 rfl (lk hl rfl) ?_
        refine lv_iload_n (pc := 21) hx hb dX3_startsOnAll_21 rfl (lk hl rfl) ?_
        refine lv_iload_n (pc := 22) hx hb dX3_startsOnAll_22 rfl (lk hl rfl) ?_
        refine lv_iload_n (pc := 23) hx hb dX3_startsOnAll_23 rfl (lk hl rfl) ?_
        refine lv_iconst (v := b01 true) (pc := 24) hx hb dX3_startsOnAll_24 (by decide) ?_
        refine lv_iconst (v := b01 true) (pc := 25) hx hb dX3_startsOnAll_25 (by decide) ?_
        refine hc_V (pc := 26) hx hb hml hown hts hK hS (m_calls l Γ H' μ S1 th k p9 i true true hM hw (by omega) (by omega) (by omega)) (cwV 5 hts (lw_V q1861 q1863 qs48 q83 q1864) rfl rfl rfl (by decide +kernel) ⟨(Nat.le_of_ble_eq_true rfl), (Nat.le_of_ble_eq_true rfl)⟩) (hK.recv hM.p0 rfl) rfl hl.1 rfl (Nat.le_of_ble_eq_true rfl) dX3_startsOnAll_26 ⟨by first | exact Nat.le_of_ble_eq_true rfl | (dsimp only [rmd]; omega), by first | exact Nat.le_of_ble_eq_true rfl | (dsimp only [rmd]; omega)⟩ (fun v1 H1 locs1 hq1 hS => ?_)
        obtain ⟨rfl, hM, ho1⟩ := hq1
        have ho := ho.trans ho1
        have q := Kp.call S1 k p9 i true true
        have hw := q.2.1 hw (by omega)
        have hq9 := q.2.2.2
        have h00' := (q.1 0 0 (by decide) (by decide) (Or.inr (by decide))).trans h00
        refine hz_ne (tgt := 73) (pc := 29) hx hb dX3_startsOnAll_29 (by decide) (fun h2 => ?_) (fun h2 => ?_)
        · refine hw_iinc (v := nI (k + 1)) (pc := 73) hx hb dX3_startsOnAll_73 hl (lk hl rfl) (n_inc _ 1) (Nat.le_of_ble_eq_true rfl) (fun ls hl => ?_)
          refine lv_goto (tgt := 2) (pc := 76) hx hb dX3_startsOnAll_76 (by decide) ?_
          have h2 : pfails S1 k p9 i true true = false := by simpa using h2
          rw [if_neg (by rw [h2]; simp)] at he
          exact ih (k + 1) _ _ _ _ (by omega) h00' hM hw (by omega) ho hS (lv_c (lk hl rfl) (lv_c (lk hl rfl) (lv_c (lk hl rfl) (lv_c (lk hl rfl) (lv_0 hl))))) he
        · skip
          have h2 : pfails S1 k p9 i true true = true := by simpa using h2
          rw [if_pos h2] at he
          refine lv_iload_n (pc := 32) hx hb dX3_startsOnAll_32 rfl (lk hl rfl) ?_
          refine lv_iconst (v := nI 1) (pc := 33) hx hb dX3_startsOnAll_33 (by decide) ?_
          refine lv_isub (pc := 34) hx hb dX3_startsOnAll_34 ?_
          refine hw_top (congrArg Value.int (show _ = nI k - 1 from n_1 _)) ?_
          refine lv_istore (pc := 35) hx hb dX3_startsOnAll_35 hl (Nat.le_of_ble_eq_true rfl) rfl (fun ls hl => ?_)
          exact L2 k _ _ _ _ (by omega) hM hw (by omega) ho hS (by repeat first | exact lv_0 hl | refine lv_c (lk hl rfl) ?_) (by rw [← he]) (by rw [← he])
  refine lv_iconst (v := nI 0) (pc := 0) hx hb dX3_startsOnAll_0 (by decide) ?_
  refine lv_istore_n (pc := 1) hx hb dX3_startsOnAll_1 rfl hl (Nat.le_of_ble_eq_true rfl) rfl (fun ls hl => ?_)
  exact L1 (S 0 0) 0 S _ _ _ (by omega) rfl hM hw (by omega) ho hS (lv_c (lk hl rfl) (lv_c (lk hl rfl) (lv_c (lk hl rfl) (lv_c (lk hl rfl) (lv_0 hl))))) rfl
set_option maxHeartbeats 8000000 in
theorem m_stopsOnAll (l : Launch) (Γ : Cx) (H : Heap) (μ : Nat → Nat) (S : Sx) (th : Int32) (p9 i : Nat) (hM : MW Γ H μ S th) (hw : WF S) (hp : p9 < 20) (hi : i < 4) (hr9 : S 0 1 + 8 ≤ 40000) : Mt l Γ yX3_stopsOnAll (ws_ yX3_stopsOnAll cX3_stopsOnAll 5 none) 5 0 0 [.ref (μ 0), .int (nI p9), .int (nI i)] H (MP Γ μ (poU p9 i (S 0 0) S) th H none) := by
  refine mt_of (by decide +kernel) (Nat.le_of_ble_eq_true rfl) ?_
  intro p e s m args below meth c ls Q hx hb hr hlocks hml hts hown hnm hK hS hl hQ
  have ho : Off (Mf μ) H H := Off.rf
  have hb0 := hw.b0
  have L2 : ∀ (u : Nat) (S1 : Sx) (H' : Heap) (locs : List Loc) (ls : Array Slot), u ≤ 8 → MW Γ H' μ S1 th → WF S1 → S1 0 1 + u ≤ 40000 → Off (Mf μ) H H' → va_S (Gz Γ) s.heap H' locs → lv_has ls 5 [(0, .ref (μ 0)), (1, .int (nI p9)), (2, .int (nI i)), (3, .int (nI u - 1))] → poU p9 i u S1 = poU p9 i (S 0 0) S → W p l e (rmd 5 0 0) s m args below meth c H' locs 0 0 Q (F0 m 7 ls []) := by
    intro u
    induction u with
    | zero =>
      intro S1 H' locs ls _ hM hw hr1 ho hS hl he
      refine lv_iload_n (pc := 7) hx hb dX3_stopsOnAll_7 rfl (lk hl rfl) ?_
      refine hm_z_lt (tgt := 38) (pc := 8) hx hb dX3_stopsOnAll_8 (by decide) (by omega) (fun _ => ?_) (fun hn => absurd hn (by omega))
      rw [poU] at he
      exact hr_v (pc := 38) hQ hx hb hr hlocks hS (by first | exact Nat.le_of_ble_eq_true rfl | (dsimp only [rmd]; omega)) (by first | exact Nat.le_of_ble_eq_true rfl | (dsimp only [rmd]; omega)) (⟨rfl, hM.eq he, ho⟩) dX3_stopsOnAll_38
    | succ u ih =>
      intro S1 H' locs ls hu hM hw hr1 ho hS hl he
      have hb1 := hw.b1 u
      rw [poU] at he
      rw [nI_pred] at hl
      refine lv_iload_n (pc := 7) hx hb dX3_stopsOnAll_7 rfl (lk hl rfl) ?_
      refine lv_if_lt (tgt := 38) (pc := 8) hx hb dX3_stopsOnAll_8 (by decide) (fun q => absurd q (nI_pos (by omega))) (fun _ => ?_)
      refine lv_aload_n (pc := 11) hx hb dX3_stopsOnAll_11 rfl (lk hl rfl) ?_
      refine hw_get (pc := 12) hx hb hts in_X3 hown hK (hM.p0) rfl 2 (Nat.le_of_ble_eq_true rfl) (hts _ q1779) (fun x h => h) rfl dX3_stopsOnAll_12 ?_
      refine lv_iload_n (pc := 15) hx hb dX3_stopsOnAll_15 rfl (lk hl rfl) ?_
      refine hm_iald (k := 1) (pc := 16) hx hb hK hM (by decide) (show u < 8 from (by omega)) dX3_stopsOnAll_16 ?_
      refine lv_iload_n (pc := 17) hx hb dX3_stopsOnAll_17 rfl (lk hl rfl) ?_
      refine hn_le (tgt := 32) (pc := 18) hx hb dX3_stopsOnAll_18 (by decide) (by omega) (by omega) (fun h1 => ?_) (fun h1 => ?_)
      · refine hw_iinc (v := nI u - 1) (pc := 32) hx hb dX3_stopsOnAll_32 hl (lk hl rfl) (n_dec _) (Nat.le_of_ble_eq_true rfl) (fun ls hl => ?_)
        refine lv_goto (tgt := 7) (pc := 35) hx hb dX3_stopsOnAll_35 (by decide) ?_
        rw [if_neg (by omega)] at he
        exact ih S1 _ _ _ (by omega) hM hw (by omega) ho hS (lv_c (lk hl rfl) (lv_c (lk hl rfl) (lv_c (lk hl rfl) (lv_c (lk hl rfl) (lv_0 hl))))) he
      · skip
        rw [if_pos h1] at he
        refine lv_aload_n (pc := 21) hx hb dX3_stopsOnAll_21 rfl (lk hl rfl) ?_
        refine lv_iload_n (pc := 22) hx hb dX3_stopsOnAll_22 rfl (lk hl rfl) ?_
        refine lv_iload_n (pc := 23) hx hb dX3_stopsOnAll_23 rfl (lk hl rfl) ?_
        refine lv_iload_n (pc := 24) hx hb dX3_stopsOnAll_24 rfl (lk hl rfl) ?_
        refine lv_iconst (v := b01 false) (pc := 25) hx hb dX3_stopsOnAll_25 (by decide) ?_
        refine lv_iconst (v := b01 false) (pc := 26) hx hb dX3_stopsOnAll_26 (by decide) ?_
        refine hc_V (pc := 27) hx hb hml hown hts hK hS (m_calls l Γ H' μ S1 th u p9 i false false hM hw (by omega) (by omega) (by omega)) (cwV 5 hts (lw_V q1861 q1863 qs48 q83 q1864) rfl rfl rfl (by decide +kernel) ⟨(Nat.le_of_ble_eq_true rfl), (Nat.le_of_ble_eq_true rfl)⟩) (hK.recv hM.p0 rfl) rfl hl.1 rfl (Nat.le_of_ble_eq_true rfl) dX3_stopsOnAll_27 ⟨by first | exact Nat.le_of_ble_eq_true rfl | (dsimp only [rmd]; omega), by first | exact Nat.le_of_ble_eq_true rfl | (dsimp only [rmd]; omega)⟩ (fun v1 H1 locs1 hq1 hS => ?_)
        obtain ⟨rfl, hM, ho1⟩ := hq1
        have ho := ho.trans ho1
        refine lv_istore (pc := 30) hx hb dX3_stopsOnAll_30 hl (Nat.le_of_ble_eq_true rfl) rfl (fun ls hl => ?_)
        refine hw_iinc (v := nI u - 1) (pc := 32) hx hb dX3_stopsOnAll_32 hl (lk hl rfl) (n_dec _) (Nat.le_of_ble_eq_true rfl) (fun ls hl => ?_)
        refine lv_goto (tgt := 7) (pc := 35) hx hb dX3_stopsOnAll_35 (by decide) ?_
        have q := Kp.call S1 u p9 i false false
        exact ih _ _ _ _ (by omega) hM (q.2.1 hw (by omega)) (by have := q.2.2.2; omega) ho hS (by repeat first | exact lv_0 hl | refine lv_c (lk hl rfl) ?_) he
  refine lv_aload_n (pc := 0) hx hb dX3_stopsOnAll_0 rfl (lk hl rfl) ?_
  refine hw_get (pc := 1) hx hb hts in_X3 hown hK (hM.p0) rfl 1 (Nat.le_of_ble_eq_true rfl) (hts _ q1778) (fun x h => h) rfl dX3_stopsOnAll_1 ?_
  refine lv_iconst (v := nI 1) (pc := 4) hx hb dX3_stopsOnAll_4 (by decide) ?_
  refine lv_isub (pc := 5) hx hb dX3_stopsOnAll_5 ?_
  refine hw_top (congrArg Value.int (show _ = nI (S 0 0) - 1 from n_1 _)) ?_
  refine lv_istore_n (pc := 6) hx hb dX3_stopsOnAll_6 rfl hl (Nat.le_of_ble_eq_true rfl) rfl (fun ls hl => ?_)
  exact L2 (S 0 0) S _ _ _ (by omega) hM hw (by omega) ho hS (lv_c (lk hl rfl) (lv_c (lk hl rfl) (lv_c (lk hl rfl) (lv_c (lk hl rfl) (lv_0 hl))))) rfl
/-- failures of an instance on all eight cores -/
def pforget (p i : Nat) : Nat → Nat → Sx → Sx
  | 0, _, S => S
  | n + 1, c, S => pforget p i n (c + 1) (up2 (up2 S 7 (fidx c p i true) 0) 7 (fidx c p i false) 0)
theorem pforget_f (p i : Nat) : ∀ n c S f j, f ≠ 7 → pforget p i n c S f j = S f j := by
  intro n
  induction n with
  | zero => intro c S f j _; rfl
  | succ n ih => intro c S f j h; rw [pforget, ih _ _ _ _ h, up2_f h, up2_f h]
theorem wf_pforget (p i : Nat) : ∀ n c S, WF S → WF (pforget p i n c S) := by
  intro n
  induction n with
  | zero => intro c S h; exact h
  | succ n ih => intro c S h; exact ih _ _ ((h.up (by omega)).up (by omega))
set_option maxHeartbeats 8000000 in
theorem m_forgets (l : Launch) (Γ : Cx) (H : Heap) (μ : Nat → Nat) (S : Sx) (th : Int32) (p9 i : Nat) (hM : MW Γ H μ S th) (hp : p9 < 20) (hi : i < 4) : Mt l Γ yX3_forgets (ws_ yX3_forgets cX3_forgets 4 none) 2 0 0 [.ref (μ 0), .int (nI p9), .int (nI i)] H (MP Γ μ (pforget p9 i 8 0 S) th H none) := by
  refine mt_of (by decide +kernel) (Nat.le_of_ble_eq_true rfl) ?_
  intro p e s m args below meth c ls Q hx hb hr hlocks hml hts hown hnm hK hS hl hQ
  have ho : Off (Mf μ) H H := Off.rf
  have L1 : ∀ (n k : Nat) (S1 : Sx) (H' : Heap) (locs : List Loc) (ls : Array Slot), k + n = 8 → MW Γ H' μ S1 th → Off (Mf μ) H H' → va_S (Gz Γ) s.heap H' locs → lv_has ls 4 [(0, .ref (μ 0)), (1, .int (nI p9)), (2, .int (nI i)), (3, .int (nI k))] → pforget p9 i n k S1 = pforget p9 i 8 0 S → W p l e (rmd 2 0 0) s m args below meth c H' locs 0 0 Q (F0 m 2 ls []) := by
    intro n
    induction n with
    | zero =>
      intro k S1 H' locs ls hi9 hM ho hS hl he
      refine lv_iload_n (pc := 2) hx hb dX3_forgets_2 rfl (lk hl rfl) ?_
      refine lv_bipush (v := nI 8) (pc := 3) hx hb dX3_forgets_3 (by decide) ?_
      refine hn_ge (tgt := 40) (pc := 5) hx hb dX3_forgets_5 (by decide) (by omega) (by omega) (fun _ => ?_) (fun hn => absurd hn (by omega))
      rw [pforget] at he
      exact hr_v (pc := 40) hQ hx hb hr hlocks hS (by first | exact Nat.le_of_ble_eq_true rfl | (dsimp only [rmd]; omega)) (by first | exact Nat.le_of_ble_eq_true rfl | (dsimp only [rmd]; omega)) (⟨rfl, hM.eq he, ho⟩) dX3_forgets_40
    | succ n ih =>
      intro k S1 H' locs ls hi9 hM ho hS hl he
      rw [pforget] at he
      have f1 := fidx_lt true (show k < 8 by omega) hp hi
      have f2 := fidx_lt false (show k < 8 by omega) hp hi
      refine lv_iload_n (pc := 2) hx hb dX3_forgets_2 rfl (lk hl rfl) ?_
      refine lv_bipush (v := nI 8) (pc := 3) hx hb dX3_forgets_3 (by decide) ?_
      refine hn_ge (tgt := 40) (pc := 5) hx hb dX3_forgets_5 (by decide) (by omega) (by omega) (fun hn => absurd hn (by omega)) (fun _ => ?_)
      refine lv_aload_n (pc := 8) hx hb dX3_forgets_8 rfl (lk hl rfl) ?_
      refine hw_get (pc := 9) hx hb hts in_X3 hown hK (hM.p0) rfl 8 (Nat.le_of_ble_eq_true rfl) (hts _ q1785) (fun x h => h) rfl dX3_forgets_9 ?_
      refine lv_iload_n (pc := 12) hx hb dX3_forgets_12 rfl (lk hl rfl) ?_
      refine lv_iload_n (pc := 13) hx hb dX3_forgets_13 rfl (lk hl rfl) ?_
      refine lv_iload_n (pc := 14) hx hb dX3_forgets_14 rfl (lk hl rfl) ?_
      refine lv_iconst (v := b01 true) (pc := 15) hx hb dX3_forgets_15 (by decide) ?_
      refine hc_S (pc := 16) hx hb hml hown hts hK hS (m_failureAt l Γ H' k p9 i true) (va_cwS 4 hts (lw_S q1880 q1881 q83 q1882) rfl rfl rfl (by decide +kernel) ⟨(Nat.le_of_ble_eq_true rfl), (Nat.le_of_ble_eq_true rfl)⟩) rfl hl.1 rfl (Nat.le_of_ble_eq_true rfl) dX3_forgets_16 ⟨by first | exact Nat.le_of_ble_eq_true rfl | (dsimp only [rmd]; omega), by first | exact Nat.le_of_ble_eq_true rfl | (dsimp only [rmd]; omega)⟩ (fun v1 H1 locs1 hq1 hS => ?_)
      obtain ⟨rfl, rfl⟩ := hq1
      refine lv_iconst (v := nI 0) (pc := 19) hx hb dX3_forgets_19 (by decide) ?_
      refine hm_iast (k := 7) (pc := 20) hx hb hK hM (by decide) (show fidx k p9 i true < 1280 from (by omega)) hS dX3_forgets_20 (fun H2 locs2 hM ho2 hS => ?_)
      have ho := ho.trans ho2
      refine lv_aload_n (pc := 21) hx hb dX3_forgets_21 rfl (lk hl rfl) ?_
      refine hw_get (pc := 22) hx hb hts in_X3 hown hK (hM.p0) rfl 8 (Nat.le_of_ble_eq_true rfl) (hts _ q1785) (fun x h => h) rfl dX3_forgets_22 ?_
      refine lv_iload_n (pc := 25) hx hb dX3_forgets_25 rfl (lk hl rfl) ?_
      refine lv_iload_n (pc := 26) hx hb dX3_forgets_26 rfl (lk hl rfl) ?_
      refine lv_iload_n (pc := 27) hx hb dX3_forgets_27 rfl (lk hl rfl) ?_
      refine lv_iconst (v := b01 false) (pc := 28) hx hb dX3_forgets_28 (by decide) ?_
      refine hc_S (pc := 29) hx hb hml hown hts hK hS (m_failureAt l Γ H2 k p9 i false) (va_cwS 4 hts (lw_S q1880 q1881 q83 q1882) rfl rfl rfl (by decide +kernel) ⟨(Nat.le_of_ble_eq_true rfl), (Nat.le_of_ble_eq_true rfl)⟩) rfl hl.1 rfl (Nat.le_of_ble_eq_true rfl) dX3_forgets_29 ⟨by first | exact Nat.le_of_ble_eq_true rfl | (dsimp only [rmd]; omega), by first | exact Nat.le_of_ble_eq_true rfl | (dsimp only [rmd]; omega)⟩ (fun v3 H3 locs3 hq3 hS => ?_)
      obtain ⟨rfl, rfl⟩ := hq3
      refine lv_iconst (v := nI 0) (pc := 32) hx hb dX3_forgets_32 (by decide) ?_
      refine hm_iast (k := 7) (pc := 33) hx hb hK hM (by decide) (show fidx k p9 i false < 1280 from (by omega)) hS dX3_forgets_33 (fun H4 locs4 hM ho4 hS => ?_)
      have ho := ho.trans ho4
      refine hw_iinc (v := nI (k + 1)) (pc := 34) hx hb dX3_forgets_34 hl (lk hl rfl) (n_inc _ 1) (Nat.le_of_ble_eq_true rfl) (fun ls hl => ?_)
      refine lv_goto (tgt := 2) (pc := 37) hx hb dX3_forgets_37 (by decide) ?_
      exact ih (k + 1) _ _ _ _ (by omega) hM ho hS (lv_c (lk hl rfl) (lv_c (lk hl rfl) (lv_c (lk hl rfl) (lv_c (lk hl rfl) (lv_0 hl))))) he
  refine lv_iconst (v := nI 0) (pc := 0) hx hb dX3_forgets_0 (by decide) ?_
  refine lv_istore_n (pc := 1) hx hb dX3_forgets_1 rfl hl (Nat.le_of_ble_eq_true rfl) rfl (fun ls hl => ?_)
  exact L1 8 0 S _ _ _ rfl hM ho hS (lv_c (lk hl rfl) (lv_c (lk hl rfl) (lv_c (lk hl rfl) (lv_c (lk hl rfl) (lv_0 hl))))) rfl
/-- all anew -/
def pz2 : Nat → Nat → Sx → Sx
  | 0, _, S => S
  | n + 1, k, S => pz2 n (k + 1) (up2 (up2 S 2 k 0) 6 k 0)
def pz7 : Nat → Nat → Sx → Sx
  | 0, _, S => S
  | n + 1, k, S => pz7 n (k + 1) (up2 S 7 k 0)
def pz8 : Nat → Nat → Sx → Sx
  | 0, _, S => S
  | n + 1, k, S => pz8 n (k + 1) (up2 S 8 k 0)
def pbegins (S : Sx) : Sx := up2 (up2 (pz8 3 0 (pz7 1280 0 (pz2 20 0 (up2 (up2 S 0 0 1) 1 0 20)))) 0 1 0) 0 2 0
set_option maxHeartbeats 8000000 in
theorem m_begins (l : Launch) (Γ : Cx) (H : Heap) (μ : Nat → Nat) (S : Sx) (th : Int32) (hM : MW Γ H μ S th) : Mt l Γ yX3_begins (ws_ yX3_begins cX3_begins 2 none) 2 0 0 [.ref (μ 0)] H (MP Γ μ (pbegins S) th H none) := by
  refine mt_of (by decide +kernel) (Nat.le_of_ble_eq_true rfl) ?_
  intro p e s m args below meth c ls Q hx hb hr hlocks hml hts hown hnm hK hS hl hQ
  have ho : Off (Mf μ) H H := Off.rf
  have L3 : ∀ (n k : Nat) (S1 : Sx) (H' : Heap) (locs : List Loc) (ls : Array Slot), k + n = 3 → MW Γ H' μ S1 th → Off (Mf μ) H H' → va_S (Gz Γ) s.heap H' locs → lv_has ls 2 [(0, .ref (μ 0)), (1, .int (nI k))] → up2 (up2 (pz8 n k S1) 0 1 0) 0 2 0 = pbegins S → W p l e (rmd 2 0 0) s m args below meth c H' locs 0 0 Q (F0 m 65 ls []) := by
    intro n
    induction n with
    | zero =>
      intro k S1 H' locs ls hi9 hM ho hS hl he
      refine lv_iload_n (pc := 65) hx hb dX3_begins_65 rfl (lk hl rfl) ?_
      refine lv_iconst (v := nI 2) (pc := 66) hx hb dX3_begins_66 (by decide) ?_
      refine hn_gt (tgt := 83) (pc := 67) hx hb dX3_begins_67 (by decide) (by omega) (by omega) (fun _ => ?_) (fun hn => absurd hn (by omega))
      rw [pz8] at he
      refine lv_aload_n (pc := 83) hx hb dX3_begins_83 rfl (lk hl rfl) ?_
      refine lv_iconst (v := nI 0) (pc := 84) hx hb dX3_begins_84 (by decide) ?_
      refine hw_put (pc := 85) hx hb hts in_X3 tyX3_ok nmX3 hown hK (hM.p0) (hM.g (by decide)) hS rfl 14 (Nat.le_of_ble_eq_true rfl) (hts _ q1791) (fun x h => h) rfl rfl (rfl) (rfl) (Nat.le_of_ble_eq_true rfl) dX3_begins_85 (fun H1 locs1 hp1 z1 o1 hS => ?_)
      have hM := hM.sc (i := 1) (v := 0) hp1 o1
      have ho := ho.trans (Off.put (S := Mf μ) z1 o1 ⟨0, by decide, rfl⟩)
      refine lv_aload_n (pc := 88) hx hb dX3_begins_88 rfl (lk hl rfl) ?_
      refine lv_iconst (v := nI 0) (pc := 89) hx hb dX3_begins_89 (by decide) ?_
      refine hw_put (pc := 90) hx hb hts in_X3 tyX3_ok nmX3 hown hK (hM.p0) (hM.g (by decide)) hS rfl 15 (Nat.le_of_ble_eq_true rfl) (hts _ q1792) (fun x h => h) rfl rfl (rfl) (rfl) (Nat.le_of_ble_eq_true rfl) dX3_begins_90 (fun H2 locs2 hp2 z2 o2 hS => ?_)
      have hM := hM.sc (i := 2) (v := 0) hp2 o2
      have ho := ho.trans (Off.put (S := Mf μ) z2 o2 ⟨0, by decide, rfl⟩)
      exact hr_v (pc := 93) hQ hx hb hr hlocks hS (by first | exact Nat.le_of_ble_eq_true rfl | (dsimp only [rmd]; omega)) (by first | exact Nat.le_of_ble_eq_true rfl | (dsimp only [rmd]; omega)) (⟨rfl, hM.eq he, ho⟩) dX3_begins_93
    | succ n ih =>
      intro k S1 H' locs ls hi9 hM ho hS hl he
      rw [pz8] at he
      refine lv_iload_n (pc := 65) hx hb dX3_begins_65 rfl (lk hl rfl) ?_
      refine lv_iconst (v := nI 2) (pc := 66) hx hb dX3_begins_66 (by decide) ?_
      refine hn_gt (tgt := 83) (pc := 67) hx hb dX3_begins_67 (by decide) (by omega) (by omega) (fun hn => absurd hn (by omega)) (fun _ => ?_)
      refine lv_aload_n (pc := 70) hx hb dX3_begins_70 rfl (lk hl rfl) ?_
      refine hw_get (pc := 71) hx hb hts in_X3 hown hK (hM.p0) rfl 9 (Nat.le_of_ble_eq_true rfl) (hts _ q1786) (fun x h => h) rfl dX3_begins_71 ?_
      refine lv_iload_n (pc := 74) hx hb dX3_begins_74 rfl (lk hl rfl) ?_
      refine lv_iconst (v := nI 0) (pc := 75) hx hb dX3_begins_75 (by decide) ?_
      refine hm_iast (k := 8) (pc := 76) hx hb hK hM (by decide) (show k < 3 from (by omega)) hS dX3_begins_76 (fun H1 locs1 hM ho1 hS => ?_)
      have ho := ho.trans ho1
      refine hw_iinc (v := nI (k + 1)) (pc := 77) hx hb dX3_begins_77 hl (lk hl rfl) (n_inc _ 1) (Nat.le_of_ble_eq_true rfl) (fun ls hl => ?_)
      refine lv_goto (tgt := 65) (pc := 80) hx hb dX3_begins_80 (by decide) ?_
      exact ih (k + 1) _ _ _ _ (by omega) hM ho hS (lv_c (lk hl rfl) (lv_c (lk hl rfl) (lv_0 hl))) he
  have L2 : ∀ (n k : Nat) (S1 : Sx) (H' : Heap) (locs : List Loc) (ls : Array Slot), k + n = 1280 → MW Γ H' μ S1 th → Off (Mf μ) H H' → va_S (Gz Γ) s.heap H' locs → lv_has ls 2 [(0, .ref (μ 0)), (1, .int (nI k))] → up2 (up2 (pz8 3 0 (pz7 n k S1)) 0 1 0) 0 2 0 = pbegins S → W p l e (rmd 2 0 0) s m args below meth c H' locs 0 0 Q (F0 m 43 ls []) := by
    intro n
    induction n with
    | zero =>
      intro k S1 H' locs ls hi9 hM ho hS hl he
      refine lv_iload_n (pc := 43) hx hb dX3_begins_43 rfl (lk hl rfl) ?_
      refine lv_sipush (v := nI 1280) (pc := 44) hx hb dX3_begins_44 (by decide) ?_
      refine hn_ge (tgt := 63) (pc := 47) hx hb dX3_begins_47 (by decide) (by omega) (by omega) (fun _ => ?_) (fun hn => absurd hn (by omega))
      rw [pz7] at he
      refine lv_iconst (v := nI 0) (pc := 63) hx hb dX3_begins_63 (by decide) ?_
      refine lv_istore_n (pc := 64) hx hb dX3_begins_64 rfl hl (Nat.le_of_ble_eq_true rfl) rfl (fun ls hl => ?_)
      exact L3 3 0 S1 _ _ _ rfl hM ho hS (lv_c (lk hl rfl) (lv_c (lk hl rfl) (lv_0 hl))) he
    | succ n ih =>
      intro k S1 H' locs ls hi9 hM ho hS hl he
      rw [pz7] at he
      refine lv_iload_n (pc := 43) hx hb dX3_begins_43 rfl (lk hl rfl) ?_
      refine lv_sipush (v := nI 1280) (pc := 44) hx hb dX3_begins_44 (by decide) ?_
      refine hn_ge (tgt := 63) (pc := 47) hx hb dX3_begins_47 (by decide) (by omega) (by omega) (fun hn => absurd hn (by omega)) (fun _ => ?_)
      refine lv_aload_n (pc := 50) hx hb dX3_begins_50 rfl (lk hl rfl) ?_
      refine hw_get (pc := 51) hx hb hts in_X3 hown hK (hM.p0) rfl 8 (Nat.le_of_ble_eq_true rfl) (hts _ q1785) (fun x h => h) rfl dX3_begins_51 ?_
      refine lv_iload_n (pc := 54) hx hb dX3_begins_54 rfl (lk hl rfl) ?_
      refine lv_iconst (v := nI 0) (pc := 55) hx hb dX3_begins_55 (by decide) ?_
      refine hm_iast (k := 7) (pc := 56) hx hb hK hM (by decide) (show k < 1280 from (by omega)) hS dX3_begins_56 (fun H1 locs1 hM ho1 hS => ?_)
      have ho := ho.trans ho1
      refine hw_iinc (v := nI (k + 1)) (pc := 57) hx hb dX3_begins_57 hl (lk hl rfl) (n_inc _ 1) (Nat.le_of_ble_eq_true rfl) (fun ls hl => ?_)
      refine lv_goto (tgt := 43) (pc := 60) hx hb dX3_begins_60 (by decide) ?_
      exact ih (k + 1) _ _ _ _ (by omega) hM ho hS (lv_c (lk hl rfl) (lv_c (lk hl rfl) (lv_0 hl))) he
  have L1 : ∀ (n k : Nat) (S1 : Sx) (H' : Heap) (locs : List Loc) (ls : Array Slot), k + n = 20 → MW Γ H' μ S1 th → Off (Mf μ) H H' → va_S (Gz Γ) s.heap H' locs → lv_has ls 2 [(0, .ref (μ 0)), (1, .int (nI k))] → up2 (up2 (pz8 3 0 (pz7 1280 0 (pz2 n k S1))) 0 1 0) 0 2 0 = pbegins S → W p l e (rmd 2 0 0) s m args below meth c H' locs 0 0 Q (F0 m 15 ls []) := by
    intro n
    induction n with
    | zero =>
      intro k S1 H' locs ls hi9 hM ho hS hl he
      refine lv_iload_n (pc := 15) hx hb dX3_begins_15 rfl (lk hl rfl) ?_
      refine lv_bipush (v := nI 20) (pc := 16) hx hb dX3_begins_16 (by decide) ?_
      refine hn_ge (tgt := 41) (pc := 18) hx hb dX3_begins_18 (by decide) (by omega) (by omega) (fun _ => ?_) (fun hn => absurd hn (by omega))
      rw [pz2] at he
      refine lv_iconst (v := nI 0) (pc := 41) hx hb dX3_begins_41 (by decide) ?_
      refine lv_istore_n (pc := 42) hx hb dX3_begins_42 rfl hl (Nat.le_of_ble_eq_true rfl) rfl (fun ls hl => ?_)
      exact L2 1280 0 S1 _ _ _ rfl hM ho hS (lv_c (lk hl rfl) (lv_c (lk hl rfl) (lv_0 hl))) he
    | succ n ih =>
      intro k S1 H' locs ls hi9 hM ho hS hl he
      rw [pz2] at he
      refine lv_iload_n (pc := 15) hx hb dX3_begins_15 rfl (lk hl rfl) ?_
      refine lv_bipush (v := nI 20) (pc := 16) hx hb dX3_begins_16 (by decide) ?_
      refine hn_ge (tgt := 41) (pc := 18) hx hb dX3_begins_18 (by decide) (by omega) (by omega) (fun hn => absurd hn (by omega)) (fun _ => ?_)
      refine lv_aload_n (pc := 21) hx hb dX3_begins_21 rfl (lk hl rfl) ?_
      refine hw_get (pc := 22) hx hb hts in_X3 hown hK (hM.p0) rfl 3 (Nat.le_of_ble_eq_true rfl) (hts _ q1780) (fun x h => h) rfl dX3_begins_22 ?_
      refine lv_iload_n (pc := 25) hx hb dX3_begins_25 rfl (lk hl rfl) ?_
      refine lv_iconst (v := nI 0) (pc := 26) hx hb dX3_begins_26 (by decide) ?_
      refine hm_zast (k := 2) (pc := 27) hx hb hK hM (by decide) (show k < 20 from (by omega)) (show 0 ≤ 1 from by omega) hS dX3_begins_27 (fun H1 locs1 hM ho1 hS => ?_)
      have ho := ho.trans ho1
      refine lv_aload_n (pc := 28) hx hb dX3_begins_28 rfl (lk hl rfl) ?_
      refine hw_get (pc := 29) hx hb hts in_X3 hown hK (hM.p0) rfl 7 (Nat.le_of_ble_eq_true rfl) (hts _ q1784) (fun x h => h) rfl dX3_begins_29 ?_
      refine lv_iload_n (pc := 32) hx hb dX3_begins_32 rfl (lk hl rfl) ?_
      refine lv_iconst (v := nI 0) (pc := 33) hx hb dX3_begins_33 (by decide) ?_
      refine hm_iast (k := 6) (pc := 34) hx hb hK hM (by decide) (show k < 20 from (by omega)) hS dX3_begins_34 (fun H2 locs2 hM ho2 hS => ?_)
      have ho := ho.trans ho2
      refine hw_iinc (v := nI (k + 1)) (pc := 35) hx hb dX3_begins_35 hl (lk hl rfl) (n_inc _ 1) (Nat.le_of_ble_eq_true rfl) (fun ls hl => ?_)
      refine lv_goto (tgt := 15) (pc := 38) hx hb dX3_begins_38 (by decide) ?_
      exact ih (k + 1) _ _ _ _ (by omega) hM ho hS (lv_c (lk hl rfl) (lv_c (lk hl rfl) (lv_0 hl))) he
  refine lv_aload_n (pc := 0) hx hb dX3_begins_0 rfl (lk hl rfl) ?_
  refine lv_iconst (v := nI 1) (pc := 1) hx hb dX3_begins_1 (by decide) ?_
  refine hw_put (pc := 2) hx hb hts in_X3 tyX3_ok nmX3 hown hK (hM.p0) (hM.g (by decide)) hS rfl 1 (Nat.le_of_ble_eq_true rfl) (hts _ q1778) (fun x h => h) rfl rfl (rfl) (rfl) (Nat.le_of_ble_eq_true rfl) dX3_begins_2 (fun H1 locs1 hp1 z1 o1 hS => ?_)
  have hM := hM.sc (i := 0) (v := 1) hp1 o1
  have ho := ho.trans (Off.put (S := Mf μ) z1 o1 ⟨0, by decide, rfl⟩)
  refine lv_aload_n (pc := 5) hx hb dX3_begins_5 rfl (lk hl rfl) ?_
  refine hw_get (pc := 6) hx hb hts in_X3 hown hK (hM.p0) rfl 2 (Nat.le_of_ble_eq_true rfl) (hts _ q1779) (fun x h => h) rfl dX3_begins_6 ?_
  refine lv_iconst (v := nI 0) (pc := 9) hx hb dX3_begins_9 (by decide) ?_
  refine lv_bipush (v := nI 20) (pc := 10) hx hb dX3_begins_10 (by decide) ?_
  refine hm_iast (k := 1) (pc := 12) hx hb hK hM (by decide) (show 0 < 8 from (by omega)) hS dX3_begins_12 (fun H2 locs2 hM ho2 hS => ?_)
  have ho := ho.trans ho2
  refine lv_iconst (v := nI 0) (pc := 13) hx hb dX3_begins_13 (by decide) ?_
  refine lv_istore_n (pc := 14) hx hb dX3_begins_14 rfl hl (Nat.le_of_ble_eq_true rfl) rfl (fun ls hl => ?_)
  exact L1 20 0 _ _ _ _ rfl hM ho hS (lv_c (lk hl rfl) (lv_c (lk hl rfl) (lv_0 hl))) rfl
def padd (S : Sx) (k v : Nat) : Sx := up2 (up2 (up2 S 8 k (S 8 k + 1)) 9 (16 * k + S 8 k) v) 11 (16 * k + S 8 k) 0
set_option maxHeartbeats 8000000 in
theorem m_addsThing (l : Launch) (Γ : Cx) (H : Heap) (μ : Nat → Nat) (S : Sx) (th : Int32) (k v : Nat) (hM : MW Γ H μ S th) (hk : k < 3) (hv : v < 256) (h8 : S 8 k < 16) : Mt l Γ yX3_addsThing (ws_ yX3_addsThing cX3_addsThing 4 (some .int)) 2 0 0 [.ref (μ 0), .int (nI k), .int (nI v)] H (MP Γ μ (padd S k v) th H (some (.int (nI (S 8 k))))) := by
  refine mt_of (by decide +kernel) (Nat.le_of_ble_eq_true rfl) ?_
  intro p e s m args below meth c ls Q hx hb hr hlocks hml hts hown hnm hK hS hl hQ
  have ho : Off (Mf μ) H H := Off.rf
  refine lv_aload_n (pc := 0) hx hb dX3_addsThing_0 rfl (lk hl rfl) ?_
  refine hw_get (pc := 1) hx hb hts in_X3 hown hK (hM.p0) rfl 9 (Nat.le_of_ble_eq_true rfl) (hts _ q1786) (fun x h => h) rfl dX3_addsThing_1 ?_
  refine lv_iload_n (pc := 4) hx hb dX3_addsThing_4 rfl (lk hl rfl) ?_
  refine hm_iald (k := 8) (pc := 5) hx hb hK hM (by decide) (show k < 3 from (by omega)) dX3_addsThing_5 ?_
  refine lv_istore_n (pc := 6) hx hb dX3_addsThing_6 rfl hl (Nat.le_of_ble_eq_true rfl) rfl (fun ls hl => ?_)
  refine lv_aload_n (pc := 7) hx hb dX3_addsThing_7 rfl (lk hl rfl) ?_
  refine hw_get (pc := 8) hx hb hts in_X3 hown hK (hM.p0) rfl 9 (Nat.le_of_ble_eq_true rfl) (hts _ q1786) (fun x h => h) rfl dX3_addsThing_8 ?_
  refine lv_iload_n (pc := 11) hx hb dX3_addsThing_11 rfl (lk hl rfl) ?_
  refine lv_dup2_11 (pc := 12) hx hb dX3_addsThing_12 rfl rfl ?_
  refine hm_iald (k := 8) (pc := 13) hx hb hK hM (by decide) (show k < 3 from (by omega)) dX3_addsThing_13 ?_
  refine lv_iconst (v := nI 1) (pc := 14) hx hb dX3_addsThing_14 (by decide) ?_
  refine lv_iadd (pc := 15) hx hb dX3_addsThing_15 ?_
  refine hw_top (congrArg Value.int (show _ = nI (S 8 k + 1) from nI_add _ _)) ?_
  refine hm_iast (k := 8) (pc := 16) hx hb hK hM (by decide) (show k < 3 from (by omega)) hS dX3_addsThing_16 (fun H1 locs1 hM ho1 hS => ?_)
  have ho := ho.trans ho1
  refine lv_aload_n (pc := 17) hx hb dX3_addsThing_17 rfl (lk hl rfl) ?_
  refine hw_get (pc := 18) hx hb hts in_X3 hown hK (hM.p0) rfl 10 (Nat.le_of_ble_eq_true rfl) (hts _ q1787) (fun x h => h) rfl dX3_addsThing_18 ?_
  refine lv_iload_n (pc := 21) hx hb dX3_addsThing_21 rfl (lk hl rfl) ?_
  refine lv_iload_n (pc := 22) hx hb dX3_addsThing_22 rfl (lk hl rfl) ?_
  refine hc_S (pc := 23) hx hb hml hown hts hK hS (m_at l Γ H1 k (S 8 k) (16 * k + (S 8 k)) (by omega)) (va_cwS 2 hts (lw_S q1935 q1936 q83 q1937) rfl rfl rfl (by decide +kernel) ⟨(Nat.le_of_ble_eq_true rfl), (Nat.le_of_ble_eq_true rfl)⟩) rfl hl.1 rfl (Nat.le_of_ble_eq_true rfl) dX3_addsThing_23 ⟨by first | exact Nat.le_of_ble_eq_true rfl | (dsimp only [rmd]; omega), by first | exact Nat.le_of_ble_eq_true rfl | (dsimp only [rmd]; omega)⟩ (fun v2 H2 locs2 hq2 hS => ?_)
  obtain ⟨rfl, rfl⟩ := hq2
  refine lv_iload_n (pc := 26) hx hb dX3_addsThing_26 rfl (lk hl rfl) ?_
  refine hm_iast (k := 9) (pc := 27) hx hb hK hM (by decide) (show 16 * k + (S 8 k) < 48 from (by omega)) hS dX3_addsThing_27 (fun H3 locs3 hM ho3 hS => ?_)
  have ho := ho.trans ho3
  refine lv_aload_n (pc := 28) hx hb dX3_addsThing_28 rfl (lk hl rfl) ?_
  refine hw_get (pc := 29) hx hb hts in_X3 hown hK (hM.p0) rfl 12 (Nat.le_of_ble_eq_true rfl) (hts _ q1789) (fun x h => h) rfl dX3_addsThing_29 ?_
  refine lv_iload_n (pc := 32) hx hb dX3_addsThing_32 rfl (lk hl rfl) ?_
  refine lv_iload_n (pc := 33) hx hb dX3_addsThing_33 rfl (lk hl rfl) ?_
  refine hc_S (pc := 34) hx hb hml hown hts hK hS (m_at l Γ H3 k (S 8 k) (16 * k + (S 8 k)) (by omega)) (va_cwS 2 hts (lw_S q1935 q1936 q83 q1937) rfl rfl rfl (by decide +kernel) ⟨(Nat.le_of_ble_eq_true rfl), (Nat.le_of_ble_eq_true rfl)⟩) rfl hl.1 rfl (Nat.le_of_ble_eq_true rfl) dX3_addsThing_34 ⟨by first | exact Nat.le_of_ble_eq_true rfl | (dsimp only [rmd]; omega), by first | exact Nat.le_of_ble_eq_true rfl | (dsimp only [rmd]; omega)⟩ (fun v4 H4 locs4 hq4 hS => ?_)
  obtain ⟨rfl, rfl⟩ := hq4
  refine lv_iconst (v := nI 0) (pc := 37) hx hb dX3_addsThing_37 (by decide) ?_
  refine hm_iast (k := 11) (pc := 38) hx hb hK hM (by decide) (show 16 * k + (S 8 k) < 48 from (by omega)) hS dX3_addsThing_38 (fun H5 locs5 hM ho5 hS => ?_)
  have ho := ho.trans ho5
  refine lv_iload_n (pc := 39) hx hb dX3_addsThing_39 rfl (lk hl rfl) ?_
  exact hr_i (pc := 40) hQ hx hb hr hlocks hS (by first | exact Nat.le_of_ble_eq_true rfl | (dsimp only [rmd]; omega)) (by first | exact Nat.le_of_ble_eq_true rfl | (dsimp only [rmd]; omega)) (⟨rfl, hM, ho⟩) dX3_addsThing_40
