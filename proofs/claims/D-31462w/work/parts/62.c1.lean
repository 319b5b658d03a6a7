/-! the component: what is only read -/
set_option maxRecDepth 100000
set_option maxHeartbeats 4000000
theorem t255 : ∀ k, k < 8 → (255 : Nat).testBit k = true := by decide +kernel
theorem c_control (l : Launch) (Γ : Cx) (H : Heap) (g : Gn) (L : Nat) (S : Sx) (hM : MC Γ H g L S) (hw : WF S) : Mt l Γ yX1_control (ws_ yX1_control cX1_control 2 (some .int)) 4 0 0 [.ref (g 0 0)] H (Rd (nI (pfu S 255) - 1) H) := by
  refine mt_of (by decide +kernel) (Nat.le_of_ble_eq_true rfl) ?_
  intro p e s m args below meth c ls Q hx hb hr hlocks hml hts hown hnm hK hS hl hQ
  have hb0 := hw.b0
  have L1 : ∀ (n k : Nat) (locs : List Loc) (ls : Array Slot), k + n = S 0 0 → pfuA S 255 n k = pfu S 255 → va_S (Gz Γ) s.heap H locs → lv_has ls 2 [(0, .ref (g 0 0)), (1, .int (nI k))] → W p l e (rmd 4 0 0) s m args below meth c H locs 0 0 Q (F0 m 2 ls []) := by
    intro n
    induction n with
    | zero =>
      intro k locs ls hk he hS hl
      refine lv_iload_n (pc := 2) hx hb dX1_control_2 rfl (lk hl rfl) ?_
      refine lv_aload_n (pc := 3) hx hb dX1_control_3 rfl (lk hl rfl) ?_
      refine hw_get (pc := 4) hx hb hts in_X1 hown hK (hM.p0) rfl 1 (Nat.le_of_ble_eq_true rfl) (hts _ q338) (fun x h => h) rfl dX1_control_4 ?_
      refine hc_F (pc := 7) hx hb hml hown hts hK hS (hK.1.1 8 _ cl_8).2 (j_al_size l Γ _ _ _ _ _ hM.p2) (va_cwF 0 hts (lw_F q392 q395 q397 q73 q399) rfl rfl rfl (hK.fw fwm_0) (by decide +kernel) ⟨(Nat.le_of_ble_eq_true rfl), (Nat.le_of_ble_eq_true rfl)⟩) (hK.recv hM.p2 rfl) rfl hl.1 rfl (Nat.le_of_ble_eq_true rfl) dX1_control_7 ⟨by first | exact Nat.le_of_ble_eq_true rfl | (dsimp only [rmd]; omega) | omega, by first | exact Nat.le_of_ble_eq_true rfl | (dsimp only [rmd]; omega) | omega⟩ (fun v1 H1 locs1 hq1 hS => ?_)
      obtain ⟨rfl, rfl⟩ := hq1
      refine hn_ge (tgt := 42) (pc := 12) hx hb dX1_control_12 (by decide) (by omega) (by omega) (fun _ => ?_) (fun hn => absurd hn (by omega))
      rw [pfuA] at he
      refine lv_iconst (v := nI 0 - 1) (pc := 42) hx hb dX1_control_42 (by decide) ?_
      exact hr_i (pc := 43) hQ hx hb hr hlocks hS (by first | exact Nat.le_of_ble_eq_true rfl | (dsimp only [rmd]; omega) | omega) (by first | exact Nat.le_of_ble_eq_true rfl | (dsimp only [rmd]; omega) | omega) (⟨by rw [← he], rfl⟩) dX1_control_43
    | succ n ih =>
      intro k locs ls hk he hS hl
      refine lv_iload_n (pc := 2) hx hb dX1_control_2 rfl (lk hl rfl) ?_
      refine lv_aload_n (pc := 3) hx hb dX1_control_3 rfl (lk hl rfl) ?_
      refine hw_get (pc := 4) hx hb hts in_X1 hown hK (hM.p0) rfl 1 (Nat.le_of_ble_eq_true rfl) (hts _ q338) (fun x h => h) rfl dX1_control_4 ?_
      refine hc_F (pc := 7) hx hb hml hown hts hK hS (hK.1.1 8 _ cl_8).2 (j_al_size l Γ _ _ _ _ _ hM.p2) (va_cwF 0 hts (lw_F q392 q395 q397 q73 q399) rfl rfl rfl (hK.fw fwm_0) (by decide +kernel) ⟨(Nat.le_of_ble_eq_true rfl), (Nat.le_of_ble_eq_true rfl)⟩) (hK.recv hM.p2 rfl) rfl hl.1 rfl (Nat.le_of_ble_eq_true rfl) dX1_control_7 ⟨by first | exact Nat.le_of_ble_eq_true rfl | (dsimp only [rmd]; omega) | omega, by first | exact Nat.le_of_ble_eq_true rfl | (dsimp only [rmd]; omega) | omega⟩ (fun v1 H1 locs1 hq1 hS => ?_)
      obtain ⟨rfl, rfl⟩ := hq1
      refine hn_ge (tgt := 42) (pc := 12) hx hb dX1_control_12 (by decide) (by omega) (by omega) (fun hn => absurd hn (by omega)) (fun _ => ?_)
      refine lv_aload_n (pc := 15) hx hb dX1_control_15 rfl (lk hl rfl) ?_
      refine hw_get (pc := 16) hx hb hts in_X1 hown hK (hM.p0) rfl 1 (Nat.le_of_ble_eq_true rfl) (hts _ q338) (fun x h => h) rfl dX1_control_16 ?_
      refine lv_iload_n (pc := 19) hx hb dX1_control_19 rfl (lk hl rfl) ?_
      refine hc_F (pc := 20) hx hb hml hown hts hK hS (hK.1.1 8 _ cl_8).2 (j_al_get l Γ _ _ _ _ _ _ _ _ hM.p2 hM.p21 (show k < S 0 0 from by omega) (by omega) (if_pos (show k < S 0 0 from by omega))) (va_cwF 1 hts (lw_F q414 q417 q419 q73 q421) rfl rfl rfl (hK.fw fwm_1) (by decide +kernel) ⟨(Nat.le_of_ble_eq_true rfl), (Nat.le_of_ble_eq_true rfl)⟩) (hK.recv hM.p2 rfl) rfl hl.1 rfl (Nat.le_of_ble_eq_true rfl) dX1_control_20 ⟨by first | exact Nat.le_of_ble_eq_true rfl | (dsimp only [rmd]; omega) | omega, by first | exact Nat.le_of_ble_eq_true rfl | (dsimp only [rmd]; omega) | omega⟩ (fun v2 H2 locs2 hq2 hS => ?_)
      obtain ⟨rfl, rfl⟩ := hq2
      refine va_castS (pc := 25) hx hb hown (hts _ q164) (hK.1.1 1 _ rfl).2 (hK.recv (hM.p7 (show k < S 0 0 from by omega)) rfl) dX1_control_25 ?_
      refine hc_V (pc := 28) hx hb hml hown hts hK hS (s_isUp l Γ _ _ _ _ _ (hM.p7 (show k < S 0 0 from by omega)) (hw.b1 _)) (cwV 0 hts (lw_V q769 q770 q771 q74 q772) rfl rfl rfl (by decide +kernel) ⟨(Nat.le_of_ble_eq_true rfl), (Nat.le_of_ble_eq_true rfl)⟩) (hK.recv (hM.p7 (show k < S 0 0 from by omega)) rfl) rfl hl.1 rfl (Nat.le_of_ble_eq_true rfl) dX1_control_28 ⟨by first | exact Nat.le_of_ble_eq_true rfl | (dsimp only [rmd]; omega) | omega, by first | exact Nat.le_of_ble_eq_true rfl | (dsimp only [rmd]; omega) | omega⟩ (fun v3 H3 locs3 hq3 hS => ?_)
      obtain ⟨rfl, rfl⟩ := hq3
      refine hz_eq (tgt := 36) (pc := 31) hx hb dX1_control_31 (by decide) (fun h => ?_) (fun h => ?_)
      · refine hw_iinc (v := nI (k + 1)) (pc := 36) hx hb dX1_control_36 hl (lk hl rfl) (n_inc _ 1) (Nat.le_of_ble_eq_true rfl) (fun ls hl => ?_)
        refine lv_goto (tgt := 2) (pc := 39) hx hb dX1_control_39 (by decide) ?_
        rw [pfuA, if_neg (fun q => of_decide_eq_false h q.2)] at he
        exact ih (k + 1) _ ls (by omega) he hS (lv_c (lk hl rfl) (lv_c (lk hl rfl) (lv_0 hl)))
      · skip
        rw [pfuA, if_pos ⟨t255 k (by omega), of_decide_eq_true h⟩] at he
        refine lv_iload_n (pc := 34) hx hb dX1_control_34 rfl (lk hl rfl) ?_
        exact hr_i (pc := 35) hQ hx hb hr hlocks hS (by first | exact Nat.le_of_ble_eq_true rfl | (dsimp only [rmd]; omega) | omega) (by first | exact Nat.le_of_ble_eq_true rfl | (dsimp only [rmd]; omega) | omega) (⟨by rw [← he, nI_pred], rfl⟩) dX1_control_35
  refine lv_iconst (v := nI 0) (pc := 0) hx hb dX1_control_0 (by decide) ?_
  refine lv_istore_n (pc := 1) hx hb dX1_control_1 rfl hl (Nat.le_of_ble_eq_true rfl) rfl (fun ls hl => ?_)
  exact L1 (S 0 0) 0 _ ls (by omega) rfl hS (by repeat first | exact lv_0 hl | refine lv_c (lk hl rfl) ?_)
theorem c_upSet (l : Launch) (Γ : Cx) (H : Heap) (g : Gn) (L : Nat) (S : Sx) (hM : MC Γ H g L S) (hw : WF S) : Mt l Γ yX1_upSet (ws_ yX1_upSet cX1_upSet 3 (some .int)) 4 0 0 [.ref (g 0 0)] H (Rd (nI (pus S (S 0 0))) H) := by
  refine mt_of (by decide +kernel) (Nat.le_of_ble_eq_true rfl) ?_
  intro p e s m args below meth c ls Q hx hb hr hlocks hml hts hown hnm hK hS hl hQ
  have hb0 := hw.b0
  refine lv_iconst (v := nI 0) (pc := 0) hx hb dX1_upSet_0 (by decide) ?_
  refine lv_istore_n (pc := 1) hx hb dX1_upSet_1 rfl hl (Nat.le_of_ble_eq_true rfl) rfl (fun ls hl => ?_)
  refine lv_iconst (v := nI 0) (pc := 2) hx hb dX1_upSet_2 (by decide) ?_
  refine lv_istore_n (pc := 3) hx hb dX1_upSet_3 rfl hl (Nat.le_of_ble_eq_true rfl) rfl (fun ls hl => ?_)
  refine nat_up (P := fun t => ∀ (locs : List Loc) (ls : Array Slot), va_S (Gz Γ) s.heap H locs → lv_has ls 3 [(0, .ref (g 0 0)), (1, .int (nI (pus S t))), (2, .int (nI t))] → W p l e (rmd 4 0 0) s m args below meth c H locs 0 0 Q (F0 m 4 ls [])) (S 0 0) (fun t ht ih locs ls hS hl => ?_) 0 (Nat.zero_le _) _ ls hS (lv_c (lk hl rfl) (lv_c (lk hl rfl) (lv_c (lk hl rfl) (lv_0 hl))))
  have hlt := pus_lt S t
  have h28 : 2 ^ t ≤ 2 ^ 8 := Nat.pow_le_pow_right (by decide) (by omega)
  refine lv_iload_n (pc := 4) hx hb dX1_upSet_4 rfl (lk hl rfl) ?_
  refine lv_aload_n (pc := 5) hx hb dX1_upSet_5 rfl (lk hl rfl) ?_
  refine hw_get (pc := 6) hx hb hts in_X1 hown hK (hM.p0) rfl 1 (Nat.le_of_ble_eq_true rfl) (hts _ q338) (fun x h => h) rfl dX1_upSet_6 ?_
  refine hc_F (pc := 9) hx hb hml hown hts hK hS (hK.1.1 8 _ cl_8).2 (j_al_size l Γ _ _ _ _ _ hM.p2) (va_cwF 0 hts (lw_F q392 q395 q397 q73 q399) rfl rfl rfl (hK.fw fwm_0) (by decide +kernel) ⟨(Nat.le_of_ble_eq_true rfl), (Nat.le_of_ble_eq_true rfl)⟩) (hK.recv hM.p2 rfl) rfl hl.1 rfl (Nat.le_of_ble_eq_true rfl) dX1_upSet_9 ⟨by first | exact Nat.le_of_ble_eq_true rfl | (dsimp only [rmd]; omega) | omega, by first | exact Nat.le_of_ble_eq_true rfl | (dsimp only [rmd]; omega) | omega⟩ (fun v1 H1 locs1 hq1 hS => ?_)
  obtain ⟨rfl, rfl⟩ := hq1
  refine hn_ge (tgt := 52) (pc := 14) hx hb dX1_upSet_14 (by decide) (by omega) (by omega) (fun hc => ?_) (fun hc => ?_)
  · have e : t = S 0 0 := by omega
    subst e
    refine lv_iload_n (pc := 52) hx hb dX1_upSet_52 rfl (lk hl rfl) ?_
    exact hr_i (pc := 53) hQ hx hb hr hlocks hS (by first | exact Nat.le_of_ble_eq_true rfl | (dsimp only [rmd]; omega) | omega) (by first | exact Nat.le_of_ble_eq_true rfl | (dsimp only [rmd]; omega) | omega) (⟨rfl, rfl⟩) dX1_upSet_53
  · skip
    refine lv_iload_n (pc := 17) hx hb dX1_upSet_17 rfl (lk hl rfl) ?_
    refine lv_aload_n (pc := 18) hx hb dX1_upSet_18 rfl (lk hl rfl) ?_
    refine hw_get (pc := 19) hx hb hts in_X1 hown hK (hM.p0) rfl 1 (Nat.le_of_ble_eq_true rfl) (hts _ q338) (fun x h => h) rfl dX1_upSet_19 ?_
    refine lv_iload_n (pc := 22) hx hb dX1_upSet_22 rfl (lk hl rfl) ?_
    refine hc_F (pc := 23) hx hb hml hown hts hK hS (hK.1.1 8 _ cl_8).2 (j_al_get l Γ _ _ _ _ _ _ _ _ hM.p2 hM.p21 (show t < S 0 0 from by omega) (by omega) (if_pos (show t < S 0 0 from by omega))) (va_cwF 1 hts (lw_F q414 q417 q419 q73 q421) rfl rfl rfl (hK.fw fwm_1) (by decide +kernel) ⟨(Nat.le_of_ble_eq_true rfl), (Nat.le_of_ble_eq_true rfl)⟩) (hK.recv hM.p2 rfl) rfl hl.1 rfl (Nat.le_of_ble_eq_true rfl) dX1_upSet_23 ⟨by first | exact Nat.le_of_ble_eq_true rfl | (dsimp only [rmd]; omega) | omega, by first | exact Nat.le_of_ble_eq_true rfl | (dsimp only [rmd]; omega) | omega⟩ (fun v2 H2 locs2 hq2 hS => ?_)
    obtain ⟨rfl, rfl⟩ := hq2
    refine va_castS (pc := 28) hx hb hown (hts _ q164) (hK.1.1 1 _ rfl).2 (hK.recv (hM.p7 (show t < S 0 0 from by omega)) rfl) dX1_upSet_28 ?_
    refine hc_V (pc := 31) hx hb hml hown hts hK hS (s_isUp l Γ _ _ _ _ _ (hM.p7 (show t < S 0 0 from by omega)) (hw.b1 _)) (cwV 0 hts (lw_V q769 q770 q771 q74 q772) rfl rfl rfl (by decide +kernel) ⟨(Nat.le_of_ble_eq_true rfl), (Nat.le_of_ble_eq_true rfl)⟩) (hK.recv (hM.p7 (show t < S 0 0 from by omega)) rfl) rfl hl.1 rfl (Nat.le_of_ble_eq_true rfl) dX1_upSet_31 ⟨by first | exact Nat.le_of_ble_eq_true rfl | (dsimp only [rmd]; omega) | omega, by first | exact Nat.le_of_ble_eq_true rfl | (dsimp only [rmd]; omega) | omega⟩ (fun v3 H3 locs3 hq3 hS => ?_)
    obtain ⟨rfl, rfl⟩ := hq3
    refine hz_eq (tgt := 43) (pc := 34) hx hb dX1_upSet_34 (by decide) (fun h => ?_) (fun h => ?_)
    · refine lv_iconst (v := nI 0) (pc := 43) hx hb dX1_upSet_43 (by decide) ?_
      refine lv_ior (pc := 44) hx hb dX1_upSet_44 ?_
      refine hw_top (congrArg Value.int (show _ = nI ((pus S t) ||| 0) from n_or _ _ (by omega) (by omega))) ?_
      rw [Nat.or_zero]
      refine lv_istore_n (pc := 45) hx hb dX1_upSet_45 rfl hl (Nat.le_of_ble_eq_true rfl) rfl (fun ls hl => ?_)
      refine hw_iinc (v := nI (t + 1)) (pc := 46) hx hb dX1_upSet_46 hl (lk hl rfl) (n_inc _ 1) (Nat.le_of_ble_eq_true rfl) (fun ls hl => ?_)
      refine lv_goto (tgt := 4) (pc := 49) hx hb dX1_upSet_49 (by decide) ?_
      have e : pus S (t + 1) = pus S t := by rw [pus, if_neg (of_decide_eq_false h)]
      exact ih (t + 1) (by omega) (by omega) _ ls hS (by rw [e]; exact (lv_c (lk hl rfl) (lv_c (lk hl rfl) (lv_c (lk hl rfl) (lv_0 hl)))))
    · skip
      refine lv_iconst (v := nI 1) (pc := 37) hx hb dX1_upSet_37 (by decide) ?_
      refine lv_iload_n (pc := 38) hx hb dX1_upSet_38 rfl (lk hl rfl) ?_
      refine lv_ishl (pc := 39) hx hb dX1_upSet_39 ?_
      refine hw_top (congrArg Value.int (show _ = nI (1 * 2 ^ t) from n_shl (by omega) (by omega) )) ?_
      refine lv_goto (tgt := 44) (pc := 40) hx hb dX1_upSet_40 (by decide) ?_
      refine lv_ior (pc := 44) hx hb dX1_upSet_44 ?_
      refine hw_top (congrArg Value.int (show _ = nI ((pus S t) ||| (1 * 2 ^ t)) from n_or _ _ (by omega) (by omega))) ?_
      refine lv_istore_n (pc := 45) hx hb dX1_upSet_45 rfl hl (Nat.le_of_ble_eq_true rfl) rfl (fun ls hl => ?_)
      refine hw_iinc (v := nI (t + 1)) (pc := 46) hx hb dX1_upSet_46 hl (lk hl rfl) (n_inc _ 1) (Nat.le_of_ble_eq_true rfl) (fun ls hl => ?_)
      refine lv_goto (tgt := 4) (pc := 49) hx hb dX1_upSet_49 (by decide) ?_
      have e : pus S (t + 1) = pus S t ||| 1 * 2 ^ t := by rw [pus, if_pos (of_decide_eq_true h), Nat.one_mul]
      exact ih (t + 1) (by omega) (by omega) _ ls hS (by rw [e]; exact (lv_c (lk hl rfl) (lv_c (lk hl rfl) (lv_c (lk hl rfl) (lv_0 hl)))))
