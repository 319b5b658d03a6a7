/-! the mean load, the rate of failures -/
set_option maxRecDepth 100000
def dML (S : Sx) : UInt64 := FP.ddiv (FP.i2d (nI (S 8 0 - plo S 0 (S 8 0)))) (FP.i2d (nI (pum S)))
def fFL (S : Sx) : UInt32 := if S 0 1 = 0 then FP.fconst0 else FP.fdiv (FP.i2f (nI (S 0 2))) (FP.i2f (nI (S 0 1)))
theorem pcnt_pos {f : Nat → Bool} : ∀ n, (∃ j, j < n ∧ f j = true) → 0 < pcnt f n := by
  intro n
  induction n with
  | zero => intro ⟨j, h, _⟩; omega
  | succ n ih =>
    intro ⟨j, h, hf⟩
    rw [pcnt]
    rcases Nat.lt_or_ge j n with h1 | h1
    · have := ih ⟨j, h1, hf⟩; omega
    · rw [show n = j by omega, hf]; simp
set_option maxHeartbeats 4000000 in
theorem m_meanLoad (l : Launch) (Γ : Cx) (H : Heap) (μ : Nat → Nat) (S : Sx) (th : Int32) (hM : MW Γ H μ S th) (hw : WF S) (hu9 : ∃ j, j < S 0 0 ∧ 10 < S 1 j) : Mt l Γ yX3_meanLoad (ws_ yX3_meanLoad cX3_meanLoad 1 (some .double)) 3 0 0 [.ref (μ 0)] H (fun v H1 => v = some (.double (dML S)) ∧ MW Γ H1 μ S (nI 0) ∧ Off (Mf μ) H H1) := by
  refine mt_of (by decide +kernel) (Nat.le_of_ble_eq_true rfl) ?_
  intro p e s m args below meth c ls Q hx hb hr hlocks hml hts hown hnm hK hS hl hQ
  have ho : Off (Mf μ) H H := Off.rf
  have hb0 := hw.b0
  have h8 := hw.b8
  have h1 := plo_le S 0 (S 8 0)
  have h2 : pum S ≤ S 0 0 := pcnt_le _ _
  have h3 : 0 < pum S := by
    obtain ⟨j, a, b⟩ := hu9
    exact pcnt_pos _ ⟨j, a, decide_eq_true b⟩
  refine lv_aload_n (pc := 0) hx hb dX3_meanLoad_0 rfl (lk hl rfl) ?_
  refine lv_iconst (v := nI 0) (pc := 1) hx hb dX3_meanLoad_1 (by decide) ?_
  refine hw_put (pc := 2) hx hb hts in_X3 tyX3_ok nmX3 hown hK (hM.p0) (hM.g (by decide)) hS rfl 0 (Nat.le_of_ble_eq_true rfl) (hts _ q1777) (fun x h => h) rfl rfl (rfl) (rfl) (Nat.le_of_ble_eq_true rfl) dX3_meanLoad_2 (fun H1 locs1 hp1 z1 o1 hS => ?_)
  have hM := hM.th (th' := nI 0) hp1 o1
  have ho := ho.trans (Off.put (S := Mf μ) z1 o1 ⟨0, by decide, rfl⟩)
  refine lv_aload_n (pc := 5) hx hb dX3_meanLoad_5 rfl (lk hl rfl) ?_
  refine hw_get (pc := 6) hx hb hts in_X3 hown hK (hM.p0) rfl 9 (Nat.le_of_ble_eq_true rfl) (hts _ q1786) (fun x h => h) rfl dX3_meanLoad_6 ?_
  refine lv_iconst (v := nI 0) (pc := 9) hx hb dX3_meanLoad_9 (by decide) ?_
  refine hm_iald (k := 8) (pc := 10) hx hb hK hM (by decide) (show 0 < 3 from (by omega)) dX3_meanLoad_10 ?_
  refine lv_aload_n (pc := 11) hx hb dX3_meanLoad_11 rfl (lk hl rfl) ?_
  refine lv_iconst (v := nI 0 - 1) (pc := 12) hx hb dX3_meanLoad_12 (by decide) ?_
  refine hc_V (pc := 13) hx hb hml hown hts hK hS (m_loadOf l Γ H1 μ S (nI 0) 0 hM hw (by omega)) (cwV 1 hts (lw_V q1942 q1944 qs61 q83 q1945) rfl rfl rfl (by decide +kernel) ⟨(Nat.le_of_ble_eq_true rfl), (Nat.le_of_ble_eq_true rfl)⟩) (hK.recv hM.p0 rfl) rfl hl.1 rfl (Nat.le_of_ble_eq_true rfl) dX3_meanLoad_13 ⟨by first | exact Nat.le_of_ble_eq_true rfl | (dsimp only [rmd]; omega), by first | exact Nat.le_of_ble_eq_true rfl | (dsimp only [rmd]; omega)⟩ (fun v2 H2 locs2 hq2 hS => ?_)
  obtain ⟨rfl, rfl⟩ := hq2
  refine lv_isub (pc := 16) hx hb dX3_meanLoad_16 ?_
  refine hw_top (congrArg Value.int (show _ = nI (S 8 0 - (plo S 0 (S 8 0))) from n_sub h1)) ?_
  refine lv_i2d (pc := 17) hx hb dX3_meanLoad_17 ?_
  refine lv_aload_n (pc := 18) hx hb dX3_meanLoad_18 rfl (lk hl rfl) ?_
  refine hc_V (pc := 19) hx hb hml hown hts hK hS (m_upMany l Γ H1 μ S (nI 0) hM hw) (cwV 0 hts (lw_V q2033 q2035 qs68 q83 q2036) rfl rfl rfl (by decide +kernel) ⟨(Nat.le_of_ble_eq_true rfl), (Nat.le_of_ble_eq_true rfl)⟩) (hK.recv hM.p0 rfl) rfl hl.1 rfl (Nat.le_of_ble_eq_true rfl) dX3_meanLoad_19 ⟨by first | exact Nat.le_of_ble_eq_true rfl | (dsimp only [rmd]; omega), by first | exact Nat.le_of_ble_eq_true rfl | (dsimp only [rmd]; omega)⟩ (fun v3 H3 locs3 hq3 hS => ?_)
  obtain ⟨rfl, rfl⟩ := hq3
  refine lv_i2d (pc := 22) hx hb dX3_meanLoad_22 ?_
  refine lv_ddiv (pc := 23) hx hb dX3_meanLoad_23 (fp_mean _ (by omega) _ (by omega) h3) ?_
  exact hr_d (pc := 24) hQ hx hb hr hlocks hS (by first | exact Nat.le_of_ble_eq_true rfl | (dsimp only [rmd]; omega)) (by first | exact Nat.le_of_ble_eq_true rfl | (dsimp only [rmd]; omega)) (⟨rfl, hM, ho⟩) dX3_meanLoad_24
set_option maxHeartbeats 4000000 in
theorem m_failed (l : Launch) (Γ : Cx) (H : Heap) (μ : Nat → Nat) (S : Sx) (th : Int32) (hM : MW Γ H μ S th) (hw : WF S) : Mt l Γ yX3_failed (ws_ yX3_failed cX3_failed 1 (some .float)) 3 0 0 [.ref (μ 0)] H (fun v H1 => v = some (.float (fFL S)) ∧ MW Γ H1 μ S (nI 0) ∧ Off (Mf μ) H H1) := by
  refine mt_of (by decide +kernel) (Nat.le_of_ble_eq_true rfl) ?_
  intro p e s m args below meth c ls Q hx hb hr hlocks hml hts hown hnm hK hS hl hQ
  have ho : Off (Mf μ) H H := Off.rf
  have h01 := hw.b01
  refine lv_aload_n (pc := 0) hx hb dX3_failed_0 rfl (lk hl rfl) ?_
  refine lv_iconst (v := nI 0) (pc := 1) hx hb dX3_failed_1 (by decide) ?_
  refine hw_put (pc := 2) hx hb hts in_X3 tyX3_ok nmX3 hown hK (hM.p0) (hM.g (by decide)) hS rfl 0 (Nat.le_of_ble_eq_true rfl) (hts _ q1777) (fun x h => h) rfl rfl (rfl) (rfl) (Nat.le_of_ble_eq_true rfl) dX3_failed_2 (fun H1 locs1 hp1 z1 o1 hS => ?_)
  have hM := hM.th (th' := nI 0) hp1 o1
  have ho := ho.trans (Off.put (S := Mf μ) z1 o1 ⟨0, by decide, rfl⟩)
  refine lv_aload_n (pc := 5) hx hb dX3_failed_5 rfl (lk hl rfl) ?_
  refine hw_get (pc := 6) hx hb hts in_X3 hown hK (hM.p0) rfl 14 (Nat.le_of_ble_eq_true rfl) (hts _ q1791) (fun x h => h) rfl dX3_failed_6 ?_
  refine hn_z_ne (tgt := 14) (pc := 9) hx hb dX3_failed_9 (by decide) (by omega) (fun h1 => ?_) (fun h1 => ?_)
  · refine lv_aload_n (pc := 14) hx hb dX3_failed_14 rfl (lk hl rfl) ?_
    refine hw_get (pc := 15) hx hb hts in_X3 hown hK (hM.p0) rfl 15 (Nat.le_of_ble_eq_true rfl) (hts _ q1792) (fun x h => h) rfl dX3_failed_15 ?_
    refine lv_i2f (pc := 18) hx hb dX3_failed_18 ?_
    refine lv_aload_n (pc := 19) hx hb dX3_failed_19 rfl (lk hl rfl) ?_
    refine hw_get (pc := 20) hx hb hts in_X3 hown hK (hM.p0) rfl 14 (Nat.le_of_ble_eq_true rfl) (hts _ q1791) (fun x h => h) rfl dX3_failed_20 ?_
    refine lv_i2f (pc := 23) hx hb dX3_failed_23 ?_
    refine lv_fdiv (pc := 24) hx hb dX3_failed_24 (fp_rate h01.2 (by omega) (by omega)) ?_
    exact hr_f (pc := 25) hQ hx hb hr hlocks hS (by first | exact Nat.le_of_ble_eq_true rfl | (dsimp only [rmd]; omega)) (by first | exact Nat.le_of_ble_eq_true rfl | (dsimp only [rmd]; omega)) (⟨by rw [fFL, if_neg h1], hM, ho⟩) dX3_failed_25
  · skip
    refine lv_fconst0 (pc := 12) hx hb dX3_failed_12 ?_
    exact hr_f (pc := 13) hQ hx hb hr hlocks hS (by first | exact Nat.le_of_ble_eq_true rfl | (dsimp only [rmd]; omega)) (by first | exact Nat.le_of_ble_eq_true rfl | (dsimp only [rmd]; omega)) (⟨by rw [fFL, if_pos h1], hM, ho⟩) dX3_failed_13
