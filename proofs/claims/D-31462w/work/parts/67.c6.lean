set_option maxRecDepth 100000
set_option maxHeartbeats 16000000
theorem c_scatter (l : Launch) (Γ : Cx) (H : Heap) (g : Gn) (L : Nat) (S : Sx) (k9 : Nat) (hM : MC Γ H g L S) (hw : WF S) (hk : k9 < S 0 0) (hd : S 1 k9 ≤ 10) : Mt l Γ yX1_scatter (ws_ yX1_scatter cX1_scatter 5 none) 8 131 654 [.ref (g 0 0), .ref (g 7 k9)] H (fun v H1 => v = none ∧ CS Γ g L S H H1 L (pleaves S k9)) := by
  refine mt_of (by decide +kernel) (Nat.le_of_ble_eq_true rfl) ?_
  intro p e s m args below meth c ls Q hx hb hr hlocks hml hts hown hnm hK hS hl hQ
  have hb0 := hw.b0
  have h8 := hw.b8
  -- threads
  have L3 : ∀ (ρ : Nat) (d k : Nat) (lr : Value) (S1 : Sx) (H' : Heap) (locs : List Loc) (ls : Array Slot), k + d = S1 8 0 → MC Γ H' g L S1 → CS Γ g L S H H' L S1 → WF S1 → S1 1 k9 ≤ 10 → H.size ≤ ρ → ¬ Cg g L S1 ρ → Gz Γ ρ → pt Γ H' ρ (ob 15 [lr, lnx (g 14) (S1 8 0) k, .int (nI k), .int (nI (S1 0 7)), .ref (g 4 0)]) → va_S (Gz Γ) s.heap H' locs → lv_has ls 5 [(0, .ref (g 0 0)), (1, .ref (g 7 k9)), (2, .ref ρ)] → plvD k9 d k S1 = pleaves S k9 → W p l e (rmd 8 131 654) s m args below meth c H' locs (3 + 8 * k) (14 + 40 * k) Q (F0 m 132 ls []) := by
    intro ρ d
    induction d with
    | zero =>
      intro k lr S1 H' locs ls hkd hM hC hw hd hρ1 hρ2 hgρ hpi hS hl he
      have h8 := hw.b8
      refine lv_aload_n (pc := 132) hx hb dX1_scatter_132 rfl (lk hl rfl) ?_
      refine hc_F (pc := 133) hx hb hml hown hts hK hS (hK.1.1 15 _ cl_15).2 (j_li_hasNext l Γ _ _ _ k _ _ _ _ _ _ _ hpi hM.l4.1 (by omega) (by omega)) (va_cwF 0 hts (lw_F q895 q931 q933 q104 q935) rfl rfl rfl (hK.fw fwm_12) (by decide +kernel) ⟨(Nat.le_of_ble_eq_true rfl), (Nat.le_of_ble_eq_true rfl)⟩) (hK.recv hpi rfl) rfl hl.1 rfl (Nat.le_of_ble_eq_true rfl) dX1_scatter_133 ⟨by first | exact Nat.le_of_ble_eq_true rfl | (dsimp only [rmd]; omega) | omega, by first | exact Nat.le_of_ble_eq_true rfl | (dsimp only [rmd]; omega) | omega⟩ (fun v1 H1 locs1 hq1 hS => ?_)
      obtain ⟨rfl, rfl⟩ := hq1
      refine hz_eq (tgt := 174) (pc := 138) hx hb dX1_scatter_138 (by decide) (fun _ => ?_) (fun hn => absurd hn (by simp; omega))
      rw [plvD] at he
      exact hr_v (pc := 174) hQ hx hb hr hlocks hS (by first | exact Nat.le_of_ble_eq_true rfl | (dsimp only [rmd]; omega) | omega) (by first | exact Nat.le_of_ble_eq_true rfl | (dsimp only [rmd]; omega) | omega) (⟨rfl, he ▸ hC⟩) dX1_scatter_174
    | succ d ih =>
      intro k lr S1 H' locs ls hkd hM hC hw hd hρ1 hρ2 hgρ hpi hS hl he
      have h8 := hw.b8
      have hk1 : k9 < S1 0 0 := by rw [hC.2.2.2.1]; exact hk
      have hb10 := hw.b10 k
      rw [plvD] at he
      refine lv_aload_n (pc := 132) hx hb dX1_scatter_132 rfl (lk hl rfl) ?_
      refine hc_F (pc := 133) hx hb hml hown hts hK hS (hK.1.1 15 _ cl_15).2 (j_li_hasNext l Γ _ _ _ k _ _ _ _ _ _ _ hpi hM.l4.1 (by omega) (by omega)) (va_cwF 0 hts (lw_F q895 q931 q933 q104 q935) rfl rfl rfl (hK.fw fwm_12) (by decide +kernel) ⟨(Nat.le_of_ble_eq_true rfl), (Nat.le_of_ble_eq_true rfl)⟩) (hK.recv hpi rfl) rfl hl.1 rfl (Nat.le_of_ble_eq_true rfl) dX1_scatter_133 ⟨by first | exact Nat.le_of_ble_eq_true rfl | (dsimp only [rmd]; omega) | omega, by first | exact Nat.le_of_ble_eq_true rfl | (dsimp only [rmd]; omega) | omega⟩ (fun v1 H1 locs1 hq1 hS => ?_)
      obtain ⟨rfl, rfl⟩ := hq1
      refine hz_eq (tgt := 174) (pc := 138) hx hb dX1_scatter_138 (by decide) (fun hn => absurd hn (by simp; omega)) (fun _ => ?_)
      refine lv_aload_n (pc := 141) hx hb dX1_scatter_141 rfl (lk hl rfl) ?_
      refine hc_F (pc := 142) hx hb hml hown hts hK hS (hK.1.1 15 _ cl_15).2 (j_li_next l Γ _ _ _ k _ _ _ _ _ hpi hM.l4 (show k < S1 8 0 from by omega) (by omega) hgρ (hM.nr hρ2 (t := 4) (i := 0) (by decide) rfl) (fun j hj => hM.nr hρ2 (t := 14) (by decide) hj)) (va_cwF 0 hts (lw_F q937 q1136 q1138 q104 q1140) rfl rfl rfl (hK.fw fwm_13) (by decide +kernel) ⟨(Nat.le_of_ble_eq_true rfl), (Nat.le_of_ble_eq_true rfl)⟩) (hK.recv hpi rfl) rfl hl.1 rfl (Nat.le_of_ble_eq_true rfl) dX1_scatter_142 ⟨by first | exact Nat.le_of_ble_eq_true rfl | (dsimp only [rmd]; omega) | omega, by first | exact Nat.le_of_ble_eq_true rfl | (dsimp only [rmd]; omega) | omega⟩ (fun v2 H2 locs2 hq2 hS => ?_)
      obtain ⟨rfl, hpi, hoi2⟩ := hq2
      have hM := hM.off hoi2 (fun q e9 => by rw [e9]; exact hρ2)
      have hC := hC.own hoi2 (fun q e9 => by rw [e9]; exact hρ1) (fun q e9 => by rw [e9]; exact hρ2)
      refine va_castS (pc := 147) hx hb hown (hts _ q1148) (hK.1.1 6 _ rfl).2 (hK.recv (hM.p13 (show k < S1 8 0 from by omega)) rfl) dX1_scatter_147 ?_
      refine lv_astore_n (pc := 150) hx hb dX1_scatter_150 rfl hl (Nat.le_of_ble_eq_true rfl) rfl (fun ls hl => ?_)
      refine lv_aload_n (pc := 151) hx hb dX1_scatter_151 rfl (lk hl rfl) ?_
      refine hw_getN (pc := 152) hx hb hts in_X11 hown hK (hM.p13 (show k < S1 8 0 from by omega)) rfl 1 (Nat.le_of_ble_eq_true rfl) q1668 (fun x h => h) rfl dX1_scatter_152 ?_
      refine lv_aload_n (pc := 155) hx hb dX1_scatter_155 rfl (lk hl rfl) ?_
      refine hw_getN (pc := 156) hx hb hts in_X2 hown hK (hM.p7 (show k9 < S1 0 0 from by omega)) rfl 0 (Nat.le_of_ble_eq_true rfl) q171 (fun x h => h) rfl dX1_scatter_156 ?_
      rw [← nI_pred k9]
      refine hm_ne (tgt := 171) (pc := 159) hx hb dX1_scatter_159 (by decide) (by omega) (by omega) (fun h1 => ?_) (fun h1 => ?_)
      · refine lv_goto (tgt := 132) (pc := 171) hx hb dX1_scatter_171 (by decide) ?_
        rw [if_neg h1] at he
        exact W.widen (show 3 + 8 * k ≤ 3 + 8 * (k + 1) by omega) (show 14 + 40 * k ≤ 14 + 40 * (k + 1) by omega) (ih (k + 1) _ S1 _ _ ls (by omega) hM hC hw hd hρ1 hρ2 hgρ hpi hS (by repeat first | exact lv_0 hl | refine lv_c (lk hl rfl) ?_) he)
      · skip
        rw [if_pos h1] at he
        refine lv_aload_n (pc := 162) hx hb dX1_scatter_162 rfl (lk hl rfl) ?_
        refine lv_aload_n (pc := 163) hx hb dX1_scatter_163 rfl (lk hl rfl) ?_
        refine lv_aload_n (pc := 164) hx hb dX1_scatter_164 rfl (lk hl rfl) ?_
        have hp13 := hM.p13 (show k < S1 8 0 by omega)
        refine hc_V (pc := 165) hx hb hml hown hts hK hS (c_placeFor l Γ _ g L S1 (g 13 k) (S1 9 k) hM hw ⟨_, _, hp13⟩ (hw.b9 k)) (cwV 1 hts (lw_V q1597 q1599 qs37 q70 q1600) rfl rfl rfl (by decide +kernel) ⟨(Nat.le_of_ble_eq_true rfl), (Nat.le_of_ble_eq_true rfl)⟩) (hK.recv hM.p0 rfl) rfl hl.1 rfl (Nat.le_of_ble_eq_true rfl) dX1_scatter_165 ⟨by first | exact Nat.le_of_ble_eq_true rfl | (dsimp only [rmd]; omega) | omega, by first | exact Nat.le_of_ble_eq_true rfl | (dsimp only [rmd]; omega) | omega⟩ (fun vpf Hpf locspf hqpf hS => ?_)
        obtain ⟨rfl, hGp⟩ := hqpf
        have hM := hM.grow hGp
        have hC := hC.grow hGp
        have hpi := hpi.grow hGp
        have hp13 := hp13.grow hGp
        have hle := ppl_le hw (S1 9 k)
        have hg13 : Gz Γ (g 13 k) := hM.gz (by decide) (show k < S1 8 0 by omega)
        have hρn : ρ ≠ g 13 k := fun e => hM.nr hρ2 (t := 13) (i := k) (by decide) (show k < S1 8 0 by omega) e.symm
        have hcf : Cg g L S1 (g 13 k) := hM.cf (t := 13) (i := k) (by decide) (show k < S1 8 0 by omega)
        refine hc_V (pc := 168) hx hb hml hown hts hK hS (s_move6 l Γ _ (g 13 k) (S1 10 k) (S1 11 k) (ppl S1 (S1 9 k)) _ hp13 hg13 (by omega) (by omega)) (cwV 1 hts (lw_V q1591 q1592 q1593 q119 q1596) rfl rfl rfl (by decide +kernel) ⟨(Nat.le_of_ble_eq_true rfl), (Nat.le_of_ble_eq_true rfl)⟩) (hK.recv hp13 rfl) rfl hl.1 rfl (Nat.le_of_ble_eq_true rfl) dX1_scatter_168 ⟨by first | exact Nat.le_of_ble_eq_true rfl | (dsimp only [rmd]; omega) | omega, by first | exact Nat.le_of_ble_eq_true rfl | (dsimp only [rmd]; omega) | omega⟩ (fun vmv Hmv locsmv hqmv hS => ?_)
        obtain ⟨rfl, hp13, hov⟩ := hqmv
        have hne := ppl_ne (a := S1 9 k) hd
        have eS : ppl (up2 S1 10 k 0) (S1 9 k) = ppl S1 (S1 9 k) := ppl_skip _ (fun j hj q => by rw [h1] at q; have : j = k9 := by omega
                                                                                                 subst this; omega)
        have hp13' : pt Γ Hmv (g 13 k) (ob 6 [.int (nI (S1 9 k)), .int (nI (up2 (pplace S1 k) 11 k (S1 11 k + 1) 10 k) - 1), .int (nI (up2 (pplace S1 k) 11 k (S1 11 k + 1) 11 k))]) := by
          rw [up2_s, up2_f (by decide), pplace, up2_s, eS]
          rw [if_neg (by omega)] at hp13
          exact hp13
        have hM2 := hM.m13 (by omega) (by omega) hov (fun f j h => mv13 f j h) hp13'
        have hv2 : LVE S1 (up2 (pplace S1 k) 11 k (S1 11 k + 1)) := ⟨mv13 _ _ (by omega), by funext j; exact mv13 _ _ (by omega), by funext j; exact mv13 _ _ (by omega)⟩
        have hC2 := hC.put hM2 hov (fun q e => by rw [e]; exact hcf) hv2
        have e8 : up2 (pplace S1 k) 11 k (S1 11 k + 1) 8 0 = S1 8 0 := mv13 _ _ (by omega)
        have e7 : up2 (pplace S1 k) 11 k (S1 11 k + 1) 0 7 = S1 0 7 := mv13 _ _ (by omega)
        have e1 : up2 (pplace S1 k) 11 k (S1 11 k + 1) 1 k9 = S1 1 k9 := mv13 _ _ (by omega)
        have hpi := hpi.off hov hρn
        refine lv_goto (tgt := 132) (pc := 171) hx hb dX1_scatter_171 (by decide) ?_
        exact W.widen (show 3 + 8 * k + 8 ≤ 3 + 8 * (k + 1) by omega) (show 14 + 40 * k + 40 ≤ 14 + 40 * (k + 1) by omega) (ih (k + 1) _ (up2 (pplace S1 k) 11 k (S1 11 k + 1)) _ _ ls (by rw [e8]; omega) hM2 hC2 ((wf_pplace hw k).up (by omega)) (by rw [e1]; exact hd) hρ1 (Cg.lve hv2 hρ2) hgρ (by rw [e8, e7]; exact hpi) hS (by repeat first | exact lv_0 hl | refine lv_c (lk hl rfl) ?_) he)
  -- interrupts
  have L2 : ∀ (ρ : Nat) (d k : Nat) (lr : Value) (S1 : Sx) (H' : Heap) (locs : List Loc) (ls : Array Slot), k + d = S1 8 1 → MC Γ H' g L S1 → CS Γ g L S H H' L S1 → WF S1 → S1 1 k9 ≤ 10 → H.size ≤ ρ → ¬ Cg g L S1 ρ → Gz Γ ρ → pt Γ H' ρ (ob 15 [lr, lnx (g 16) (S1 8 1) k, .int (nI k), .int (nI (S1 0 8)), .ref (g 5 0)]) → va_S (Gz Γ) s.heap H' locs → lv_has ls 5 [(0, .ref (g 0 0)), (1, .ref (g 7 k9)), (2, .ref ρ)] → plvD k9 (S1 8 0) 0 (plvI k9 d k S1) = pleaves S k9 → W p l e (rmd 8 131 654) s m args below meth c H' locs (2) (9) Q (F0 m 66 ls []) := by
    intro ρ d
    induction d with
    | zero =>
      intro k lr S1 H' locs ls hkd hM hC hw hd hρ1 hρ2 hgρ hpi hS hl he
      have h8 := hw.b8
      refine lv_aload_n (pc := 66) hx hb dX1_scatter_66 rfl (lk hl rfl) ?_
      refine hc_F (pc := 67) hx hb hml hown hts hK hS (hK.1.1 15 _ cl_15).2 (j_li_hasNext l Γ _ _ _ k _ _ _ _ _ _ _ hpi hM.l5.1 (by omega) (by omega)) (va_cwF 0 hts (lw_F q895 q931 q933 q104 q935) rfl rfl rfl (hK.fw fwm_12) (by decide +kernel) ⟨(Nat.le_of_ble_eq_true rfl), (Nat.le_of_ble_eq_true rfl)⟩) (hK.recv hpi rfl) rfl hl.1 rfl (Nat.le_of_ble_eq_true rfl) dX1_scatter_67 ⟨by first | exact Nat.le_of_ble_eq_true rfl | (dsimp only [rmd]; omega) | omega, by first | exact Nat.le_of_ble_eq_true rfl | (dsimp only [rmd]; omega) | omega⟩ (fun v1 H1 locs1 hq1 hS => ?_)
      obtain ⟨rfl, rfl⟩ := hq1
      refine hz_eq (tgt := 122) (pc := 72) hx hb dX1_scatter_72 (by decide) (fun _ => ?_) (fun hn => absurd hn (by simp; omega))
      rw [plvI] at he
      refine lv_aload_n (pc := 122) hx hb dX1_scatter_122 rfl (lk hl rfl) ?_
      refine hw_get (pc := 123) hx hb hts in_X1 hown hK (hM.p0) rfl 5 (Nat.le_of_ble_eq_true rfl) (hts _ q342) (fun x h => h) rfl dX1_scatter_123 ?_
      refine hc_F (pc := 126) hx hb hml hown hts hK hS (hK.1.1 10 _ cl_10).2 (j_ll_iterator l Γ H' _ _ _ _ _ hM.l4 (by omega)) (va_cwF 0 hts (lw_F q782 q811 q813 q80 q815) rfl rfl rfl (hK.fw fwm_9) (by decide +kernel) ⟨(Nat.le_of_ble_eq_true rfl), (Nat.le_of_ble_eq_true rfl)⟩) (hK.recv hM.l4.1 rfl) rfl hl.1 rfl (Nat.le_of_ble_eq_true rfl) dX1_scatter_126 ⟨by first | exact Nat.le_of_ble_eq_true rfl | (dsimp only [rmd]; omega) | omega, by first | exact Nat.le_of_ble_eq_true rfl | (dsimp only [rmd]; omega) | omega⟩ (fun vi Hi locsi hqi hS => ?_)
      obtain ⟨rfl, hpi, hgρ, hG⟩ := hqi
      have hsz := hC.2.1.1
      have hρ2 : ¬ Cg g L S1 H'.size := hM.out (Nat.le_refl _)
      refine lv_astore_n (pc := 131) hx hb dX1_scatter_131 rfl hl (Nat.le_of_ble_eq_true rfl) rfl (fun ls hl => ?_)
      exact L3 H'.size (S1 8 0) 0 _ S1 _ _ ls (by omega) (hM.grow hG) (hC.grow hG) hw hd hsz hρ2 hgρ hpi hS (by repeat first | exact lv_0 hl | refine lv_c (lk hl rfl) ?_) he
    | succ d ih =>
      intro k lr S1 H' locs ls hkd hM hC hw hd hρ1 hρ2 hgρ hpi hS hl he
      have h8 := hw.b8
      have hk1 : k9 < S1 0 0 := by rw [hC.2.2.2.1]; exact hk
      have hb10 := hw.b10 (16 + k)
      have hb9 := hw.b9 (16 + k)
      rw [plvI] at he
      refine lv_aload_n (pc := 66) hx hb dX1_scatter_66 rfl (lk hl rfl) ?_
      refine hc_F (pc := 67) hx hb hml hown hts hK hS (hK.1.1 15 _ cl_15).2 (j_li_hasNext l Γ _ _ _ k _ _ _ _ _ _ _ hpi hM.l5.1 (by omega) (by omega)) (va_cwF 0 hts (lw_F q895 q931 q933 q104 q935) rfl rfl rfl (hK.fw fwm_12) (by decide +kernel) ⟨(Nat.le_of_ble_eq_true rfl), (Nat.le_of_ble_eq_true rfl)⟩) (hK.recv hpi rfl) rfl hl.1 rfl (Nat.le_of_ble_eq_true rfl) dX1_scatter_67 ⟨by first | exact Nat.le_of_ble_eq_true rfl | (dsimp only [rmd]; omega) | omega, by first | exact Nat.le_of_ble_eq_true rfl | (dsimp only [rmd]; omega) | omega⟩ (fun v1 H1 locs1 hq1 hS => ?_)
      obtain ⟨rfl, rfl⟩ := hq1
      refine hz_eq (tgt := 122) (pc := 72) hx hb dX1_scatter_72 (by decide) (fun hn => absurd hn (by simp; omega)) (fun _ => ?_)
      refine lv_aload_n (pc := 75) hx hb dX1_scatter_75 rfl (lk hl rfl) ?_
      refine hc_F (pc := 76) hx hb hml hown hts hK hS (hK.1.1 15 _ cl_15).2 (j_li_next l Γ _ _ _ k _ _ _ _ _ hpi hM.l5 (show k < S1 8 1 from by omega) (by omega) hgρ (hM.nr hρ2 (t := 5) (i := 0) (by decide) rfl) (fun j hj => hM.nr hρ2 (t := 16) (by decide) hj)) (va_cwF 0 hts (lw_F q937 q1136 q1138 q104 q1140) rfl rfl rfl (hK.fw fwm_13) (by decide +kernel) ⟨(Nat.le_of_ble_eq_true rfl), (Nat.le_of_ble_eq_true rfl)⟩) (hK.recv hpi rfl) rfl hl.1 rfl (Nat.le_of_ble_eq_true rfl) dX1_scatter_76 ⟨by first | exact Nat.le_of_ble_eq_true rfl | (dsimp only [rmd]; omega) | omega, by first | exact Nat.le_of_ble_eq_true rfl | (dsimp only [rmd]; omega) | omega⟩ (fun v2 H2 locs2 hq2 hS => ?_)
      obtain ⟨rfl, hpi, hoi2⟩ := hq2
      have hM := hM.off hoi2 (fun q e9 => by rw [e9]; exact hρ2)
      have hC := hC.own hoi2 (fun q e9 => by rw [e9]; exact hρ1) (fun q e9 => by rw [e9]; exact hρ2)
      refine va_castS (pc := 81) hx hb hown (hts _ q1584) (hK.1.1 7 _ rfl).2 (hK.recv (hM.p15 (show k < S1 8 1 from by omega)) rfl) dX1_scatter_81 ?_
      refine lv_astore_n (pc := 84) hx hb dX1_scatter_84 rfl hl (Nat.le_of_ble_eq_true rfl) rfl (fun ls hl => ?_)
      refine lv_aload_n (pc := 85) hx hb dX1_scatter_85 rfl (lk hl rfl) ?_
      refine lv_astore (pc := 86) hx hb dX1_scatter_86 hl (Nat.le_of_ble_eq_true rfl) rfl (fun ls hl => ?_)
      refine lv_aload (pc := 88) hx hb dX1_scatter_88 (lk hl rfl) ?_
      refine hw_getN (pc := 90) hx hb hts in_X12 hown hK (hM.p15 (show k < S1 8 1 from by omega)) rfl 1 (Nat.le_of_ble_eq_true rfl) q1668 (fun x h => h) rfl dX1_scatter_90 ?_
      refine lv_aload_n (pc := 93) hx hb dX1_scatter_93 rfl (lk hl rfl) ?_
      refine hw_getN (pc := 94) hx hb hts in_X2 hown hK (hM.p7 (show k9 < S1 0 0 from by omega)) rfl 0 (Nat.le_of_ble_eq_true rfl) q171 (fun x h => h) rfl dX1_scatter_94 ?_
      rw [← nI_pred k9]
      refine hm_ne (tgt := 119) (pc := 97) hx hb dX1_scatter_97 (by decide) (by omega) (by omega) (fun h1 => ?_) (fun h1 => ?_)
      · refine lv_goto (tgt := 66) (pc := 119) hx hb dX1_scatter_119 (by decide) ?_
        rw [if_neg h1] at he
        exact ih (k + 1) _ S1 _ _ ls (by omega) hM hC hw hd hρ1 hρ2 hgρ hpi hS (by repeat first | exact lv_0 hl | refine lv_c (lk hl rfl) ?_) he
      · skip
        rw [if_pos h1] at he
        refine lv_aload (pc := 100) hx hb dX1_scatter_100 (lk hl rfl) ?_
        refine lv_aload_n (pc := 102) hx hb dX1_scatter_102 rfl (lk hl rfl) ?_
        refine lv_aload (pc := 103) hx hb dX1_scatter_103 (lk hl rfl) ?_
        refine hw_getN (pc := 105) hx hb hts in_X12 hown hK (hM.p15 (show k < S1 8 1 from by omega)) rfl 0 (Nat.le_of_ble_eq_true rfl) q1666 (fun x h => h) rfl dX1_scatter_105 ?_
        refine hc_V (pc := 108) hx hb hml hown hts hK hS (c_targetOf l Γ _ g _ S1 (S1 9 (16 + k)) hM hw (by omega)) (cwV 1 hts (lw_V q1623 q1625 qs40 q70 q1626) rfl rfl rfl (by decide +kernel) ⟨(Nat.le_of_ble_eq_true rfl), (Nat.le_of_ble_eq_true rfl)⟩) (hK.recv hM.p0 rfl) rfl hl.1 rfl (Nat.le_of_ble_eq_true rfl) dX1_scatter_108 ⟨by first | exact Nat.le_of_ble_eq_true rfl | (dsimp only [rmd]; omega) | omega, by first | exact Nat.le_of_ble_eq_true rfl | (dsimp only [rmd]; omega) | omega⟩ (fun v3 H3 locs3 hq3 hS => ?_)
        obtain ⟨rfl, rfl⟩ := hq3
        have hp15 := hM.p15 (show k < S1 8 1 by omega)
        have hle1 := pfu_le hw (S1 9 (16 + k))
        have hle2 := pfu_le hw 255
        have hle : ptg S1 (S1 9 (16 + k)) ≤ 8 := by unfold ptg; split <;> omega
        have hg15 : Gz Γ (g 15 k) := hM.gz (by decide) (show k < S1 8 1 by omega)
        have hρn : ρ ≠ g 15 k := fun e => hM.nr hρ2 (t := 15) (i := k) (by decide) (show k < S1 8 1 by omega) e.symm
        have hcf : Cg g L S1 (g 15 k) := hM.cf (t := 15) (i := k) (by decide) (show k < S1 8 1 by omega)
        refine hc_U (pc := 111) hx hb hml hown hts hK hS (s_move7 l Γ _ (g 15 k) (S1 10 (16 + k)) (S1 11 (16 + k)) (ptg S1 (S1 9 (16 + k))) _ _ hp15 hg15 (by omega) (by omega)) (va_cwU 1 hts (lw_U q1591 q1594 q1595 q1592 q119 q1596) rfl rfl rfl rfl (by decide +kernel) ⟨(Nat.le_of_ble_eq_true rfl), (Nat.le_of_ble_eq_true rfl)⟩) (hK.recv hp15 rfl) rfl hl.1 rfl (Nat.le_of_ble_eq_true rfl) dX1_scatter_111 ⟨by first | exact Nat.le_of_ble_eq_true rfl | (dsimp only [rmd]; omega) | omega, by first | exact Nat.le_of_ble_eq_true rfl | (dsimp only [rmd]; omega) | omega⟩ (fun vmv Hmv locsmv hqmv hS => ?_)
        obtain ⟨rfl, hp15, hov⟩ := hqmv
        have hne := ptg_ne (a := S1 9 (16 + k)) hd
        rw [if_neg (by omega)] at hp15
        -- the state between
        have hE1 : ∀ f j, ¬ (((f = 10 ∨ f = 11) ∧ j = 16 + k) ∨ (f = 12 ∧ j = k)) → up2 (up2 S1 10 (16 + k) (ptg S1 (S1 9 (16 + k)))) 11 (16 + k) (S1 11 (16 + k) + 1) f j = S1 f j := fun f j h => by rw [up2_n (by omega), up2_n (by omega)]
        have hM1 : MC Γ Hmv g L (up2 (up2 S1 10 (16 + k) (ptg S1 (S1 9 (16 + k)))) 11 (16 + k) (S1 11 (16 + k) + 1)) := by
          refine hM.m15 (show k < S1 8 1 by omega) (by omega) hov hE1 ?_
          rw [up2_f (by decide), up2_s, up2_s, up2_f (by decide), up2_f (by decide)]
          exact hp15
        have hv1 : LVE S1 (up2 (up2 S1 10 (16 + k) (ptg S1 (S1 9 (16 + k)))) 11 (16 + k) (S1 11 (16 + k) + 1)) := ⟨hE1 _ _ (by omega), by funext j; exact hE1 _ _ (by omega), by funext j; exact hE1 _ _ (by omega)⟩
        have hw1 : WF (up2 (up2 S1 10 (16 + k) (ptg S1 (S1 9 (16 + k)))) 11 (16 + k) (S1 11 (16 + k) + 1)) := (hw.up (by omega)).up (by omega)
        refine lv_aload_n (pc := 114) hx hb dX1_scatter_114 rfl (lk hl rfl) ?_
        refine lv_aload_n (pc := 115) hx hb dX1_scatter_115 rfl (lk hl rfl) ?_
        refine hc_V (pc := 116) hx hb hml hown hts hK hS (c_direct l Γ _ g L _ (g 15 k) (S1 9 (16 + k)) _ _ _ hM1 hw1 hp15 hg15 (by omega)) (cwV 1 hts (lw_V q1628 q1630 qs41 q70 q1631) rfl rfl rfl (by decide +kernel) ⟨(Nat.le_of_ble_eq_true rfl), (Nat.le_of_ble_eq_true rfl)⟩) (hK.recv hM1.p0 rfl) rfl hl.1 rfl (Nat.le_of_ble_eq_true rfl) dX1_scatter_116 ⟨by first | exact Nat.le_of_ble_eq_true rfl | (dsimp only [rmd]; omega) | omega, by first | exact Nat.le_of_ble_eq_true rfl | (dsimp only [rmd]; omega) | omega⟩ (fun vdi Hdi locsdi hqdi hS => ?_)
        obtain ⟨rfl, hp15, hod⟩ := hqdi
        have ef : pfu (up2 (up2 S1 10 (16 + k) (ptg S1 (S1 9 (16 + k)))) 11 (16 + k) (S1 11 (16 + k) + 1)) (S1 9 (16 + k)) = pfu S1 (S1 9 (16 + k)) := by
          unfold pfu
          rw [pfuA_up (by decide), pfuA_up (by decide), up2_f (by decide), up2_f (by decide)]
        rw [ef] at hp15
        have hE2 : ∀ f j, ¬ (((f = 10 ∨ f = 11) ∧ j = 16 + k) ∨ (f = 12 ∧ j = k)) → up2 (pint S1 k) 11 (16 + k) (S1 11 (16 + k) + 1) f j = S1 f j := fun f j h => by rw [up2_n (by omega), pint, up2_n (by omega), up2_n (by omega)]
        have hM2 : MC Γ Hdi g L (up2 (pint S1 k) 11 (16 + k) (S1 11 (16 + k) + 1)) := by
          refine hM.m15 (show k < S1 8 1 by omega) (by omega) (hov.trans hod) hE2 ?_
          rw [up2_s, up2_f (by decide), up2_f (by decide), pint, up2_s, up2_f (by decide), up2_s]
          exact hp15
        have hv2 : LVE S1 (up2 (pint S1 k) 11 (16 + k) (S1 11 (16 + k) + 1)) := ⟨hE2 _ _ (by omega), by funext j; exact hE2 _ _ (by omega), by funext j; exact hE2 _ _ (by omega)⟩
        have hC2 := hC.put hM2 (hov.trans hod) (fun q e => by rw [e]; exact hcf) hv2
        have e8 : up2 (pint S1 k) 11 (16 + k) (S1 11 (16 + k) + 1) 8 1 = S1 8 1 := hE2 _ _ (by omega)
        have e80 : up2 (pint S1 k) 11 (16 + k) (S1 11 (16 + k) + 1) 8 0 = S1 8 0 := hE2 _ _ (by omega)
        have e7 : up2 (pint S1 k) 11 (16 + k) (S1 11 (16 + k) + 1) 0 8 = S1 0 8 := hE2 _ _ (by omega)
        have e1 : up2 (pint S1 k) 11 (16 + k) (S1 11 (16 + k) + 1) 1 k9 = S1 1 k9 := hE2 _ _ (by omega)
        have hpi := hpi.off (hov.trans hod) hρn
        refine lv_goto (tgt := 66) (pc := 119) hx hb dX1_scatter_119 (by decide) ?_
        exact ih (k + 1) _ (up2 (pint S1 k) 11 (16 + k) (S1 11 (16 + k) + 1)) _ _ ls (by rw [e8]; omega) hM2 hC2 ((wf_pint hw k).up (by omega)) (by rw [e1]; exact hd) hρ1 (Cg.lve hv2 hρ2) hgρ (by rw [e8, e7]; exact hpi) hS (by repeat first | exact lv_0 hl | refine lv_c (lk hl rfl) ?_) (by rw [e80]; exact he)
  -- timers
  have L1 : ∀ (ρ : Nat) (d k : Nat) (lr : Value) (S1 : Sx) (H' : Heap) (locs : List Loc) (ls : Array Slot), k + d = S1 8 2 → MC Γ H' g L S1 → CS Γ g L S H H' L S1 → WF S1 → S1 1 k9 ≤ 10 → H.size ≤ ρ → ¬ Cg g L S1 ρ → Gz Γ ρ → pt Γ H' ρ (ob 16 [.int (nI k), .int (nI d), lr, .ref (g 6 0)]) → va_S (Gz Γ) s.heap H' locs → lv_has ls 5 [(0, .ref (g 0 0)), (1, .ref (g 7 k9)), (2, .ref ρ)] → plvD k9 (S1 8 0) 0 (plvI k9 (S1 8 1) 0 (plvT k9 d k S1)) = pleaves S k9 → W p l e (rmd 8 131 654) s m args below meth c H' locs (1) (4) Q (F0 m 8 ls []) := by
    intro ρ d
    induction d with
    | zero =>
      intro k lr S1 H' locs ls hkd hM hC hw hd hρ1 hρ2 hgρ hpi hS hl he
      have h8 := hw.b8
      refine lv_aload_n (pc := 8) hx hb dX1_scatter_8 rfl (lk hl rfl) ?_
      refine hc_F (pc := 9) hx hb hml hown hts hK hS (hK.1.1 16 _ cl_16).2 (j_di_hasNext l Γ _ _ 0 _ _ _ hpi (by omega)) (va_cwF 0 hts (lw_F q895 q916 q918 q113 q920) rfl rfl rfl (hK.fw fwm_14) (by decide +kernel) ⟨(Nat.le_of_ble_eq_true rfl), (Nat.le_of_ble_eq_true rfl)⟩) (hK.recv hpi rfl) rfl hl.1 rfl (Nat.le_of_ble_eq_true rfl) dX1_scatter_9 ⟨by first | exact Nat.le_of_ble_eq_true rfl | (dsimp only [rmd]; omega) | omega, by first | exact Nat.le_of_ble_eq_true rfl | (dsimp only [rmd]; omega) | omega⟩ (fun v1 H1 locs1 hq1 hS => ?_)
      obtain ⟨rfl, rfl⟩ := hq1
      refine hz_eq (tgt := 56) (pc := 14) hx hb dX1_scatter_14 (by decide) (fun _ => ?_) (fun hn => absurd hn (by simp))
      rw [plvT] at he
      refine lv_aload_n (pc := 56) hx hb dX1_scatter_56 rfl (lk hl rfl) ?_
      refine hw_get (pc := 57) hx hb hts in_X1 hown hK (hM.p0) rfl 6 (Nat.le_of_ble_eq_true rfl) (hts _ q343) (fun x h => h) rfl dX1_scatter_57 ?_
      refine hc_F (pc := 60) hx hb hml hown hts hK hS (hK.1.1 10 _ cl_10).2 (j_ll_iterator l Γ H' _ _ _ _ _ hM.l5 (by omega)) (va_cwF 0 hts (lw_F q782 q811 q813 q80 q815) rfl rfl rfl (hK.fw fwm_9) (by decide +kernel) ⟨(Nat.le_of_ble_eq_true rfl), (Nat.le_of_ble_eq_true rfl)⟩) (hK.recv hM.l5.1 rfl) rfl hl.1 rfl (Nat.le_of_ble_eq_true rfl) dX1_scatter_60 ⟨by first | exact Nat.le_of_ble_eq_true rfl | (dsimp only [rmd]; omega) | omega, by first | exact Nat.le_of_ble_eq_true rfl | (dsimp only [rmd]; omega) | omega⟩ (fun vi Hi locsi hqi hS => ?_)
      obtain ⟨rfl, hpi, hgρ, hG⟩ := hqi
      have hsz := hC.2.1.1
      have hρ2 : ¬ Cg g L S1 H'.size := hM.out (Nat.le_refl _)
      refine lv_astore_n (pc := 65) hx hb dX1_scatter_65 rfl hl (Nat.le_of_ble_eq_true rfl) rfl (fun ls hl => ?_)
      exact L2 H'.size (S1 8 1) 0 _ S1 _ _ ls (by omega) (hM.grow hG) (hC.grow hG) hw hd hsz hρ2 hgρ hpi hS (by repeat first | exact lv_0 hl | refine lv_c (lk hl rfl) ?_) he
    | succ d ih =>
      intro k lr S1 H' locs ls hkd hM hC hw hd hρ1 hρ2 hgρ hpi hS hl he
      have h8 := hw.b8
      have hk1 : k9 < S1 0 0 := by rw [hC.2.2.2.1]; exact hk
      have hb10 := hw.b10 (32 + k)
      have hinc : inc17 k = k + 1 := by unfold inc17; rw [if_pos (by omega)]
      rw [plvT] at he
      refine lv_aload_n (pc := 8) hx hb dX1_scatter_8 rfl (lk hl rfl) ?_
      refine hc_F (pc := 9) hx hb hml hown hts hK hS (hK.1.1 16 _ cl_16).2 (j_di_hasNext l Γ _ _ (d + 1) _ _ _ hpi (by omega)) (va_cwF 0 hts (lw_F q895 q916 q918 q113 q920) rfl rfl rfl (hK.fw fwm_14) (by decide +kernel) ⟨(Nat.le_of_ble_eq_true rfl), (Nat.le_of_ble_eq_true rfl)⟩) (hK.recv hpi rfl) rfl hl.1 rfl (Nat.le_of_ble_eq_true rfl) dX1_scatter_9 ⟨by first | exact Nat.le_of_ble_eq_true rfl | (dsimp only [rmd]; omega) | omega, by first | exact Nat.le_of_ble_eq_true rfl | (dsimp only [rmd]; omega) | omega⟩ (fun v1 H1 locs1 hq1 hS => ?_)
      obtain ⟨rfl, rfl⟩ := hq1
      refine hz_eq (tgt := 56) (pc := 14) hx hb dX1_scatter_14 (by decide) (fun hn => absurd hn (by simp)) (fun _ => ?_)
      refine lv_aload_n (pc := 17) hx hb dX1_scatter_17 rfl (lk hl rfl) ?_
      refine hc_F (pc := 18) hx hb hml hown hts hK hS (hK.1.1 16 _ cl_16).2 (j_di_next l Γ _ _ _ _ k _ _ _ _ _ _ hpi hM.p6 hM.p61 (by omega) (by omega) (if_pos (show k < S1 8 2 from by omega)) hgρ (hM.nr hρ2 (t := 6) (i := 0) (by decide) (by decide : (0 : Nat) < 2)) (hM.nr hρ2 (t := 6) (i := 1) (by decide) (by decide : (1 : Nat) < 2))) (va_cwF 0 hts (lw_F q937 q1099 q1101 q113 q1103) rfl rfl rfl (hK.fw fwm_15) (by decide +kernel) ⟨(Nat.le_of_ble_eq_true rfl), (Nat.le_of_ble_eq_true rfl)⟩) (hK.recv hpi rfl) rfl hl.1 rfl (Nat.le_of_ble_eq_true rfl) dX1_scatter_18 ⟨by first | exact Nat.le_of_ble_eq_true rfl | (dsimp only [rmd]; omega) | omega, by first | exact Nat.le_of_ble_eq_true rfl | (dsimp only [rmd]; omega) | omega⟩ (fun v2 H2 locs2 hq2 hS => ?_)
      obtain ⟨rfl, hpi, hoi2⟩ := hq2
      have hM := hM.off hoi2 (fun q e9 => by rw [e9]; exact hρ2)
      have hC := hC.own hoi2 (fun q e9 => by rw [e9]; exact hρ1) (fun q e9 => by rw [e9]; exact hρ2)
      refine va_castS (pc := 23) hx hb hown (hts _ q1148) (hK.1.1 6 _ rfl).2 (hK.recv (hM.p17 (show k < S1 8 2 from by omega)) rfl) dX1_scatter_23 ?_
      refine lv_astore_n (pc := 26) hx hb dX1_scatter_26 rfl hl (Nat.le_of_ble_eq_true rfl) rfl (fun ls hl => ?_)
      refine lv_aload_n (pc := 27) hx hb dX1_scatter_27 rfl (lk hl rfl) ?_
      refine lv_aload_n (pc := 28) hx hb dX1_scatter_28 rfl (lk hl rfl) ?_
      refine hw_getN (pc := 29) hx hb hts in_X11 hown hK (hM.p17 (show k < S1 8 2 from by omega)) rfl 1 (Nat.le_of_ble_eq_true rfl) q1668 (fun x h => h) rfl dX1_scatter_29 ?_
      refine lv_aload_n (pc := 32) hx hb dX1_scatter_32 rfl (lk hl rfl) ?_
      refine hw_getN (pc := 33) hx hb hts in_X2 hown hK (hM.p7 (show k9 < S1 0 0 from by omega)) rfl 0 (Nat.le_of_ble_eq_true rfl) q171 (fun x h => h) rfl dX1_scatter_33 ?_
      rw [hinc] at hpi
      rw [← nI_pred k9]
      have hp17 := hM.p17 (show k < S1 8 2 by omega)
      have hg17 : Gz Γ (g 17 k) := hM.gz (by decide) (show k < S1 8 2 by omega)
      have hρn : ρ ≠ g 17 k := fun e => hM.nr hρ2 (t := 17) (i := k) (by decide) (show k < S1 8 2 by omega) e.symm
      have hcf : Cg g L S1 (g 17 k) := hM.cf (t := 17) (i := k) (by decide) (show k < S1 8 2 by omega)
      refine hm_ne (tgt := 46) (pc := 36) hx hb dX1_scatter_36 (by decide) (by omega) (by omega) (fun h1 => ?_) (fun h1 => ?_)
      · refine lv_aload_n (pc := 46) hx hb dX1_scatter_46 rfl (lk hl rfl) ?_
        refine hw_getN (pc := 47) hx hb hts in_X11 hown hK (hM.p17 (show k < S1 8 2 from by omega)) rfl 1 (Nat.le_of_ble_eq_true rfl) q1668 (fun x h => h) rfl dX1_scatter_47 ?_
        rw [if_neg h1] at he
        refine hc_V (pc := 50) hx hb hml hown hts hK hS (s_move6 l Γ _ (g 17 k) (S1 10 (32 + k)) (S1 11 (32 + k)) (S1 10 (32 + k)) _ hp17 hg17 (by omega) (by omega)) (cwV 1 hts (lw_V q1591 q1592 q1593 q119 q1596) rfl rfl rfl (by decide +kernel) ⟨(Nat.le_of_ble_eq_true rfl), (Nat.le_of_ble_eq_true rfl)⟩) (hK.recv hp17 rfl) rfl hl.1 rfl (Nat.le_of_ble_eq_true rfl) dX1_scatter_50 ⟨by first | exact Nat.le_of_ble_eq_true rfl | (dsimp only [rmd]; omega) | omega, by first | exact Nat.le_of_ble_eq_true rfl | (dsimp only [rmd]; omega) | omega⟩ (fun vmv Hmv locsmv hqmv hS => ?_)
        obtain ⟨rfl, hp17, hov⟩ := hqmv
        rw [if_pos rfl] at hp17
        have hM2 := hM.m17 (show k < S1 8 2 by omega) (by omega) hov (fun f j _ => rfl) hp17
        have hC2 := hC.put hM2 hov (fun q e => by rw [e]; exact hcf) LVE.rf
        have hpi := hpi.off hov hρn
        refine lv_goto (tgt := 8) (pc := 53) hx hb dX1_scatter_53 (by decide) ?_
        exact ih (k + 1) _ S1 _ _ ls (by omega) hM2 hC2 hw hd hρ1 hρ2 hgρ hpi hS (by repeat first | exact lv_0 hl | refine lv_c (lk hl rfl) ?_) he
      · skip
        rw [if_pos h1] at he
        refine lv_aload_n (pc := 39) hx hb dX1_scatter_39 rfl (lk hl rfl) ?_
        refine hc_V (pc := 40) hx hb hml hown hts hK hS (c_control l Γ _ g _ S1 hM hw) (cwV 0 hts (lw_V q1322 q1324 qs20 q70 q1325) rfl rfl rfl (by decide +kernel) ⟨(Nat.le_of_ble_eq_true rfl), (Nat.le_of_ble_eq_true rfl)⟩) (hK.recv hM.p0 rfl) rfl hl.1 rfl (Nat.le_of_ble_eq_true rfl) dX1_scatter_40 ⟨by first | exact Nat.le_of_ble_eq_true rfl | (dsimp only [rmd]; omega) | omega, by first | exact Nat.le_of_ble_eq_true rfl | (dsimp only [rmd]; omega) | omega⟩ (fun v3 H3 locs3 hq3 hS => ?_)
        obtain ⟨rfl, rfl⟩ := hq3
        refine lv_goto (tgt := 50) (pc := 43) hx hb dX1_scatter_43 (by decide) ?_
        have hle2 := pfu_le hw 255
        refine hc_V (pc := 50) hx hb hml hown hts hK hS (s_move6 l Γ _ (g 17 k) (S1 10 (32 + k)) (S1 11 (32 + k)) (pfu S1 255) _ hp17 hg17 (by omega) (by omega)) (cwV 1 hts (lw_V q1591 q1592 q1593 q119 q1596) rfl rfl rfl (by decide +kernel) ⟨(Nat.le_of_ble_eq_true rfl), (Nat.le_of_ble_eq_true rfl)⟩) (hK.recv hp17 rfl) rfl hl.1 rfl (Nat.le_of_ble_eq_true rfl) dX1_scatter_50 ⟨by first | exact Nat.le_of_ble_eq_true rfl | (dsimp only [rmd]; omega) | omega, by first | exact Nat.le_of_ble_eq_true rfl | (dsimp only [rmd]; omega) | omega⟩ (fun vmv Hmv locsmv hqmv hS => ?_)
        obtain ⟨rfl, hp17, hov⟩ := hqmv
        have hne := pfu_ne (a := 255) hd
        rw [if_neg (by omega)] at hp17
        have hE2 : ∀ f j, ¬ ((f = 10 ∨ f = 11) ∧ j = 32 + k) → up2 (up2 S1 10 (32 + k) (pfu S1 255)) 11 (32 + k) (S1 11 (32 + k) + 1) f j = S1 f j := fun f j h => by rw [up2_n (by omega), up2_n (by omega)]
        have hM2 : MC Γ Hmv g L (up2 (up2 S1 10 (32 + k) (pfu S1 255)) 11 (32 + k) (S1 11 (32 + k) + 1)) := by
          refine hM.m17 (show k < S1 8 2 by omega) (by omega) hov hE2 ?_
          rw [up2_f (by decide), up2_s, up2_s]
          exact hp17
        have hv2 : LVE S1 (up2 (up2 S1 10 (32 + k) (pfu S1 255)) 11 (32 + k) (S1 11 (32 + k) + 1)) := ⟨hE2 _ _ (by omega), by funext j; exact hE2 _ _ (by omega), by funext j; exact hE2 _ _ (by omega)⟩
        have hC2 := hC.put hM2 hov (fun q e => by rw [e]; exact hcf) hv2
        have e8 : up2 (up2 S1 10 (32 + k) (pfu S1 255)) 11 (32 + k) (S1 11 (32 + k) + 1) 8 2 = S1 8 2 := hE2 _ _ (by omega)
        have e80 : up2 (up2 S1 10 (32 + k) (pfu S1 255)) 11 (32 + k) (S1 11 (32 + k) + 1) 8 0 = S1 8 0 := hE2 _ _ (by omega)
        have e81 : up2 (up2 S1 10 (32 + k) (pfu S1 255)) 11 (32 + k) (S1 11 (32 + k) + 1) 8 1 = S1 8 1 := hE2 _ _ (by omega)
        have e1 : up2 (up2 S1 10 (32 + k) (pfu S1 255)) 11 (32 + k) (S1 11 (32 + k) + 1) 1 k9 = S1 1 k9 := hE2 _ _ (by omega)
        have hpi := hpi.off hov hρn
        refine lv_goto (tgt := 8) (pc := 53) hx hb dX1_scatter_53 (by decide) ?_
        exact ih (k + 1) _ _ _ _ ls (by rw [e8]; omega) hM2 hC2 ((hw.up (by omega)).up (by omega)) (by rw [e1]; exact hd) hρ1 (Cg.lve hv2 hρ2) hgρ hpi hS (by repeat first | exact lv_0 hl | refine lv_c (lk hl rfl) ?_) (by rw [e80, e81]; exact he)
  refine lv_aload_n (pc := 0) hx hb dX1_scatter_0 rfl (lk hl rfl) ?_
  refine hw_get (pc := 1) hx hb hts in_X1 hown hK (hM.p0) rfl 7 (Nat.le_of_ble_eq_true rfl) (hts _ q344) (fun x h => h) rfl dX1_scatter_1 ?_
  refine hc_V (pc := 4) hx hb hml hown hts hK hS (j_dq_iterator l Γ H _ _ _ _ _ hM.p6 hM.p61 (by omega) (by omega)) (cwV 0 hts (lw_V q1381 q1382 q1383 q82 q1384) rfl rfl rfl (by decide +kernel) ⟨(Nat.le_of_ble_eq_true rfl), (Nat.le_of_ble_eq_true rfl)⟩) (hK.recv hM.p6 rfl) rfl hl.1 rfl (Nat.le_of_ble_eq_true rfl) dX1_scatter_4 ⟨by first | exact Nat.le_of_ble_eq_true rfl | (dsimp only [rmd]; omega) | omega, by first | exact Nat.le_of_ble_eq_true rfl | (dsimp only [rmd]; omega) | omega⟩ (fun vi Hi locsi hqi hS => ?_)
  obtain ⟨rfl, hpi, hgρ, hG⟩ := hqi
  have hρ2 : ¬ Cg g L S H.size := hM.out (Nat.le_refl _)
  refine lv_astore_n (pc := 7) hx hb dX1_scatter_7 rfl hl (Nat.le_of_ble_eq_true rfl) rfl (fun ls hl => ?_)
  rw [show dqn 0 (S 8 2) = S 8 2 from if_pos (Nat.zero_le _)] at hpi
  exact L1 H.size (S 8 2) 0 _ S _ _ ls (by omega) (hM.grow hG) ((CS.rf hM).grow hG) hw hd (Nat.le_refl _) hρ2 hgρ hpi hS (by repeat first | exact lv_0 hl | refine lv_c (lk hl rfl) ?_) rfl
