/-! gather: what waited for a core comes -/
set_option maxRecDepth 100000
set_option maxHeartbeats 16000000
theorem pplA_pos (S : Sx) (a : Nat) : ∀ n c b, (b ≠ 0 ∨ ∃ k, c ≤ k ∧ k < c + n ∧ a.testBit k = true ∧ 10 < S 1 k) → pplA S a n c b ≠ 0 := by
  intro n
  induction n with
  | zero =>
    intro c b h
    rcases h with h | ⟨k, h1, h2, _⟩
    · exact h
    · omega
  | succ n ih =>
    intro c b h
    rw [pplA]
    apply ih
    by_cases hc : a.testBit c = true ∧ 10 < S 1 c
    · rw [if_pos hc]
      left
      split
      · omega
      · next hb0 => split <;> omega
    · rw [if_neg hc]
      rcases h with h | ⟨k, h1, h2, h3, h4⟩
      · exact Or.inl h
      · refine Or.inr ⟨k, ?_, by omega, h3, h4⟩
        rcases Nat.lt_or_ge c k with h5 | h5
        · omega
        · have : c = k := by omega
          subst this
          exact absurd ⟨h3, h4⟩ hc
theorem ppl_pos {S : Sx} {a k : Nat} (hk : k < S 0 0) (ht : a.testBit k = true) (hu : 10 < S 1 k) : ppl S a ≠ 0 := pplA_pos S a _ _ _ (Or.inr ⟨k, Nat.zero_le _, by omega, ht, hu⟩)
theorem c_gather (l : Launch) (Γ : Cx) (H : Heap) (g : Gn) (L : Nat) (S : Sx) (k9 : Nat) (hM : MC Γ H g L S) (hw : WF S) (hk : k9 < S 0 0) (hup : 10 < S 1 k9) (hni : ∀ i, i < S 8 1 → S 10 (16 + i) ≠ k9 + 1) : Mt l Γ yX1_gather (ws_ yX1_gather cX1_gather 5 none) 8 130 650 [.ref (g 0 0), .ref (g 7 k9)] H (fun v H1 => v = none ∧ CS Γ g L S H H1 L (pcomes S k9)) := by
  refine mt_of (by decide +kernel) (Nat.le_of_ble_eq_true rfl) ?_
  intro p e s m args below meth c ls Q hx hb hr hlocks hml hts hown hnm hK hS hl hQ
  have hb0 := hw.b0
  have h8 := hw.b8
  -- threads
  have L3 : ∀ (ρ : Nat) (d k : Nat) (lr : Value) (S1 : Sx) (H' : Heap) (locs : List Loc) (ls : Array Slot), k + d = S1 8 0 → MC Γ H' g L S1 → CS Γ g L S H H' L S1 → WF S1 → 10 < S1 1 k9 → H.size ≤ ρ → ¬ Cg g L S1 ρ → Gz Γ ρ → pt Γ H' ρ (ob 15 [lr, lnx (g 14) (S1 8 0) k, .int (nI k), .int (nI (S1 0 7)), .ref (g 4 0)]) → va_S (Gz Γ) s.heap H' locs → lv_has ls 5 [(0, .ref (g 0 0)), (1, .ref (g 7 k9)), (2, .ref ρ)] → pcmD k9 d k S1 = pcomes S k9 → W p l e (rmd 8 130 650) s m args below meth c H' locs (2 + 8 * k) (10 + 40 * k) Q (F0 m 78 ls []) := by
    intro ρ d
    induction d with
    | zero =>
      intro k lr S1 H' locs ls hkd hM hC hw hd hρ1 hρ2 hgρ hpi hS hl he
      have h8 := hw.b8
      refine lv_aload_n (pc := 78) hx hb dX1_gather_78 rfl (lk hl rfl) ?_
      refine hc_F (pc := 79) hx hb hml hown hts hK hS (hK.1.1 15 _ cl_15).2 (j_li_hasNext l Γ _ _ _ k _ _ _ _ _ _ _ hpi hM.l4.1 (by omega) (by omega)) (va_cwF 0 hts (lw_F q895 q931 q933 q104 q935) rfl rfl rfl (hK.fw fwm_12) (by decide +kernel) ⟨(Nat.le_of_ble_eq_true rfl), (Nat.le_of_ble_eq_true rfl)⟩) (hK.recv hpi rfl) rfl hl.1 rfl (Nat.le_of_ble_eq_true rfl) dX1_gather_79 ⟨by first | exact Nat.le_of_ble_eq_true rfl | (dsimp only [rmd]; omega) | omega, by first | exact Nat.le_of_ble_eq_true rfl | (dsimp only [rmd]; omega) | omega⟩ (fun v1 H1 locs1 hq1 hS => ?_)
      obtain ⟨rfl, rfl⟩ := hq1
      refine hz_eq (tgt := 128) (pc := 84) hx hb dX1_gather_84 (by decide) (fun _ => ?_) (fun hn => absurd hn (by simp; omega))
      rw [pcmD] at he
      exact hr_v (pc := 128) hQ hx hb hr hlocks hS (by first | exact Nat.le_of_ble_eq_true rfl | (dsimp only [rmd]; omega) | omega) (by first | exact Nat.le_of_ble_eq_true rfl | (dsimp only [rmd]; omega) | omega) (⟨rfl, he ▸ hC⟩) dX1_gather_128
    | succ d ih =>
      intro k lr S1 H' locs ls hkd hM hC hw hd hρ1 hρ2 hgρ hpi hS hl he
      have h8 := hw.b8
      have hb0 := hw.b0
      have hk1 : k9 < S1 0 0 := by rw [hC.2.2.2.1]; exact hk
      have hb10 := hw.b10 k
      rw [pcmD] at he
      refine lv_aload_n (pc := 78) hx hb dX1_gather_78 rfl (lk hl rfl) ?_
      refine hc_F (pc := 79) hx hb hml hown hts hK hS (hK.1.1 15 _ cl_15).2 (j_li_hasNext l Γ _ _ _ k _ _ _ _ _ _ _ hpi hM.l4.1 (by omega) (by omega)) (va_cwF 0 hts (lw_F q895 q931 q933 q104 q935) rfl rfl rfl (hK.fw fwm_12) (by decide +kernel) ⟨(Nat.le_of_ble_eq_true rfl), (Nat.le_of_ble_eq_true rfl)⟩) (hK.recv hpi rfl) rfl hl.1 rfl (Nat.le_of_ble_eq_true rfl) dX1_gather_79 ⟨by first | exact Nat.le_of_ble_eq_true rfl | (dsimp only [rmd]; omega) | omega, by first | exact Nat.le_of_ble_eq_true rfl | (dsimp only [rmd]; omega) | omega⟩ (fun v1 H1 locs1 hq1 hS => ?_)
      obtain ⟨rfl, rfl⟩ := hq1
      refine hz_eq (tgt := 128) (pc := 84) hx hb dX1_gather_84 (by decide) (fun hn => absurd hn (by simp; omega)) (fun _ => ?_)
      refine lv_aload_n (pc := 87) hx hb dX1_gather_87 rfl (lk hl rfl) ?_
      refine hc_F (pc := 88) hx hb hml hown hts hK hS (hK.1.1 15 _ cl_15).2 (j_li_next l Γ _ _ _ k _ _ _ _ _ hpi hM.l4 (show k < S1 8 0 from by omega) (by omega) hgρ (hM.nr hρ2 (t := 4) (i := 0) (by decide) rfl) (fun j hj => hM.nr hρ2 (t := 14) (by decide) hj)) (va_cwF 0 hts (lw_F q937 q1136 q1138 q104 q1140) rfl rfl rfl (hK.fw fwm_13) (by decide +kernel) ⟨(Nat.le_of_ble_eq_true rfl), (Nat.le_of_ble_eq_true rfl)⟩) (hK.recv hpi rfl) rfl hl.1 rfl (Nat.le_of_ble_eq_true rfl) dX1_gather_88 ⟨by first | exact Nat.le_of_ble_eq_true rfl | (dsimp only [rmd]; omega) | omega, by first | exact Nat.le_of_ble_eq_true rfl | (dsimp only [rmd]; omega) | omega⟩ (fun v2 H2 locs2 hq2 hS => ?_)
      obtain ⟨rfl, hpi, hoi2⟩ := hq2
      have hM := hM.off hoi2 (fun q e9 => by rw [e9]; exact hρ2)
      have hC := hC.own hoi2 (fun q e9 => by rw [e9]; exact hρ1) (fun q e9 => by rw [e9]; exact hρ2)
      refine va_castS (pc := 93) hx hb hown (hts _ q1148) (hK.1.1 6 _ rfl).2 (hK.recv (hM.p13 (show k < S1 8 0 from by omega)) rfl) dX1_gather_93 ?_
      refine lv_astore_n (pc := 96) hx hb dX1_gather_96 rfl hl (Nat.le_of_ble_eq_true rfl) rfl (fun ls hl => ?_)
      refine lv_aload_n (pc := 97) hx hb dX1_gather_97 rfl (lk hl rfl) ?_
      refine hw_getN (pc := 98) hx hb hts in_X11 hown hK (hM.p13 (show k < S1 8 0 from by omega)) rfl 1 (Nat.le_of_ble_eq_true rfl) q1668 (fun x h => h) rfl dX1_gather_98 ?_
      refine lv_iconst (v := nI 0 - 1) (pc := 101) hx hb dX1_gather_101 (by decide) ?_
      have skip : ¬ (S1 10 k = 0 ∧ (S1 9 k).testBit k9 = true) → ∀ (locs : List Loc) (ls : Array Slot), va_S (Gz Γ) s.heap H2 locs → lv_has ls 5 [(0, .ref (g 0 0)), (1, .ref (g 7 k9)), (2, .ref ρ)] → W p l e (rmd 8 130 650) s m args below meth c H2 locs (2 + 8 * k) (10 + 40 * k) Q (F0 m 125 ls []) := by
        intro hn locs ls hS hl
        rw [if_neg hn] at he
        refine lv_goto (tgt := 78) (pc := 125) hx hb dX1_gather_125 (by decide) ?_
        exact W.widen (show 2 + 8 * k ≤ 2 + 8 * (k + 1) by omega) (show 10 + 40 * k ≤ 10 + 40 * (k + 1) by omega) (ih (k + 1) _ S1 _ _ ls (by omega) hM hC hw hd hρ1 hρ2 hgρ hpi hS (by repeat first | exact lv_0 hl | refine lv_c (lk hl rfl) ?_) he)
      have hp13 := hM.p13 (show k < S1 8 0 by omega)
      refine hm_ne (tgt := 125) (pc := 102) hx hb dX1_gather_102 (by decide) (by omega) (by omega) (fun h1 => ?_) (fun h1 => ?_)
      · exact skip (fun q => h1 q.1) _ ls hS (by repeat first | exact lv_0 hl | refine lv_c (lk hl rfl) ?_)
      · skip
        refine lv_aload_n (pc := 105) hx hb dX1_gather_105 rfl (lk hl rfl) ?_
        refine lv_aload_n (pc := 106) hx hb dX1_gather_106 rfl (lk hl rfl) ?_
        refine hw_getN (pc := 107) hx hb hts in_X2 hown hK (hM.p7 (show k9 < S1 0 0 from by omega)) rfl 0 (Nat.le_of_ble_eq_true rfl) q171 (fun x h => h) rfl dX1_gather_107 ?_
        refine hc_V (pc := 110) hx hb hml hown hts hK hS (s_mayBe l Γ _ (g 13 k) 6 (S1 9 k) k9 _ (Or.inl rfl) hp13 (hw.b9 k) (by omega)) (cwV 1 hts (lw_V q1585 q1586 q1587 q119 q1590) rfl rfl rfl (by decide +kernel) ⟨(Nat.le_of_ble_eq_true rfl), (Nat.le_of_ble_eq_true rfl)⟩) (hK.recv hp13 rfl) rfl hl.1 rfl (Nat.le_of_ble_eq_true rfl) dX1_gather_110 ⟨by first | exact Nat.le_of_ble_eq_true rfl | (dsimp only [rmd]; omega) | omega, by first | exact Nat.le_of_ble_eq_true rfl | (dsimp only [rmd]; omega) | omega⟩ (fun vmb Hmb locsmb hqmb hS => ?_)
        obtain ⟨rfl, rfl⟩ := hqmb
        refine hz_eq (tgt := 125) (pc := 113) hx hb dX1_gather_113 (by decide) (fun h2 => ?_) (fun h2 => ?_)
        · exact skip (fun q => by rw [h2] at q; exact absurd q.2 (by simp)) _ ls hS (by repeat first | exact lv_0 hl | refine lv_c (lk hl rfl) ?_)
        · skip
          rw [if_pos ⟨h1, h2⟩] at he
          refine lv_aload_n (pc := 116) hx hb dX1_gather_116 rfl (lk hl rfl) ?_
          refine lv_aload_n (pc := 117) hx hb dX1_gather_117 rfl (lk hl rfl) ?_
          refine lv_aload_n (pc := 118) hx hb dX1_gather_118 rfl (lk hl rfl) ?_
          refine hc_V (pc := 119) hx hb hml hown hts hK hS (c_placeFor l Γ _ g L S1 (g 13 k) (S1 9 k) hM hw ⟨_, _, hp13⟩ (hw.b9 k)) (cwV 1 hts (lw_V q1597 q1599 qs37 q70 q1600) rfl rfl rfl (by decide +kernel) ⟨(Nat.le_of_ble_eq_true rfl), (Nat.le_of_ble_eq_true rfl)⟩) (hK.recv hM.p0 rfl) rfl hl.1 rfl (Nat.le_of_ble_eq_true rfl) dX1_gather_119 ⟨by first | exact Nat.le_of_ble_eq_true rfl | (dsimp only [rmd]; omega) | omega, by first | exact Nat.le_of_ble_eq_true rfl | (dsimp only [rmd]; omega) | omega⟩ (fun vpf Hpf locspf hqpf hS => ?_)
          obtain ⟨rfl, hGp⟩ := hqpf
          have hM := hM.grow hGp
          have hC := hC.grow hGp
          have hpi := hpi.grow hGp
          have hp13 := hp13.grow hGp
          have hle := ppl_le hw (S1 9 k)
          have hg13 : Gz Γ (g 13 k) := hM.gz (by decide) (show k < S1 8 0 by omega)
          have hρn : ρ ≠ g 13 k := fun e => hM.nr hρ2 (t := 13) (i := k) (by decide) (show k < S1 8 0 by omega) e.symm
          have hcf : Cg g L S1 (g 13 k) := hM.cf (t := 13) (i := k) (by decide) (show k < S1 8 0 by omega)
          refine hc_V (pc := 122) hx hb hml hown hts hK hS (s_move6 l Γ _ (g 13 k) (S1 10 k) (S1 11 k) (ppl S1 (S1 9 k)) _ hp13 hg13 (by omega) (by omega)) (cwV 1 hts (lw_V q1591 q1592 q1593 q119 q1596) rfl rfl rfl (by decide +kernel) ⟨(Nat.le_of_ble_eq_true rfl), (Nat.le_of_ble_eq_true rfl)⟩) (hK.recv hp13 rfl) rfl hl.1 rfl (Nat.le_of_ble_eq_true rfl) dX1_gather_122 ⟨by first | exact Nat.le_of_ble_eq_true rfl | (dsimp only [rmd]; omega) | omega, by first | exact Nat.le_of_ble_eq_true rfl | (dsimp only [rmd]; omega) | omega⟩ (fun vmv Hmv locsmv hqmv hS => ?_)
          obtain ⟨rfl, hp13, hov⟩ := hqmv
          have hne := ppl_pos hk1 h2 hd
          have eS : ppl (up2 S1 10 k 0) (S1 9 k) = ppl S1 (S1 9 k) := ppl_skip _ (fun j hj q => by omega)
          have hp13' : pt Γ Hmv (g 13 k) (ob 6 [.int (nI (S1 9 k)), .int (nI (up2 (pplace S1 k) 11 k (S1 11 k + 1) 10 k) - 1), .int (nI (up2 (pplace S1 k) 11 k (S1 11 k + 1) 11 k))]) := by
            rw [up2_s, up2_f (by decide), pplace, up2_s, eS]
            rw [if_neg (by omega)] at hp13
            exact hp13
          have hM2 := hM.m13 (by omega) (by omega) hov (fun f j h => mv13 f j h) hp13'
          have hv2 : LVE S1 (up2 (pplace S1 k) 11 k (S1 11 k + 1)) := ⟨mv13 _ _ (by omega), by funext j; exact mv13 _ _ (by omega), by funext j; exact mv13 _ _ (by omega)⟩
          have hC2 := hC.put hM2 hov (fun q e => by rw [e]; exact hcf) hv2
          have e8 : up2 (pplace S1 k) 11 k (S1 11 k + 1) 8 0 = S1 8 0 := mv13 _ _ (by omega)
          have e7 : up2 (pplace S1 k) 11 k (S1 11 k + 1) 0 7 = S1 0 7 := mv13 _ _ (by omega)
          have e1 : up2 (pplace S1 k) 11 k (S1 11 k + 1) 1 k9 = S1 1 k9 := mv13 _ _ (by omega)
          have hpi := hpi.off hov hρn
          refine lv_goto (tgt := 78) (pc := 125) hx hb dX1_gather_125 (by decide) ?_
          exact W.widen (show 2 + 8 * k + 8 ≤ 2 + 8 * (k + 1) by omega) (show 10 + 40 * k + 40 ≤ 10 + 40 * (k + 1) by omega) (ih (k + 1) _ (up2 (pplace S1 k) 11 k (S1 11 k + 1)) _ _ ls (by rw [e8]; omega) hM2 hC2 ((wf_pplace hw k).up (by omega)) (by rw [e1]; exact hd) hρ1 (Cg.lve hv2 hρ2) hgρ (by rw [e8, e7]; exact hpi) hS (by repeat first | exact lv_0 hl | refine lv_c (lk hl rfl) ?_) he)
  -- interrupts
  have L2 : ∀ (ρ : Nat) (d k : Nat) (lr : Value) (S1 : Sx) (H' : Heap) (locs : List Loc) (ls : Array Slot), k + d = S1 8 1 → MC Γ H' g L S1 → CS Γ g L S H H' L S1 → WF S1 → 10 < S1 1 k9 → (∀ i, k ≤ i → i < S1 8 1 → S1 10 (16 + i) ≠ k9 + 1) → H.size ≤ ρ → ¬ Cg g L S1 ρ → Gz Γ ρ → pt Γ H' ρ (ob 15 [lr, lnx (g 16) (S1 8 1) k, .int (nI k), .int (nI (S1 0 8)), .ref (g 5 0)]) → va_S (Gz Γ) s.heap H' locs → lv_has ls 5 [(0, .ref (g 0 0)), (1, .ref (g 7 k9)), (2, .ref ρ)] → pcmD k9 (S1 8 0) 0 (pcmI k9 d k S1) = pcomes S k9 → W p l e (rmd 8 130 650) s m args below meth c H' locs (1) (5) Q (F0 m 10 ls []) := by
    intro ρ d
    induction d with
    | zero =>
      intro k lr S1 H' locs ls hkd hM hC hw hd hni hρ1 hρ2 hgρ hpi hS hl he
      have h8 := hw.b8
      refine lv_aload_n (pc := 10) hx hb dX1_gather_10 rfl (lk hl rfl) ?_
      refine hc_F (pc := 11) hx hb hml hown hts hK hS (hK.1.1 15 _ cl_15).2 (j_li_hasNext l Γ _ _ _ k _ _ _ _ _ _ _ hpi hM.l5.1 (by omega) (by omega)) (va_cwF 0 hts (lw_F q895 q931 q933 q104 q935) rfl rfl rfl (hK.fw fwm_12) (by decide +kernel) ⟨(Nat.le_of_ble_eq_true rfl), (Nat.le_of_ble_eq_true rfl)⟩) (hK.recv hpi rfl) rfl hl.1 rfl (Nat.le_of_ble_eq_true rfl) dX1_gather_11 ⟨by first | exact Nat.le_of_ble_eq_true rfl | (dsimp only [rmd]; omega) | omega, by first | exact Nat.le_of_ble_eq_true rfl | (dsimp only [rmd]; omega) | omega⟩ (fun v1 H1 locs1 hq1 hS => ?_)
      obtain ⟨rfl, rfl⟩ := hq1
      refine hz_eq (tgt := 68) (pc := 16) hx hb dX1_gather_16 (by decide) (fun _ => ?_) (fun hn => absurd hn (by simp; omega))
      rw [pcmI] at he
      refine lv_aload_n (pc := 68) hx hb dX1_gather_68 rfl (lk hl rfl) ?_
      refine hw_get (pc := 69) hx hb hts in_X1 hown hK (hM.p0) rfl 5 (Nat.le_of_ble_eq_true rfl) (hts _ q342) (fun x h => h) rfl dX1_gather_69 ?_
      refine hc_F (pc := 72) hx hb hml hown hts hK hS (hK.1.1 10 _ cl_10).2 (j_ll_iterator l Γ H' _ _ _ _ _ hM.l4 (by omega)) (va_cwF 0 hts (lw_F q782 q811 q813 q80 q815) rfl rfl rfl (hK.fw fwm_9) (by decide +kernel) ⟨(Nat.le_of_ble_eq_true rfl), (Nat.le_of_ble_eq_true rfl)⟩) (hK.recv hM.l4.1 rfl) rfl hl.1 rfl (Nat.le_of_ble_eq_true rfl) dX1_gather_72 ⟨by first | exact Nat.le_of_ble_eq_true rfl | (dsimp only [rmd]; omega) | omega, by first | exact Nat.le_of_ble_eq_true rfl | (dsimp only [rmd]; omega) | omega⟩ (fun vi Hi locsi hqi hS => ?_)
      obtain ⟨rfl, hpi, hgρ, hG⟩ := hqi
      have hsz := hC.2.1.1
      have hρ2 : ¬ Cg g L S1 H'.size := hM.out (Nat.le_refl _)
      refine lv_astore_n (pc := 77) hx hb dX1_gather_77 rfl hl (Nat.le_of_ble_eq_true rfl) rfl (fun ls hl => ?_)
      exact L3 H'.size (S1 8 0) 0 _ S1 _ _ ls (by omega) (hM.grow hG) (hC.grow hG) hw hd hsz hρ2 hgρ hpi hS (by repeat first | exact lv_0 hl | refine lv_c (lk hl rfl) ?_) he
    | succ d ih =>
      intro k lr S1 H' locs ls hkd hM hC hw hd hni hρ1 hρ2 hgρ hpi hS hl he
      have h8 := hw.b8
      have hb0 := hw.b0
      have hk1 : k9 < S1 0 0 := by rw [hC.2.2.2.1]; exact hk
      have hb10 := hw.b10 (16 + k)
      have hb9 := hw.b9 (16 + k)
      have hb12 := hw.b12 k
      rw [pcmI] at he
      refine lv_aload_n (pc := 10) hx hb dX1_gather_10 rfl (lk hl rfl) ?_
      refine hc_F (pc := 11) hx hb hml hown hts hK hS (hK.1.1 15 _ cl_15).2 (j_li_hasNext l Γ _ _ _ k _ _ _ _ _ _ _ hpi hM.l5.1 (by omega) (by omega)) (va_cwF 0 hts (lw_F q895 q931 q933 q104 q935) rfl rfl rfl (hK.fw fwm_12) (by decide +kernel) ⟨(Nat.le_of_ble_eq_true rfl), (Nat.le_of_ble_eq_true rfl)⟩) (hK.recv hpi rfl) rfl hl.1 rfl (Nat.le_of_ble_eq_true rfl) dX1_gather_11 ⟨by first | exact Nat.le_of_ble_eq_true rfl | (dsimp only [rmd]; omega) | omega, by first | exact Nat.le_of_ble_eq_true rfl | (dsimp only [rmd]; omega) | omega⟩ (fun v1 H1 locs1 hq1 hS => ?_)
      obtain ⟨rfl, rfl⟩ := hq1
      refine hz_eq (tgt := 68) (pc := 16) hx hb dX1_gather_16 (by decide) (fun hn => absurd hn (by simp; omega)) (fun _ => ?_)
      refine lv_aload_n (pc := 19) hx hb dX1_gather_19 rfl (lk hl rfl) ?_
      refine hc_F (pc := 20) hx hb hml hown hts hK hS (hK.1.1 15 _ cl_15).2 (j_li_next l Γ _ _ _ k _ _ _ _ _ hpi hM.l5 (show k < S1 8 1 from by omega) (by omega) hgρ (hM.nr hρ2 (t := 5) (i := 0) (by decide) rfl) (fun j hj => hM.nr hρ2 (t := 16) (by decide) hj)) (va_cwF 0 hts (lw_F q937 q1136 q1138 q104 q1140) rfl rfl rfl (hK.fw fwm_13) (by decide +kernel) ⟨(Nat.le_of_ble_eq_true rfl), (Nat.le_of_ble_eq_true rfl)⟩) (hK.recv hpi rfl) rfl hl.1 rfl (Nat.le_of_ble_eq_true rfl) dX1_gather_20 ⟨by first | exact Nat.le_of_ble_eq_true rfl | (dsimp only [rmd]; omega) | omega, by first | exact Nat.le_of_ble_eq_true rfl | (dsimp only [rmd]; omega) | omega⟩ (fun v2 H2 locs2 hq2 hS => ?_)
      obtain ⟨rfl, hpi, hoi2⟩ := hq2
      have hM := hM.off hoi2 (fun q e9 => by rw [e9]; exact hρ2)
      have hC := hC.own hoi2 (fun q e9 => by rw [e9]; exact hρ1) (fun q e9 => by rw [e9]; exact hρ2)
      refine va_castS (pc := 25) hx hb hown (hts _ q1584) (hK.1.1 7 _ rfl).2 (hK.recv (hM.p15 (show k < S1 8 1 from by omega)) rfl) dX1_gather_25 ?_
      refine lv_astore_n (pc := 28) hx hb dX1_gather_28 rfl hl (Nat.le_of_ble_eq_true rfl) rfl (fun ls hl => ?_)
      refine lv_aload_n (pc := 29) hx hb dX1_gather_29 rfl (lk hl rfl) ?_
      refine lv_astore (pc := 30) hx hb dX1_gather_30 hl (Nat.le_of_ble_eq_true rfl) rfl (fun ls hl => ?_)
      refine lv_aload_n (pc := 32) hx hb dX1_gather_32 rfl (lk hl rfl) ?_
      refine hw_getN (pc := 33) hx hb hts in_X12 hown hK (hM.p15 (show k < S1 8 1 from by omega)) rfl 3 (Nat.le_of_ble_eq_true rfl) q1690 (fun x h => h) rfl dX1_gather_33 ?_
      have skip : ¬ (S1 12 k ≠ 0 ∧ (S1 9 (16 + k)).testBit k9 = true) → ∀ (locs : List Loc) (ls : Array Slot), va_S (Gz Γ) s.heap H2 locs → lv_has ls 5 [(0, .ref (g 0 0)), (1, .ref (g 7 k9)), (2, .ref ρ)] → W p l e (rmd 8 130 650) s m args below meth c H2 locs (1) (5) Q (F0 m 65 ls []) := by
        intro hn locs ls hS hl
        rw [if_neg hn] at he
        refine lv_goto (tgt := 10) (pc := 65) hx hb dX1_gather_65 (by decide) ?_
        exact ih (k + 1) _ S1 _ _ ls (by omega) hM hC hw hd (fun i h1 h2 => hni i (by omega) h2) hρ1 hρ2 hgρ hpi hS (by repeat first | exact lv_0 hl | refine lv_c (lk hl rfl) ?_) he
      have hp15 := hM.p15 (show k < S1 8 1 by omega)
      refine hn_z_eq (tgt := 65) (pc := 36) hx hb dX1_gather_36 (by decide) (by omega) (fun h1 => ?_) (fun h1 => ?_)
      · exact skip (fun q => q.1 h1) _ ls hS (by repeat first | exact lv_0 hl | refine lv_c (lk hl rfl) ?_)
      · skip
        refine lv_aload (pc := 39) hx hb dX1_gather_39 (lk hl rfl) ?_
        refine lv_aload_n (pc := 41) hx hb dX1_gather_41 rfl (lk hl rfl) ?_
        refine hw_getN (pc := 42) hx hb hts in_X2 hown hK (hM.p7 (show k9 < S1 0 0 from by omega)) rfl 0 (Nat.le_of_ble_eq_true rfl) q171 (fun x h => h) rfl dX1_gather_42 ?_
        refine hc_U (pc := 45) hx hb hml hown hts hK hS (s_mayBe l Γ _ (g 15 k) 7 (S1 9 (16 + k)) k9 _ (Or.inr rfl) hp15 (by omega) (by omega)) (va_cwU 1 hts (lw_U q1585 q1588 q1589 q1586 q119 q1590) rfl rfl rfl rfl (by decide +kernel) ⟨(Nat.le_of_ble_eq_true rfl), (Nat.le_of_ble_eq_true rfl)⟩) (hK.recv hp15 rfl) rfl hl.1 rfl (Nat.le_of_ble_eq_true rfl) dX1_gather_45 ⟨by first | exact Nat.le_of_ble_eq_true rfl | (dsimp only [rmd]; omega) | omega, by first | exact Nat.le_of_ble_eq_true rfl | (dsimp only [rmd]; omega) | omega⟩ (fun vmb Hmb locsmb hqmb hS => ?_)
        obtain ⟨rfl, rfl⟩ := hqmb
        refine hz_eq (tgt := 65) (pc := 48) hx hb dX1_gather_48 (by decide) (fun h2 => ?_) (fun h2 => ?_)
        · exact skip (fun q => by rw [h2] at q; exact absurd q.2 (by simp)) _ ls hS (by repeat first | exact lv_0 hl | refine lv_c (lk hl rfl) ?_)
        · skip
          rw [if_pos ⟨h1, h2⟩] at he
          refine lv_aload (pc := 51) hx hb dX1_gather_51 (lk hl rfl) ?_
          refine lv_aload_n (pc := 53) hx hb dX1_gather_53 rfl (lk hl rfl) ?_
          refine hw_getN (pc := 54) hx hb hts in_X2 hown hK (hM.p7 (show k9 < S1 0 0 from by omega)) rfl 0 (Nat.le_of_ble_eq_true rfl) q171 (fun x h => h) rfl dX1_gather_54 ?_
          rw [← nI_pred k9]
          have hg15 : Gz Γ (g 15 k) := hM.gz (by decide) (show k < S1 8 1 by omega)
          have hρn : ρ ≠ g 15 k := fun e => hM.nr hρ2 (t := 15) (i := k) (by decide) (show k < S1 8 1 by omega) e.symm
          have hcf : Cg g L S1 (g 15 k) := hM.cf (t := 15) (i := k) (by decide) (show k < S1 8 1 by omega)
          refine hc_U (pc := 57) hx hb hml hown hts hK hS (s_move7 l Γ _ (g 15 k) (S1 10 (16 + k)) (S1 11 (16 + k)) (k9 + 1) _ _ hp15 hg15 (by omega) (by omega)) (va_cwU 1 hts (lw_U q1591 q1594 q1595 q1592 q119 q1596) rfl rfl rfl rfl (by decide +kernel) ⟨(Nat.le_of_ble_eq_true rfl), (Nat.le_of_ble_eq_true rfl)⟩) (hK.recv hp15 rfl) rfl hl.1 rfl (Nat.le_of_ble_eq_true rfl) dX1_gather_57 ⟨by first | exact Nat.le_of_ble_eq_true rfl | (dsimp only [rmd]; omega) | omega, by first | exact Nat.le_of_ble_eq_true rfl | (dsimp only [rmd]; omega) | omega⟩ (fun vmv Hmv locsmv hqmv hS => ?_)
          obtain ⟨rfl, hp15, hov⟩ := hqmv
          have hne := hni k (Nat.le_refl _) (by omega)
          rw [if_neg (by omega)] at hp15
          refine lv_aload_n (pc := 60) hx hb dX1_gather_60 rfl (lk hl rfl) ?_
          refine lv_iconst (v := nI 0) (pc := 61) hx hb dX1_gather_61 (by decide) ?_
          refine hw_putN (pc := 62) hx hb hts in_X12 tyX12_ok nmX12 hown hK (hp15) (hg15) hS rfl 3 (Nat.le_of_ble_eq_true rfl) q1690 (fun x h => h) rfl rfl (rfl) (rfl) (Nat.le_of_ble_eq_true rfl) dX1_gather_62 (fun Hpb locspb hppb zpb opb hS => ?_)
          have hov := hov.trans (Off.put zpb opb rfl)
          have hE2 : ∀ f j, ¬ (((f = 10 ∨ f = 11) ∧ j = 16 + k) ∨ (f = 12 ∧ j = k)) → up2 (up2 (up2 S1 10 (16 + k) (k9 + 1)) 12 k 0) 11 (16 + k) (S1 11 (16 + k) + 1) f j = S1 f j := fun f j h => by rw [up2_n (by omega), up2_n (by omega), up2_n (by omega)]
          have hM2 : MC Γ Hpb g L (up2 (up2 (up2 S1 10 (16 + k) (k9 + 1)) 12 k 0) 11 (16 + k) (S1 11 (16 + k) + 1)) := by
            refine hM.m15 (show k < S1 8 1 by omega) (by omega) hov hE2 ?_
            rw [up2_s, up2_f (by decide), up2_f (by decide), up2_s, up2_f (by decide), up2_s]
            exact hppb
          have hv2 : LVE S1 (up2 (up2 (up2 S1 10 (16 + k) (k9 + 1)) 12 k 0) 11 (16 + k) (S1 11 (16 + k) + 1)) := ⟨hE2 _ _ (by omega), by funext j; exact hE2 _ _ (by omega), by funext j; exact hE2 _ _ (by omega)⟩
          have hC2 := hC.put hM2 hov (fun q e => by rw [e]; exact hcf) hv2
          have e8 : up2 (up2 (up2 S1 10 (16 + k) (k9 + 1)) 12 k 0) 11 (16 + k) (S1 11 (16 + k) + 1) 8 1 = S1 8 1 := hE2 _ _ (by omega)
          have e80 : up2 (up2 (up2 S1 10 (16 + k) (k9 + 1)) 12 k 0) 11 (16 + k) (S1 11 (16 + k) + 1) 8 0 = S1 8 0 := hE2 _ _ (by omega)
          have e7 : up2 (up2 (up2 S1 10 (16 + k) (k9 + 1)) 12 k 0) 11 (16 + k) (S1 11 (16 + k) + 1) 0 8 = S1 0 8 := hE2 _ _ (by omega)
          have e1 : up2 (up2 (up2 S1 10 (16 + k) (k9 + 1)) 12 k 0) 11 (16 + k) (S1 11 (16 + k) + 1) 1 k9 = S1 1 k9 := hE2 _ _ (by omega)
          have hpi := hpi.off hov hρn
          refine lv_goto (tgt := 10) (pc := 65) hx hb dX1_gather_65 (by decide) ?_
          exact ih (k + 1) _ _ _ _ ls (by rw [e8]; omega) hM2 hC2 (((hw.up (by omega)).up (by omega)).up (by omega)) (by rw [e1]; exact hd) (fun i h1 h2 => by rw [hE2 _ _ (by omega)]; exact hni i (by omega) (by rw [← e8]; exact h2)) hρ1 (Cg.lve hv2 hρ2) hgρ (by rw [e8, e7]; exact hpi) hS (by repeat first | exact lv_0 hl | refine lv_c (lk hl rfl) ?_) (by rw [e80]; exact he)
  refine lv_aload_n (pc := 0) hx hb dX1_gather_0 rfl (lk hl rfl) ?_
  refine hw_get (pc := 1) hx hb hts in_X1 hown hK (hM.p0) rfl 6 (Nat.le_of_ble_eq_true rfl) (hts _ q343) (fun x h => h) rfl dX1_gather_1 ?_
  refine hc_F (pc := 4) hx hb hml hown hts hK hS (hK.1.1 10 _ cl_10).2 (j_ll_iterator l Γ H _ _ _ _ _ hM.l5 (by omega)) (va_cwF 0 hts (lw_F q782 q811 q813 q80 q815) rfl rfl rfl (hK.fw fwm_9) (by decide +kernel) ⟨(Nat.le_of_ble_eq_true rfl), (Nat.le_of_ble_eq_true rfl)⟩) (hK.recv hM.l5.1 rfl) rfl hl.1 rfl (Nat.le_of_ble_eq_true rfl) dX1_gather_4 ⟨by first | exact Nat.le_of_ble_eq_true rfl | (dsimp only [rmd]; omega) | omega, by first | exact Nat.le_of_ble_eq_true rfl | (dsimp only [rmd]; omega) | omega⟩ (fun vi Hi locsi hqi hS => ?_)
  obtain ⟨rfl, hpi, hgρ, hG⟩ := hqi
  have hρ2 : ¬ Cg g L S H.size := hM.out (Nat.le_refl _)
  refine lv_astore_n (pc := 9) hx hb dX1_gather_9 rfl hl (Nat.le_of_ble_eq_true rfl) rfl (fun ls hl => ?_)
  exact L2 H.size (S 8 1) 0 _ S _ _ ls (by omega) (hM.grow hG) ((CS.rf hM).grow hG) hw hup (fun i _ h => hni i h) (Nat.le_refl _) hρ2 hgρ hpi hS (by repeat first | exact lv_0 hl | refine lv_c (lk hl rfl) ?_) rfl
