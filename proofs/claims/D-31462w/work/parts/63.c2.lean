/-! the component: loads and places -/
set_option maxRecDepth 100000
set_option maxHeartbeats 4000000
theorem MC.nr {Γ : Cx} {H : Heap} {g : Gn} {L : Nat} {S : Sx} (h : MC Γ H g L S) {ρ t i : Nat} (hρ : ¬ Cg g L S ρ) (ht : t ≠ 3) (hl : lv S t i) : g t i ≠ ρ := fun e => hρ (e ▸ h.cf ht hl)
theorem c_loadOf (l : Launch) (Γ : Cx) (H : Heap) (g : Gn) (L : Nat) (S : Sx) (v9 : Nat) (hM : MC Γ H g L S) (hw : WF S) (hv9 : v9 < 100) : Mt l Γ yX1_loadOf (ws_ yX1_loadOf cX1_loadOf 5 (some .int)) 6 1 5 [.ref (g 0 0), .int (nI v9 - 1)] H (fun v H1 => v = some (.int (nI (plo S v9 (S 8 0)))) ∧ Grow H H1) := by
  refine mt_of (by decide +kernel) (Nat.le_of_ble_eq_true rfl) ?_
  intro p e s m args below meth c ls Q hx hb hr hlocks hml hts hown hnm hK hS hl hQ
  have h8 := hw.b8
  refine lv_iconst (v := nI 0) (pc := 0) hx hb dX1_loadOf_0 (by decide) ?_
  refine lv_istore_n (pc := 1) hx hb dX1_loadOf_1 rfl hl (Nat.le_of_ble_eq_true rfl) rfl (fun ls hl => ?_)
  refine lv_aload_n (pc := 2) hx hb dX1_loadOf_2 rfl (lk hl rfl) ?_
  refine hw_get (pc := 3) hx hb hts in_X1 hown hK (hM.p0) rfl 5 (Nat.le_of_ble_eq_true rfl) (hts _ q342) (fun x h => h) rfl dX1_loadOf_3 ?_
  refine hc_F (pc := 6) hx hb hml hown hts hK hS (hK.1.1 10 _ cl_10).2 (j_ll_iterator l Γ H _ _ _ _ _ hM.l4 (by omega)) (va_cwF 0 hts (lw_F q782 q811 q813 q80 q815) rfl rfl rfl (hK.fw fwm_9) (by decide +kernel) ⟨(Nat.le_of_ble_eq_true rfl), (Nat.le_of_ble_eq_true rfl)⟩) (hK.recv hM.l4.1 rfl) rfl hl.1 rfl (Nat.le_of_ble_eq_true rfl) dX1_loadOf_6 ⟨by first | exact Nat.le_of_ble_eq_true rfl | (dsimp only [rmd]; omega) | omega, by first | exact Nat.le_of_ble_eq_true rfl | (dsimp only [rmd]; omega) | omega⟩ (fun vi Hi locsi hqi hS => ?_)
  obtain ⟨rfl, hpi, hgρ, hG⟩ := hqi
  have hρ2 : ¬ Cg g L S H.size := hM.out (Nat.le_refl _)
  have hM := hM.grow hG
  obtain ⟨ρ, hρe⟩ : ∃ ρ, ρ = H.size := ⟨_, rfl⟩
  rw [← hρe] at hpi hgρ hρ2 ⊢
  have hρ1 : H.size ≤ ρ := by omega
  refine lv_astore_n (pc := 11) hx hb dX1_loadOf_11 rfl hl (Nat.le_of_ble_eq_true rfl) rfl (fun ls hl => ?_)
  have L1 : ∀ (d k : Nat) (lr : Value) (H' : Heap) (locs : List Loc) (ls : Array Slot), k + d = S 8 0 → MC Γ H' g L S → Grow H H' → pt Γ H' ρ (ob 15 [lr, lnx (g 14) (S 8 0) k, .int (nI k), .int (nI (S 0 7)), .ref (g 4 0)]) → va_S (Gz Γ) s.heap H' locs → lv_has ls 5 [(0, .ref (g 0 0)), (1, .int (nI v9 - 1)), (2, .int (nI (plo S v9 k))), (3, .ref ρ)] → W p l e (rmd 6 1 5) s m args below meth c H' locs (1) (5) Q (F0 m 12 ls []) := by
    intro d
    induction d with
    | zero =>
      intro k lr H' locs ls hk hM hG hpi hS hl
      refine lv_aload_n (pc := 12) hx hb dX1_loadOf_12 rfl (lk hl rfl) ?_
      refine hc_F (pc := 13) hx hb hml hown hts hK hS (hK.1.1 15 _ cl_15).2 (j_li_hasNext l Γ _ _ _ k _ _ _ _ _ _ _ hpi hM.l4.1 (by omega) (by omega)) (va_cwF 0 hts (lw_F q895 q931 q933 q104 q935) rfl rfl rfl (hK.fw fwm_12) (by decide +kernel) ⟨(Nat.le_of_ble_eq_true rfl), (Nat.le_of_ble_eq_true rfl)⟩) (hK.recv hpi rfl) rfl hl.1 rfl (Nat.le_of_ble_eq_true rfl) dX1_loadOf_13 ⟨by first | exact Nat.le_of_ble_eq_true rfl | (dsimp only [rmd]; omega) | omega, by first | exact Nat.le_of_ble_eq_true rfl | (dsimp only [rmd]; omega) | omega⟩ (fun v1 H1 locs1 hq1 hS => ?_)
      obtain ⟨rfl, rfl⟩ := hq1
      refine hz_eq (tgt := 52) (pc := 18) hx hb dX1_loadOf_18 (by decide) (fun _ => ?_) (fun hn => absurd hn (by simp; omega))
      obtain rfl : k = S 8 0 := by omega
      refine lv_iload_n (pc := 52) hx hb dX1_loadOf_52 rfl (lk hl rfl) ?_
      exact hr_i (pc := 53) hQ hx hb hr hlocks hS (by first | exact Nat.le_of_ble_eq_true rfl | (dsimp only [rmd]; omega) | omega) (by first | exact Nat.le_of_ble_eq_true rfl | (dsimp only [rmd]; omega) | omega) (⟨rfl, hG⟩) dX1_loadOf_53
    | succ d ih =>
      intro k lr H' locs ls hk hM hG hpi hS hl
      have hb10 := hw.b10 k
      have hpl := plo_le S v9 k
      refine lv_aload_n (pc := 12) hx hb dX1_loadOf_12 rfl (lk hl rfl) ?_
      refine hc_F (pc := 13) hx hb hml hown hts hK hS (hK.1.1 15 _ cl_15).2 (j_li_hasNext l Γ _ _ _ k _ _ _ _ _ _ _ hpi hM.l4.1 (by omega) (by omega)) (va_cwF 0 hts (lw_F q895 q931 q933 q104 q935) rfl rfl rfl (hK.fw fwm_12) (by decide +kernel) ⟨(Nat.le_of_ble_eq_true rfl), (Nat.le_of_ble_eq_true rfl)⟩) (hK.recv hpi rfl) rfl hl.1 rfl (Nat.le_of_ble_eq_true rfl) dX1_loadOf_13 ⟨by first | exact Nat.le_of_ble_eq_true rfl | (dsimp only [rmd]; omega) | omega, by first | exact Nat.le_of_ble_eq_true rfl | (dsimp only [rmd]; omega) | omega⟩ (fun v1 H1 locs1 hq1 hS => ?_)
      obtain ⟨rfl, rfl⟩ := hq1
      refine hz_eq (tgt := 52) (pc := 18) hx hb dX1_loadOf_18 (by decide) (fun hn => absurd hn (by simp; omega)) (fun _ => ?_)
      refine lv_aload_n (pc := 21) hx hb dX1_loadOf_21 rfl (lk hl rfl) ?_
      refine hc_F (pc := 22) hx hb hml hown hts hK hS (hK.1.1 15 _ cl_15).2 (j_li_next l Γ _ _ _ k _ _ _ _ _ hpi hM.l4 (show k < S 8 0 from by omega) (by omega) hgρ (hM.nr hρ2 (t := 4) (i := 0) (by decide) rfl) (fun j hj => hM.nr hρ2 (t := 14) (by decide) hj)) (va_cwF 0 hts (lw_F q937 q1136 q1138 q104 q1140) rfl rfl rfl (hK.fw fwm_13) (by decide +kernel) ⟨(Nat.le_of_ble_eq_true rfl), (Nat.le_of_ble_eq_true rfl)⟩) (hK.recv hpi rfl) rfl hl.1 rfl (Nat.le_of_ble_eq_true rfl) dX1_loadOf_22 ⟨by first | exact Nat.le_of_ble_eq_true rfl | (dsimp only [rmd]; omega) | omega, by first | exact Nat.le_of_ble_eq_true rfl | (dsimp only [rmd]; omega) | omega⟩ (fun v2 H2 locs2 hq2 hS => ?_)
      obtain ⟨rfl, hpi, hoi2⟩ := hq2
      have hM := hM.off hoi2 (fun q e9 => by rw [e9]; exact hρ2)
      have hG := hG.fresh hoi2 (fun q hq9 e9 => by omega)
      refine va_castS (pc := 27) hx hb hown (hts _ q1148) (hK.1.1 6 _ rfl).2 (hK.recv (hM.p13 (show k < S 8 0 from by omega)) rfl) dX1_loadOf_27 ?_
      refine lv_astore (pc := 30) hx hb dX1_loadOf_30 hl (Nat.le_of_ble_eq_true rfl) rfl (fun ls hl => ?_)
      refine lv_iload_n (pc := 32) hx hb dX1_loadOf_32 rfl (lk hl rfl) ?_
      refine lv_aload (pc := 33) hx hb dX1_loadOf_33 (lk hl rfl) ?_
      refine hw_getN (pc := 35) hx hb hts in_X11 hown hK (hM.p13 (show k < S 8 0 from by omega)) rfl 1 (Nat.le_of_ble_eq_true rfl) q1668 (fun x h => h) rfl dX1_loadOf_35 ?_
      refine lv_iload_n (pc := 38) hx hb dX1_loadOf_38 rfl (lk hl rfl) ?_
      refine hm_ne (tgt := 46) (pc := 39) hx hb dX1_loadOf_39 (by decide) (by omega) (by omega) (fun h => ?_) (fun h => ?_)
      · refine lv_iconst (v := nI 0) (pc := 46) hx hb dX1_loadOf_46 (by decide) ?_
        refine lv_iadd (pc := 47) hx hb dX1_loadOf_47 ?_
        refine hw_top (congrArg Value.int (show _ = nI (plo S v9 k + 0) from nI_add _ _)) ?_
        rw [Nat.add_zero]
        refine lv_istore_n (pc := 48) hx hb dX1_loadOf_48 rfl hl (Nat.le_of_ble_eq_true rfl) rfl (fun ls hl => ?_)
        refine lv_goto (tgt := 12) (pc := 49) hx hb dX1_loadOf_49 (by decide) ?_
        have e : plo S v9 (k + 1) = plo S v9 k := by rw [plo, if_neg h]; rfl
        exact ih (k + 1) _ _ _ ls (by omega) hM hG hpi hS (by rw [e]; exact (by repeat first | exact lv_0 hl | refine lv_c (lk hl rfl) ?_))
      · skip
        refine lv_iconst (v := nI 1) (pc := 42) hx hb dX1_loadOf_42 (by decide) ?_
        refine lv_goto (tgt := 47) (pc := 43) hx hb dX1_loadOf_43 (by decide) ?_
        refine lv_iadd (pc := 47) hx hb dX1_loadOf_47 ?_
        refine hw_top (congrArg Value.int (show _ = nI (plo S v9 k + 1) from nI_add _ _)) ?_
        refine lv_istore_n (pc := 48) hx hb dX1_loadOf_48 rfl hl (Nat.le_of_ble_eq_true rfl) rfl (fun ls hl => ?_)
        refine lv_goto (tgt := 12) (pc := 49) hx hb dX1_loadOf_49 (by decide) ?_
        have e : plo S v9 (k + 1) = plo S v9 k + 1 := by rw [plo, if_pos h]
        exact ih (k + 1) _ _ _ ls (by omega) hM hG hpi hS (by rw [e]; exact (by repeat first | exact lv_0 hl | refine lv_c (lk hl rfl) ?_))
  exact L1 (S 8 0) 0 _ _ _ ls (by omega) hM hG hpi hS (by repeat first | exact lv_0 hl | refine lv_c (lk hl rfl) ?_)
theorem nI_n1 {a : Nat} (h : a < 2 ^ 30) : nI a ≠ nI 0 - 1 := by
  rw [← nI_pred a]
  intro q
  have := (nm_eq (by omega) (by omega)).mp q
  omega
/-- where a thread goes: of the set a; the same as the reference's, told with the least load so far -/
theorem c_placeFor (l : Launch) (Γ : Cx) (H : Heap) (g : Gn) (L : Nat) (S : Sx) (t9 a9 : Nat) (hM : MC Γ H g L S) (hw : WF S) (hx9 : ∃ y z, pt Γ H t9 (ob 6 [.int (nI a9), y, z])) (ha9 : a9 < 256) : Mt l Γ yX1_placeFor (ws_ yX1_placeFor cX1_placeFor 6 (some .int)) 7 8 40 [.ref (g 0 0), .ref t9] H (fun v H1 => v = some (.int (nI (ppl S a9) - 1)) ∧ Grow H H1) := by
  refine mt_of (by decide +kernel) (Nat.le_of_ble_eq_true rfl) ?_
  intro p e s m args below meth c ls Q hx hb hr hlocks hml hts hown hnm hK hS hl hQ
  have hb0 := hw.b0
  have h8 := hw.b8
  have L1 : ∀ (n k b w9 : Nat) (H' : Heap) (locs : List Loc) (ls : Array Slot), k + n = S 0 0 → b ≤ 8 → (b = 0 ∨ w9 = plo S b (S 8 0)) → w9 ≤ 16 → pplA S a9 n k b = ppl S a9 → MC Γ H' g L S → Grow H H' → va_S (Gz Γ) s.heap H' locs → lv_has ls 6 [(0, .ref (g 0 0)), (1, .ref t9), (2, .int (nI b - 1)), (3, .int (nI w9)), (4, .int (nI k))] → W p l e (rmd 7 8 40) s m args below meth c H' locs (k) (5 * k) Q (F0 m 7 ls []) := by
    intro n
    induction n with
    | zero =>
      intro k b w9 H' locs ls hk hb8 hw9 hw16 he hM hG hS hl
      refine lv_iload (pc := 7) hx hb dX1_placeFor_7 (lk hl rfl) ?_
      refine lv_aload_n (pc := 9) hx hb dX1_placeFor_9 rfl (lk hl rfl) ?_
      refine hw_get (pc := 10) hx hb hts in_X1 hown hK (hM.p0) rfl 1 (Nat.le_of_ble_eq_true rfl) (hts _ q338) (fun x h => h) rfl dX1_placeFor_10 ?_
      refine hc_F (pc := 13) hx hb hml hown hts hK hS (hK.1.1 8 _ cl_8).2 (j_al_size l Γ _ _ _ _ _ hM.p2) (va_cwF 0 hts (lw_F q392 q395 q397 q73 q399) rfl rfl rfl (hK.fw fwm_0) (by decide +kernel) ⟨(Nat.le_of_ble_eq_true rfl), (Nat.le_of_ble_eq_true rfl)⟩) (hK.recv hM.p2 rfl) rfl hl.1 rfl (Nat.le_of_ble_eq_true rfl) dX1_placeFor_13 ⟨by first | exact Nat.le_of_ble_eq_true rfl | (dsimp only [rmd]; omega) | omega, by first | exact Nat.le_of_ble_eq_true rfl | (dsimp only [rmd]; omega) | omega⟩ (fun v1 H1 locs1 hq1 hS => ?_)
      obtain ⟨rfl, rfl⟩ := hq1
      refine hn_ge (tgt := 91) (pc := 18) hx hb dX1_placeFor_18 (by decide) (by omega) (by omega) (fun _ => ?_) (fun hn => absurd hn (by omega))
      rw [pplA] at he
      refine lv_iload_n (pc := 91) hx hb dX1_placeFor_91 rfl (lk hl rfl) ?_
      exact hr_i (pc := 92) hQ hx hb hr hlocks hS (by first | exact Nat.le_of_ble_eq_true rfl | (dsimp only [rmd]; omega) | omega) (by first | exact Nat.le_of_ble_eq_true rfl | (dsimp only [rmd]; omega) | omega) (⟨by rw [← he], hG⟩) dX1_placeFor_92
    | succ n ih =>
      intro k b w9 H' locs ls hk hb8 hw9 hw16 he hM hG hS hl
      obtain ⟨y9, z9, hpt⟩ := hx9
      have hpt := hpt.grow hG
      have hpl := plo_le S (k + 1) (S 8 0)
      refine lv_iload (pc := 7) hx hb dX1_placeFor_7 (lk hl rfl) ?_
      refine lv_aload_n (pc := 9) hx hb dX1_placeFor_9 rfl (lk hl rfl) ?_
      refine hw_get (pc := 10) hx hb hts in_X1 hown hK (hM.p0) rfl 1 (Nat.le_of_ble_eq_true rfl) (hts _ q338) (fun x h => h) rfl dX1_placeFor_10 ?_
      refine hc_F (pc := 13) hx hb hml hown hts hK hS (hK.1.1 8 _ cl_8).2 (j_al_size l Γ _ _ _ _ _ hM.p2) (va_cwF 0 hts (lw_F q392 q395 q397 q73 q399) rfl rfl rfl (hK.fw fwm_0) (by decide +kernel) ⟨(Nat.le_of_ble_eq_true rfl), (Nat.le_of_ble_eq_true rfl)⟩) (hK.recv hM.p2 rfl) rfl hl.1 rfl (Nat.le_of_ble_eq_true rfl) dX1_placeFor_13 ⟨by first | exact Nat.le_of_ble_eq_true rfl | (dsimp only [rmd]; omega) | omega, by first | exact Nat.le_of_ble_eq_true rfl | (dsimp only [rmd]; omega) | omega⟩ (fun v1 H1 locs1 hq1 hS => ?_)
      obtain ⟨rfl, rfl⟩ := hq1
      refine hn_ge (tgt := 91) (pc := 18) hx hb dX1_placeFor_18 (by decide) (by omega) (by omega) (fun hn => absurd hn (by omega)) (fun _ => ?_)
      refine lv_aload_n (pc := 21) hx hb dX1_placeFor_21 rfl (lk hl rfl) ?_
      refine lv_iload (pc := 22) hx hb dX1_placeFor_22 (lk hl rfl) ?_
      refine hc_V (pc := 24) hx hb hml hown hts hK hS (s_mayBe l Γ _ t9 6 a9 k _ (Or.inl rfl) hpt ha9 (by omega)) (cwV 1 hts (lw_V q1585 q1586 q1587 q119 q1590) rfl rfl rfl (by decide +kernel) ⟨(Nat.le_of_ble_eq_true rfl), (Nat.le_of_ble_eq_true rfl)⟩) (hK.recv hpt rfl) rfl hl.1 rfl (Nat.le_of_ble_eq_true rfl) dX1_placeFor_24 ⟨by first | exact Nat.le_of_ble_eq_true rfl | (dsimp only [rmd]; omega) | omega, by first | exact Nat.le_of_ble_eq_true rfl | (dsimp only [rmd]; omega) | omega⟩ (fun vm9 Hm9 locsm9 hqm9 hS => ?_)
      obtain ⟨rfl, rfl⟩ := hqm9
      have skip : ¬ (a9.testBit k = true ∧ 10 < S 1 k) → ∀ (locs : List Loc) (ls : Array Slot), va_S (Gz Γ) s.heap H' locs → lv_has ls 6 [(0, .ref (g 0 0)), (1, .ref t9), (2, .int (nI b - 1)), (3, .int (nI w9)), (4, .int (nI k))] → W p l e (rmd 7 8 40) s m args below meth c H' locs (k) (5 * k) Q (F0 m 59 ls []) := by
        intro hn locs ls hS hl
        rw [pplA, if_neg hn] at he
        refine lv_iconst (v := nI 0 - 1) (pc := 59) hx hb dX1_placeFor_59 (by decide) ?_
        refine lv_istore (pc := 60) hx hb dX1_placeFor_60 hl (Nat.le_of_ble_eq_true rfl) rfl (fun ls hl => ?_)
        refine lv_iload (pc := 62) hx hb dX1_placeFor_62 (lk hl rfl) ?_
        refine lv_iconst (v := nI 0 - 1) (pc := 64) hx hb dX1_placeFor_64 (by decide) ?_
        refine hm_eq (tgt := 85) (pc := 65) hx hb dX1_placeFor_65 (by decide) (by omega) (by omega) (fun _ => ?_) (fun hn => absurd hn (by omega))
        refine hw_iinc (v := nI (k + 1)) (pc := 85) hx hb dX1_placeFor_85 hl (lk hl rfl) (n_inc _ 1) (Nat.le_of_ble_eq_true rfl) (fun ls hl => ?_)
        refine lv_goto (tgt := 7) (pc := 88) hx hb dX1_placeFor_88 (by decide) ?_
        exact W.widen (show k ≤ k + 1 by omega) (show 5 * k ≤ 5 * (k + 1) by omega) (ih (k + 1) b w9 _ _ ls (by omega) hb8 hw9 hw16 he hM hG hS (by repeat first | exact lv_0 hl | refine lv_c (lk hl rfl) ?_))
      refine hz_eq (tgt := 59) (pc := 27) hx hb dX1_placeFor_27 (by decide) (fun h => ?_) (fun h => ?_)
      · exact skip (fun q => by rw [h] at q; exact absurd q.1 (by simp)) _ ls hS (by repeat first | exact lv_0 hl | refine lv_c (lk hl rfl) ?_)
      · skip
        refine lv_aload_n (pc := 30) hx hb dX1_placeFor_30 rfl (lk hl rfl) ?_
        refine hw_get (pc := 31) hx hb hts in_X1 hown hK (hM.p0) rfl 1 (Nat.le_of_ble_eq_true rfl) (hts _ q338) (fun x h => h) rfl dX1_placeFor_31 ?_
        refine lv_iload (pc := 34) hx hb dX1_placeFor_34 (lk hl rfl) ?_
        refine hc_F (pc := 36) hx hb hml hown hts hK hS (hK.1.1 8 _ cl_8).2 (j_al_get l Γ _ _ _ _ _ _ _ _ hM.p2 hM.p21 (show k < S 0 0 from by omega) (by omega) (if_pos (show k < S 0 0 from by omega))) (va_cwF 1 hts (lw_F q414 q417 q419 q73 q421) rfl rfl rfl (hK.fw fwm_1) (by decide +kernel) ⟨(Nat.le_of_ble_eq_true rfl), (Nat.le_of_ble_eq_true rfl)⟩) (hK.recv hM.p2 rfl) rfl hl.1 rfl (Nat.le_of_ble_eq_true rfl) dX1_placeFor_36 ⟨by first | exact Nat.le_of_ble_eq_true rfl | (dsimp only [rmd]; omega) | omega, by first | exact Nat.le_of_ble_eq_true rfl | (dsimp only [rmd]; omega) | omega⟩ (fun v2 H2 locs2 hq2 hS => ?_)
        obtain ⟨rfl, rfl⟩ := hq2
        refine va_castS (pc := 41) hx hb hown (hts _ q164) (hK.1.1 1 _ rfl).2 (hK.recv (hM.p7 (show k < S 0 0 from by omega)) rfl) dX1_placeFor_41 ?_
        refine hc_V (pc := 44) hx hb hml hown hts hK hS (s_isUp l Γ _ _ _ _ _ (hM.p7 (show k < S 0 0 from by omega)) (hw.b1 _)) (cwV 0 hts (lw_V q769 q770 q771 q74 q772) rfl rfl rfl (by decide +kernel) ⟨(Nat.le_of_ble_eq_true rfl), (Nat.le_of_ble_eq_true rfl)⟩) (hK.recv (hM.p7 (show k < S 0 0 from by omega)) rfl) rfl hl.1 rfl (Nat.le_of_ble_eq_true rfl) dX1_placeFor_44 ⟨by first | exact Nat.le_of_ble_eq_true rfl | (dsimp only [rmd]; omega) | omega, by first | exact Nat.le_of_ble_eq_true rfl | (dsimp only [rmd]; omega) | omega⟩ (fun v3 H3 locs3 hq3 hS => ?_)
        obtain ⟨rfl, rfl⟩ := hq3
        refine hz_eq (tgt := 59) (pc := 47) hx hb dX1_placeFor_47 (by decide) (fun h2 => ?_) (fun h2 => ?_)
        · exact skip (fun q => of_decide_eq_false h2 q.2) _ ls hS (by repeat first | exact lv_0 hl | refine lv_c (lk hl rfl) ?_)
        · skip
          refine lv_aload_n (pc := 50) hx hb dX1_placeFor_50 rfl (lk hl rfl) ?_
          refine lv_iload (pc := 51) hx hb dX1_placeFor_51 (lk hl rfl) ?_
          rw [← nI_pred]
          refine hc_V (pc := 53) hx hb hml hown hts hK hS (c_loadOf l Γ H' g L S (k + 1) hM hw (by omega)) (cwV 1 hts (lw_V q1601 q1603 qs38 q70 q1604) rfl rfl rfl (by decide +kernel) ⟨(Nat.le_of_ble_eq_true rfl), (Nat.le_of_ble_eq_true rfl)⟩) (hK.recv hM.p0 rfl) rfl hl.1 rfl (Nat.le_of_ble_eq_true rfl) dX1_placeFor_53 ⟨by first | exact Nat.le_of_ble_eq_true rfl | (dsimp only [rmd]; omega) | omega, by first | exact Nat.le_of_ble_eq_true rfl | (dsimp only [rmd]; omega) | omega⟩ (fun vlo Hlo locslo hqlo hS => ?_)
          obtain ⟨rfl, hG9⟩ := hqlo
          have hM := hM.grow hG9
          have hG := hG.trans hG9
          rw [pplA, if_pos ⟨h, of_decide_eq_true h2⟩] at he
          refine lv_goto (tgt := 60) (pc := 56) hx hb dX1_placeFor_56 (by decide) ?_
          refine lv_istore (pc := 60) hx hb dX1_placeFor_60 hl (Nat.le_of_ble_eq_true rfl) rfl (fun ls hl => ?_)
          refine lv_iload (pc := 62) hx hb dX1_placeFor_62 (lk hl rfl) ?_
          refine lv_iconst (v := nI 0 - 1) (pc := 64) hx hb dX1_placeFor_64 (by decide) ?_
          refine lv_icmp_eq (tgt := 85) (pc := 65) hx hb dX1_placeFor_65 (by decide) (fun q => absurd q (nI_n1 (by omega))) (fun _ => ?_)
          have take : pplA S a9 n (k + 1) (k + 1) = ppl S a9 → ∀ (locs : List Loc) (ls : Array Slot), va_S (Gz Γ) s.heap Hlo locs → lv_has ls 6 [(0, .ref (g 0 0)), (1, .ref t9), (4, .int (nI k)), (5, .int (nI (plo S (k + 1) (S 8 0))))] → W p l e (rmd 7 8 40) s m args below meth c Hlo locs (k + 1) (5 * k + 5) Q (F0 m 79 ls []) := by
            intro he locs ls hS hl
            refine lv_iload (pc := 79) hx hb dX1_placeFor_79 (lk hl rfl) ?_
            rw [← nI_pred]
            refine lv_istore_n (pc := 81) hx hb dX1_placeFor_81 rfl hl (Nat.le_of_ble_eq_true rfl) rfl (fun ls hl => ?_)
            refine lv_iload (pc := 82) hx hb dX1_placeFor_82 (lk hl rfl) ?_
            refine lv_istore_n (pc := 84) hx hb dX1_placeFor_84 rfl hl (Nat.le_of_ble_eq_true rfl) rfl (fun ls hl => ?_)
            refine hw_iinc (v := nI (k + 1)) (pc := 85) hx hb dX1_placeFor_85 hl (lk hl rfl) (n_inc _ 1) (Nat.le_of_ble_eq_true rfl) (fun ls hl => ?_)
            refine lv_goto (tgt := 7) (pc := 88) hx hb dX1_placeFor_88 (by decide) ?_
            exact W.widen (show k + 1 ≤ k + 1 by omega) (show 5 * k + 5 ≤ 5 * (k + 1) by omega) (ih (k + 1) (k + 1) _ _ _ ls (by omega) (by omega) (Or.inr rfl) (by omega) he hM hG hS (by repeat first | exact lv_0 hl | refine lv_c (lk hl rfl) ?_))
          have leave : pplA S a9 n (k + 1) b = ppl S a9 → ∀ (locs : List Loc) (ls : Array Slot), va_S (Gz Γ) s.heap Hlo locs → lv_has ls 6 [(0, .ref (g 0 0)), (1, .ref t9), (2, .int (nI b - 1)), (3, .int (nI w9)), (4, .int (nI k))] → W p l e (rmd 7 8 40) s m args below meth c Hlo locs (k + 1) (5 * k + 5) Q (F0 m 85 ls []) := by
            intro he locs ls hS hl
            refine hw_iinc (v := nI (k + 1)) (pc := 85) hx hb dX1_placeFor_85 hl (lk hl rfl) (n_inc _ 1) (Nat.le_of_ble_eq_true rfl) (fun ls hl => ?_)
            refine lv_goto (tgt := 7) (pc := 88) hx hb dX1_placeFor_88 (by decide) ?_
            exact W.widen (show k + 1 ≤ k + 1 by omega) (show 5 * k + 5 ≤ 5 * (k + 1) by omega) (ih (k + 1) b w9 _ _ ls (by omega) hb8 hw9 hw16 he hM hG hS (by repeat first | exact lv_0 hl | refine lv_c (lk hl rfl) ?_))
          refine lv_iload_n (pc := 68) hx hb dX1_placeFor_68 rfl (lk hl rfl) ?_
          refine lv_iconst (v := nI 0 - 1) (pc := 69) hx hb dX1_placeFor_69 (by decide) ?_
          refine hm_eq (tgt := 79) (pc := 70) hx hb dX1_placeFor_70 (by decide) (by omega) (by omega) (fun h3 => ?_) (fun h3 => ?_)
          · exact take (by rw [← he, if_pos h3]) _ ls hS (by repeat first | exact lv_0 hl | refine lv_c (lk hl rfl) ?_)
          · skip
            rw [if_neg h3] at he
            have hw9 : w9 = plo S b (S 8 0) := hw9.resolve_left h3
            refine lv_iload (pc := 73) hx hb dX1_placeFor_73 (lk hl rfl) ?_
            refine lv_iload_n (pc := 75) hx hb dX1_placeFor_75 rfl (lk hl rfl) ?_
            refine hn_ge (tgt := 85) (pc := 76) hx hb dX1_placeFor_76 (by decide) (by omega) (by omega) (fun h4 => ?_) (fun h4 => ?_)
            · rw [if_neg (by omega)] at he
              exact leave he _ ls hS (by repeat first | exact lv_0 hl | refine lv_c (lk hl rfl) ?_)
            · skip
              rw [if_pos (by omega)] at he
              exact take he _ ls hS (by repeat first | exact lv_0 hl | refine lv_c (lk hl rfl) ?_)
  refine lv_iconst (v := nI 0 - 1) (pc := 0) hx hb dX1_placeFor_0 (by decide) ?_
  refine lv_istore_n (pc := 1) hx hb dX1_placeFor_1 rfl hl (Nat.le_of_ble_eq_true rfl) rfl (fun ls hl => ?_)
  refine lv_iconst (v := nI 0) (pc := 2) hx hb dX1_placeFor_2 (by decide) ?_
  refine lv_istore_n (pc := 3) hx hb dX1_placeFor_3 rfl hl (Nat.le_of_ble_eq_true rfl) rfl (fun ls hl => ?_)
  refine lv_iconst (v := nI 0) (pc := 4) hx hb dX1_placeFor_4 (by decide) ?_
  refine lv_istore (pc := 5) hx hb dX1_placeFor_5 hl (Nat.le_of_ble_eq_true rfl) rfl (fun ls hl => ?_)
  exact L1 (S 0 0) 0 0 0 _ _ ls (by omega) (by omega) (Or.inl rfl) (by omega) rfl hM Off.rf hS (by repeat first | exact lv_0 hl | refine lv_c (lk hl rfl) ?_)
