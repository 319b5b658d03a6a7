/-! ArrayDeque's iterator -/
set_option maxRecDepth 100000
set_option maxHeartbeats 4000000
theorem nI_0lt {k : Nat} (h0 : 0 < k) (h : k < 2 ^ 31) : (0 : Int32) < nI k := by
  rw [Int32.lt_iff_toInt_lt, nI_toInt h, Int32.toInt_zero]
  omega
theorem j_di_init (l : Launch) (Γ : Cx) (H : Heap) (ρ a arr h t : Nat) (f : Nat → Option Nat) (hpi : pt Γ H ρ (ob 16 [.int (nI 0), .int (nI 0), .int (nI 0), .null])) (hpa : pt Γ H a (ob 11 [.ref arr, .int (nI h), .int (nI t)])) (hpr : pt Γ H arr (oa Γ 17 f)) (hh : h < 17) (ht : t < 17) (hg : Gz Γ ρ) (hne : a ≠ ρ) (hnr : arr ≠ ρ) : Mt l Γ yJ33_init (ws_ yJ33_init cJ33_init 2 none) 3 0 0 [.ref ρ, .ref a] H (fun v H1 => v = none ∧ pt Γ H1 ρ (ob 16 [.int (nI h), .int (nI (dqn h t)), .int (nI 0 - 1), .ref a]) ∧ Off (fun q => q = ρ) H H1) := by
  refine mt_of (by decide +kernel) (Nat.le_of_ble_eq_true rfl) ?_
  intro p e s m args below meth c ls Q hx hb hr hlocks hml hts hown hnm hK hS hl hQ
  have ho : Off (fun q => q = ρ) H H := Off.rf
  refine lv_aload_n (pc := 0) hx hb dJ33_init_0 rfl (lk hl rfl) ?_
  refine lv_aload_n (pc := 1) hx hb dJ33_init_1 rfl (lk hl rfl) ?_
  refine hw_putF (pc := 2) hx hb hts in_J33 tyJ33_ok nmJ33 hown hK (hpi) (hg) hS rfl 3 (Nat.le_of_ble_eq_true rfl) (hts _ q1401) (fun x h => h) rfl hnm rfl rfl (rfl) (rfl) (Nat.le_of_ble_eq_true rfl) dJ33_init_2 (fun Hp1 locsp1 hpp1 zp1 op1 hS => ?_)
  have hpi : pt Γ Hp1 ρ (ob 16 [.int (nI 0), .int (nI 0), .int (nI 0), .ref a]) := hpp1
  have hpa := hpa.ne op1 (by first | assumption | omega | (intro hne; subst hne; simp_all))
  have hpr := hpr.ne op1 (by first | assumption | omega | (intro hne; subst hne; simp_all))
  have ho := ho.trans (Off.put zp1 op1 (by first | rfl | (simp; done) | exact Or.inl rfl | exact Or.inr rfl | omega))
  refine lv_aload_n (pc := 5) hx hb dJ33_init_5 rfl (lk hl rfl) ?_
  refine W.objInit hx hb hown (hts _ q1390) (hts _ q127) (hts _ q128) rfl (by rw [hml]; exact hl.1) rfl dJ33_init_6 (Nat.le_of_ble_eq_true rfl) (Nat.le_of_ble_eq_true rfl) ?_
  refine W.eq (g2 := F0 m 9 ls _) rfl ?_
  refine lv_aload_n (pc := 9) hx hb dJ33_init_9 rfl (lk hl rfl) ?_
  refine lv_aload_n (pc := 10) hx hb dJ33_init_10 rfl (lk hl rfl) ?_
  refine hw_get (pc := 11) hx hb hts in_J33 hown hK (hpi) rfl 3 (Nat.le_of_ble_eq_true rfl) (hts _ q1401) (fun x h => h) rfl dJ33_init_11 ?_
  refine hc_V (pc := 14) hx hb hml hown hts hK hS (j_dq_size l Γ _ a arr h t f hpa hpr hh ht) (cwV 0 hts (lw_V q1391 q1392 q1393 q82 q1394) rfl rfl rfl (by decide +kernel) ⟨(Nat.le_of_ble_eq_true rfl), (Nat.le_of_ble_eq_true rfl)⟩) (hK.recv hpa rfl) rfl hl.1 rfl (Nat.le_of_ble_eq_true rfl) dJ33_init_14 ⟨by first | exact Nat.le_of_ble_eq_true rfl | (dsimp only [rmd]; omega), by first | exact Nat.le_of_ble_eq_true rfl | (dsimp only [rmd]; omega)⟩ (fun v9 H9 locs9 hq9 hS => ?_)
  obtain ⟨rfl, rfl⟩ := hq9
  refine hw_put (pc := 17) hx hb hts in_J33 tyJ33_ok nmJ33 hown hK (hpi) (hg) hS rfl 1 (Nat.le_of_ble_eq_true rfl) (hts _ q1399) (fun x h => h) rfl rfl (rfl) (rfl) (Nat.le_of_ble_eq_true rfl) dJ33_init_17 (fun Hp2 locsp2 hpp2 zp2 op2 hS => ?_)
  have hpi : pt Γ Hp2 ρ (ob 16 [.int (nI 0), .int (nI (dqn h t)), .int (nI 0), .ref a]) := hpp2
  have hpa := hpa.ne op2 (by first | assumption | omega | (intro hne; subst hne; simp_all))
  have hpr := hpr.ne op2 (by first | assumption | omega | (intro hne; subst hne; simp_all))
  have ho := ho.trans (Off.put zp2 op2 (by first | rfl | (simp; done) | exact Or.inl rfl | exact Or.inr rfl | omega))
  refine lv_aload_n (pc := 20) hx hb dJ33_init_20 rfl (lk hl rfl) ?_
  refine lv_iconst (v := nI 0 - 1) (pc := 21) hx hb dJ33_init_21 (by decide) ?_
  refine hw_put (pc := 22) hx hb hts in_J33 tyJ33_ok nmJ33 hown hK (hpi) (hg) hS rfl 2 (Nat.le_of_ble_eq_true rfl) (hts _ q1400) (fun x h => h) rfl rfl (rfl) (rfl) (Nat.le_of_ble_eq_true rfl) dJ33_init_22 (fun Hp3 locsp3 hpp3 zp3 op3 hS => ?_)
  have hpi : pt Γ Hp3 ρ (ob 16 [.int (nI 0), .int (nI (dqn h t)), .int (nI 0 - 1), .ref a]) := hpp3
  have hpa := hpa.ne op3 (by first | assumption | omega | (intro hne; subst hne; simp_all))
  have hpr := hpr.ne op3 (by first | assumption | omega | (intro hne; subst hne; simp_all))
  have ho := ho.trans (Off.put zp3 op3 (by first | rfl | (simp; done) | exact Or.inl rfl | exact Or.inr rfl | omega))
  refine lv_aload_n (pc := 25) hx hb dJ33_init_25 rfl (lk hl rfl) ?_
  refine lv_aload_n (pc := 26) hx hb dJ33_init_26 rfl (lk hl rfl) ?_
  refine hw_get (pc := 27) hx hb hts in_J9 hown hK (hpa) rfl 1 (Nat.le_of_ble_eq_true rfl) (hts _ q327) (fun x h => h) rfl dJ33_init_27 ?_
  refine hw_put (pc := 30) hx hb hts in_J33 tyJ33_ok nmJ33 hown hK (hpi) (hg) hS rfl 0 (Nat.le_of_ble_eq_true rfl) (hts _ q1398) (fun x h => h) rfl rfl (rfl) (rfl) (Nat.le_of_ble_eq_true rfl) dJ33_init_30 (fun Hp4 locsp4 hpp4 zp4 op4 hS => ?_)
  have hpi : pt Γ Hp4 ρ (ob 16 [.int (nI h), .int (nI (dqn h t)), .int (nI 0 - 1), .ref a]) := hpp4
  have hpa := hpa.ne op4 (by first | assumption | omega | (intro hne; subst hne; simp_all))
  have hpr := hpr.ne op4 (by first | assumption | omega | (intro hne; subst hne; simp_all))
  have ho := ho.trans (Off.put zp4 op4 (by first | rfl | (simp; done) | exact Or.inl rfl | exact Or.inr rfl | omega))
  exact hr_v (pc := 33) hQ hx hb hr hlocks hS (by first | exact Nat.le_of_ble_eq_true rfl | (dsimp only [rmd]; omega)) (by first | exact Nat.le_of_ble_eq_true rfl | (dsimp only [rmd]; omega)) (⟨rfl, hpi, ho⟩) dJ33_init_33
theorem j_dq_iterator (l : Launch) (Γ : Cx) (H : Heap) (a arr h t : Nat) (f : Nat → Option Nat) (hpa : pt Γ H a (ob 11 [.ref arr, .int (nI h), .int (nI t)])) (hpr : pt Γ H arr (oa Γ 17 f)) (hh : h < 17) (ht : t < 17) : Mt l Γ yJ9_iterator (ws_ yJ9_iterator cJ9_iterator 1 (some (.object "java/util/Iterator"))) 4 1 4 [.ref a] H (fun v H1 => v = some (.ref H.size) ∧ pt Γ H1 H.size (ob 16 [.int (nI h), .int (nI (dqn h t)), .int (nI 0 - 1), .ref a]) ∧ Gz Γ H.size ∧ Grow H H1) := by
  refine mt_of (by decide +kernel) (Nat.le_of_ble_eq_true rfl) ?_
  intro p e s m args below meth c ls Q hx hb hr hlocks hml hts hown hnm hK hS hl hQ
  have hla := hpa.lt
  have hlr := hpr.lt
  refine hw_new (ci := 16) (pc := 0) hx hb hts in_J33 tyJ33_ok hown (hts _ q1385) (hts _ q1386) (hts _ q113) hK hS rfl rfl (by first | exact Nat.le_of_ble_eq_true rfl | (dsimp only [rmd]; omega)) (by first | exact Nat.le_of_ble_eq_true rfl | (dsimp only [rmd]; omega)) dJ9_iterator_0 (fun qn Hn eqn hpn hgn zn on hS => ?_)
  have hpa := hpa.old on
  have hpr := hpr.old on
  have : a < Hn.size := hpa.lt
  have : arr < Hn.size := hpr.lt
  have hpn : pt Γ Hn qn (ob 16 [.int (nI 0), .int (nI 0), .int (nI 0), .null]) := hpn
  refine lv_dup (pc := 3) hx hb dJ9_iterator_3 rfl ?_
  refine lv_aload_n (pc := 4) hx hb dJ9_iterator_4 rfl (lk hl rfl) ?_
  refine hc_I (pc := 5) hx hb hml hown hts hK hS (j_di_init l Γ Hn qn a arr h t f hpn hpa hpr hh ht hgn (by omega) (by omega)) (cwI 1 hts (lw_meth q1389) rfl rfl rfl (hts _ q113) (hts _ q1387) (hts _ q1388) rfl (by decide +kernel) ⟨(Nat.le_of_ble_eq_true rfl), (Nat.le_of_ble_eq_true rfl)⟩) rfl hl.1 rfl (Nat.le_of_ble_eq_true rfl) dJ9_iterator_5 ⟨by first | exact Nat.le_of_ble_eq_true rfl | (dsimp only [rmd]; omega), by first | exact Nat.le_of_ble_eq_true rfl | (dsimp only [rmd]; omega)⟩ (fun v9 H9 locs9 hq9 hS => ?_)
  obtain ⟨rfl, h1, h2⟩ := hq9
  subst eqn
  have hgr : Grow H H9 := (Off.new (S := fun _ => False) zn on).fresh h2 (fun q hq e => by omega)
  exact hr_a (pc := 8) hQ hx hb hr (Or.inl ⟨_, rfl⟩) (Or.inr ⟨_, rfl⟩) hlocks hS (by first | exact Nat.le_of_ble_eq_true rfl | (dsimp only [rmd]; omega)) (by first | exact Nat.le_of_ble_eq_true rfl | (dsimp only [rmd]; omega)) (⟨rfl, h1, hgn, hgr⟩) dJ9_iterator_8
theorem j_di_hasNext (l : Launch) (Γ : Cx) (H : Heap) (ρ k : Nat) (u v w : Value) (hpi : pt Γ H ρ (ob 16 [u, .int (nI k), v, w])) (hk : k < 2 ^ 31) : Mt l Γ yJ33_hasNext (ws_ yJ33_hasNext cJ33_hasNext 1 (some .boolean)) 1 0 0 [.ref ρ] H (Rd (b01 (decide (0 < k))) H) := by
  refine mt_of (by decide +kernel) (Nat.le_of_ble_eq_true rfl) ?_
  intro p e s m args below meth c ls Q hx hb hr hlocks hml hts hown hnm hK hS hl hQ
  refine lv_aload_n (pc := 0) hx hb dJ33_hasNext_0 rfl (lk hl rfl) ?_
  refine hw_get (pc := 1) hx hb hts in_J33 hown hK (hpi) rfl 1 (Nat.le_of_ble_eq_true rfl) (hts _ q1399) (fun x h => h) rfl dJ33_hasNext_1 ?_
  refine hn_z_le (tgt := 11) (pc := 4) hx hb dJ33_hasNext_4 (by decide) (by omega) (fun h => ?_) (fun h => ?_)
  · refine lv_iconst (v := nI 0) (pc := 11) hx hb dJ33_hasNext_11 (by decide) ?_
    exact hr_z (pc := 12) hQ hx hb hr hlocks hS (by first | exact Nat.le_of_ble_eq_true rfl | (dsimp only [rmd]; omega)) (by first | exact Nat.le_of_ble_eq_true rfl | (dsimp only [rmd]; omega)) (rfl) (⟨by rw [decide_eq_false (by omega)]; rfl, rfl⟩) dJ33_hasNext_12
  · skip
    refine lv_iconst (v := nI 1) (pc := 7) hx hb dJ33_hasNext_7 (by decide) ?_
    refine lv_goto (tgt := 12) (pc := 8) hx hb dJ33_hasNext_8 (by decide) ?_
    exact hr_z (pc := 12) hQ hx hb hr hlocks hS (by first | exact Nat.le_of_ble_eq_true rfl | (dsimp only [rmd]; omega)) (by first | exact Nat.le_of_ble_eq_true rfl | (dsimp only [rmd]; omega)) (rfl) (⟨by rw [decide_eq_true (by omega)]; rfl, rfl⟩) dJ33_hasNext_12
theorem j_dq_nn (l : Launch) (Γ : Cx) (H : Heap) (arr i q : Nat) (f : Nat → Option Nat) (hpr : pt Γ H arr (oa Γ 17 f)) (hi : i < 17) (hf : f i = some q) : Mt l Γ yJ9_nonNullElementAt (ws_ yJ9_nonNullElementAt cJ9_nonNullElementAt 3 (some (.object "java/lang/Object"))) 1 0 0 [.ref arr, .int (nI i)] H (Rv (.ref q) H) := by
  refine mt_of (by decide +kernel) (Nat.le_of_ble_eq_true rfl) ?_
  intro p e s m args below meth c ls Q hx hb hr hlocks hml hts hown hnm hK hS hl hQ
  refine lv_aload_n (pc := 0) hx hb dJ9_nonNullElementAt_0 rfl (lk hl rfl) ?_
  refine lv_iload_n (pc := 1) hx hb dJ9_nonNullElementAt_1 rfl (lk hl rfl) ?_
  refine hw_oald (pc := 2) hx hb hK hpr (vp_in_nI (show i < 17 from by omega) (by omega)) dJ9_nonNullElementAt_2 ?_
  refine hw_top (va_rf_some (i := i) (by omega) (hf)) ?_
  refine lv_astore_n (pc := 3) hx hb dJ9_nonNullElementAt_3 rfl hl (Nat.le_of_ble_eq_true rfl) rfl (fun ls hl => ?_)
  refine lv_aload_n (pc := 4) hx hb dJ9_nonNullElementAt_4 rfl (lk hl rfl) ?_
  refine lv_ifnonnull (tgt := 16) (pc := 5) hx hb dJ9_nonNullElementAt_5 (by decide) ?_
  refine lv_aload_n (pc := 16) hx hb dJ9_nonNullElementAt_16 rfl (lk hl rfl) ?_
  exact hr_a (pc := 17) hQ hx hb hr (Or.inl ⟨_, rfl⟩) (Or.inr ⟨_, rfl⟩) hlocks hS (by first | exact Nat.le_of_ble_eq_true rfl | (dsimp only [rmd]; omega)) (by first | exact Nat.le_of_ble_eq_true rfl | (dsimp only [rmd]; omega)) (⟨rfl, rfl⟩) dJ9_nonNullElementAt_17
theorem j_di_next (l : Launch) (Γ : Cx) (H : Heap) (ρ a arr i k q : Nat) (lr u v : Value) (f : Nat → Option Nat) (hpi : pt Γ H ρ (ob 16 [.int (nI i), .int (nI (k + 1)), lr, .ref a])) (hpa : pt Γ H a (ob 11 [.ref arr, u, v])) (hpr : pt Γ H arr (oa Γ 17 f)) (hi : i < 17) (hk : k < 100) (hf : f i = some q) (hg : Gz Γ ρ) (hn1 : a ≠ ρ) (hn2 : arr ≠ ρ) : Mt l Γ yJ33_next (ws_ yJ33_next cJ33_next 3 (some (.object "java/lang/Object"))) 2 0 0 [.ref ρ] H (fun v H1 => v = some (.ref q) ∧ pt Γ H1 ρ (ob 16 [.int (nI (inc17 i)), .int (nI k), .int (nI i), .ref a]) ∧ Off (fun q => q = ρ) H H1) := by
  refine mt_of (by decide +kernel) (Nat.le_of_ble_eq_true rfl) ?_
  intro p e s m args below meth c ls Q hx hb hr hlocks hml hts hown hnm hK hS hl hQ
  have ho : Off (fun q => q = ρ) H H := Off.rf
  refine lv_aload_n (pc := 0) hx hb dJ33_next_0 rfl (lk hl rfl) ?_
  refine hw_get (pc := 1) hx hb hts in_J33 hown hK (hpi) rfl 1 (Nat.le_of_ble_eq_true rfl) (hts _ q1399) (fun x h => h) rfl dJ33_next_1 ?_
  refine lv_if_gt (tgt := 15) (pc := 4) hx hb dJ33_next_4 (by decide) (fun _ => ?_) (fun hn => absurd (nI_0lt (by omega) (by omega)) hn)
  refine lv_aload_n (pc := 15) hx hb dJ33_next_15 rfl (lk hl rfl) ?_
  refine hw_get (pc := 16) hx hb hts in_J33 hown hK (hpi) rfl 3 (Nat.le_of_ble_eq_true rfl) (hts _ q1401) (fun x h => h) rfl dJ33_next_16 ?_
  refine hw_get (pc := 19) hx hb hts in_J9 hown hK (hpa) rfl 0 (Nat.le_of_ble_eq_true rfl) (hts _ q326) (fun x h => h) rfl dJ33_next_19 ?_
  refine lv_astore_n (pc := 22) hx hb dJ33_next_22 rfl hl (Nat.le_of_ble_eq_true rfl) rfl (fun ls hl => ?_)
  refine lv_aload_n (pc := 23) hx hb dJ33_next_23 rfl (lk hl rfl) ?_
  refine lv_aload_n (pc := 24) hx hb dJ33_next_24 rfl (lk hl rfl) ?_
  refine hw_get (pc := 25) hx hb hts in_J33 hown hK (hpi) rfl 0 (Nat.le_of_ble_eq_true rfl) (hts _ q1398) (fun x h => h) rfl dJ33_next_25 ?_
  refine hc_S (pc := 28) hx hb hml hown hts hK hS (j_dq_nn l Γ _ arr i q f hpr hi hf) (va_cwS 2 hts (lw_S q1115 q1116 q82 q1117) rfl rfl rfl (by decide +kernel) ⟨(Nat.le_of_ble_eq_true rfl), (Nat.le_of_ble_eq_true rfl)⟩) rfl hl.1 rfl (Nat.le_of_ble_eq_true rfl) dJ33_next_28 ⟨by first | exact Nat.le_of_ble_eq_true rfl | (dsimp only [rmd]; omega), by first | exact Nat.le_of_ble_eq_true rfl | (dsimp only [rmd]; omega)⟩ (fun v8 H8 locs8 hq8 hS => ?_)
  obtain ⟨rfl, rfl⟩ := hq8
  refine lv_astore_n (pc := 31) hx hb dJ33_next_31 rfl hl (Nat.le_of_ble_eq_true rfl) rfl (fun ls hl => ?_)
  refine lv_aload_n (pc := 32) hx hb dJ33_next_32 rfl (lk hl rfl) ?_
  refine lv_aload_n (pc := 33) hx hb dJ33_next_33 rfl (lk hl rfl) ?_
  refine lv_aload_n (pc := 34) hx hb dJ33_next_34 rfl (lk hl rfl) ?_
  refine hw_get (pc := 35) hx hb hts in_J33 hown hK (hpi) rfl 0 (Nat.le_of_ble_eq_true rfl) (hts _ q1398) (fun x h => h) rfl dJ33_next_35 ?_
  refine lv_dup_x1 (pc := 38) hx hb dJ33_next_38 rfl rfl ?_
  refine hw_put (pc := 39) hx hb hts in_J33 tyJ33_ok nmJ33 hown hK (hpi) (hg) hS rfl 2 (Nat.le_of_ble_eq_true rfl) (hts _ q1400) (fun x h => h) rfl rfl (rfl) (rfl) (Nat.le_of_ble_eq_true rfl) dJ33_next_39 (fun Hp1 locsp1 hpp1 zp1 op1 hS => ?_)
  have hpi : pt Γ Hp1 ρ (ob 16 [.int (nI i), .int (nI (k + 1)), .int (nI i), .ref a]) := hpp1
  have hpa := hpa.ne op1 (by first | assumption | omega | (intro hne; subst hne; simp_all))
  have hpr := hpr.ne op1 (by first | assumption | omega | (intro hne; subst hne; simp_all))
  have ho := ho.trans (Off.put zp1 op1 (by first | rfl | (simp; done) | exact Or.inl rfl | exact Or.inr rfl | omega))
  refine lv_aload_n (pc := 42) hx hb dJ33_next_42 rfl (lk hl rfl) ?_
  refine hw_olen (pc := 43) hx hb hK (hpr) dJ33_next_43 ?_
  refine hc_S (pc := 44) hx hb hml hown hts hK hS (j_dq_inc l Γ _ i (by omega)) (va_cwS 2 hts (lw_S q1118 q1119 q82 q1120) rfl rfl rfl (by decide +kernel) ⟨(Nat.le_of_ble_eq_true rfl), (Nat.le_of_ble_eq_true rfl)⟩) rfl hl.1 rfl (Nat.le_of_ble_eq_true rfl) dJ33_next_44 ⟨by first | exact Nat.le_of_ble_eq_true rfl | (dsimp only [rmd]; omega), by first | exact Nat.le_of_ble_eq_true rfl | (dsimp only [rmd]; omega)⟩ (fun v2 H2 locs2 hq2 hS => ?_)
  obtain ⟨rfl, rfl⟩ := hq2
  refine hw_put (pc := 47) hx hb hts in_J33 tyJ33_ok nmJ33 hown hK (hpi) (hg) hS rfl 0 (Nat.le_of_ble_eq_true rfl) (hts _ q1398) (fun x h => h) rfl rfl (rfl) (rfl) (Nat.le_of_ble_eq_true rfl) dJ33_next_47 (fun Hp3 locsp3 hpp3 zp3 op3 hS => ?_)
  have hpi : pt Γ Hp3 ρ (ob 16 [.int (nI (inc17 i)), .int (nI (k + 1)), .int (nI i), .ref a]) := hpp3
  have hpa := hpa.ne op3 (by first | assumption | omega | (intro hne; subst hne; simp_all))
  have hpr := hpr.ne op3 (by first | assumption | omega | (intro hne; subst hne; simp_all))
  have ho := ho.trans (Off.put zp3 op3 (by first | rfl | (simp; done) | exact Or.inl rfl | exact Or.inr rfl | omega))
  refine lv_aload_n (pc := 50) hx hb dJ33_next_50 rfl (lk hl rfl) ?_
  refine lv_dup (pc := 51) hx hb dJ33_next_51 rfl ?_
  refine hw_get (pc := 52) hx hb hts in_J33 hown hK (hpi) rfl 1 (Nat.le_of_ble_eq_true rfl) (hts _ q1399) (fun x h => h) rfl dJ33_next_52 ?_
  refine lv_iconst (v := nI 1) (pc := 55) hx hb dJ33_next_55 (by decide) ?_
  refine lv_isub (pc := 56) hx hb dJ33_next_56 ?_
  refine hw_top (congrArg Value.int (show _ = nI (k + 1) - 1 from n_1 _)) ?_
  rw [nI_pred]
  refine hw_put (pc := 57) hx hb hts in_J33 tyJ33_ok nmJ33 hown hK (hpi) (hg) hS rfl 1 (Nat.le_of_ble_eq_true rfl) (hts _ q1399) (fun x h => h) rfl rfl (rfl) (rfl) (Nat.le_of_ble_eq_true rfl) dJ33_next_57 (fun Hp4 locsp4 hpp4 zp4 op4 hS => ?_)
  have hpi : pt Γ Hp4 ρ (ob 16 [.int (nI (inc17 i)), .int (nI k), .int (nI i), .ref a]) := hpp4
  have hpa := hpa.ne op4 (by first | assumption | omega | (intro hne; subst hne; simp_all))
  have hpr := hpr.ne op4 (by first | assumption | omega | (intro hne; subst hne; simp_all))
  have ho := ho.trans (Off.put zp4 op4 (by first | rfl | (simp; done) | exact Or.inl rfl | exact Or.inr rfl | omega))
  refine lv_aload_n (pc := 60) hx hb dJ33_next_60 rfl (lk hl rfl) ?_
  exact hr_a (pc := 61) hQ hx hb hr (Or.inl ⟨_, rfl⟩) (Or.inr ⟨_, rfl⟩) hlocks hS (by first | exact Nat.le_of_ble_eq_true rfl | (dsimp only [rmd]; omega)) (by first | exact Nat.le_of_ble_eq_true rfl | (dsimp only [rmd]; omega)) (⟨rfl, hpi, ho⟩) dJ33_next_61
