/-! the exceptions of the component's own: made -/
set_option maxRecDepth 100000
set_option maxHeartbeats 4000000
theorem KK.thrown {Γ : Cx} {s : State} {H : Heap} {a ci : Nat} {q : vw_C} {fs : List Value} (hK : KK Γ s) (hp : pt Γ H a (.inr (ci, fs))) (hc : cls[ci]? = some q) : ∃ ce : Cell, H[a]? = some ce ∧ ce.vm = .none ∧ s.vm.findClass q.1 = some ce.cls := by
  obtain ⟨r, h1, cell, q1, q2, q3, q4⟩ := hp
  have hr : r = q := Option.some.inj (h1.symm.trans hc)
  subst hr
  obtain ⟨hSl, hfc, kC, hkC, hkind⟩ := hK.1.1 ci _ hc
  exact ⟨cell, q1, q3, by rw [q2]; exact hfc⟩
theorem e_thrX6N (l : Launch) (Γ : Cx) (H : Heap) (b : Nat) (hp : pt Γ H b (ob 4 [.null, .null, .null, .null, .null, .int (nI 0), .int (nI 0)])) (hg : Gz Γ b) : Mt l Γ yJ10_init_4 (ws_ yJ10_init_4 cJ10_init_4 5 none) 1 0 0 [.ref b, .null, .null, .int (nI 0), .int (nI 0)] H (fun v H1 => v = none ∧ pt Γ H1 b (ob 4 [.null, .null, .null, .null, .null, .int (nI 0), .int (nI 0)]) ∧ Off (fun q => q = b) H H1) := by
  refine mt_ofF (by decide +kernel) (Nat.le_of_ble_eq_true rfl) ?_
  intro p e s m args below meth c ls Q hx hb hr hlocks hml hts hown hnm hK hS hl hQ
  have ho : Off (fun q => q = b) H H := Off.rf
  refine lv_aload_n (pc := 0) hx hb dJ10_init_4_0 rfl (lk hl rfl) ?_
  refine W.objInit hx hb hown (hts _ q470) (hts _ q127) (hts _ q128) rfl (by rw [hml]; exact hl.1) rfl dJ10_init_4_1 (Nat.le_of_ble_eq_true rfl) (Nat.le_of_ble_eq_true rfl) ?_
  refine W.eq (g2 := F0 m 4 ls _) rfl ?_
  refine lv_aload_n (pc := 4) hx hb dJ10_init_4_4 rfl (lk hl rfl) ?_
  refine lv_aload_n (pc := 5) hx hb dJ10_init_4_5 rfl (lk hl rfl) ?_
  refine hw_put (pc := 6) hx hb hts in_X6 tyX6_ok nmX6 hown hK (hp) (hg) hS rfl 0 (Nat.le_of_ble_eq_true rfl) (hts _ q724) (fun x h => h) rfl rfl (rfl) (rfl) (Nat.le_of_ble_eq_true rfl) dJ10_init_4_6 (fun Hp1 locsp1 hpp1 zp1 op1 hS => ?_)
  have hp : pt Γ Hp1 b (ob 4 [.ref b, .null, .null, .null, .null, .int (nI 0), .int (nI 0)]) := hpp1
  have ho := ho.trans (Off.put zp1 op1 (by first | rfl | (simp; done) | exact Or.inl rfl | exact Or.inr rfl | omega))
  refine lv_aload_n (pc := 9) hx hb dJ10_init_4_9 rfl (lk hl rfl) ?_
  obtain ⟨H1, hH1⟩ : ∃ H1, H1 = Hp1 := ⟨_, rfl⟩
  have tail : ∀ (u : Value) (H' : Heap) (locs : List Loc), pt Γ H' b (ob 4 [.ref b, .null, u, .null, .null, .int (nI 0), .int (nI 0)]) → Off (fun q => q = b) H H' → va_S (Gz Γ) s.heap H' locs → W p l e (rmd 1 0 0) s m args below meth c H' locs 0 0 Q (F0 m 41 ls []) := by
    intro u H' locs hp ho hS
    refine lv_aload_n (pc := 41) hx hb dJ10_init_4_41 rfl (lk hl rfl) ?_
    refine lv_aload_nN (pc := 42) hx hb dJ10_init_4_42 rfl (lk hl rfl) ?_
    refine hw_put (pc := 43) hx hb hts in_X6 tyX6_ok nmX6 hown hK (hp) (hg) hS rfl 3 (Nat.le_of_ble_eq_true rfl) (hts _ q723) (fun x h => h) rfl rfl (rfl) (rfl) (Nat.le_of_ble_eq_true rfl) dJ10_init_4_43 (fun Hp2 locsp2 hpp2 zp2 op2 hS => ?_)
    have hp : pt Γ Hp2 b (ob 4 [.ref b, .null, u, .null, .null, .int (nI 0), .int (nI 0)]) := hpp2
    have ho := ho.trans (Off.put zp2 op2 (by first | rfl | (simp; done) | exact Or.inl rfl | exact Or.inr rfl | omega))
    refine lv_aload_n (pc := 46) hx hb dJ10_init_4_46 rfl (lk hl rfl) ?_
    refine lv_aload_nN (pc := 47) hx hb dJ10_init_4_47 rfl (lk hl rfl) ?_
    refine hw_put (pc := 48) hx hb hts in_X6 tyX6_ok nmX6 hown hK (hp) (hg) hS rfl 0 (Nat.le_of_ble_eq_true rfl) (hts _ q724) (fun x h => h) rfl rfl (rfl) (rfl) (Nat.le_of_ble_eq_true rfl) dJ10_init_4_48 (fun Hp3 locsp3 hpp3 zp3 op3 hS => ?_)
    have hp : pt Γ Hp3 b (ob 4 [.null, .null, u, .null, .null, .int (nI 0), .int (nI 0)]) := hpp3
    have ho := ho.trans (Off.put zp3 op3 (by first | rfl | (simp; done) | exact Or.inl rfl | exact Or.inr rfl | omega))
    refine lv_iload_n (pc := 51) hx hb dJ10_init_4_51 rfl (lk hl rfl) ?_
    refine hn_z_ne (tgt := 60) (pc := 52) hx hb dJ10_init_4_52 (by decide) (by omega) (fun hn => absurd hn (by simp)) (fun _ => ?_)
    refine lv_aload_n (pc := 55) hx hb dJ10_init_4_55 rfl (lk hl rfl) ?_
    refine lv_null (pc := 56) hx hb dJ10_init_4_56 ?_
    refine hw_put (pc := 57) hx hb hts in_X6 tyX6_ok nmX6 hown hK (hp) (hg) hS rfl 2 (Nat.le_of_ble_eq_true rfl) (hts _ q726) (fun x h => h) rfl rfl (rfl) (rfl) (Nat.le_of_ble_eq_true rfl) dJ10_init_4_57 (fun Hp4 locsp4 hpp4 zp4 op4 hS => ?_)
    have hp : pt Γ Hp4 b (ob 4 [.null, .null, .null, .null, .null, .int (nI 0), .int (nI 0)]) := hpp4
    have ho := ho.trans (Off.put zp4 op4 (by first | rfl | (simp; done) | exact Or.inl rfl | exact Or.inr rfl | omega))
    exact hr_v (pc := 60) hQ hx hb hr hlocks hS (by first | exact Nat.le_of_ble_eq_true rfl | (dsimp only [rmd]; omega) | omega) (by first | exact Nat.le_of_ble_eq_true rfl | (dsimp only [rmd]; omega) | omega) (⟨rfl, hp, ho⟩) dJ10_init_4_60
  have mid : ∀ (u : Value) (H' : Heap) (locs : List Loc), pt Γ H' b (ob 4 [.ref b, u, .null, .null, .null, .int (nI 0), .int (nI 0)]) → Off (fun q => q = b) H H' → va_S (Gz Γ) s.heap H' locs → W p l e (rmd 1 0 0) s m args below meth c H' locs 0 0 Q (F0 m 16 ls []) := by
    intro u H' locs hp ho hS
    refine lv_aload_n (pc := 16) hx hb dJ10_init_4_16 rfl (lk hl rfl) ?_
    rcases hK.cc.2.2.2.2.2.2.1.1 with hz | ⟨us, hz⟩
    · refine va_gets (pc := 17) hx hb (hz) hS hown (hts _ q473) (fun x h => h) dJ10_init_4_17 ?_
      refine hw_put (pc := 20) hx hb hts in_X6 tyX6_ok nmX6 hown hK (hp) (hg) hS rfl 2 (Nat.le_of_ble_eq_true rfl) (hts _ q726) (fun x h => h) rfl rfl (rfl) (rfl) (Nat.le_of_ble_eq_true rfl) dJ10_init_4_20 (fun Hp5 locsp5 hpp5 zp5 op5 hS => ?_)
      have hp : pt Γ Hp5 b (ob 4 [.ref b, u, .null, .null, .null, .int (nI 0), .int (nI 0)]) := hpp5
      have ho := ho.trans (Off.put zp5 op5 (by first | rfl | (simp; done) | exact Or.inl rfl | exact Or.inr rfl | omega))
      refine lv_iload (pc := 23) hx hb dJ10_init_4_23 (lk hl rfl) ?_
      refine hn_z_eq (tgt := 36) (pc := 25) hx hb dJ10_init_4_25 (by decide) (by omega) (fun _ => ?_) (fun hn => absurd hn (by simp))
      refine lv_aload_n (pc := 36) hx hb dJ10_init_4_36 rfl (lk hl rfl) ?_
      refine lv_null (pc := 37) hx hb dJ10_init_4_37 ?_
      refine hw_put (pc := 38) hx hb hts in_X6 tyX6_ok nmX6 hown hK (hp) (hg) hS rfl 1 (Nat.le_of_ble_eq_true rfl) (hts _ q725) (fun x h => h) rfl rfl (rfl) (rfl) (Nat.le_of_ble_eq_true rfl) dJ10_init_4_38 (fun Hp6 locsp6 hpp6 zp6 op6 hS => ?_)
      have hp : pt Γ Hp6 b (ob 4 [.ref b, .null, .null, .null, .null, .int (nI 0), .int (nI 0)]) := hpp6
      have ho := ho.trans (Off.put zp6 op6 (by first | rfl | (simp; done) | exact Or.inl rfl | exact Or.inr rfl | omega))
      exact tail _ _ _ hp ho hS
    · refine va_gets (pc := 17) hx hb (hz) hS hown (hts _ q473) (fun x h => h) dJ10_init_4_17 ?_
      refine hw_put (pc := 20) hx hb hts in_X6 tyX6_ok nmX6 hown hK (hp) (hg) hS rfl 2 (Nat.le_of_ble_eq_true rfl) (hts _ q726) (fun x h => h) rfl rfl (rfl) (rfl) (Nat.le_of_ble_eq_true rfl) dJ10_init_4_20 (fun Hp7 locsp7 hpp7 zp7 op7 hS => ?_)
      have hp : pt Γ Hp7 b (ob 4 [.ref b, u, .ref us, .null, .null, .int (nI 0), .int (nI 0)]) := hpp7
      have ho := ho.trans (Off.put zp7 op7 (by first | rfl | (simp; done) | exact Or.inl rfl | exact Or.inr rfl | omega))
      refine lv_iload (pc := 23) hx hb dJ10_init_4_23 (lk hl rfl) ?_
      refine hn_z_eq (tgt := 36) (pc := 25) hx hb dJ10_init_4_25 (by decide) (by omega) (fun _ => ?_) (fun hn => absurd hn (by simp))
      refine lv_aload_n (pc := 36) hx hb dJ10_init_4_36 rfl (lk hl rfl) ?_
      refine lv_null (pc := 37) hx hb dJ10_init_4_37 ?_
      refine hw_put (pc := 38) hx hb hts in_X6 tyX6_ok nmX6 hown hK (hp) (hg) hS rfl 1 (Nat.le_of_ble_eq_true rfl) (hts _ q725) (fun x h => h) rfl rfl (rfl) (rfl) (Nat.le_of_ble_eq_true rfl) dJ10_init_4_38 (fun Hp8 locsp8 hpp8 zp8 op8 hS => ?_)
      have hp : pt Γ Hp8 b (ob 4 [.ref b, .null, .ref us, .null, .null, .int (nI 0), .int (nI 0)]) := hpp8
      have ho := ho.trans (Off.put zp8 op8 (by first | rfl | (simp; done) | exact Or.inl rfl | exact Or.inr rfl | omega))
      exact tail _ _ _ hp ho hS
  rcases hK.cc.2.2.2.2.2.1.1 with hz | ⟨us, hz⟩
  · refine va_gets (pc := 10) hx hb (hz) hS hown (hts _ q471) (fun x h => h) dJ10_init_4_10 ?_
    refine hw_put (pc := 13) hx hb hts in_X6 tyX6_ok nmX6 hown hK (hp) (hg) hS rfl 1 (Nat.le_of_ble_eq_true rfl) (hts _ q725) (fun x h => h) rfl rfl (rfl) (rfl) (Nat.le_of_ble_eq_true rfl) dJ10_init_4_13 (fun Hp9 locsp9 hpp9 zp9 op9 hS => ?_)
    have hp : pt Γ Hp9 b (ob 4 [.ref b, .null, .null, .null, .null, .int (nI 0), .int (nI 0)]) := hpp9
    have ho := ho.trans (Off.put zp9 op9 (by first | rfl | (simp; done) | exact Or.inl rfl | exact Or.inr rfl | omega))
    exact mid _ _ _ hp ho hS
  · refine va_gets (pc := 10) hx hb (hz) hS hown (hts _ q471) (fun x h => h) dJ10_init_4_10 ?_
    refine hw_put (pc := 13) hx hb hts in_X6 tyX6_ok nmX6 hown hK (hp) (hg) hS rfl 1 (Nat.le_of_ble_eq_true rfl) (hts _ q725) (fun x h => h) rfl rfl (rfl) (rfl) (Nat.le_of_ble_eq_true rfl) dJ10_init_4_13 (fun Hp10 locsp10 hpp10 zp10 op10 hS => ?_)
    have hp : pt Γ Hp10 b (ob 4 [.ref b, .ref us, .null, .null, .null, .int (nI 0), .int (nI 0)]) := hpp10
    have ho := ho.trans (Off.put zp10 op10 (by first | rfl | (simp; done) | exact Or.inl rfl | exact Or.inr rfl | omega))
    exact mid _ _ _ hp ho hS
theorem e_excX6N (l : Launch) (Γ : Cx) (H : Heap) (b : Nat) (hp : pt Γ H b (ob 4 [.null, .null, .null, .null, .null, .int (nI 0), .int (nI 0)])) (hg : Gz Γ b) : Mt l Γ yJ11_init_4 (ws_ yJ11_init_4 cJ11_init_4 5 none) 2 0 0 [.ref b, .null, .null, .int (nI 0), .int (nI 0)] H (fun v H1 => v = none ∧ pt Γ H1 b (ob 4 [.null, .null, .null, .null, .null, .int (nI 0), .int (nI 0)]) ∧ Off (fun q => q = b) H H1) := by
  refine mt_of (by decide +kernel) (Nat.le_of_ble_eq_true rfl) ?_
  intro p e s m args below meth c ls Q hx hb hr hlocks hml hts hown hnm hK hS hl hQ
  refine lv_aload_n (pc := 0) hx hb dJ11_init_4_0 rfl (lk hl rfl) ?_
  refine lv_aload_nN (pc := 1) hx hb dJ11_init_4_1 rfl (lk hl rfl) ?_
  refine lv_aload_nN (pc := 2) hx hb dJ11_init_4_2 rfl (lk hl rfl) ?_
  refine lv_iload_n (pc := 3) hx hb dJ11_init_4_3 rfl (lk hl rfl) ?_
  refine lv_iload (pc := 4) hx hb dJ11_init_4_4 (lk hl rfl) ?_
  refine hc_I (pc := 6) hx hb hml hown hts hK hS (e_thrX6N l Γ H b hp hg) (cwI 4 hts (lw_meth q1346) rfl rfl rfl (hts _ q84) (hts _ q1344) (hts _ q1345) rfl (by decide +kernel) ⟨(Nat.le_of_ble_eq_true rfl), (Nat.le_of_ble_eq_true rfl)⟩) rfl hl.1 rfl (Nat.le_of_ble_eq_true rfl) dJ11_init_4_6 ⟨by first | exact Nat.le_of_ble_eq_true rfl | (dsimp only [rmd]; omega) | omega, by first | exact Nat.le_of_ble_eq_true rfl | (dsimp only [rmd]; omega) | omega⟩ (fun v9 H9 locs9 hq9 hS => ?_)
  obtain ⟨rfl, h1, h2⟩ := hq9
  exact hr_v (pc := 9) hQ hx hb hr hlocks hS (by first | exact Nat.le_of_ble_eq_true rfl | (dsimp only [rmd]; omega) | omega) (by first | exact Nat.le_of_ble_eq_true rfl | (dsimp only [rmd]; omega) | omega) (⟨rfl, h1, h2⟩) dJ11_init_4_9
theorem e_fldX6N (l : Launch) (Γ : Cx) (H : Heap) (b : Nat) (hp : pt Γ H b (ob 4 [.null, .null, .null, .null, .null, .int (nI 0), .int (nI 0)])) (hg : Gz Γ b) : Mt l Γ yX5_init (ws_ yX5_init cX5_init 2 none) 3 0 0 [.ref b, .null] H (fun v H1 => v = none ∧ pt Γ H1 b (ob 4 [.null, .null, .null, .null, .null, .int (nI 0), .int (nI 0)]) ∧ Off (fun q => q = b) H H1) := by
  refine mt_of (by decide +kernel) (Nat.le_of_ble_eq_true rfl) ?_
  intro p e s m args below meth c ls Q hx hb hr hlocks hml hts hown hnm hK hS hl hQ
  refine lv_aload_n (pc := 0) hx hb dX5_init_0 rfl (lk hl rfl) ?_
  refine lv_null (pc := 1) hx hb dX5_init_1 ?_
  refine lv_aload_nN (pc := 2) hx hb dX5_init_2 rfl (lk hl rfl) ?_
  refine lv_iconst (v := nI 0) (pc := 3) hx hb dX5_init_3 (by decide) ?_
  refine lv_iconst (v := nI 0) (pc := 4) hx hb dX5_init_4 (by decide) ?_
  refine hc_I (pc := 5) hx hb hml hown hts hK hS (e_excX6N l Γ H b hp hg) (cwI 4 hts (lw_meth q1343) rfl rfl rfl (hts _ q85) (hts _ q1341) (hts _ q1342) rfl (by decide +kernel) ⟨(Nat.le_of_ble_eq_true rfl), (Nat.le_of_ble_eq_true rfl)⟩) rfl hl.1 rfl (Nat.le_of_ble_eq_true rfl) dX5_init_5 ⟨by first | exact Nat.le_of_ble_eq_true rfl | (dsimp only [rmd]; omega) | omega, by first | exact Nat.le_of_ble_eq_true rfl | (dsimp only [rmd]; omega) | omega⟩ (fun v9 H9 locs9 hq9 hS => ?_)
  obtain ⟨rfl, h1, h2⟩ := hq9
  exact hr_v (pc := 8) hQ hx hb hr hlocks hS (by first | exact Nat.le_of_ble_eq_true rfl | (dsimp only [rmd]; omega) | omega) (by first | exact Nat.le_of_ble_eq_true rfl | (dsimp only [rmd]; omega) | omega) (⟨rfl, h1, h2⟩) dX5_init_8
theorem e_thrX6R (l : Launch) (Γ : Cx) (H : Heap) (b : Nat) (r9 : Nat) (hp : pt Γ H b (ob 4 [.null, .null, .null, .null, .null, .int (nI 0), .int (nI 0)])) (hg : Gz Γ b) : Mt l Γ yJ10_init_4 (ws_ yJ10_init_4 cJ10_init_4 5 none) 1 0 0 [.ref b, .null, .ref r9, .int (nI 0), .int (nI 0)] H (fun v H1 => v = none ∧ pt Γ H1 b (ob 4 [.ref r9, .null, .null, .null, .null, .int (nI 0), .int (nI 0)]) ∧ Off (fun q => q = b) H H1) := by
  refine mt_ofF (by decide +kernel) (Nat.le_of_ble_eq_true rfl) ?_
  intro p e s m args below meth c ls Q hx hb hr hlocks hml hts hown hnm hK hS hl hQ
  have ho : Off (fun q => q = b) H H := Off.rf
  refine lv_aload_n (pc := 0) hx hb dJ10_init_4_0 rfl (lk hl rfl) ?_
  refine W.objInit hx hb hown (hts _ q470) (hts _ q127) (hts _ q128) rfl (by rw [hml]; exact hl.1) rfl dJ10_init_4_1 (Nat.le_of_ble_eq_true rfl) (Nat.le_of_ble_eq_true rfl) ?_
  refine W.eq (g2 := F0 m 4 ls _) rfl ?_
  refine lv_aload_n (pc := 4) hx hb dJ10_init_4_4 rfl (lk hl rfl) ?_
  refine lv_aload_n (pc := 5) hx hb dJ10_init_4_5 rfl (lk hl rfl) ?_
  refine hw_put (pc := 6) hx hb hts in_X6 tyX6_ok nmX6 hown hK (hp) (hg) hS rfl 0 (Nat.le_of_ble_eq_true rfl) (hts _ q724) (fun x h => h) rfl rfl (rfl) (rfl) (Nat.le_of_ble_eq_true rfl) dJ10_init_4_6 (fun Hp1 locsp1 hpp1 zp1 op1 hS => ?_)
  have hp : pt Γ Hp1 b (ob 4 [.ref b, .null, .null, .null, .null, .int (nI 0), .int (nI 0)]) := hpp1
  have ho := ho.trans (Off.put zp1 op1 (by first | rfl | (simp; done) | exact Or.inl rfl | exact Or.inr rfl | omega))
  refine lv_aload_n (pc := 9) hx hb dJ10_init_4_9 rfl (lk hl rfl) ?_
  obtain ⟨H1, hH1⟩ : ∃ H1, H1 = Hp1 := ⟨_, rfl⟩
  have tail : ∀ (u : Value) (H' : Heap) (locs : List Loc), pt Γ H' b (ob 4 [.ref b, .null, u, .null, .null, .int (nI 0), .int (nI 0)]) → Off (fun q => q = b) H H' → va_S (Gz Γ) s.heap H' locs → W p l e (rmd 1 0 0) s m args below meth c H' locs 0 0 Q (F0 m 41 ls []) := by
    intro u H' locs hp ho hS
    refine lv_aload_n (pc := 41) hx hb dJ10_init_4_41 rfl (lk hl rfl) ?_
    refine lv_aload_nN (pc := 42) hx hb dJ10_init_4_42 rfl (lk hl rfl) ?_
    refine hw_put (pc := 43) hx hb hts in_X6 tyX6_ok nmX6 hown hK (hp) (hg) hS rfl 3 (Nat.le_of_ble_eq_true rfl) (hts _ q723) (fun x h => h) rfl rfl (rfl) (rfl) (Nat.le_of_ble_eq_true rfl) dJ10_init_4_43 (fun Hp2 locsp2 hpp2 zp2 op2 hS => ?_)
    have hp : pt Γ Hp2 b (ob 4 [.ref b, .null, u, .null, .null, .int (nI 0), .int (nI 0)]) := hpp2
    have ho := ho.trans (Off.put zp2 op2 (by first | rfl | (simp; done) | exact Or.inl rfl | exact Or.inr rfl | omega))
    refine lv_aload_n (pc := 46) hx hb dJ10_init_4_46 rfl (lk hl rfl) ?_
    refine lv_aload_n (pc := 47) hx hb dJ10_init_4_47 rfl (lk hl rfl) ?_
    refine hw_put (pc := 48) hx hb hts in_X6 tyX6_ok nmX6 hown hK (hp) (hg) hS rfl 0 (Nat.le_of_ble_eq_true rfl) (hts _ q724) (fun x h => h) rfl rfl (rfl) (rfl) (Nat.le_of_ble_eq_true rfl) dJ10_init_4_48 (fun Hp3 locsp3 hpp3 zp3 op3 hS => ?_)
    have hp : pt Γ Hp3 b (ob 4 [.ref r9, .null, u, .null, .null, .int (nI 0), .int (nI 0)]) := hpp3
    have ho := ho.trans (Off.put zp3 op3 (by first | rfl | (simp; done) | exact Or.inl rfl | exact Or.inr rfl | omega))
    refine lv_iload_n (pc := 51) hx hb dJ10_init_4_51 rfl (lk hl rfl) ?_
    refine hn_z_ne (tgt := 60) (pc := 52) hx hb dJ10_init_4_52 (by decide) (by omega) (fun hn => absurd hn (by simp)) (fun _ => ?_)
    refine lv_aload_n (pc := 55) hx hb dJ10_init_4_55 rfl (lk hl rfl) ?_
    refine lv_null (pc := 56) hx hb dJ10_init_4_56 ?_
    refine hw_put (pc := 57) hx hb hts in_X6 tyX6_ok nmX6 hown hK (hp) (hg) hS rfl 2 (Nat.le_of_ble_eq_true rfl) (hts _ q726) (fun x h => h) rfl rfl (rfl) (rfl) (Nat.le_of_ble_eq_true rfl) dJ10_init_4_57 (fun Hp4 locsp4 hpp4 zp4 op4 hS => ?_)
    have hp : pt Γ Hp4 b (ob 4 [.ref r9, .null, .null, .null, .null, .int (nI 0), .int (nI 0)]) := hpp4
    have ho := ho.trans (Off.put zp4 op4 (by first | rfl | (simp; done) | exact Or.inl rfl | exact Or.inr rfl | omega))
    exact hr_v (pc := 60) hQ hx hb hr hlocks hS (by first | exact Nat.le_of_ble_eq_true rfl | (dsimp only [rmd]; omega) | omega) (by first | exact Nat.le_of_ble_eq_true rfl | (dsimp only [rmd]; omega) | omega) (⟨rfl, hp, ho⟩) dJ10_init_4_60
  have mid : ∀ (u : Value) (H' : Heap) (locs : List Loc), pt Γ H' b (ob 4 [.ref b, u, .null, .null, .null, .int (nI 0), .int (nI 0)]) → Off (fun q => q = b) H H' → va_S (Gz Γ) s.heap H' locs → W p l e (rmd 1 0 0) s m args below meth c H' locs 0 0 Q (F0 m 16 ls []) := by
    intro u H' locs hp ho hS
    refine lv_aload_n (pc := 16) hx hb dJ10_init_4_16 rfl (lk hl rfl) ?_
    rcases hK.cc.2.2.2.2.2.2.1.1 with hz | ⟨us, hz⟩
    · refine va_gets (pc := 17) hx hb (hz) hS hown (hts _ q473) (fun x h => h) dJ10_init_4_17 ?_
      refine hw_put (pc := 20) hx hb hts in_X6 tyX6_ok nmX6 hown hK (hp) (hg) hS rfl 2 (Nat.le_of_ble_eq_true rfl) (hts _ q726) (fun x h => h) rfl rfl (rfl) (rfl) (Nat.le_of_ble_eq_true rfl) dJ10_init_4_20 (fun Hp5 locsp5 hpp5 zp5 op5 hS => ?_)
      have hp : pt Γ Hp5 b (ob 4 [.ref b, u, .null, .null, .null, .int (nI 0), .int (nI 0)]) := hpp5
      have ho := ho.trans (Off.put zp5 op5 (by first | rfl | (simp; done) | exact Or.inl rfl | exact Or.inr rfl | omega))
      refine lv_iload (pc := 23) hx hb dJ10_init_4_23 (lk hl rfl) ?_
      refine hn_z_eq (tgt := 36) (pc := 25) hx hb dJ10_init_4_25 (by decide) (by omega) (fun _ => ?_) (fun hn => absurd hn (by simp))
      refine lv_aload_n (pc := 36) hx hb dJ10_init_4_36 rfl (lk hl rfl) ?_
      refine lv_null (pc := 37) hx hb dJ10_init_4_37 ?_
      refine hw_put (pc := 38) hx hb hts in_X6 tyX6_ok nmX6 hown hK (hp) (hg) hS rfl 1 (Nat.le_of_ble_eq_true rfl) (hts _ q725) (fun x h => h) rfl rfl (rfl) (rfl) (Nat.le_of_ble_eq_true rfl) dJ10_init_4_38 (fun Hp6 locsp6 hpp6 zp6 op6 hS => ?_)
      have hp : pt Γ Hp6 b (ob 4 [.ref b, .null, .null, .null, .null, .int (nI 0), .int (nI 0)]) := hpp6
      have ho := ho.trans (Off.put zp6 op6 (by first | rfl | (simp; done) | exact Or.inl rfl | exact Or.inr rfl | omega))
      exact tail _ _ _ hp ho hS
    · refine va_gets (pc := 17) hx hb (hz) hS hown (hts _ q473) (fun x h => h) dJ10_init_4_17 ?_
      refine hw_put (pc := 20) hx hb hts in_X6 tyX6_ok nmX6 hown hK (hp) (hg) hS rfl 2 (Nat.le_of_ble_eq_true rfl) (hts _ q726) (fun x h => h) rfl rfl (rfl) (rfl) (Nat.le_of_ble_eq_true rfl) dJ10_init_4_20 (fun Hp7 locsp7 hpp7 zp7 op7 hS => ?_)
      have hp : pt Γ Hp7 b (ob 4 [.ref b, u, .ref us, .null, .null, .int (nI 0), .int (nI 0)]) := hpp7
      have ho := ho.trans (Off.put zp7 op7 (by first | rfl | (simp; done) | exact Or.inl rfl | exact Or.inr rfl | omega))
      refine lv_iload (pc := 23) hx hb dJ10_init_4_23 (lk hl rfl) ?_
      refine hn_z_eq (tgt := 36) (pc := 25) hx hb dJ10_init_4_25 (by decide) (by omega) (fun _ => ?_) (fun hn => absurd hn (by simp))
      refine lv_aload_n (pc := 36) hx hb dJ10_init_4_36 rfl (lk hl rfl) ?_
      refine lv_null (pc := 37) hx hb dJ10_init_4_37 ?_
      refine hw_put (pc := 38) hx hb hts in_X6 tyX6_ok nmX6 hown hK (hp) (hg) hS rfl 1 (Nat.le_of_ble_eq_true rfl) (hts _ q725) (fun x h => h) rfl rfl (rfl) (rfl) (Nat.le_of_ble_eq_true rfl) dJ10_init_4_38 (fun Hp8 locsp8 hpp8 zp8 op8 hS => ?_)
      have hp : pt Γ Hp8 b (ob 4 [.ref b, .null, .ref us, .null, .null, .int (nI 0), .int (nI 0)]) := hpp8
      have ho := ho.trans (Off.put zp8 op8 (by first | rfl | (simp; done) | exact Or.inl rfl | exact Or.inr rfl | omega))
      exact tail _ _ _ hp ho hS
  rcases hK.cc.2.2.2.2.2.1.1 with hz | ⟨us, hz⟩
  · refine va_gets (pc := 10) hx hb (hz) hS hown (hts _ q471) (fun x h => h) dJ10_init_4_10 ?_
    refine hw_put (pc := 13) hx hb hts in_X6 tyX6_ok nmX6 hown hK (hp) (hg) hS rfl 1 (Nat.le_of_ble_eq_true rfl) (hts _ q725) (fun x h => h) rfl rfl (rfl) (rfl) (Nat.le_of_ble_eq_true rfl) dJ10_init_4_13 (fun Hp9 locsp9 hpp9 zp9 op9 hS => ?_)
    have hp : pt Γ Hp9 b (ob 4 [.ref b, .null, .null, .null, .null, .int (nI 0), .int (nI 0)]) := hpp9
    have ho := ho.trans (Off.put zp9 op9 (by first | rfl | (simp; done) | exact Or.inl rfl | exact Or.inr rfl | omega))
    exact mid _ _ _ hp ho hS
  · refine va_gets (pc := 10) hx hb (hz) hS hown (hts _ q471) (fun x h => h) dJ10_init_4_10 ?_
    refine hw_put (pc := 13) hx hb hts in_X6 tyX6_ok nmX6 hown hK (hp) (hg) hS rfl 1 (Nat.le_of_ble_eq_true rfl) (hts _ q725) (fun x h => h) rfl rfl (rfl) (rfl) (Nat.le_of_ble_eq_true rfl) dJ10_init_4_13 (fun Hp10 locsp10 hpp10 zp10 op10 hS => ?_)
    have hp : pt Γ Hp10 b (ob 4 [.ref b, .ref us, .null, .null, .null, .int (nI 0), .int (nI 0)]) := hpp10
    have ho := ho.trans (Off.put zp10 op10 (by first | rfl | (simp; done) | exact Or.inl rfl | exact Or.inr rfl | omega))
    exact mid _ _ _ hp ho hS
theorem e_excX6R (l : Launch) (Γ : Cx) (H : Heap) (b : Nat) (r9 : Nat) (hp : pt Γ H b (ob 4 [.null, .null, .null, .null, .null, .int (nI 0), .int (nI 0)])) (hg : Gz Γ b) : Mt l Γ yJ11_init_4 (ws_ yJ11_init_4 cJ11_init_4 5 none) 2 0 0 [.ref b, .null, .ref r9, .int (nI 0), .int (nI 0)] H (fun v H1 => v = none ∧ pt Γ H1 b (ob 4 [.ref r9, .null, .null, .null, .null, .int (nI 0), .int (nI 0)]) ∧ Off (fun q => q = b) H H1) := by
  refine mt_of (by decide +kernel) (Nat.le_of_ble_eq_true rfl) ?_
  intro p e s m args below meth c ls Q hx hb hr hlocks hml hts hown hnm hK hS hl hQ
  refine lv_aload_n (pc := 0) hx hb dJ11_init_4_0 rfl (lk hl rfl) ?_
  refine lv_aload_nN (pc := 1) hx hb dJ11_init_4_1 rfl (lk hl rfl) ?_
  refine lv_aload_n (pc := 2) hx hb dJ11_init_4_2 rfl (lk hl rfl) ?_
  refine lv_iload_n (pc := 3) hx hb dJ11_init_4_3 rfl (lk hl rfl) ?_
  refine lv_iload (pc := 4) hx hb dJ11_init_4_4 (lk hl rfl) ?_
  refine hc_I (pc := 6) hx hb hml hown hts hK hS (e_thrX6R l Γ H b r9 hp hg) (cwI 4 hts (lw_meth q1346) rfl rfl rfl (hts _ q84) (hts _ q1344) (hts _ q1345) rfl (by decide +kernel) ⟨(Nat.le_of_ble_eq_true rfl), (Nat.le_of_ble_eq_true rfl)⟩) rfl hl.1 rfl (Nat.le_of_ble_eq_true rfl) dJ11_init_4_6 ⟨by first | exact Nat.le_of_ble_eq_true rfl | (dsimp only [rmd]; omega) | omega, by first | exact Nat.le_of_ble_eq_true rfl | (dsimp only [rmd]; omega) | omega⟩ (fun v9 H9 locs9 hq9 hS => ?_)
  obtain ⟨rfl, h1, h2⟩ := hq9
  exact hr_v (pc := 9) hQ hx hb hr hlocks hS (by first | exact Nat.le_of_ble_eq_true rfl | (dsimp only [rmd]; omega) | omega) (by first | exact Nat.le_of_ble_eq_true rfl | (dsimp only [rmd]; omega) | omega) (⟨rfl, h1, h2⟩) dJ11_init_4_9
theorem e_fldX6R (l : Launch) (Γ : Cx) (H : Heap) (b : Nat) (r9 : Nat) (hp : pt Γ H b (ob 4 [.null, .null, .null, .null, .null, .int (nI 0), .int (nI 0)])) (hg : Gz Γ b) : Mt l Γ yX5_init (ws_ yX5_init cX5_init 2 none) 3 0 0 [.ref b, .ref r9] H (fun v H1 => v = none ∧ pt Γ H1 b (ob 4 [.ref r9, .null, .null, .null, .null, .int (nI 0), .int (nI 0)]) ∧ Off (fun q => q = b) H H1) := by
  refine mt_of (by decide +kernel) (Nat.le_of_ble_eq_true rfl) ?_
  intro p e s m args below meth c ls Q hx hb hr hlocks hml hts hown hnm hK hS hl hQ
  refine lv_aload_n (pc := 0) hx hb dX5_init_0 rfl (lk hl rfl) ?_
  refine lv_null (pc := 1) hx hb dX5_init_1 ?_
  refine lv_aload_n (pc := 2) hx hb dX5_init_2 rfl (lk hl rfl) ?_
  refine lv_iconst (v := nI 0) (pc := 3) hx hb dX5_init_3 (by decide) ?_
  refine lv_iconst (v := nI 0) (pc := 4) hx hb dX5_init_4 (by decide) ?_
  refine hc_I (pc := 5) hx hb hml hown hts hK hS (e_excX6R l Γ H b r9 hp hg) (cwI 4 hts (lw_meth q1343) rfl rfl rfl (hts _ q85) (hts _ q1341) (hts _ q1342) rfl (by decide +kernel) ⟨(Nat.le_of_ble_eq_true rfl), (Nat.le_of_ble_eq_true rfl)⟩) rfl hl.1 rfl (Nat.le_of_ble_eq_true rfl) dX5_init_5 ⟨by first | exact Nat.le_of_ble_eq_true rfl | (dsimp only [rmd]; omega) | omega, by first | exact Nat.le_of_ble_eq_true rfl | (dsimp only [rmd]; omega) | omega⟩ (fun v9 H9 locs9 hq9 hS => ?_)
  obtain ⟨rfl, h1, h2⟩ := hq9
  exact hr_v (pc := 8) hQ hx hb hr hlocks hS (by first | exact Nat.le_of_ble_eq_true rfl | (dsimp only [rmd]; omega) | omega) (by first | exact Nat.le_of_ble_eq_true rfl | (dsimp only [rmd]; omega) | omega) (⟨rfl, h1, h2⟩) dX5_init_8
theorem e_thrX5N (l : Launch) (Γ : Cx) (H : Heap) (b : Nat) (hp : pt Γ H b (ob 17 [.null, .null, .null, .null, .null, .int (nI 0)])) (hg : Gz Γ b) : Mt l Γ yJ10_init_4 (ws_ yJ10_init_4 cJ10_init_4 5 none) 1 0 0 [.ref b, .null, .null, .int (nI 0), .int (nI 0)] H (fun v H1 => v = none ∧ pt Γ H1 b (ob 17 [.null, .null, .null, .null, .null, .int (nI 0)]) ∧ Off (fun q => q = b) H H1) := by
  refine mt_ofF (by decide +kernel) (Nat.le_of_ble_eq_true rfl) ?_
  intro p e s m args below meth c ls Q hx hb hr hlocks hml hts hown hnm hK hS hl hQ
  have ho : Off (fun q => q = b) H H := Off.rf
  refine lv_aload_n (pc := 0) hx hb dJ10_init_4_0 rfl (lk hl rfl) ?_
  refine W.objInit hx hb hown (hts _ q470) (hts _ q127) (hts _ q128) rfl (by rw [hml]; exact hl.1) rfl dJ10_init_4_1 (Nat.le_of_ble_eq_true rfl) (Nat.le_of_ble_eq_true rfl) ?_
  refine W.eq (g2 := F0 m 4 ls _) rfl ?_
  refine lv_aload_n (pc := 4) hx hb dJ10_init_4_4 rfl (lk hl rfl) ?_
  refine lv_aload_n (pc := 5) hx hb dJ10_init_4_5 rfl (lk hl rfl) ?_
  refine hw_put (pc := 6) hx hb hts in_X5 tyX5_ok nmX5 hown hK (hp) (hg) hS rfl 0 (Nat.le_of_ble_eq_true rfl) (hts _ q724) (fun x h => h) rfl rfl (rfl) (rfl) (Nat.le_of_ble_eq_true rfl) dJ10_init_4_6 (fun Hp1 locsp1 hpp1 zp1 op1 hS => ?_)
  have hp : pt Γ Hp1 b (ob 17 [.ref b, .null, .null, .null, .null, .int (nI 0)]) := hpp1
  have ho := ho.trans (Off.put zp1 op1 (by first | rfl | (simp; done) | exact Or.inl rfl | exact Or.inr rfl | omega))
  refine lv_aload_n (pc := 9) hx hb dJ10_init_4_9 rfl (lk hl rfl) ?_
  obtain ⟨H1, hH1⟩ : ∃ H1, H1 = Hp1 := ⟨_, rfl⟩
  have tail : ∀ (u : Value) (H' : Heap) (locs : List Loc), pt Γ H' b (ob 17 [.ref b, .null, u, .null, .null, .int (nI 0)]) → Off (fun q => q = b) H H' → va_S (Gz Γ) s.heap H' locs → W p l e (rmd 1 0 0) s m args below meth c H' locs 0 0 Q (F0 m 41 ls []) := by
    intro u H' locs hp ho hS
    refine lv_aload_n (pc := 41) hx hb dJ10_init_4_41 rfl (lk hl rfl) ?_
    refine lv_aload_nN (pc := 42) hx hb dJ10_init_4_42 rfl (lk hl rfl) ?_
    refine hw_put (pc := 43) hx hb hts in_X5 tyX5_ok nmX5 hown hK (hp) (hg) hS rfl 3 (Nat.le_of_ble_eq_true rfl) (hts _ q723) (fun x h => h) rfl rfl (rfl) (rfl) (Nat.le_of_ble_eq_true rfl) dJ10_init_4_43 (fun Hp2 locsp2 hpp2 zp2 op2 hS => ?_)
    have hp : pt Γ Hp2 b (ob 17 [.ref b, .null, u, .null, .null, .int (nI 0)]) := hpp2
    have ho := ho.trans (Off.put zp2 op2 (by first | rfl | (simp; done) | exact Or.inl rfl | exact Or.inr rfl | omega))
    refine lv_aload_n (pc := 46) hx hb dJ10_init_4_46 rfl (lk hl rfl) ?_
    refine lv_aload_nN (pc := 47) hx hb dJ10_init_4_47 rfl (lk hl rfl) ?_
    refine hw_put (pc := 48) hx hb hts in_X5 tyX5_ok nmX5 hown hK (hp) (hg) hS rfl 0 (Nat.le_of_ble_eq_true rfl) (hts _ q724) (fun x h => h) rfl rfl (rfl) (rfl) (Nat.le_of_ble_eq_true rfl) dJ10_init_4_48 (fun Hp3 locsp3 hpp3 zp3 op3 hS => ?_)
    have hp : pt Γ Hp3 b (ob 17 [.null, .null, u, .null, .null, .int (nI 0)]) := hpp3
    have ho := ho.trans (Off.put zp3 op3 (by first | rfl | (simp; done) | exact Or.inl rfl | exact Or.inr rfl | omega))
    refine lv_iload_n (pc := 51) hx hb dJ10_init_4_51 rfl (lk hl rfl) ?_
    refine hn_z_ne (tgt := 60) (pc := 52) hx hb dJ10_init_4_52 (by decide) (by omega) (fun hn => absurd hn (by simp)) (fun _ => ?_)
    refine lv_aload_n (pc := 55) hx hb dJ10_init_4_55 rfl (lk hl rfl) ?_
    refine lv_null (pc := 56) hx hb dJ10_init_4_56 ?_
    refine hw_put (pc := 57) hx hb hts in_X5 tyX5_ok nmX5 hown hK (hp) (hg) hS rfl 2 (Nat.le_of_ble_eq_true rfl) (hts _ q726) (fun x h => h) rfl rfl (rfl) (rfl) (Nat.le_of_ble_eq_true rfl) dJ10_init_4_57 (fun Hp4 locsp4 hpp4 zp4 op4 hS => ?_)
    have hp : pt Γ Hp4 b (ob 17 [.null, .null, .null, .null, .null, .int (nI 0)]) := hpp4
    have ho := ho.trans (Off.put zp4 op4 (by first | rfl | (simp; done) | exact Or.inl rfl | exact Or.inr rfl | omega))
    exact hr_v (pc := 60) hQ hx hb hr hlocks hS (by first | exact Nat.le_of_ble_eq_true rfl | (dsimp only [rmd]; omega) | omega) (by first | exact Nat.le_of_ble_eq_true rfl | (dsimp only [rmd]; omega) | omega) (⟨rfl, hp, ho⟩) dJ10_init_4_60
  have mid : ∀ (u : Value) (H' : Heap) (locs : List Loc), pt Γ H' b (ob 17 [.ref b, u, .null, .null, .null, .int (nI 0)]) → Off (fun q => q = b) H H' → va_S (Gz Γ) s.heap H' locs → W p l e (rmd 1 0 0) s m args below meth c H' locs 0 0 Q (F0 m 16 ls []) := by
    intro u H' locs hp ho hS
    refine lv_aload_n (pc := 16) hx hb dJ10_init_4_16 rfl (lk hl rfl) ?_
    rcases hK.cc.2.2.2.2.2.2.1.1 with hz | ⟨us, hz⟩
    · refine va_gets (pc := 17) hx hb (hz) hS hown (hts _ q473) (fun x h => h) dJ10_init_4_17 ?_
      refine hw_put (pc := 20) hx hb hts in_X5 tyX5_ok nmX5 hown hK (hp) (hg) hS rfl 2 (Nat.le_of_ble_eq_true rfl) (hts _ q726) (fun x h => h) rfl rfl (rfl) (rfl) (Nat.le_of_ble_eq_true rfl) dJ10_init_4_20 (fun Hp5 locsp5 hpp5 zp5 op5 hS => ?_)
      have hp : pt Γ Hp5 b (ob 17 [.ref b, u, .null, .null, .null, .int (nI 0)]) := hpp5
      have ho := ho.trans (Off.put zp5 op5 (by first | rfl | (simp; done) | exact Or.inl rfl | exact Or.inr rfl | omega))
      refine lv_iload (pc := 23) hx hb dJ10_init_4_23 (lk hl rfl) ?_
      refine hn_z_eq (tgt := 36) (pc := 25) hx hb dJ10_init_4_25 (by decide) (by omega) (fun _ => ?_) (fun hn => absurd hn (by simp))
      refine lv_aload_n (pc := 36) hx hb dJ10_init_4_36 rfl (lk hl rfl) ?_
      refine lv_null (pc := 37) hx hb dJ10_init_4_37 ?_
      refine hw_put (pc := 38) hx hb hts in_X5 tyX5_ok nmX5 hown hK (hp) (hg) hS rfl 1 (Nat.le_of_ble_eq_true rfl) (hts _ q725) (fun x h => h) rfl rfl (rfl) (rfl) (Nat.le_of_ble_eq_true rfl) dJ10_init_4_38 (fun Hp6 locsp6 hpp6 zp6 op6 hS => ?_)
      have hp : pt Γ Hp6 b (ob 17 [.ref b, .null, .null, .null, .null, .int (nI 0)]) := hpp6
      have ho := ho.trans (Off.put zp6 op6 (by first | rfl | (simp; done) | exact Or.inl rfl | exact Or.inr rfl | omega))
      exact tail _ _ _ hp ho hS
    · refine va_gets (pc := 17) hx hb (hz) hS hown (hts _ q473) (fun x h => h) dJ10_init_4_17 ?_
      refine hw_put (pc := 20) hx hb hts in_X5 tyX5_ok nmX5 hown hK (hp) (hg) hS rfl 2 (Nat.le_of_ble_eq_true rfl) (hts _ q726) (fun x h => h) rfl rfl (rfl) (rfl) (Nat.le_of_ble_eq_true rfl) dJ10_init_4_20 (fun Hp7 locsp7 hpp7 zp7 op7 hS => ?_)
      have hp : pt Γ Hp7 b (ob 17 [.ref b, u, .ref us, .null, .null, .int (nI 0)]) := hpp7
      have ho := ho.trans (Off.put zp7 op7 (by first | rfl | (simp; done) | exact Or.inl rfl | exact Or.inr rfl | omega))
      refine lv_iload (pc := 23) hx hb dJ10_init_4_23 (lk hl rfl) ?_
      refine hn_z_eq (tgt := 36) (pc := 25) hx hb dJ10_init_4_25 (by decide) (by omega) (fun _ => ?_) (fun hn => absurd hn (by simp))
      refine lv_aload_n (pc := 36) hx hb dJ10_init_4_36 rfl (lk hl rfl) ?_
      refine lv_null (pc := 37) hx hb dJ10_init_4_37 ?_
      refine hw_put (pc := 38) hx hb hts in_X5 tyX5_ok nmX5 hown hK (hp) (hg) hS rfl 1 (Nat.le_of_ble_eq_true rfl) (hts _ q725) (fun x h => h) rfl rfl (rfl) (rfl) (Nat.le_of_ble_eq_true rfl) dJ10_init_4_38 (fun Hp8 locsp8 hpp8 zp8 op8 hS => ?_)
      have hp : pt Γ Hp8 b (ob 17 [.ref b, .null, .ref us, .null, .null, .int (nI 0)]) := hpp8
      have ho := ho.trans (Off.put zp8 op8 (by first | rfl | (simp; done) | exact Or.inl rfl | exact Or.inr rfl | omega))
      exact tail _ _ _ hp ho hS
  rcases hK.cc.2.2.2.2.2.1.1 with hz | ⟨us, hz⟩
  · refine va_gets (pc := 10) hx hb (hz) hS hown (hts _ q471) (fun x h => h) dJ10_init_4_10 ?_
    refine hw_put (pc := 13) hx hb hts in_X5 tyX5_ok nmX5 hown hK (hp) (hg) hS rfl 1 (Nat.le_of_ble_eq_true rfl) (hts _ q725) (fun x h => h) rfl rfl (rfl) (rfl) (Nat.le_of_ble_eq_true rfl) dJ10_init_4_13 (fun Hp9 locsp9 hpp9 zp9 op9 hS => ?_)
    have hp : pt Γ Hp9 b (ob 17 [.ref b, .null, .null, .null, .null, .int (nI 0)]) := hpp9
    have ho := ho.trans (Off.put zp9 op9 (by first | rfl | (simp; done) | exact Or.inl rfl | exact Or.inr rfl | omega))
    exact mid _ _ _ hp ho hS
  · refine va_gets (pc := 10) hx hb (hz) hS hown (hts _ q471) (fun x h => h) dJ10_init_4_10 ?_
    refine hw_put (pc := 13) hx hb hts in_X5 tyX5_ok nmX5 hown hK (hp) (hg) hS rfl 1 (Nat.le_of_ble_eq_true rfl) (hts _ q725) (fun x h => h) rfl rfl (rfl) (rfl) (Nat.le_of_ble_eq_true rfl) dJ10_init_4_13 (fun Hp10 locsp10 hpp10 zp10 op10 hS => ?_)
    have hp : pt Γ Hp10 b (ob 17 [.ref b, .ref us, .null, .null, .null, .int (nI 0)]) := hpp10
    have ho := ho.trans (Off.put zp10 op10 (by first | rfl | (simp; done) | exact Or.inl rfl | exact Or.inr rfl | omega))
    exact mid _ _ _ hp ho hS
theorem e_excX5N (l : Launch) (Γ : Cx) (H : Heap) (b : Nat) (hp : pt Γ H b (ob 17 [.null, .null, .null, .null, .null, .int (nI 0)])) (hg : Gz Γ b) : Mt l Γ yJ11_init_4 (ws_ yJ11_init_4 cJ11_init_4 5 none) 2 0 0 [.ref b, .null, .null, .int (nI 0), .int (nI 0)] H (fun v H1 => v = none ∧ pt Γ H1 b (ob 17 [.null, .null, .null, .null, .null, .int (nI 0)]) ∧ Off (fun q => q = b) H H1) := by
  refine mt_of (by decide +kernel) (Nat.le_of_ble_eq_true rfl) ?_
  intro p e s m args below meth c ls Q hx hb hr hlocks hml hts hown hnm hK hS hl hQ
  refine lv_aload_n (pc := 0) hx hb dJ11_init_4_0 rfl (lk hl rfl) ?_
  refine lv_aload_nN (pc := 1) hx hb dJ11_init_4_1 rfl (lk hl rfl) ?_
  refine lv_aload_nN (pc := 2) hx hb dJ11_init_4_2 rfl (lk hl rfl) ?_
  refine lv_iload_n (pc := 3) hx hb dJ11_init_4_3 rfl (lk hl rfl) ?_
  refine lv_iload (pc := 4) hx hb dJ11_init_4_4 (lk hl rfl) ?_
  refine hc_I (pc := 6) hx hb hml hown hts hK hS (e_thrX5N l Γ H b hp hg) (cwI 4 hts (lw_meth q1346) rfl rfl rfl (hts _ q84) (hts _ q1344) (hts _ q1345) rfl (by decide +kernel) ⟨(Nat.le_of_ble_eq_true rfl), (Nat.le_of_ble_eq_true rfl)⟩) rfl hl.1 rfl (Nat.le_of_ble_eq_true rfl) dJ11_init_4_6 ⟨by first | exact Nat.le_of_ble_eq_true rfl | (dsimp only [rmd]; omega) | omega, by first | exact Nat.le_of_ble_eq_true rfl | (dsimp only [rmd]; omega) | omega⟩ (fun v9 H9 locs9 hq9 hS => ?_)
  obtain ⟨rfl, h1, h2⟩ := hq9
  exact hr_v (pc := 9) hQ hx hb hr hlocks hS (by first | exact Nat.le_of_ble_eq_true rfl | (dsimp only [rmd]; omega) | omega) (by first | exact Nat.le_of_ble_eq_true rfl | (dsimp only [rmd]; omega) | omega) (⟨rfl, h1, h2⟩) dJ11_init_4_9
theorem e_fldX5N (l : Launch) (Γ : Cx) (H : Heap) (b : Nat) (hp : pt Γ H b (ob 17 [.null, .null, .null, .null, .null, .int (nI 0)])) (hg : Gz Γ b) : Mt l Γ yX5_init (ws_ yX5_init cX5_init 2 none) 3 0 0 [.ref b, .null] H (fun v H1 => v = none ∧ pt Γ H1 b (ob 17 [.null, .null, .null, .null, .null, .int (nI 0)]) ∧ Off (fun q => q = b) H H1) := by
  refine mt_of (by decide +kernel) (Nat.le_of_ble_eq_true rfl) ?_
  intro p e s m args below meth c ls Q hx hb hr hlocks hml hts hown hnm hK hS hl hQ
  refine lv_aload_n (pc := 0) hx hb dX5_init_0 rfl (lk hl rfl) ?_
  refine lv_null (pc := 1) hx hb dX5_init_1 ?_
  refine lv_aload_nN (pc := 2) hx hb dX5_init_2 rfl (lk hl rfl) ?_
  refine lv_iconst (v := nI 0) (pc := 3) hx hb dX5_init_3 (by decide) ?_
  refine lv_iconst (v := nI 0) (pc := 4) hx hb dX5_init_4 (by decide) ?_
  refine hc_I (pc := 5) hx hb hml hown hts hK hS (e_excX5N l Γ H b hp hg) (cwI 4 hts (lw_meth q1343) rfl rfl rfl (hts _ q85) (hts _ q1341) (hts _ q1342) rfl (by decide +kernel) ⟨(Nat.le_of_ble_eq_true rfl), (Nat.le_of_ble_eq_true rfl)⟩) rfl hl.1 rfl (Nat.le_of_ble_eq_true rfl) dX5_init_5 ⟨by first | exact Nat.le_of_ble_eq_true rfl | (dsimp only [rmd]; omega) | omega, by first | exact Nat.le_of_ble_eq_true rfl | (dsimp only [rmd]; omega) | omega⟩ (fun v9 H9 locs9 hq9 hS => ?_)
  obtain ⟨rfl, h1, h2⟩ := hq9
  exact hr_v (pc := 8) hQ hx hb hr hlocks hS (by first | exact Nat.le_of_ble_eq_true rfl | (dsimp only [rmd]; omega) | omega) (by first | exact Nat.le_of_ble_eq_true rfl | (dsimp only [rmd]; omega) | omega) (⟨rfl, h1, h2⟩) dX5_init_8
theorem e_thrX5R (l : Launch) (Γ : Cx) (H : Heap) (b : Nat) (r9 : Nat) (hp : pt Γ H b (ob 17 [.null, .null, .null, .null, .null, .int (nI 0)])) (hg : Gz Γ b) : Mt l Γ yJ10_init_4 (ws_ yJ10_init_4 cJ10_init_4 5 none) 1 0 0 [.ref b, .null, .ref r9, .int (nI 0), .int (nI 0)] H (fun v H1 => v = none ∧ pt Γ H1 b (ob 17 [.ref r9, .null, .null, .null, .null, .int (nI 0)]) ∧ Off (fun q => q = b) H H1) := by
  refine mt_ofF (by decide +kernel) (Nat.le_of_ble_eq_true rfl) ?_
  intro p e s m args below meth c ls Q hx hb hr hlocks hml hts hown hnm hK hS hl hQ
  have ho : Off (fun q => q = b) H H := Off.rf
  refine lv_aload_n (pc := 0) hx hb dJ10_init_4_0 rfl (lk hl rfl) ?_
  refine W.objInit hx hb hown (hts _ q470) (hts _ q127) (hts _ q128) rfl (by rw [hml]; exact hl.1) rfl dJ10_init_4_1 (Nat.le_of_ble_eq_true rfl) (Nat.le_of_ble_eq_true rfl) ?_
  refine W.eq (g2 := F0 m 4 ls _) rfl ?_
  refine lv_aload_n (pc := 4) hx hb dJ10_init_4_4 rfl (lk hl rfl) ?_
  refine lv_aload_n (pc := 5) hx hb dJ10_init_4_5 rfl (lk hl rfl) ?_
  refine hw_put (pc := 6) hx hb hts in_X5 tyX5_ok nmX5 hown hK (hp) (hg) hS rfl 0 (Nat.le_of_ble_eq_true rfl) (hts _ q724) (fun x h => h) rfl rfl (rfl) (rfl) (Nat.le_of_ble_eq_true rfl) dJ10_init_4_6 (fun Hp1 locsp1 hpp1 zp1 op1 hS => ?_)
  have hp : pt Γ Hp1 b (ob 17 [.ref b, .null, .null, .null, .null, .int (nI 0)]) := hpp1
  have ho := ho.trans (Off.put zp1 op1 (by first | rfl | (simp; done) | exact Or.inl rfl | exact Or.inr rfl | omega))
  refine lv_aload_n (pc := 9) hx hb dJ10_init_4_9 rfl (lk hl rfl) ?_
  obtain ⟨H1, hH1⟩ : ∃ H1, H1 = Hp1 := ⟨_, rfl⟩
  have tail : ∀ (u : Value) (H' : Heap) (locs : List Loc), pt Γ H' b (ob 17 [.ref b, .null, u, .null, .null, .int (nI 0)]) → Off (fun q => q = b) H H' → va_S (Gz Γ) s.heap H' locs → W p l e (rmd 1 0 0) s m args below meth c H' locs 0 0 Q (F0 m 41 ls []) := by
    intro u H' locs hp ho hS
    refine lv_aload_n (pc := 41) hx hb dJ10_init_4_41 rfl (lk hl rfl) ?_
    refine lv_aload_nN (pc := 42) hx hb dJ10_init_4_42 rfl (lk hl rfl) ?_
    refine hw_put (pc := 43) hx hb hts in_X5 tyX5_ok nmX5 hown hK (hp) (hg) hS rfl 3 (Nat.le_of_ble_eq_true rfl) (hts _ q723) (fun x h => h) rfl rfl (rfl) (rfl) (Nat.le_of_ble_eq_true rfl) dJ10_init_4_43 (fun Hp2 locsp2 hpp2 zp2 op2 hS => ?_)
    have hp : pt Γ Hp2 b (ob 17 [.ref b, .null, u, .null, .null, .int (nI 0)]) := hpp2
    have ho := ho.trans (Off.put zp2 op2 (by first | rfl | (simp; done) | exact Or.inl rfl | exact Or.inr rfl | omega))
    refine lv_aload_n (pc := 46) hx hb dJ10_init_4_46 rfl (lk hl rfl) ?_
    refine lv_aload_n (pc := 47) hx hb dJ10_init_4_47 rfl (lk hl rfl) ?_
    refine hw_put (pc := 48) hx hb hts in_X5 tyX5_ok nmX5 hown hK (hp) (hg) hS rfl 0 (Nat.le_of_ble_eq_true rfl) (hts _ q724) (fun x h => h) rfl rfl (rfl) (rfl) (Nat.le_of_ble_eq_true rfl) dJ10_init_4_48 (fun Hp3 locsp3 hpp3 zp3 op3 hS => ?_)
    have hp : pt Γ Hp3 b (ob 17 [.ref r9, .null, u, .null, .null, .int (nI 0)]) := hpp3
    have ho := ho.trans (Off.put zp3 op3 (by first | rfl | (simp; done) | exact Or.inl rfl | exact Or.inr rfl | omega))
    refine lv_iload_n (pc := 51) hx hb dJ10_init_4_51 rfl (lk hl rfl) ?_
    refine hn_z_ne (tgt := 60) (pc := 52) hx hb dJ10_init_4_52 (by decide) (by omega) (fun hn => absurd hn (by simp)) (fun _ => ?_)
    refine lv_aload_n (pc := 55) hx hb dJ10_init_4_55 rfl (lk hl rfl) ?_
    refine lv_null (pc := 56) hx hb dJ10_init_4_56 ?_
    refine hw_put (pc := 57) hx hb hts in_X5 tyX5_ok nmX5 hown hK (hp) (hg) hS rfl 2 (Nat.le_of_ble_eq_true rfl) (hts _ q726) (fun x h => h) rfl rfl (rfl) (rfl) (Nat.le_of_ble_eq_true rfl) dJ10_init_4_57 (fun Hp4 locsp4 hpp4 zp4 op4 hS => ?_)
    have hp : pt Γ Hp4 b (ob 17 [.ref r9, .null, .null, .null, .null, .int (nI 0)]) := hpp4
    have ho := ho.trans (Off.put zp4 op4 (by first | rfl | (simp; done) | exact Or.inl rfl | exact Or.inr rfl | omega))
    exact hr_v (pc := 60) hQ hx hb hr hlocks hS (by first | exact Nat.le_of_ble_eq_true rfl | (dsimp only [rmd]; omega) | omega) (by first | exact Nat.le_of_ble_eq_true rfl | (dsimp only [rmd]; omega) | omega) (⟨rfl, hp, ho⟩) dJ10_init_4_60
  have mid : ∀ (u : Value) (H' : Heap) (locs : List Loc), pt Γ H' b (ob 17 [.ref b, u, .null, .null, .null, .int (nI 0)]) → Off (fun q => q = b) H H' → va_S (Gz Γ) s.heap H' locs → W p l e (rmd 1 0 0) s m args below meth c H' locs 0 0 Q (F0 m 16 ls []) := by
    intro u H' locs hp ho hS
    refine lv_aload_n (pc := 16) hx hb dJ10_init_4_16 rfl (lk hl rfl) ?_
    rcases hK.cc.2.2.2.2.2.2.1.1 with hz | ⟨us, hz⟩
    · refine va_gets (pc := 17) hx hb (hz) hS hown (hts _ q473) (fun x h => h) dJ10_init_4_17 ?_
      refine hw_put (pc := 20) hx hb hts in_X5 tyX5_ok nmX5 hown hK (hp) (hg) hS rfl 2 (Nat.le_of_ble_eq_true rfl) (hts _ q726) (fun x h => h) rfl rfl (rfl) (rfl) (Nat.le_of_ble_eq_true rfl) dJ10_init_4_20 (fun Hp5 locsp5 hpp5 zp5 op5 hS => ?_)
      have hp : pt Γ Hp5 b (ob 17 [.ref b, u, .null, .null, .null, .int (nI 0)]) := hpp5
      have ho := ho.trans (Off.put zp5 op5 (by first | rfl | (simp; done) | exact Or.inl rfl | exact Or.inr rfl | omega))
      refine lv_iload (pc := 23) hx hb dJ10_init_4_23 (lk hl rfl) ?_
      refine hn_z_eq (tgt := 36) (pc := 25) hx hb dJ10_init_4_25 (by decide) (by omega) (fun _ => ?_) (fun hn => absurd hn (by simp))
      refine lv_aload_n (pc := 36) hx hb dJ10_init_4_36 rfl (lk hl rfl) ?_
      refine lv_null (pc := 37) hx hb dJ10_init_4_37 ?_
      refine hw_put (pc := 38) hx hb hts in_X5 tyX5_ok nmX5 hown hK (hp) (hg) hS rfl 1 (Nat.le_of_ble_eq_true rfl) (hts _ q725) (fun x h => h) rfl rfl (rfl) (rfl) (Nat.le_of_ble_eq_true rfl) dJ10_init_4_38 (fun Hp6 locsp6 hpp6 zp6 op6 hS => ?_)
      have hp : pt Γ Hp6 b (ob 17 [.ref b, .null, .null, .null, .null, .int (nI 0)]) := hpp6
      have ho := ho.trans (Off.put zp6 op6 (by first | rfl | (simp; done) | exact Or.inl rfl | exact Or.inr rfl | omega))
      exact tail _ _ _ hp ho hS
    · refine va_gets (pc := 17) hx hb (hz) hS hown (hts _ q473) (fun x h => h) dJ10_init_4_17 ?_
      refine hw_put (pc := 20) hx hb hts in_X5 tyX5_ok nmX5 hown hK (hp) (hg) hS rfl 2 (Nat.le_of_ble_eq_true rfl) (hts _ q726) (fun x h => h) rfl rfl (rfl) (rfl) (Nat.le_of_ble_eq_true rfl) dJ10_init_4_20 (fun Hp7 locsp7 hpp7 zp7 op7 hS => ?_)
      have hp : pt Γ Hp7 b (ob 17 [.ref b, u, .ref us, .null, .null, .int (nI 0)]) := hpp7
      have ho := ho.trans (Off.put zp7 op7 (by first | rfl | (simp; done) | exact Or.inl rfl | exact Or.inr rfl | omega))
      refine lv_iload (pc := 23) hx hb dJ10_init_4_23 (lk hl rfl) ?_
      refine hn_z_eq (tgt := 36) (pc := 25) hx hb dJ10_init_4_25 (by decide) (by omega) (fun _ => ?_) (fun hn => absurd hn (by simp))
      refine lv_aload_n (pc := 36) hx hb dJ10_init_4_36 rfl (lk hl rfl) ?_
      refine lv_null (pc := 37) hx hb dJ10_init_4_37 ?_
      refine hw_put (pc := 38) hx hb hts in_X5 tyX5_ok nmX5 hown hK (hp) (hg) hS rfl 1 (Nat.le_of_ble_eq_true rfl) (hts _ q725) (fun x h => h) rfl rfl (rfl) (rfl) (Nat.le_of_ble_eq_true rfl) dJ10_init_4_38 (fun Hp8 locsp8 hpp8 zp8 op8 hS => ?_)
      have hp : pt Γ Hp8 b (ob 17 [.ref b, .null, .ref us, .null, .null, .int (nI 0)]) := hpp8
      have ho := ho.trans (Off.put zp8 op8 (by first | rfl | (simp; done) | exact Or.inl rfl | exact Or.inr rfl | omega))
      exact tail _ _ _ hp ho hS
  rcases hK.cc.2.2.2.2.2.1.1 with hz | ⟨us, hz⟩
  · refine va_gets (pc := 10) hx hb (hz) hS hown (hts _ q471) (fun x h => h) dJ10_init_4_10 ?_
    refine hw_put (pc := 13) hx hb hts in_X5 tyX5_ok nmX5 hown hK (hp) (hg) hS rfl 1 (Nat.le_of_ble_eq_true rfl) (hts _ q725) (fun x h => h) rfl rfl (rfl) (rfl) (Nat.le_of_ble_eq_true rfl) dJ10_init_4_13 (fun Hp9 locsp9 hpp9 zp9 op9 hS => ?_)
    have hp : pt Γ Hp9 b (ob 17 [.ref b, .null, .null, .null, .null, .int (nI 0)]) := hpp9
    have ho := ho.trans (Off.put zp9 op9 (by first | rfl | (simp; done) | exact Or.inl rfl | exact Or.inr rfl | omega))
    exact mid _ _ _ hp ho hS
  · refine va_gets (pc := 10) hx hb (hz) hS hown (hts _ q471) (fun x h => h) dJ10_init_4_10 ?_
    refine hw_put (pc := 13) hx hb hts in_X5 tyX5_ok nmX5 hown hK (hp) (hg) hS rfl 1 (Nat.le_of_ble_eq_true rfl) (hts _ q725) (fun x h => h) rfl rfl (rfl) (rfl) (Nat.le_of_ble_eq_true rfl) dJ10_init_4_13 (fun Hp10 locsp10 hpp10 zp10 op10 hS => ?_)
    have hp : pt Γ Hp10 b (ob 17 [.ref b, .ref us, .null, .null, .null, .int (nI 0)]) := hpp10
    have ho := ho.trans (Off.put zp10 op10 (by first | rfl | (simp; done) | exact Or.inl rfl | exact Or.inr rfl | omega))
    exact mid _ _ _ hp ho hS
theorem e_excX5R (l : Launch) (Γ : Cx) (H : Heap) (b : Nat) (r9 : Nat) (hp : pt Γ H b (ob 17 [.null, .null, .null, .null, .null, .int (nI 0)])) (hg : Gz Γ b) : Mt l Γ yJ11_init_4 (ws_ yJ11_init_4 cJ11_init_4 5 none) 2 0 0 [.ref b, .null, .ref r9, .int (nI 0), .int (nI 0)] H (fun v H1 => v = none ∧ pt Γ H1 b (ob 17 [.ref r9, .null, .null, .null, .null, .int (nI 0)]) ∧ Off (fun q => q = b) H H1) := by
  refine mt_of (by decide +kernel) (Nat.le_of_ble_eq_true rfl) ?_
  intro p e s m args below meth c ls Q hx hb hr hlocks hml hts hown hnm hK hS hl hQ
  refine lv_aload_n (pc := 0) hx hb dJ11_init_4_0 rfl (lk hl rfl) ?_
  refine lv_aload_nN (pc := 1) hx hb dJ11_init_4_1 rfl (lk hl rfl) ?_
  refine lv_aload_n (pc := 2) hx hb dJ11_init_4_2 rfl (lk hl rfl) ?_
  refine lv_iload_n (pc := 3) hx hb dJ11_init_4_3 rfl (lk hl rfl) ?_
  refine lv_iload (pc := 4) hx hb dJ11_init_4_4 (lk hl rfl) ?_
  refine hc_I (pc := 6) hx hb hml hown hts hK hS (e_thrX5R l Γ H b r9 hp hg) (cwI 4 hts (lw_meth q1346) rfl rfl rfl (hts _ q84) (hts _ q1344) (hts _ q1345) rfl (by decide +kernel) ⟨(Nat.le_of_ble_eq_true rfl), (Nat.le_of_ble_eq_true rfl)⟩) rfl hl.1 rfl (Nat.le_of_ble_eq_true rfl) dJ11_init_4_6 ⟨by first | exact Nat.le_of_ble_eq_true rfl | (dsimp only [rmd]; omega) | omega, by first | exact Nat.le_of_ble_eq_true rfl | (dsimp only [rmd]; omega) | omega⟩ (fun v9 H9 locs9 hq9 hS => ?_)
  obtain ⟨rfl, h1, h2⟩ := hq9
  exact hr_v (pc := 9) hQ hx hb hr hlocks hS (by first | exact Nat.le_of_ble_eq_true rfl | (dsimp only [rmd]; omega) | omega) (by first | exact Nat.le_of_ble_eq_true rfl | (dsimp only [rmd]; omega) | omega) (⟨rfl, h1, h2⟩) dJ11_init_4_9
theorem e_fldX5R (l : Launch) (Γ : Cx) (H : Heap) (b : Nat) (r9 : Nat) (hp : pt Γ H b (ob 17 [.null, .null, .null, .null, .null, .int (nI 0)])) (hg : Gz Γ b) : Mt l Γ yX5_init (ws_ yX5_init cX5_init 2 none) 3 0 0 [.ref b, .ref r9] H (fun v H1 => v = none ∧ pt Γ H1 b (ob 17 [.ref r9, .null, .null, .null, .null, .int (nI 0)]) ∧ Off (fun q => q = b) H H1) := by
  refine mt_of (by decide +kernel) (Nat.le_of_ble_eq_true rfl) ?_
  intro p e s m args below meth c ls Q hx hb hr hlocks hml hts hown hnm hK hS hl hQ
  refine lv_aload_n (pc := 0) hx hb dX5_init_0 rfl (lk hl rfl) ?_
  refine lv_null (pc := 1) hx hb dX5_init_1 ?_
  refine lv_aload_n (pc := 2) hx hb dX5_init_2 rfl (lk hl rfl) ?_
  refine lv_iconst (v := nI 0) (pc := 3) hx hb dX5_init_3 (by decide) ?_
  refine lv_iconst (v := nI 0) (pc := 4) hx hb dX5_init_4 (by decide) ?_
  refine hc_I (pc := 5) hx hb hml hown hts hK hS (e_excX5R l Γ H b r9 hp hg) (cwI 4 hts (lw_meth q1343) rfl rfl rfl (hts _ q85) (hts _ q1341) (hts _ q1342) rfl (by decide +kernel) ⟨(Nat.le_of_ble_eq_true rfl), (Nat.le_of_ble_eq_true rfl)⟩) rfl hl.1 rfl (Nat.le_of_ble_eq_true rfl) dX5_init_5 ⟨by first | exact Nat.le_of_ble_eq_true rfl | (dsimp only [rmd]; omega) | omega, by first | exact Nat.le_of_ble_eq_true rfl | (dsimp only [rmd]; omega) | omega⟩ (fun v9 H9 locs9 hq9 hS => ?_)
  obtain ⟨rfl, h1, h2⟩ := hq9
  exact hr_v (pc := 8) hQ hx hb hr hlocks hS (by first | exact Nat.le_of_ble_eq_true rfl | (dsimp only [rmd]; omega) | omega) (by first | exact Nat.le_of_ble_eq_true rfl | (dsimp only [rmd]; omega) | omega) (⟨rfl, h1, h2⟩) dX5_init_8
theorem e_thrX10N (l : Launch) (Γ : Cx) (H : Heap) (b : Nat) (hp : pt Γ H b (ob 18 [.null, .null, .null, .null, .null, .int (nI 0)])) (hg : Gz Γ b) : Mt l Γ yJ10_init_4 (ws_ yJ10_init_4 cJ10_init_4 5 none) 1 0 0 [.ref b, .null, .null, .int (nI 0), .int (nI 0)] H (fun v H1 => v = none ∧ pt Γ H1 b (ob 18 [.null, .null, .null, .null, .null, .int (nI 0)]) ∧ Off (fun q => q = b) H H1) := by
  refine mt_ofF (by decide +kernel) (Nat.le_of_ble_eq_true rfl) ?_
  intro p e s m args below meth c ls Q hx hb hr hlocks hml hts hown hnm hK hS hl hQ
  have ho : Off (fun q => q = b) H H := Off.rf
  refine lv_aload_n (pc := 0) hx hb dJ10_init_4_0 rfl (lk hl rfl) ?_
  refine W.objInit hx hb hown (hts _ q470) (hts _ q127) (hts _ q128) rfl (by rw [hml]; exact hl.1) rfl dJ10_init_4_1 (Nat.le_of_ble_eq_true rfl) (Nat.le_of_ble_eq_true rfl) ?_
  refine W.eq (g2 := F0 m 4 ls _) rfl ?_
  refine lv_aload_n (pc := 4) hx hb dJ10_init_4_4 rfl (lk hl rfl) ?_
  refine lv_aload_n (pc := 5) hx hb dJ10_init_4_5 rfl (lk hl rfl) ?_
  refine hw_put (pc := 6) hx hb hts in_X10 tyX10_ok nmX10 hown hK (hp) (hg) hS rfl 0 (Nat.le_of_ble_eq_true rfl) (hts _ q724) (fun x h => h) rfl rfl (rfl) (rfl) (Nat.le_of_ble_eq_true rfl) dJ10_init_4_6 (fun Hp1 locsp1 hpp1 zp1 op1 hS => ?_)
  have hp : pt Γ Hp1 b (ob 18 [.ref b, .null, .null, .null, .null, .int (nI 0)]) := hpp1
  have ho := ho.trans (Off.put zp1 op1 (by first | rfl | (simp; done) | exact Or.inl rfl | exact Or.inr rfl | omega))
  refine lv_aload_n (pc := 9) hx hb dJ10_init_4_9 rfl (lk hl rfl) ?_
  obtain ⟨H1, hH1⟩ : ∃ H1, H1 = Hp1 := ⟨_, rfl⟩
  have tail : ∀ (u : Value) (H' : Heap) (locs : List Loc), pt Γ H' b (ob 18 [.ref b, .null, u, .null, .null, .int (nI 0)]) → Off (fun q => q = b) H H' → va_S (Gz Γ) s.heap H' locs → W p l e (rmd 1 0 0) s m args below meth c H' locs 0 0 Q (F0 m 41 ls []) := by
    intro u H' locs hp ho hS
    refine lv_aload_n (pc := 41) hx hb dJ10_init_4_41 rfl (lk hl rfl) ?_
    refine lv_aload_nN (pc := 42) hx hb dJ10_init_4_42 rfl (lk hl rfl) ?_
    refine hw_put (pc := 43) hx hb hts in_X10 tyX10_ok nmX10 hown hK (hp) (hg) hS rfl 3 (Nat.le_of_ble_eq_true rfl) (hts _ q723) (fun x h => h) rfl rfl (rfl) (rfl) (Nat.le_of_ble_eq_true rfl) dJ10_init_4_43 (fun Hp2 locsp2 hpp2 zp2 op2 hS => ?_)
    have hp : pt Γ Hp2 b (ob 18 [.ref b, .null, u, .null, .null, .int (nI 0)]) := hpp2
    have ho := ho.trans (Off.put zp2 op2 (by first | rfl | (simp; done) | exact Or.inl rfl | exact Or.inr rfl | omega))
    refine lv_aload_n (pc := 46) hx hb dJ10_init_4_46 rfl (lk hl rfl) ?_
    refine lv_aload_nN (pc := 47) hx hb dJ10_init_4_47 rfl (lk hl rfl) ?_
    refine hw_put (pc := 48) hx hb hts in_X10 tyX10_ok nmX10 hown hK (hp) (hg) hS rfl 0 (Nat.le_of_ble_eq_true rfl) (hts _ q724) (fun x h => h) rfl rfl (rfl) (rfl) (Nat.le_of_ble_eq_true rfl) dJ10_init_4_48 (fun Hp3 locsp3 hpp3 zp3 op3 hS => ?_)
    have hp : pt Γ Hp3 b (ob 18 [.null, .null, u, .null, .null, .int (nI 0)]) := hpp3
    have ho := ho.trans (Off.put zp3 op3 (by first | rfl | (simp; done) | exact Or.inl rfl | exact Or.inr rfl | omega))
    refine lv_iload_n (pc := 51) hx hb dJ10_init_4_51 rfl (lk hl rfl) ?_
    refine hn_z_ne (tgt := 60) (pc := 52) hx hb dJ10_init_4_52 (by decide) (by omega) (fun hn => absurd hn (by simp)) (fun _ => ?_)
    refine lv_aload_n (pc := 55) hx hb dJ10_init_4_55 rfl (lk hl rfl) ?_
    refine lv_null (pc := 56) hx hb dJ10_init_4_56 ?_
    refine hw_put (pc := 57) hx hb hts in_X10 tyX10_ok nmX10 hown hK (hp) (hg) hS rfl 2 (Nat.le_of_ble_eq_true rfl) (hts _ q726) (fun x h => h) rfl rfl (rfl) (rfl) (Nat.le_of_ble_eq_true rfl) dJ10_init_4_57 (fun Hp4 locsp4 hpp4 zp4 op4 hS => ?_)
    have hp : pt Γ Hp4 b (ob 18 [.null, .null, .null, .null, .null, .int (nI 0)]) := hpp4
    have ho := ho.trans (Off.put zp4 op4 (by first | rfl | (simp; done) | exact Or.inl rfl | exact Or.inr rfl | omega))
    exact hr_v (pc := 60) hQ hx hb hr hlocks hS (by first | exact Nat.le_of_ble_eq_true rfl | (dsimp only [rmd]; omega) | omega) (by first | exact Nat.le_of_ble_eq_true rfl | (dsimp only [rmd]; omega) | omega) (⟨rfl, hp, ho⟩) dJ10_init_4_60
  have mid : ∀ (u : Value) (H' : Heap) (locs : List Loc), pt Γ H' b (ob 18 [.ref b, u, .null, .null, .null, .int (nI 0)]) → Off (fun q => q = b) H H' → va_S (Gz Γ) s.heap H' locs → W p l e (rmd 1 0 0) s m args below meth c H' locs 0 0 Q (F0 m 16 ls []) := by
    intro u H' locs hp ho hS
    refine lv_aload_n (pc := 16) hx hb dJ10_init_4_16 rfl (lk hl rfl) ?_
    rcases hK.cc.2.2.2.2.2.2.1.1 with hz | ⟨us, hz⟩
    · refine va_gets (pc := 17) hx hb (hz) hS hown (hts _ q473) (fun x h => h) dJ10_init_4_17 ?_
      refine hw_put (pc := 20) hx hb hts in_X10 tyX10_ok nmX10 hown hK (hp) (hg) hS rfl 2 (Nat.le_of_ble_eq_true rfl) (hts _ q726) (fun x h => h) rfl rfl (rfl) (rfl) (Nat.le_of_ble_eq_true rfl) dJ10_init_4_20 (fun Hp5 locsp5 hpp5 zp5 op5 hS => ?_)
      have hp : pt Γ Hp5 b (ob 18 [.ref b, u, .null, .null, .null, .int (nI 0)]) := hpp5
      have ho := ho.trans (Off.put zp5 op5 (by first | rfl | (simp; done) | exact Or.inl rfl | exact Or.inr rfl | omega))
      refine lv_iload (pc := 23) hx hb dJ10_init_4_23 (lk hl rfl) ?_
      refine hn_z_eq (tgt := 36) (pc := 25) hx hb dJ10_init_4_25 (by decide) (by omega) (fun _ => ?_) (fun hn => absurd hn (by simp))
      refine lv_aload_n (pc := 36) hx hb dJ10_init_4_36 rfl (lk hl rfl) ?_
      refine lv_null (pc := 37) hx hb dJ10_init_4_37 ?_
      refine hw_put (pc := 38) hx hb hts in_X10 tyX10_ok nmX10 hown hK (hp) (hg) hS rfl 1 (Nat.le_of_ble_eq_true rfl) (hts _ q725) (fun x h => h) rfl rfl (rfl) (rfl) (Nat.le_of_ble_eq_true rfl) dJ10_init_4_38 (fun Hp6 locsp6 hpp6 zp6 op6 hS => ?_)
      have hp : pt Γ Hp6 b (ob 18 [.ref b, .null, .null, .null, .null, .int (nI 0)]) := hpp6
      have ho := ho.trans (Off.put zp6 op6 (by first | rfl | (simp; done) | exact Or.inl rfl | exact Or.inr rfl | omega))
      exact tail _ _ _ hp ho hS
    · refine va_gets (pc := 17) hx hb (hz) hS hown (hts _ q473) (fun x h => h) dJ10_init_4_17 ?_
      refine hw_put (pc := 20) hx hb hts in_X10 tyX10_ok nmX10 hown hK (hp) (hg) hS rfl 2 (Nat.le_of_ble_eq_true rfl) (hts _ q726) (fun x h => h) rfl rfl (rfl) (rfl) (Nat.le_of_ble_eq_true rfl) dJ10_init_4_20 (fun Hp7 locsp7 hpp7 zp7 op7 hS => ?_)
      have hp : pt Γ Hp7 b (ob 18 [.ref b, u, .ref us, .null, .null, .int (nI 0)]) := hpp7
      have ho := ho.trans (Off.put zp7 op7 (by first | rfl | (simp; done) | exact Or.inl rfl | exact Or.inr rfl | omega))
      refine lv_iload (pc := 23) hx hb dJ10_init_4_23 (lk hl rfl) ?_
      refine hn_z_eq (tgt := 36) (pc := 25) hx hb dJ10_init_4_25 (by decide) (by omega) (fun _ => ?_) (fun hn => absurd hn (by simp))
      refine lv_aload_n (pc := 36) hx hb dJ10_init_4_36 rfl (lk hl rfl) ?_
      refine lv_null (pc := 37) hx hb dJ10_init_4_37 ?_
      refine hw_put (pc := 38) hx hb hts in_X10 tyX10_ok nmX10 hown hK (hp) (hg) hS rfl 1 (Nat.le_of_ble_eq_true rfl) (hts _ q725) (fun x h => h) rfl rfl (rfl) (rfl) (Nat.le_of_ble_eq_true rfl) dJ10_init_4_38 (fun Hp8 locsp8 hpp8 zp8 op8 hS => ?_)
      have hp : pt Γ Hp8 b (ob 18 [.ref b, .null, .ref us, .null, .null, .int (nI 0)]) := hpp8
      have ho := ho.trans (Off.put zp8 op8 (by first | rfl | (simp; done) | exact Or.inl rfl | exact Or.inr rfl | omega))
      exact tail _ _ _ hp ho hS
  rcases hK.cc.2.2.2.2.2.1.1 with hz | ⟨us, hz⟩
  · refine va_gets (pc := 10) hx hb (hz) hS hown (hts _ q471) (fun x h => h) dJ10_init_4_10 ?_
    refine hw_put (pc := 13) hx hb hts in_X10 tyX10_ok nmX10 hown hK (hp) (hg) hS rfl 1 (Nat.le_of_ble_eq_true rfl) (hts _ q725) (fun x h => h) rfl rfl (rfl) (rfl) (Nat.le_of_ble_eq_true rfl) dJ10_init_4_13 (fun Hp9 locsp9 hpp9 zp9 op9 hS => ?_)
    have hp : pt Γ Hp9 b (ob 18 [.ref b, .null, .null, .null, .null, .int (nI 0)]) := hpp9
    have ho := ho.trans (Off.put zp9 op9 (by first | rfl | (simp; done) | exact Or.inl rfl | exact Or.inr rfl | omega))
    exact mid _ _ _ hp ho hS
  · refine va_gets (pc := 10) hx hb (hz) hS hown (hts _ q471) (fun x h => h) dJ10_init_4_10 ?_
    refine hw_put (pc := 13) hx hb hts in_X10 tyX10_ok nmX10 hown hK (hp) (hg) hS rfl 1 (Nat.le_of_ble_eq_true rfl) (hts _ q725) (fun x h => h) rfl rfl (rfl) (rfl) (Nat.le_of_ble_eq_true rfl) dJ10_init_4_13 (fun Hp10 locsp10 hpp10 zp10 op10 hS => ?_)
    have hp : pt Γ Hp10 b (ob 18 [.ref b, .ref us, .null, .null, .null, .int (nI 0)]) := hpp10
    have ho := ho.trans (Off.put zp10 op10 (by first | rfl | (simp; done) | exact Or.inl rfl | exact Or.inr rfl | omega))
    exact mid _ _ _ hp ho hS
theorem e_excX10N (l : Launch) (Γ : Cx) (H : Heap) (b : Nat) (hp : pt Γ H b (ob 18 [.null, .null, .null, .null, .null, .int (nI 0)])) (hg : Gz Γ b) : Mt l Γ yJ11_init_4 (ws_ yJ11_init_4 cJ11_init_4 5 none) 2 0 0 [.ref b, .null, .null, .int (nI 0), .int (nI 0)] H (fun v H1 => v = none ∧ pt Γ H1 b (ob 18 [.null, .null, .null, .null, .null, .int (nI 0)]) ∧ Off (fun q => q = b) H H1) := by
  refine mt_of (by decide +kernel) (Nat.le_of_ble_eq_true rfl) ?_
  intro p e s m args below meth c ls Q hx hb hr hlocks hml hts hown hnm hK hS hl hQ
  refine lv_aload_n (pc := 0) hx hb dJ11_init_4_0 rfl (lk hl rfl) ?_
  refine lv_aload_nN (pc := 1) hx hb dJ11_init_4_1 rfl (lk hl rfl) ?_
  refine lv_aload_nN (pc := 2) hx hb dJ11_init_4_2 rfl (lk hl rfl) ?_
  refine lv_iload_n (pc := 3) hx hb dJ11_init_4_3 rfl (lk hl rfl) ?_
  refine lv_iload (pc := 4) hx hb dJ11_init_4_4 (lk hl rfl) ?_
  refine hc_I (pc := 6) hx hb hml hown hts hK hS (e_thrX10N l Γ H b hp hg) (cwI 4 hts (lw_meth q1346) rfl rfl rfl (hts _ q84) (hts _ q1344) (hts _ q1345) rfl (by decide +kernel) ⟨(Nat.le_of_ble_eq_true rfl), (Nat.le_of_ble_eq_true rfl)⟩) rfl hl.1 rfl (Nat.le_of_ble_eq_true rfl) dJ11_init_4_6 ⟨by first | exact Nat.le_of_ble_eq_true rfl | (dsimp only [rmd]; omega) | omega, by first | exact Nat.le_of_ble_eq_true rfl | (dsimp only [rmd]; omega) | omega⟩ (fun v9 H9 locs9 hq9 hS => ?_)
  obtain ⟨rfl, h1, h2⟩ := hq9
  exact hr_v (pc := 9) hQ hx hb hr hlocks hS (by first | exact Nat.le_of_ble_eq_true rfl | (dsimp only [rmd]; omega) | omega) (by first | exact Nat.le_of_ble_eq_true rfl | (dsimp only [rmd]; omega) | omega) (⟨rfl, h1, h2⟩) dJ11_init_4_9
theorem e_fldX10N (l : Launch) (Γ : Cx) (H : Heap) (b : Nat) (hp : pt Γ H b (ob 18 [.null, .null, .null, .null, .null, .int (nI 0)])) (hg : Gz Γ b) : Mt l Γ yX5_init (ws_ yX5_init cX5_init 2 none) 3 0 0 [.ref b, .null] H (fun v H1 => v = none ∧ pt Γ H1 b (ob 18 [.null, .null, .null, .null, .null, .int (nI 0)]) ∧ Off (fun q => q = b) H H1) := by
  refine mt_of (by decide +kernel) (Nat.le_of_ble_eq_true rfl) ?_
  intro p e s m args below meth c ls Q hx hb hr hlocks hml hts hown hnm hK hS hl hQ
  refine lv_aload_n (pc := 0) hx hb dX5_init_0 rfl (lk hl rfl) ?_
  refine lv_null (pc := 1) hx hb dX5_init_1 ?_
  refine lv_aload_nN (pc := 2) hx hb dX5_init_2 rfl (lk hl rfl) ?_
  refine lv_iconst (v := nI 0) (pc := 3) hx hb dX5_init_3 (by decide) ?_
  refine lv_iconst (v := nI 0) (pc := 4) hx hb dX5_init_4 (by decide) ?_
  refine hc_I (pc := 5) hx hb hml hown hts hK hS (e_excX10N l Γ H b hp hg) (cwI 4 hts (lw_meth q1343) rfl rfl rfl (hts _ q85) (hts _ q1341) (hts _ q1342) rfl (by decide +kernel) ⟨(Nat.le_of_ble_eq_true rfl), (Nat.le_of_ble_eq_true rfl)⟩) rfl hl.1 rfl (Nat.le_of_ble_eq_true rfl) dX5_init_5 ⟨by first | exact Nat.le_of_ble_eq_true rfl | (dsimp only [rmd]; omega) | omega, by first | exact Nat.le_of_ble_eq_true rfl | (dsimp only [rmd]; omega) | omega⟩ (fun v9 H9 locs9 hq9 hS => ?_)
  obtain ⟨rfl, h1, h2⟩ := hq9
  exact hr_v (pc := 8) hQ hx hb hr hlocks hS (by first | exact Nat.le_of_ble_eq_true rfl | (dsimp only [rmd]; omega) | omega) (by first | exact Nat.le_of_ble_eq_true rfl | (dsimp only [rmd]; omega) | omega) (⟨rfl, h1, h2⟩) dX5_init_8
theorem e_thrX10R (l : Launch) (Γ : Cx) (H : Heap) (b : Nat) (r9 : Nat) (hp : pt Γ H b (ob 18 [.null, .null, .null, .null, .null, .int (nI 0)])) (hg : Gz Γ b) : Mt l Γ yJ10_init_4 (ws_ yJ10_init_4 cJ10_init_4 5 none) 1 0 0 [.ref b, .null, .ref r9, .int (nI 0), .int (nI 0)] H (fun v H1 => v = none ∧ pt Γ H1 b (ob 18 [.ref r9, .null, .null, .null, .null, .int (nI 0)]) ∧ Off (fun q => q = b) H H1) := by
  refine mt_ofF (by decide +kernel) (Nat.le_of_ble_eq_true rfl) ?_
  intro p e s m args below meth c ls Q hx hb hr hlocks hml hts hown hnm hK hS hl hQ
  have ho : Off (fun q => q = b) H H := Off.rf
  refine lv_aload_n (pc := 0) hx hb dJ10_init_4_0 rfl (lk hl rfl) ?_
  refine W.objInit hx hb hown (hts _ q470) (hts _ q127) (hts _ q128) rfl (by rw [hml]; exact hl.1) rfl dJ10_init_4_1 (Nat.le_of_ble_eq_true rfl) (Nat.le_of_ble_eq_true rfl) ?_
  refine W.eq (g2 := F0 m 4 ls _) rfl ?_
  refine lv_aload_n (pc := 4) hx hb dJ10_init_4_4 rfl (lk hl rfl) ?_
  refine lv_aload_n (pc := 5) hx hb dJ10_init_4_5 rfl (lk hl rfl) ?_
  refine hw_put (pc := 6) hx hb hts in_X10 tyX10_ok nmX10 hown hK (hp) (hg) hS rfl 0 (Nat.le_of_ble_eq_true rfl) (hts _ q724) (fun x h => h) rfl rfl (rfl) (rfl) (Nat.le_of_ble_eq_true rfl) dJ10_init_4_6 (fun Hp1 locsp1 hpp1 zp1 op1 hS => ?_)
  have hp : pt Γ Hp1 b (ob 18 [.ref b, .null, .null, .null, .null, .int (nI 0)]) := hpp1
  have ho := ho.trans (Off.put zp1 op1 (by first | rfl | (simp; done) | exact Or.inl rfl | exact Or.inr rfl | omega))
  refine lv_aload_n (pc := 9) hx hb dJ10_init_4_9 rfl (lk hl rfl) ?_
  obtain ⟨H1, hH1⟩ : ∃ H1, H1 = Hp1 := ⟨_, rfl⟩
  have tail : ∀ (u : Value) (H' : Heap) (locs : List Loc), pt Γ H' b (ob 18 [.ref b, .null, u, .null, .null, .int (nI 0)]) → Off (fun q => q = b) H H' → va_S (Gz Γ) s.heap H' locs → W p l e (rmd 1 0 0) s m args below meth c H' locs 0 0 Q (F0 m 41 ls []) := by
    intro u H' locs hp ho hS
    refine lv_aload_n (pc := 41) hx hb dJ10_init_4_41 rfl (lk hl rfl) ?_
    refine lv_aload_nN (pc := 42) hx hb dJ10_init_4_42 rfl (lk hl rfl) ?_
    refine hw_put (pc := 43) hx hb hts in_X10 tyX10_ok nmX10 hown hK (hp) (hg) hS rfl 3 (Nat.le_of_ble_eq_true rfl) (hts _ q723) (fun x h => h) rfl rfl (rfl) (rfl) (Nat.le_of_ble_eq_true rfl) dJ10_init_4_43 (fun Hp2 locsp2 hpp2 zp2 op2 hS => ?_)
    have hp : pt Γ Hp2 b (ob 18 [.ref b, .null, u, .null, .null, .int (nI 0)]) := hpp2
    have ho := ho.trans (Off.put zp2 op2 (by first | rfl | (simp; done) | exact Or.inl rfl | exact Or.inr rfl | omega))
    refine lv_aload_n (pc := 46) hx hb dJ10_init_4_46 rfl (lk hl rfl) ?_
    refine lv_aload_n (pc := 47) hx hb dJ10_init_4_47 rfl (lk hl rfl) ?_
    refine hw_put (pc := 48) hx hb hts in_X10 tyX10_ok nmX10 hown hK (hp) (hg) hS rfl 0 (Nat.le_of_ble_eq_true rfl) (hts _ q724) (fun x h => h) rfl rfl (rfl) (rfl) (Nat.le_of_ble_eq_true rfl) dJ10_init_4_48 (fun Hp3 locsp3 hpp3 zp3 op3 hS => ?_)
    have hp : pt Γ Hp3 b (ob 18 [.ref r9, .null, u, .null, .null, .int (nI 0)]) := hpp3
    have ho := ho.trans (Off.put zp3 op3 (by first | rfl | (simp; done) | exact Or.inl rfl | exact Or.inr rfl | omega))
    refine lv_iload_n (pc := 51) hx hb dJ10_init_4_51 rfl (lk hl rfl) ?_
    refine hn_z_ne (tgt := 60) (pc := 52) hx hb dJ10_init_4_52 (by decide) (by omega) (fun hn => absurd hn (by simp)) (fun _ => ?_)
    refine lv_aload_n (pc := 55) hx hb dJ10_init_4_55 rfl (lk hl rfl) ?_
    refine lv_null (pc := 56) hx hb dJ10_init_4_56 ?_
    refine hw_put (pc := 57) hx hb hts in_X10 tyX10_ok nmX10 hown hK (hp) (hg) hS rfl 2 (Nat.le_of_ble_eq_true rfl) (hts _ q726) (fun x h => h) rfl rfl (rfl) (rfl) (Nat.le_of_ble_eq_true rfl) dJ10_init_4_57 (fun Hp4 locsp4 hpp4 zp4 op4 hS => ?_)
    have hp : pt Γ Hp4 b (ob 18 [.ref r9, .null, .null, .null, .null, .int (nI 0)]) := hpp4
    have ho := ho.trans (Off.put zp4 op4 (by first | rfl | (simp; done) | exact Or.inl rfl | exact Or.inr rfl | omega))
    exact hr_v (pc := 60) hQ hx hb hr hlocks hS (by first | exact Nat.le_of_ble_eq_true rfl | (dsimp only [rmd]; omega) | omega) (by first | exact Nat.le_of_ble_eq_true rfl | (dsimp only [rmd]; omega) | omega) (⟨rfl, hp, ho⟩) dJ10_init_4_60
  have mid : ∀ (u : Value) (H' : Heap) (locs : List Loc), pt Γ H' b (ob 18 [.ref b, u, .null, .null, .null, .int (nI 0)]) → Off (fun q => q = b) H H' → va_S (Gz Γ) s.heap H' locs → W p l e (rmd 1 0 0) s m args below meth c H' locs 0 0 Q (F0 m 16 ls []) := by
    intro u H' locs hp ho hS
    refine lv_aload_n (pc := 16) hx hb dJ10_init_4_16 rfl (lk hl rfl) ?_
    rcases hK.cc.2.2.2.2.2.2.1.1 with hz | ⟨us, hz⟩
    · refine va_gets (pc := 17) hx hb (hz) hS hown (hts _ q473) (fun x h => h) dJ10_init_4_17 ?_
      refine hw_put (pc := 20) hx hb hts in_X10 tyX10_ok nmX10 hown hK (hp) (hg) hS rfl 2 (Nat.le_of_ble_eq_true rfl) (hts _ q726) (fun x h => h) rfl rfl (rfl) (rfl) (Nat.le_of_ble_eq_true rfl) dJ10_init_4_20 (fun Hp5 locsp5 hpp5 zp5 op5 hS => ?_)
      have hp : pt Γ Hp5 b (ob 18 [.ref b, u, .null, .null, .null, .int (nI 0)]) := hpp5
      have ho := ho.trans (Off.put zp5 op5 (by first | rfl | (simp; done) | exact Or.inl rfl | exact Or.inr rfl | omega))
      refine lv_iload (pc := 23) hx hb dJ10_init_4_23 (lk hl rfl) ?_
      refine hn_z_eq (tgt := 36) (pc := 25) hx hb dJ10_init_4_25 (by decide) (by omega) (fun _ => ?_) (fun hn => absurd hn (by simp))
      refine lv_aload_n (pc := 36) hx hb dJ10_init_4_36 rfl (lk hl rfl) ?_
      refine lv_null (pc := 37) hx hb dJ10_init_4_37 ?_
      refine hw_put (pc := 38) hx hb hts in_X10 tyX10_ok nmX10 hown hK (hp) (hg) hS rfl 1 (Nat.le_of_ble_eq_true rfl) (hts _ q725) (fun x h => h) rfl rfl (rfl) (rfl) (Nat.le_of_ble_eq_true rfl) dJ10_init_4_38 (fun Hp6 locsp6 hpp6 zp6 op6 hS => ?_)
      have hp : pt Γ Hp6 b (ob 18 [.ref b, .null, .null, .null, .null, .int (nI 0)]) := hpp6
      have ho := ho.trans (Off.put zp6 op6 (by first | rfl | (simp; done) | exact Or.inl rfl | exact Or.inr rfl | omega))
      exact tail _ _ _ hp ho hS
    · refine va_gets (pc := 17) hx hb (hz) hS hown (hts _ q473) (fun x h => h) dJ10_init_4_17 ?_
      refine hw_put (pc := 20) hx hb hts in_X10 tyX10_ok nmX10 hown hK (hp) (hg) hS rfl 2 (Nat.le_of_ble_eq_true rfl) (hts _ q726) (fun x h => h) rfl rfl (rfl) (rfl) (Nat.le_of_ble_eq_true rfl) dJ10_init_4_20 (fun Hp7 locsp7 hpp7 zp7 op7 hS => ?_)
      have hp : pt Γ Hp7 b (ob 18 [.ref b, u, .ref us, .null, .null, .int (nI 0)]) := hpp7
      have ho := ho.trans (Off.put zp7 op7 (by first | rfl | (simp; done) | exact Or.inl rfl | exact Or.inr rfl | omega))
      refine lv_iload (pc := 23) hx hb dJ10_init_4_23 (lk hl rfl) ?_
      refine hn_z_eq (tgt := 36) (pc := 25) hx hb dJ10_init_4_25 (by decide) (by omega) (fun _ => ?_) (fun hn => absurd hn (by simp))
      refine lv_aload_n (pc := 36) hx hb dJ10_init_4_36 rfl (lk hl rfl) ?_
      refine lv_null (pc := 37) hx hb dJ10_init_4_37 ?_
      refine hw_put (pc := 38) hx hb hts in_X10 tyX10_ok nmX10 hown hK (hp) (hg) hS rfl 1 (Nat.le_of_ble_eq_true rfl) (hts _ q725) (fun x h => h) rfl rfl (rfl) (rfl) (Nat.le_of_ble_eq_true rfl) dJ10_init_4_38 (fun Hp8 locsp8 hpp8 zp8 op8 hS => ?_)
      have hp : pt Γ Hp8 b (ob 18 [.ref b, .null, .ref us, .null, .null, .int (nI 0)]) := hpp8
      have ho := ho.trans (Off.put zp8 op8 (by first | rfl | (simp; done) | exact Or.inl rfl | exact Or.inr rfl | omega))
      exact tail _ _ _ hp ho hS
  rcases hK.cc.2.2.2.2.2.1.1 with hz | ⟨us, hz⟩
  · refine va_gets (pc := 10) hx hb (hz) hS hown (hts _ q471) (fun x h => h) dJ10_init_4_10 ?_
    refine hw_put (pc := 13) hx hb hts in_X10 tyX10_ok nmX10 hown hK (hp) (hg) hS rfl 1 (Nat.le_of_ble_eq_true rfl) (hts _ q725) (fun x h => h) rfl rfl (rfl) (rfl) (Nat.le_of_ble_eq_true rfl) dJ10_init_4_13 (fun Hp9 locsp9 hpp9 zp9 op9 hS => ?_)
    have hp : pt Γ Hp9 b (ob 18 [.ref b, .null, .null, .null, .null, .int (nI 0)]) := hpp9
    have ho := ho.trans (Off.put zp9 op9 (by first | rfl | (simp; done) | exact Or.inl rfl | exact Or.inr rfl | omega))
    exact mid _ _ _ hp ho hS
  · refine va_gets (pc := 10) hx hb (hz) hS hown (hts _ q471) (fun x h => h) dJ10_init_4_10 ?_
    refine hw_put (pc := 13) hx hb hts in_X10 tyX10_ok nmX10 hown hK (hp) (hg) hS rfl 1 (Nat.le_of_ble_eq_true rfl) (hts _ q725) (fun x h => h) rfl rfl (rfl) (rfl) (Nat.le_of_ble_eq_true rfl) dJ10_init_4_13 (fun Hp10 locsp10 hpp10 zp10 op10 hS => ?_)
    have hp : pt Γ Hp10 b (ob 18 [.ref b, .ref us, .null, .null, .null, .int (nI 0)]) := hpp10
    have ho := ho.trans (Off.put zp10 op10 (by first | rfl | (simp; done) | exact Or.inl rfl | exact Or.inr rfl | omega))
    exact mid _ _ _ hp ho hS
theorem e_excX10R (l : Launch) (Γ : Cx) (H : Heap) (b : Nat) (r9 : Nat) (hp : pt Γ H b (ob 18 [.null, .null, .null, .null, .null, .int (nI 0)])) (hg : Gz Γ b) : Mt l Γ yJ11_init_4 (ws_ yJ11_init_4 cJ11_init_4 5 none) 2 0 0 [.ref b, .null, .ref r9, .int (nI 0), .int (nI 0)] H (fun v H1 => v = none ∧ pt Γ H1 b (ob 18 [.ref r9, .null, .null, .null, .null, .int (nI 0)]) ∧ Off (fun q => q = b) H H1) := by
  refine mt_of (by decide +kernel) (Nat.le_of_ble_eq_true rfl) ?_
  intro p e s m args below meth c ls Q hx hb hr hlocks hml hts hown hnm hK hS hl hQ
  refine lv_aload_n (pc := 0) hx hb dJ11_init_4_0 rfl (lk hl rfl) ?_
  refine lv_aload_nN (pc := 1) hx hb dJ11_init_4_1 rfl (lk hl rfl) ?_
  refine lv_aload_n (pc := 2) hx hb dJ11_init_4_2 rfl (lk hl rfl) ?_
  refine lv_iload_n (pc := 3) hx hb dJ11_init_4_3 rfl (lk hl rfl) ?_
  refine lv_iload (pc := 4) hx hb dJ11_init_4_4 (lk hl rfl) ?_
  refine hc_I (pc := 6) hx hb hml hown hts hK hS (e_thrX10R l Γ H b r9 hp hg) (cwI 4 hts (lw_meth q1346) rfl rfl rfl (hts _ q84) (hts _ q1344) (hts _ q1345) rfl (by decide +kernel) ⟨(Nat.le_of_ble_eq_true rfl), (Nat.le_of_ble_eq_true rfl)⟩) rfl hl.1 rfl (Nat.le_of_ble_eq_true rfl) dJ11_init_4_6 ⟨by first | exact Nat.le_of_ble_eq_true rfl | (dsimp only [rmd]; omega) | omega, by first | exact Nat.le_of_ble_eq_true rfl | (dsimp only [rmd]; omega) | omega⟩ (fun v9 H9 locs9 hq9 hS => ?_)
  obtain ⟨rfl, h1, h2⟩ := hq9
  exact hr_v (pc := 9) hQ hx hb hr hlocks hS (by first | exact Nat.le_of_ble_eq_true rfl | (dsimp only [rmd]; omega) | omega) (by first | exact Nat.le_of_ble_eq_true rfl | (dsimp only [rmd]; omega) | omega) (⟨rfl, h1, h2⟩) dJ11_init_4_9
theorem e_fldX10R (l : Launch) (Γ : Cx) (H : Heap) (b : Nat) (r9 : Nat) (hp : pt Γ H b (ob 18 [.null, .null, .null, .null, .null, .int (nI 0)])) (hg : Gz Γ b) : Mt l Γ yX5_init (ws_ yX5_init cX5_init 2 none) 3 0 0 [.ref b, .ref r9] H (fun v H1 => v = none ∧ pt Γ H1 b (ob 18 [.ref r9, .null, .null, .null, .null, .int (nI 0)]) ∧ Off (fun q => q = b) H H1) := by
  refine mt_of (by decide +kernel) (Nat.le_of_ble_eq_true rfl) ?_
  intro p e s m args below meth c ls Q hx hb hr hlocks hml hts hown hnm hK hS hl hQ
  refine lv_aload_n (pc := 0) hx hb dX5_init_0 rfl (lk hl rfl) ?_
  refine lv_null (pc := 1) hx hb dX5_init_1 ?_
  refine lv_aload_n (pc := 2) hx hb dX5_init_2 rfl (lk hl rfl) ?_
  refine lv_iconst (v := nI 0) (pc := 3) hx hb dX5_init_3 (by decide) ?_
  refine lv_iconst (v := nI 0) (pc := 4) hx hb dX5_init_4 (by decide) ?_
  refine hc_I (pc := 5) hx hb hml hown hts hK hS (e_excX10R l Γ H b r9 hp hg) (cwI 4 hts (lw_meth q1343) rfl rfl rfl (hts _ q85) (hts _ q1341) (hts _ q1342) rfl (by decide +kernel) ⟨(Nat.le_of_ble_eq_true rfl), (Nat.le_of_ble_eq_true rfl)⟩) rfl hl.1 rfl (Nat.le_of_ble_eq_true rfl) dX5_init_5 ⟨by first | exact Nat.le_of_ble_eq_true rfl | (dsimp only [rmd]; omega) | omega, by first | exact Nat.le_of_ble_eq_true rfl | (dsimp only [rmd]; omega) | omega⟩ (fun v9 H9 locs9 hq9 hS => ?_)
  obtain ⟨rfl, h1, h2⟩ := hq9
  exact hr_v (pc := 8) hQ hx hb hr hlocks hS (by first | exact Nat.le_of_ble_eq_true rfl | (dsimp only [rmd]; omega) | omega) (by first | exact Nat.le_of_ble_eq_true rfl | (dsimp only [rmd]; omega) | omega) (⟨rfl, h1, h2⟩) dX5_init_8
theorem e_bad (l : Launch) (Γ : Cx) (H : Heap) (b i : Nat) (hp : pt Γ H b (ob 4 [.null, .null, .null, .null, .null, .int (nI 0), .int (nI 0)])) (hg : Gz Γ b) : Mt l Γ yX6_init (ws_ yX6_init cX6_init 2 none) 4 0 0 [.ref b, .int (nI i)] H (fun v H1 => v = none ∧ pt Γ H1 b (ob 4 [.null, .null, .null, .null, .null, .int (nI 0), .int (nI i)]) ∧ Off (fun q => q = b) H H1) := by
  refine mt_of (by decide +kernel) (Nat.le_of_ble_eq_true rfl) ?_
  intro p e s m args below meth c ls Q hx hb hr hlocks hml hts hown hnm hK hS hl hQ
  refine lv_aload_n (pc := 0) hx hb dX6_init_0 rfl (lk hl rfl) ?_
  refine lv_null (pc := 1) hx hb dX6_init_1 ?_
  refine hc_I (pc := 2) hx hb hml hown hts hK hS (e_fldX6N l Γ H b hp hg) (cwI 1 hts (lw_meth q1340) rfl rfl rfl (hts _ q111) (hts _ q1338) (hts _ q1339) rfl (by decide +kernel) ⟨(Nat.le_of_ble_eq_true rfl), (Nat.le_of_ble_eq_true rfl)⟩) rfl hl.1 rfl (Nat.le_of_ble_eq_true rfl) dX6_init_2 ⟨by first | exact Nat.le_of_ble_eq_true rfl | (dsimp only [rmd]; omega) | omega, by first | exact Nat.le_of_ble_eq_true rfl | (dsimp only [rmd]; omega) | omega⟩ (fun v9 H9 locs9 hq9 hS => ?_)
  obtain ⟨rfl, hp, ho⟩ := hq9
  refine lv_aload_n (pc := 5) hx hb dX6_init_5 rfl (lk hl rfl) ?_
  refine lv_iload_n (pc := 6) hx hb dX6_init_6 rfl (lk hl rfl) ?_
  refine hw_putF (pc := 7) hx hb hts in_X6 tyX6_ok nmX6 hown hK (hp) (hg) hS rfl 6 (Nat.le_of_ble_eq_true rfl) (hts _ q1347) (fun x h => h) rfl hnm rfl rfl (rfl) (rfl) (Nat.le_of_ble_eq_true rfl) dX6_init_7 (fun Hp1 locsp1 hpp1 zp1 op1 hS => ?_)
  have hp : pt Γ Hp1 b (ob 4 [.null, .null, .null, .null, .null, .int (nI 0), .int (nI i)]) := hpp1
  have ho := ho.trans (Off.put zp1 op1 (by first | rfl | (simp; done) | exact Or.inl rfl | exact Or.inr rfl | omega))
  exact hr_v (pc := 10) hQ hx hb hr hlocks hS (by first | exact Nat.le_of_ble_eq_true rfl | (dsimp only [rmd]; omega) | omega) (by first | exact Nat.le_of_ble_eq_true rfl | (dsimp only [rmd]; omega) | omega) (⟨rfl, hp, ho⟩) dX6_init_10
theorem e_last (l : Launch) (Γ : Cx) (H : Heap) (b : Nat) (hp : pt Γ H b (ob 18 [.null, .null, .null, .null, .null, .int (nI 0)])) (hg : Gz Γ b) : Mt l Γ yX10_init (ws_ yX10_init cX10_init 1 none) 4 0 0 [.ref b] H (fun v H1 => v = none ∧ pt Γ H1 b (ob 18 [.null, .null, .null, .null, .null, .int (nI 0)]) ∧ Off (fun q => q = b) H H1) := by
  refine mt_of (by decide +kernel) (Nat.le_of_ble_eq_true rfl) ?_
  intro p e s m args below meth c ls Q hx hb hr hlocks hml hts hown hnm hK hS hl hQ
  refine lv_aload_n (pc := 0) hx hb dX10_init_0 rfl (lk hl rfl) ?_
  refine lv_null (pc := 1) hx hb dX10_init_1 ?_
  refine hc_I (pc := 2) hx hb hml hown hts hK hS (e_fldX10N l Γ H b hp hg) (cwI 1 hts (lw_meth q1340) rfl rfl rfl (hts _ q111) (hts _ q1616) (hts _ q1339) rfl (by decide +kernel) ⟨(Nat.le_of_ble_eq_true rfl), (Nat.le_of_ble_eq_true rfl)⟩) rfl hl.1 rfl (Nat.le_of_ble_eq_true rfl) dX10_init_2 ⟨by first | exact Nat.le_of_ble_eq_true rfl | (dsimp only [rmd]; omega) | omega, by first | exact Nat.le_of_ble_eq_true rfl | (dsimp only [rmd]; omega) | omega⟩ (fun v9 H9 locs9 hq9 hS => ?_)
  obtain ⟨rfl, h1, h2⟩ := hq9
  exact hr_v (pc := 5) hQ hx hb hr hlocks hS (by first | exact Nat.le_of_ble_eq_true rfl | (dsimp only [rmd]; omega) | omega) (by first | exact Nat.le_of_ble_eq_true rfl | (dsimp only [rmd]; omega) | omega) (⟨rfl, h1, h2⟩) dX10_init_5
