/-! the reference's constructor; the mean load, the rate of failures -/
set_option maxRecDepth 100000
def m0fs : List Value := [.int 0, .int 0, .null, .null, .null, .null, .null, .null, .null, .null, .null, .null, .null, .null, .int 0, .int 0, .null]
def S00 : Sx := fun f j => if f = 10 then 1 else if f = 0 ∧ j = 3 then 64 else 0
set_option maxHeartbeats 16000000 in
theorem m_init (l : Launch) (Γ : Cx) (H : Heap) (a : Nat) (hp0 : pt Γ H a (ob 2 m0fs)) (hg0 : Gz Γ a) : Mt l Γ yX3_init (ws_ yX3_init cX3_init 1 none) 3 13 101551 [.ref a] H (fun v H1 => v = none ∧ (∃ μ, μ 0 = a ∧ (∀ k, 1 ≤ k → k < 14 → H.size ≤ μ k) ∧ MW Γ H1 μ (pbegins S00) (nI 0)) ∧ Off (fun q => q = a) H H1) := by
  refine mt_of (by decide +kernel) (Nat.le_of_ble_eq_true rfl) ?_
  intro p e s m args below meth c ls Q hx hb hr hlocks hml hts hown hnm hK hS hl hQ
  have ho : Off (fun q => q = a) H H := Off.rf
  have la := hp0.lt
  refine lv_aload_n (pc := 0) hx hb dX3_init_0 rfl (lk hl rfl) ?_
  refine W.objInit hx hb hown (hts _ q1771) (hts _ q127) (hts _ q128) rfl (by rw [hml]; exact hl.1) rfl dX3_init_1 (Nat.le_of_ble_eq_true rfl) (Nat.le_of_ble_eq_true rfl) ?_
  refine W.eq (g2 := F0 m 4 ls _) rfl ?_
  refine lv_aload_n (pc := 4) hx hb dX3_init_4 rfl (lk hl rfl) ?_
  refine lv_bipush (v := 8) (pc := 5) hx hb dX3_init_5 (by decide) ?_
  refine hw_newi (N := 8) (pc := 7) hx hb hK (hts _ q182) hS (by decide) (by decide) (by first | exact Nat.le_of_ble_eq_true rfl | (dsimp only [rmd]; omega)) (by first | exact Nat.le_of_ble_eq_true rfl | (dsimp only [rmd]; omega)) dX3_init_7 (fun qn1 Hn1 eqn1 hpn1 hgn1 zn1 on1 hS => ?_)
  have f1 : Off (fun q => q = a) _ Hn1 := Off.new zn1 on1
  have hp0 := hp0.old on1
  have ho := ho.trans f1
  refine hw_putF (pc := 9) hx hb hts in_X3 tyX3_ok nmX3 hown hK (hp0) (hg0) hS rfl 2 (Nat.le_of_ble_eq_true rfl) (hts _ q1779) (fun x h => h) rfl hnm rfl rfl (rfl) (rfl) (Nat.le_of_ble_eq_true rfl) dX3_init_9 (fun Hp1 locsp1 hpp1 zp1 op1 hS => ?_)
  have g1 : Off (fun q => q = a) _ Hp1 := Off.put zp1 op1 rfl
  have hpn1 := hpn1.ne op1 (by omega)
  have ho := ho.trans g1
  have hp0 := hpp1
  refine lv_aload_n (pc := 12) hx hb dX3_init_12 rfl (lk hl rfl) ?_
  refine lv_bipush (v := 20) (pc := 13) hx hb dX3_init_13 (by decide) ?_
  refine hw_newz (N := 20) (pc := 15) hx hb hK (hts _ q1829) hS (by decide) (by decide) (by first | exact Nat.le_of_ble_eq_true rfl | (dsimp only [rmd]; omega)) (by first | exact Nat.le_of_ble_eq_true rfl | (dsimp only [rmd]; omega)) dX3_init_15 (fun qn2 Hn2 eqn2 hpn2 hgn2 zn2 on2 hS => ?_)
  have f2 : Off (fun q => q = a) _ Hn2 := Off.new zn2 on2
  have hpn1 := hpn1.old on2
  have hp0 := hp0.old on2
  have ho := ho.trans f2
  refine hw_putF (pc := 17) hx hb hts in_X3 tyX3_ok nmX3 hown hK (hp0) (hg0) hS rfl 3 (Nat.le_of_ble_eq_true rfl) (hts _ q1780) (fun x h => h) rfl hnm rfl rfl (rfl) (rfl) (Nat.le_of_ble_eq_true rfl) dX3_init_17 (fun Hp2 locsp2 hpp2 zp2 op2 hS => ?_)
  have g2 : Off (fun q => q = a) _ Hp2 := Off.put zp2 op2 rfl
  have hpn1 := hpn1.ne op2 (by omega)
  have hpn2 := hpn2.ne op2 (by omega)
  have ho := ho.trans g2
  have hp0 := hpp2
  refine lv_aload_n (pc := 20) hx hb dX3_init_20 rfl (lk hl rfl) ?_
  refine lv_bipush (v := 20) (pc := 21) hx hb dX3_init_21 (by decide) ?_
  refine hw_newz (N := 20) (pc := 23) hx hb hK (hts _ q1829) hS (by decide) (by decide) (by first | exact Nat.le_of_ble_eq_true rfl | (dsimp only [rmd]; omega)) (by first | exact Nat.le_of_ble_eq_true rfl | (dsimp only [rmd]; omega)) dX3_init_23 (fun qn3 Hn3 eqn3 hpn3 hgn3 zn3 on3 hS => ?_)
  have f3 : Off (fun q => q = a) _ Hn3 := Off.new zn3 on3
  have hpn1 := hpn1.old on3
  have hpn2 := hpn2.old on3
  have hp0 := hp0.old on3
  have ho := ho.trans f3
  refine hw_putF (pc := 25) hx hb hts in_X3 tyX3_ok nmX3 hown hK (hp0) (hg0) hS rfl 4 (Nat.le_of_ble_eq_true rfl) (hts _ q1781) (fun x h => h) rfl hnm rfl rfl (rfl) (rfl) (Nat.le_of_ble_eq_true rfl) dX3_init_25 (fun Hp3 locsp3 hpp3 zp3 op3 hS => ?_)
  have g3 : Off (fun q => q = a) _ Hp3 := Off.put zp3 op3 rfl
  have hpn1 := hpn1.ne op3 (by omega)
  have hpn2 := hpn2.ne op3 (by omega)
  have hpn3 := hpn3.ne op3 (by omega)
  have ho := ho.trans g3
  have hp0 := hpp3
  refine lv_aload_n (pc := 28) hx hb dX3_init_28 rfl (lk hl rfl) ?_
  refine lv_bipush (v := 20) (pc := 29) hx hb dX3_init_29 (by decide) ?_
  refine hw_newz (N := 20) (pc := 31) hx hb hK (hts _ q1829) hS (by decide) (by decide) (by first | exact Nat.le_of_ble_eq_true rfl | (dsimp only [rmd]; omega)) (by first | exact Nat.le_of_ble_eq_true rfl | (dsimp only [rmd]; omega)) dX3_init_31 (fun qn4 Hn4 eqn4 hpn4 hgn4 zn4 on4 hS => ?_)
  have f4 : Off (fun q => q = a) _ Hn4 := Off.new zn4 on4
  have hpn1 := hpn1.old on4
  have hpn2 := hpn2.old on4
  have hpn3 := hpn3.old on4
  have hp0 := hp0.old on4
  have ho := ho.trans f4
  refine hw_putF (pc := 33) hx hb hts in_X3 tyX3_ok nmX3 hown hK (hp0) (hg0) hS rfl 5 (Nat.le_of_ble_eq_true rfl) (hts _ q1782) (fun x h => h) rfl hnm rfl rfl (rfl) (rfl) (Nat.le_of_ble_eq_true rfl) dX3_init_33 (fun Hp4 locsp4 hpp4 zp4 op4 hS => ?_)
  have g4 : Off (fun q => q = a) _ Hp4 := Off.put zp4 op4 rfl
  have hpn1 := hpn1.ne op4 (by omega)
  have hpn2 := hpn2.ne op4 (by omega)
  have hpn3 := hpn3.ne op4 (by omega)
  have hpn4 := hpn4.ne op4 (by omega)
  have ho := ho.trans g4
  have hp0 := hpp4
  refine lv_aload_n (pc := 36) hx hb dX3_init_36 rfl (lk hl rfl) ?_
  refine lv_bipush (v := 20) (pc := 37) hx hb dX3_init_37 (by decide) ?_
  refine hw_newz (N := 20) (pc := 39) hx hb hK (hts _ q1829) hS (by decide) (by decide) (by first | exact Nat.le_of_ble_eq_true rfl | (dsimp only [rmd]; omega)) (by first | exact Nat.le_of_ble_eq_true rfl | (dsimp only [rmd]; omega)) dX3_init_39 (fun qn5 Hn5 eqn5 hpn5 hgn5 zn5 on5 hS => ?_)
  have f5 : Off (fun q => q = a) _ Hn5 := Off.new zn5 on5
  have hpn1 := hpn1.old on5
  have hpn2 := hpn2.old on5
  have hpn3 := hpn3.old on5
  have hpn4 := hpn4.old on5
  have hp0 := hp0.old on5
  have ho := ho.trans f5
  refine hw_putF (pc := 41) hx hb hts in_X3 tyX3_ok nmX3 hown hK (hp0) (hg0) hS rfl 6 (Nat.le_of_ble_eq_true rfl) (hts _ q1783) (fun x h => h) rfl hnm rfl rfl (rfl) (rfl) (Nat.le_of_ble_eq_true rfl) dX3_init_41 (fun Hp5 locsp5 hpp5 zp5 op5 hS => ?_)
  have g5 : Off (fun q => q = a) _ Hp5 := Off.put zp5 op5 rfl
  have hpn1 := hpn1.ne op5 (by omega)
  have hpn2 := hpn2.ne op5 (by omega)
  have hpn3 := hpn3.ne op5 (by omega)
  have hpn4 := hpn4.ne op5 (by omega)
  have hpn5 := hpn5.ne op5 (by omega)
  have ho := ho.trans g5
  have hp0 := hpp5
  refine lv_aload_n (pc := 44) hx hb dX3_init_44 rfl (lk hl rfl) ?_
  refine lv_bipush (v := 20) (pc := 45) hx hb dX3_init_45 (by decide) ?_
  refine hw_newi (N := 20) (pc := 47) hx hb hK (hts _ q182) hS (by decide) (by decide) (by first | exact Nat.le_of_ble_eq_true rfl | (dsimp only [rmd]; omega)) (by first | exact Nat.le_of_ble_eq_true rfl | (dsimp only [rmd]; omega)) dX3_init_47 (fun qn6 Hn6 eqn6 hpn6 hgn6 zn6 on6 hS => ?_)
  have f6 : Off (fun q => q = a) _ Hn6 := Off.new zn6 on6
  have hpn1 := hpn1.old on6
  have hpn2 := hpn2.old on6
  have hpn3 := hpn3.old on6
  have hpn4 := hpn4.old on6
  have hpn5 := hpn5.old on6
  have hp0 := hp0.old on6
  have ho := ho.trans f6
  refine hw_putF (pc := 49) hx hb hts in_X3 tyX3_ok nmX3 hown hK (hp0) (hg0) hS rfl 7 (Nat.le_of_ble_eq_true rfl) (hts _ q1784) (fun x h => h) rfl hnm rfl rfl (rfl) (rfl) (Nat.le_of_ble_eq_true rfl) dX3_init_49 (fun Hp6 locsp6 hpp6 zp6 op6 hS => ?_)
  have g6 : Off (fun q => q = a) _ Hp6 := Off.put zp6 op6 rfl
  have hpn1 := hpn1.ne op6 (by omega)
  have hpn2 := hpn2.ne op6 (by omega)
  have hpn3 := hpn3.ne op6 (by omega)
  have hpn4 := hpn4.ne op6 (by omega)
  have hpn5 := hpn5.ne op6 (by omega)
  have hpn6 := hpn6.ne op6 (by omega)
  have ho := ho.trans g6
  have hp0 := hpp6
  refine lv_aload_n (pc := 52) hx hb dX3_init_52 rfl (lk hl rfl) ?_
  refine lv_sipush (v := 1280) (pc := 53) hx hb dX3_init_53 (by decide) ?_
  refine hw_newi (N := 1280) (pc := 56) hx hb hK (hts _ q182) hS (by decide) (by decide) (by first | exact Nat.le_of_ble_eq_true rfl | (dsimp only [rmd]; omega)) (by first | exact Nat.le_of_ble_eq_true rfl | (dsimp only [rmd]; omega)) dX3_init_56 (fun qn7 Hn7 eqn7 hpn7 hgn7 zn7 on7 hS => ?_)
  have f7 : Off (fun q => q = a) _ Hn7 := Off.new zn7 on7
  have hpn1 := hpn1.old on7
  have hpn2 := hpn2.old on7
  have hpn3 := hpn3.old on7
  have hpn4 := hpn4.old on7
  have hpn5 := hpn5.old on7
  have hpn6 := hpn6.old on7
  have hp0 := hp0.old on7
  have ho := ho.trans f7
  refine hw_putF (pc := 58) hx hb hts in_X3 tyX3_ok nmX3 hown hK (hp0) (hg0) hS rfl 8 (Nat.le_of_ble_eq_true rfl) (hts _ q1785) (fun x h => h) rfl hnm rfl rfl (rfl) (rfl) (Nat.le_of_ble_eq_true rfl) dX3_init_58 (fun Hp7 locsp7 hpp7 zp7 op7 hS => ?_)
  have g7 : Off (fun q => q = a) _ Hp7 := Off.put zp7 op7 rfl
  have hpn1 := hpn1.ne op7 (by omega)
  have hpn2 := hpn2.ne op7 (by omega)
  have hpn3 := hpn3.ne op7 (by omega)
  have hpn4 := hpn4.ne op7 (by omega)
  have hpn5 := hpn5.ne op7 (by omega)
  have hpn6 := hpn6.ne op7 (by omega)
  have hpn7 := hpn7.ne op7 (by omega)
  have ho := ho.trans g7
  have hp0 := hpp7
  refine lv_aload_n (pc := 61) hx hb dX3_init_61 rfl (lk hl rfl) ?_
  refine lv_iconst (v := 3) (pc := 62) hx hb dX3_init_62 (by decide) ?_
  refine hw_newi (N := 3) (pc := 63) hx hb hK (hts _ q182) hS (by decide) (by decide) (by first | exact Nat.le_of_ble_eq_true rfl | (dsimp only [rmd]; omega)) (by first | exact Nat.le_of_ble_eq_true rfl | (dsimp only [rmd]; omega)) dX3_init_63 (fun qn8 Hn8 eqn8 hpn8 hgn8 zn8 on8 hS => ?_)
  have f8 : Off (fun q => q = a) _ Hn8 := Off.new zn8 on8
  have hpn1 := hpn1.old on8
  have hpn2 := hpn2.old on8
  have hpn3 := hpn3.old on8
  have hpn4 := hpn4.old on8
  have hpn5 := hpn5.old on8
  have hpn6 := hpn6.old on8
  have hpn7 := hpn7.old on8
  have hp0 := hp0.old on8
  have ho := ho.trans f8
  refine hw_putF (pc := 65) hx hb hts in_X3 tyX3_ok nmX3 hown hK (hp0) (hg0) hS rfl 9 (Nat.le_of_ble_eq_true rfl) (hts _ q1786) (fun x h => h) rfl hnm rfl rfl (rfl) (rfl) (Nat.le_of_ble_eq_true rfl) dX3_init_65 (fun Hp8 locsp8 hpp8 zp8 op8 hS => ?_)
  have g8 : Off (fun q => q = a) _ Hp8 := Off.put zp8 op8 rfl
  have hpn1 := hpn1.ne op8 (by omega)
  have hpn2 := hpn2.ne op8 (by omega)
  have hpn3 := hpn3.ne op8 (by omega)
  have hpn4 := hpn4.ne op8 (by omega)
  have hpn5 := hpn5.ne op8 (by omega)
  have hpn6 := hpn6.ne op8 (by omega)
  have hpn7 := hpn7.ne op8 (by omega)
  have hpn8 := hpn8.ne op8 (by omega)
  have ho := ho.trans g8
  have hp0 := hpp8
  refine lv_aload_n (pc := 68) hx hb dX3_init_68 rfl (lk hl rfl) ?_
  refine lv_bipush (v := 48) (pc := 69) hx hb dX3_init_69 (by decide) ?_
  refine hw_newi (N := 48) (pc := 71) hx hb hK (hts _ q182) hS (by decide) (by decide) (by first | exact Nat.le_of_ble_eq_true rfl | (dsimp only [rmd]; omega)) (by first | exact Nat.le_of_ble_eq_true rfl | (dsimp only [rmd]; omega)) dX3_init_71 (fun qn9 Hn9 eqn9 hpn9 hgn9 zn9 on9 hS => ?_)
  have f9 : Off (fun q => q = a) _ Hn9 := Off.new zn9 on9
  have hpn1 := hpn1.old on9
  have hpn2 := hpn2.old on9
  have hpn3 := hpn3.old on9
  have hpn4 := hpn4.old on9
  have hpn5 := hpn5.old on9
  have hpn6 := hpn6.old on9
  have hpn7 := hpn7.old on9
  have hpn8 := hpn8.old on9
  have hp0 := hp0.old on9
  have ho := ho.trans f9
  refine hw_putF (pc := 73) hx hb hts in_X3 tyX3_ok nmX3 hown hK (hp0) (hg0) hS rfl 10 (Nat.le_of_ble_eq_true rfl) (hts _ q1787) (fun x h => h) rfl hnm rfl rfl (rfl) (rfl) (Nat.le_of_ble_eq_true rfl) dX3_init_73 (fun Hp9 locsp9 hpp9 zp9 op9 hS => ?_)
  have g9 : Off (fun q => q = a) _ Hp9 := Off.put zp9 op9 rfl
  have hpn1 := hpn1.ne op9 (by omega)
  have hpn2 := hpn2.ne op9 (by omega)
  have hpn3 := hpn3.ne op9 (by omega)
  have hpn4 := hpn4.ne op9 (by omega)
  have hpn5 := hpn5.ne op9 (by omega)
  have hpn6 := hpn6.ne op9 (by omega)
  have hpn7 := hpn7.ne op9 (by omega)
  have hpn8 := hpn8.ne op9 (by omega)
  have hpn9 := hpn9.ne op9 (by omega)
  have ho := ho.trans g9
  have hp0 := hpp9
  refine lv_aload_n (pc := 76) hx hb dX3_init_76 rfl (lk hl rfl) ?_
  refine lv_bipush (v := 48) (pc := 77) hx hb dX3_init_77 (by decide) ?_
  refine hw_newi (N := 48) (pc := 79) hx hb hK (hts _ q182) hS (by decide) (by decide) (by first | exact Nat.le_of_ble_eq_true rfl | (dsimp only [rmd]; omega)) (by first | exact Nat.le_of_ble_eq_true rfl | (dsimp only [rmd]; omega)) dX3_init_79 (fun qn10 Hn10 eqn10 hpn10 hgn10 zn10 on10 hS => ?_)
  have f10 : Off (fun q => q = a) _ Hn10 := Off.new zn10 on10
  have hpn1 := hpn1.old on10
  have hpn2 := hpn2.old on10
  have hpn3 := hpn3.old on10
  have hpn4 := hpn4.old on10
  have hpn5 := hpn5.old on10
  have hpn6 := hpn6.old on10
  have hpn7 := hpn7.old on10
  have hpn8 := hpn8.old on10
  have hpn9 := hpn9.old on10
  have hp0 := hp0.old on10
  have ho := ho.trans f10
  refine hw_putF (pc := 81) hx hb hts in_X3 tyX3_ok nmX3 hown hK (hp0) (hg0) hS rfl 11 (Nat.le_of_ble_eq_true rfl) (hts _ q1788) (fun x h => h) rfl hnm rfl rfl (rfl) (rfl) (Nat.le_of_ble_eq_true rfl) dX3_init_81 (fun Hp10 locsp10 hpp10 zp10 op10 hS => ?_)
  have g10 : Off (fun q => q = a) _ Hp10 := Off.put zp10 op10 rfl
  have hpn1 := hpn1.ne op10 (by omega)
  have hpn2 := hpn2.ne op10 (by omega)
  have hpn3 := hpn3.ne op10 (by omega)
  have hpn4 := hpn4.ne op10 (by omega)
  have hpn5 := hpn5.ne op10 (by omega)
  have hpn6 := hpn6.ne op10 (by omega)
  have hpn7 := hpn7.ne op10 (by omega)
  have hpn8 := hpn8.ne op10 (by omega)
  have hpn9 := hpn9.ne op10 (by omega)
  have hpn10 := hpn10.ne op10 (by omega)
  have ho := ho.trans g10
  have hp0 := hpp10
  refine lv_aload_n (pc := 84) hx hb dX3_init_84 rfl (lk hl rfl) ?_
  refine lv_bipush (v := 48) (pc := 85) hx hb dX3_init_85 (by decide) ?_
  refine hw_newi (N := 48) (pc := 87) hx hb hK (hts _ q182) hS (by decide) (by decide) (by first | exact Nat.le_of_ble_eq_true rfl | (dsimp only [rmd]; omega)) (by first | exact Nat.le_of_ble_eq_true rfl | (dsimp only [rmd]; omega)) dX3_init_87 (fun qn11 Hn11 eqn11 hpn11 hgn11 zn11 on11 hS => ?_)
  have f11 : Off (fun q => q = a) _ Hn11 := Off.new zn11 on11
  have hpn1 := hpn1.old on11
  have hpn2 := hpn2.old on11
  have hpn3 := hpn3.old on11
  have hpn4 := hpn4.old on11
  have hpn5 := hpn5.old on11
  have hpn6 := hpn6.old on11
  have hpn7 := hpn7.old on11
  have hpn8 := hpn8.old on11
  have hpn9 := hpn9.old on11
  have hpn10 := hpn10.old on11
  have hp0 := hp0.old on11
  have ho := ho.trans f11
  refine hw_putF (pc := 89) hx hb hts in_X3 tyX3_ok nmX3 hown hK (hp0) (hg0) hS rfl 12 (Nat.le_of_ble_eq_true rfl) (hts _ q1789) (fun x h => h) rfl hnm rfl rfl (rfl) (rfl) (Nat.le_of_ble_eq_true rfl) dX3_init_89 (fun Hp11 locsp11 hpp11 zp11 op11 hS => ?_)
  have g11 : Off (fun q => q = a) _ Hp11 := Off.put zp11 op11 rfl
  have hpn1 := hpn1.ne op11 (by omega)
  have hpn2 := hpn2.ne op11 (by omega)
  have hpn3 := hpn3.ne op11 (by omega)
  have hpn4 := hpn4.ne op11 (by omega)
  have hpn5 := hpn5.ne op11 (by omega)
  have hpn6 := hpn6.ne op11 (by omega)
  have hpn7 := hpn7.ne op11 (by omega)
  have hpn8 := hpn8.ne op11 (by omega)
  have hpn9 := hpn9.ne op11 (by omega)
  have hpn10 := hpn10.ne op11 (by omega)
  have hpn11 := hpn11.ne op11 (by omega)
  have ho := ho.trans g11
  have hp0 := hpp11
  refine lv_aload_n (pc := 92) hx hb dX3_init_92 rfl (lk hl rfl) ?_
  refine lv_bipush (v := 16) (pc := 93) hx hb dX3_init_93 (by decide) ?_
  refine hw_newz (N := 16) (pc := 95) hx hb hK (hts _ q1829) hS (by decide) (by decide) (by first | exact Nat.le_of_ble_eq_true rfl | (dsimp only [rmd]; omega)) (by first | exact Nat.le_of_ble_eq_true rfl | (dsimp only [rmd]; omega)) dX3_init_95 (fun qn12 Hn12 eqn12 hpn12 hgn12 zn12 on12 hS => ?_)
  have f12 : Off (fun q => q = a) _ Hn12 := Off.new zn12 on12
  have hpn1 := hpn1.old on12
  have hpn2 := hpn2.old on12
  have hpn3 := hpn3.old on12
  have hpn4 := hpn4.old on12
  have hpn5 := hpn5.old on12
  have hpn6 := hpn6.old on12
  have hpn7 := hpn7.old on12
  have hpn8 := hpn8.old on12
  have hpn9 := hpn9.old on12
  have hpn10 := hpn10.old on12
  have hpn11 := hpn11.old on12
  have hp0 := hp0.old on12
  have ho := ho.trans f12
  refine hw_putF (pc := 97) hx hb hts in_X3 tyX3_ok nmX3 hown hK (hp0) (hg0) hS rfl 13 (Nat.le_of_ble_eq_true rfl) (hts _ q1790) (fun x h => h) rfl hnm rfl rfl (rfl) (rfl) (Nat.le_of_ble_eq_true rfl) dX3_init_97 (fun Hp12 locsp12 hpp12 zp12 op12 hS => ?_)
  have g12 : Off (fun q => q = a) _ Hp12 := Off.put zp12 op12 rfl
  have hpn1 := hpn1.ne op12 (by omega)
  have hpn2 := hpn2.ne op12 (by omega)
  have hpn3 := hpn3.ne op12 (by omega)
  have hpn4 := hpn4.ne op12 (by omega)
  have hpn5 := hpn5.ne op12 (by omega)
  have hpn6 := hpn6.ne op12 (by omega)
  have hpn7 := hpn7.ne op12 (by omega)
  have hpn8 := hpn8.ne op12 (by omega)
  have hpn9 := hpn9.ne op12 (by omega)
  have hpn10 := hpn10.ne op12 (by omega)
  have hpn11 := hpn11.ne op12 (by omega)
  have hpn12 := hpn12.ne op12 (by omega)
  have ho := ho.trans g12
  have hp0 := hpp12
  refine lv_aload_n (pc := 100) hx hb dX3_init_100 rfl (lk hl rfl) ?_
  refine lv_ldc (pc := 101) hx hb hown (hts _ q1772) dX3_init_101 ?_
  refine hw_newi (N := 100000) (pc := 103) hx hb hK (hts _ q182) hS (by decide) (by decide) (by first | exact Nat.le_of_ble_eq_true rfl | (dsimp only [rmd]; omega)) (by first | exact Nat.le_of_ble_eq_true rfl | (dsimp only [rmd]; omega)) dX3_init_103 (fun qn13 Hn13 eqn13 hpn13 hgn13 zn13 on13 hS => ?_)
  have f13 : Off (fun q => q = a) _ Hn13 := Off.new zn13 on13
  have hpn1 := hpn1.old on13
  have hpn2 := hpn2.old on13
  have hpn3 := hpn3.old on13
  have hpn4 := hpn4.old on13
  have hpn5 := hpn5.old on13
  have hpn6 := hpn6.old on13
  have hpn7 := hpn7.old on13
  have hpn8 := hpn8.old on13
  have hpn9 := hpn9.old on13
  have hpn10 := hpn10.old on13
  have hpn11 := hpn11.old on13
  have hpn12 := hpn12.old on13
  have hp0 := hp0.old on13
  have ho := ho.trans f13
  refine hw_putF (pc := 105) hx hb hts in_X3 tyX3_ok nmX3 hown hK (hp0) (hg0) hS rfl 16 (Nat.le_of_ble_eq_true rfl) (hts _ q1793) (fun x h => h) rfl hnm rfl rfl (rfl) (rfl) (Nat.le_of_ble_eq_true rfl) dX3_init_105 (fun Hp13 locsp13 hpp13 zp13 op13 hS => ?_)
  have g13 : Off (fun q => q = a) _ Hp13 := Off.put zp13 op13 rfl
  have hpn1 := hpn1.ne op13 (by omega)
  have hpn2 := hpn2.ne op13 (by omega)
  have hpn3 := hpn3.ne op13 (by omega)
  have hpn4 := hpn4.ne op13 (by omega)
  have hpn5 := hpn5.ne op13 (by omega)
  have hpn6 := hpn6.ne op13 (by omega)
  have hpn7 := hpn7.ne op13 (by omega)
  have hpn8 := hpn8.ne op13 (by omega)
  have hpn9 := hpn9.ne op13 (by omega)
  have hpn10 := hpn10.ne op13 (by omega)
  have hpn11 := hpn11.ne op13 (by omega)
  have hpn12 := hpn12.ne op13 (by omega)
  have hpn13 := hpn13.ne op13 (by omega)
  have ho := ho.trans g13
  have hp0 := hpp13
  obtain rfl : qn1 = H.size + 0 := by omega
  obtain rfl : qn2 = H.size + 1 := by omega
  obtain rfl : qn3 = H.size + 2 := by omega
  obtain rfl : qn4 = H.size + 3 := by omega
  obtain rfl : qn5 = H.size + 4 := by omega
  obtain rfl : qn6 = H.size + 5 := by omega
  obtain rfl : qn7 = H.size + 6 := by omega
  obtain rfl : qn8 = H.size + 7 := by omega
  obtain rfl : qn9 = H.size + 8 := by omega
  obtain rfl : qn10 = H.size + 9 := by omega
  obtain rfl : qn11 = H.size + 10 := by omega
  obtain rfl : qn12 = H.size + 11 := by omega
  obtain rfl : qn13 = H.size + 12 := by omega
  have hM : MW Γ Hp13 (fun k => if k = 0 then a else H.size + (k - 1)) S00 (nI 0) := by
    refine ⟨fun k hk => ?_, fun i j hi hj he => ?_⟩
    · match k, hk with
      | 0, _ => exact ⟨hp0, hg0⟩
      | 1, _ => exact ⟨hpn1.eq rfl, hgn1⟩
      | 2, _ => exact ⟨hpn2.eq rfl, hgn2⟩
      | 3, _ => exact ⟨hpn3.eq rfl, hgn3⟩
      | 4, _ => exact ⟨hpn4.eq rfl, hgn4⟩
      | 5, _ => exact ⟨hpn5.eq rfl, hgn5⟩
      | 6, _ => exact ⟨hpn6.eq rfl, hgn6⟩
      | 7, _ => exact ⟨hpn7.eq rfl, hgn7⟩
      | 8, _ => exact ⟨hpn8.eq rfl, hgn8⟩
      | 9, _ => exact ⟨hpn9.eq rfl, hgn9⟩
      | 10, _ => exact ⟨hpn10.eq (congrArg (ia Γ 48) (funext fun _ => (show (0 : Int32) = nI 1 - 1 by decide))), hgn10⟩
      | 11, _ => exact ⟨hpn11.eq rfl, hgn11⟩
      | 12, _ => exact ⟨hpn12.eq rfl, hgn12⟩
      | 13, _ => exact ⟨hpn13.eq rfl, hgn13⟩
    · have he : (if i = 0 then a else H.size + (i - 1)) = (if j = 0 then a else H.size + (j - 1)) := he
      split at he <;> split at he <;> omega
  refine lv_aload_n (pc := 108) hx hb dX3_init_108 rfl (lk hl rfl) ?_
  refine hc_V (pc := 109) hx hb hml hown hts hK hS (m_begins l Γ Hp13 (fun k => if k = 0 then a else H.size + (k - 1)) S00 (nI 0) hM) (cwV 0 hts (lw_V q1773 q1775 qs44 q83 q1776) rfl rfl rfl (by decide +kernel) ⟨(Nat.le_of_ble_eq_true rfl), (Nat.le_of_ble_eq_true rfl)⟩) (hK.recv hp0 rfl) rfl hl.1 rfl (Nat.le_of_ble_eq_true rfl) dX3_init_109 ⟨by first | exact Nat.le_of_ble_eq_true rfl | (dsimp only [rmd]; omega), by first | exact Nat.le_of_ble_eq_true rfl | (dsimp only [rmd]; omega)⟩ (fun vb Hb locsb hqb hS => ?_)
  obtain ⟨rfl, hM, hob⟩ := hqb
  have hof : Off (fun q => q = a) H Hb := by
    refine ⟨Nat.le_trans ho.1 hob.1, fun q hq hn => ?_⟩
    rw [hob.2 q (Nat.lt_of_lt_of_le hq ho.1) (fun ⟨k, hk, e⟩ => ?_), ho.2 q hq hn]
    have e : q = if k = 0 then a else H.size + (k - 1) := e
    split at e
    · exact hn e
    · omega
  have hge : ∀ k, 1 ≤ k → k < 14 → H.size ≤ (fun k => if k = 0 then a else H.size + (k - 1)) k := fun k h1 _ => by
    show H.size ≤ if k = 0 then a else H.size + (k - 1)
    rw [if_neg (by omega)]
    omega
  exact hr_v (pc := 112) hQ hx hb hr hlocks hS (by first | exact Nat.le_of_ble_eq_true rfl | (dsimp only [rmd]; omega)) (by first | exact Nat.le_of_ble_eq_true rfl | (dsimp only [rmd]; omega)) (⟨rfl, ⟨fun k => if k = 0 then a else H.size + (k - 1), rfl, hge, hM⟩, hof⟩) dX3_init_112
