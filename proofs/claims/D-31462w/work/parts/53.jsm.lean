/-! cores, things, a step's iterator -/
set_option maxRecDepth 100000
set_option maxHeartbeats 4000000
theorem s_setF (l : Launch) (Γ : Cx) (H : Heap) (b fa c9 i t9 : Nat) (st : Bool) (w0 w1 w2 w3 w4 w5 : Value) (F : Nat → Nat) (hpb : pt Γ H b (ob 3 [w0, w1, w2, w3, w4, w5, .ref fa])) (hpf : pt Γ H fa (ia Γ 64 (fun j => nI (F j)))) (hg : Gz Γ fa) (hc : c9 < 8) (hi : i < 4) : Mt l Γ yX4_setFailures (ws_ yX4_setFailures cX4_setFailures 6 (some .int)) 3 0 0 [.ref b, .int (nI c9), .int (nI i), .ref (wy Γ st), .int (nI t9)] H (fun v H1 => v = some (.int (nI (F (fat c9 i st)))) ∧ pt Γ H1 fa (ia Γ 64 (fun j => nI (upf F (fat c9 i st) t9 j))) ∧ Off (fun q => q = fa) H H1) := by
  have hlt := fat_lt st hc hi
  refine mt_of (by decide +kernel) (Nat.le_of_ble_eq_true rfl) ?_
  intro p e s m args below meth c ls Q hx hb hr hlocks hml hts hown hnm hK hS hl hQ
  have ho : Off (fun q => q = fa) H H := Off.rf
  refine lv_aload_n (pc := 0) hx hb dX4_setFailures_0 rfl (lk hl rfl) ?_
  refine hw_get (pc := 1) hx hb hts in_X4 hown hK (hpb) rfl 6 (Nat.le_of_ble_eq_true rfl) (hts _ q1250) (fun x h => h) rfl dX4_setFailures_1 ?_
  refine lv_iload_n (pc := 4) hx hb dX4_setFailures_4 rfl (lk hl rfl) ?_
  refine lv_iload_n (pc := 5) hx hb dX4_setFailures_5 rfl (lk hl rfl) ?_
  refine lv_aload_n (pc := 6) hx hb dX4_setFailures_6 rfl (lk hl rfl) ?_
  refine hc_S (pc := 7) hx hb hml hown hts hK hS (s_at l Γ H c9 i st) (va_cwS 3 hts (lw_S q1312 q1313 q89 q1314) rfl rfl rfl (by decide +kernel) ⟨(Nat.le_of_ble_eq_true rfl), (Nat.le_of_ble_eq_true rfl)⟩) rfl hl.1 rfl (Nat.le_of_ble_eq_true rfl) dX4_setFailures_7 ⟨by first | exact Nat.le_of_ble_eq_true rfl | (dsimp only [rmd]; omega), by first | exact Nat.le_of_ble_eq_true rfl | (dsimp only [rmd]; omega)⟩ (fun v7 H7 locs7 hq7 hS => ?_)
  obtain ⟨rfl, rfl⟩ := hq7
  refine hw_iald (pc := 10) hx hb hK hpf (vp_in_nI (show fat c9 i st < 64 from by omega) (by omega)) dX4_setFailures_10 ?_
  rw [nI_clamp (show fat c9 i st < 2 ^ 31 from by omega)]
  refine lv_istore (pc := 11) hx hb dX4_setFailures_11 hl (Nat.le_of_ble_eq_true rfl) rfl (fun ls hl => ?_)
  refine lv_aload_n (pc := 13) hx hb dX4_setFailures_13 rfl (lk hl rfl) ?_
  refine hw_get (pc := 14) hx hb hts in_X4 hown hK (hpb) rfl 6 (Nat.le_of_ble_eq_true rfl) (hts _ q1250) (fun x h => h) rfl dX4_setFailures_14 ?_
  refine lv_iload_n (pc := 17) hx hb dX4_setFailures_17 rfl (lk hl rfl) ?_
  refine lv_iload_n (pc := 18) hx hb dX4_setFailures_18 rfl (lk hl rfl) ?_
  refine lv_aload_n (pc := 19) hx hb dX4_setFailures_19 rfl (lk hl rfl) ?_
  refine hc_S (pc := 20) hx hb hml hown hts hK hS (s_at l Γ H c9 i st) (va_cwS 3 hts (lw_S q1312 q1313 q89 q1314) rfl rfl rfl (by decide +kernel) ⟨(Nat.le_of_ble_eq_true rfl), (Nat.le_of_ble_eq_true rfl)⟩) rfl hl.1 rfl (Nat.le_of_ble_eq_true rfl) dX4_setFailures_20 ⟨by first | exact Nat.le_of_ble_eq_true rfl | (dsimp only [rmd]; omega), by first | exact Nat.le_of_ble_eq_true rfl | (dsimp only [rmd]; omega)⟩ (fun v8 H8 locs8 hq8 hS => ?_)
  obtain ⟨rfl, rfl⟩ := hq8
  refine lv_iload (pc := 23) hx hb dX4_setFailures_23 (lk hl rfl) ?_
  refine hw_iast (pc := 25) hx hb hK (hpf) (hg) hS (vp_in_nI hlt (by omega)) dX4_setFailures_25 (fun H1 locs1 hp1 z1 o1 hS => ?_)
  have e2 : upd (fun j => nI (F j)) (nI (fat c9 i st)).toNatClampNeg (nI t9) = (fun j => nI (upf F (fat c9 i st) t9 j)) := by
    funext j
    rw [nI_clamp (by omega)]
    unfold upd upf
    split <;> rfl
  rw [e2] at hp1
  have ho := ho.trans (Off.put z1 o1 rfl)
  refine lv_iload (pc := 26) hx hb dX4_setFailures_26 (lk hl rfl) ?_
  exact hr_i (pc := 28) hQ hx hb hr hlocks hS (by first | exact Nat.le_of_ble_eq_true rfl | (dsimp only [rmd]; omega)) (by first | exact Nat.le_of_ble_eq_true rfl | (dsimp only [rmd]; omega)) (⟨rfl, hp1, ho⟩) dX4_setFailures_28
theorem s_core_init (l : Launch) (Γ : Cx) (H : Heap) (b a k lv9 : Nat) (hpb : pt Γ H b (ob 1 [.int (nI 0), .int (nI 0), .null])) (hg : Gz Γ b) : Mt l Γ yX2_init (ws_ yX2_init cX2_init 4 none) 1 0 0 [.ref b, .ref a, .int (nI k), .int (nI lv9)] H (fun v H1 => v = none ∧ pt Γ H1 b (ob 1 [.int (nI k), .int (nI lv9), .ref a]) ∧ Off (fun q => q = b) H H1) := by
  refine mt_of (by decide +kernel) (Nat.le_of_ble_eq_true rfl) ?_
  intro p e s m args below meth c ls Q hx hb hr hlocks hml hts hown hnm hK hS hl hQ
  have ho : Off (fun q => q = b) H H := Off.rf
  refine lv_aload_n (pc := 0) hx hb dX2_init_0 rfl (lk hl rfl) ?_
  refine lv_aload_n (pc := 1) hx hb dX2_init_1 rfl (lk hl rfl) ?_
  refine hw_putF (pc := 2) hx hb hts in_X2 tyX2_ok nmX2 hown hK (hpb) (hg) hS rfl 2 (Nat.le_of_ble_eq_true rfl) (hts _ q174) (fun x h => h) rfl hnm rfl rfl (rfl) (rfl) (Nat.le_of_ble_eq_true rfl) dX2_init_2 (fun Hp1 locsp1 hpp1 zp1 op1 hS => ?_)
  have hpb : pt Γ Hp1 b (ob 1 [.int (nI 0), .int (nI 0), .ref a]) := hpp1
  have ho := ho.trans (Off.put zp1 op1 (by first | rfl | (simp; done) | exact Or.inl rfl | exact Or.inr rfl | omega))
  refine lv_aload_n (pc := 5) hx hb dX2_init_5 rfl (lk hl rfl) ?_
  refine W.objInit hx hb hown (hts _ q169) (hts _ q127) (hts _ q128) rfl (by rw [hml]; exact hl.1) rfl dX2_init_6 (Nat.le_of_ble_eq_true rfl) (Nat.le_of_ble_eq_true rfl) ?_
  refine W.eq (g2 := F0 m 9 ls _) rfl ?_
  refine lv_aload_n (pc := 9) hx hb dX2_init_9 rfl (lk hl rfl) ?_
  refine lv_iload_n (pc := 10) hx hb dX2_init_10 rfl (lk hl rfl) ?_
  refine hw_putF (pc := 11) hx hb hts in_X2 tyX2_ok nmX2 hown hK (hpb) (hg) hS rfl 0 (Nat.le_of_ble_eq_true rfl) (hts _ q170) (fun x h => h) rfl hnm rfl rfl (rfl) (rfl) (Nat.le_of_ble_eq_true rfl) dX2_init_11 (fun Hp2 locsp2 hpp2 zp2 op2 hS => ?_)
  have hpb : pt Γ Hp2 b (ob 1 [.int (nI k), .int (nI 0), .ref a]) := hpp2
  have ho := ho.trans (Off.put zp2 op2 (by first | rfl | (simp; done) | exact Or.inl rfl | exact Or.inr rfl | omega))
  refine lv_aload_n (pc := 14) hx hb dX2_init_14 rfl (lk hl rfl) ?_
  refine lv_iload_n (pc := 15) hx hb dX2_init_15 rfl (lk hl rfl) ?_
  refine hw_put (pc := 16) hx hb hts in_X2 tyX2_ok nmX2 hown hK (hpb) (hg) hS rfl 1 (Nat.le_of_ble_eq_true rfl) (hts _ q172) (fun x h => h) rfl rfl (rfl) (rfl) (Nat.le_of_ble_eq_true rfl) dX2_init_16 (fun Hp3 locsp3 hpp3 zp3 op3 hS => ?_)
  have hpb : pt Γ Hp3 b (ob 1 [.int (nI k), .int (nI lv9), .ref a]) := hpp3
  have ho := ho.trans (Off.put zp3 op3 (by first | rfl | (simp; done) | exact Or.inl rfl | exact Or.inr rfl | omega))
  exact hr_v (pc := 19) hQ hx hb hr hlocks hS (by first | exact Nat.le_of_ble_eq_true rfl | (dsimp only [rmd]; omega)) (by first | exact Nat.le_of_ble_eq_true rfl | (dsimp only [rmd]; omega)) (⟨rfl, hpb, ho⟩) dX2_init_19
theorem s_isUp (l : Launch) (Γ : Cx) (H : Heap) (b lv9 : Nat) (u v : Value) (hpb : pt Γ H b (ob 1 [u, .int (nI lv9), v])) (hl9 : lv9 ≤ 20) : Mt l Γ yX2_isUp (ws_ yX2_isUp cX2_isUp 1 (some .boolean)) 1 0 0 [.ref b] H (Rd (b01 (decide (10 < lv9))) H) := by
  refine mt_of (by decide +kernel) (Nat.le_of_ble_eq_true rfl) ?_
  intro p e s m args below meth c ls Q hx hb hr hlocks hml hts hown hnm hK hS hl hQ
  refine lv_aload_n (pc := 0) hx hb dX2_isUp_0 rfl (lk hl rfl) ?_
  refine hw_get (pc := 1) hx hb hts in_X2 hown hK (hpb) rfl 1 (Nat.le_of_ble_eq_true rfl) (hts _ q172) (fun x h => h) rfl dX2_isUp_1 ?_
  refine lv_bipush (v := nI 10) (pc := 4) hx hb dX2_isUp_4 (by decide) ?_
  refine hn_le (tgt := 13) (pc := 6) hx hb dX2_isUp_6 (by decide) (by omega) (by omega) (fun h => ?_) (fun h => ?_)
  · refine lv_iconst (v := nI 0) (pc := 13) hx hb dX2_isUp_13 (by decide) ?_
    exact hr_z (pc := 14) hQ hx hb hr hlocks hS (by first | exact Nat.le_of_ble_eq_true rfl | (dsimp only [rmd]; omega)) (by first | exact Nat.le_of_ble_eq_true rfl | (dsimp only [rmd]; omega)) (rfl) (⟨by rw [decide_eq_false (by omega)]; rfl, rfl⟩) dX2_isUp_14
  · skip
    refine lv_iconst (v := nI 1) (pc := 9) hx hb dX2_isUp_9 (by decide) ?_
    refine lv_goto (tgt := 14) (pc := 10) hx hb dX2_isUp_10 (by decide) ?_
    exact hr_z (pc := 14) hQ hx hb hr hlocks hS (by first | exact Nat.le_of_ble_eq_true rfl | (dsimp only [rmd]; omega)) (by first | exact Nat.le_of_ble_eq_true rfl | (dsimp only [rmd]; omega)) (rfl) (⟨by rw [decide_eq_true (by omega)]; rfl, rfl⟩) dX2_isUp_14
/-- a thing: its set, where it lives (+ 1), how often it moved; the same of an interrupt -/
theorem s_thing_init (l : Launch) (Γ : Cx) (H : Heap) (b x9 y9 : Nat) (hpb : pt Γ H b (ob 6 [.int (nI 0), .int (nI 0), .int (nI 0)])) (hg : Gz Γ b) : Mt l Γ yX11_init (ws_ yX11_init cX11_init 3 none) 1 0 0 [.ref b, .int (nI x9), .int (nI y9 - 1)] H (fun v H1 => v = none ∧ pt Γ H1 b (ob 6 [.int (nI x9), .int (nI y9 - 1), .int (nI 0)]) ∧ Off (fun q => q = b) H H1) := by
  refine mt_of (by decide +kernel) (Nat.le_of_ble_eq_true rfl) ?_
  intro p e s m args below meth c ls Q hx hb hr hlocks hml hts hown hnm hK hS hl hQ
  have ho : Off (fun q => q = b) H H := Off.rf
  refine lv_aload_n (pc := 0) hx hb dX11_init_0 rfl (lk hl rfl) ?_
  refine W.objInit hx hb hown (hts _ q1664) (hts _ q127) (hts _ q128) rfl (by rw [hml]; exact hl.1) rfl dX11_init_1 (Nat.le_of_ble_eq_true rfl) (Nat.le_of_ble_eq_true rfl) ?_
  refine W.eq (g2 := F0 m 4 ls _) rfl ?_
  refine lv_aload_n (pc := 4) hx hb dX11_init_4 rfl (lk hl rfl) ?_
  refine lv_iload_n (pc := 5) hx hb dX11_init_5 rfl (lk hl rfl) ?_
  refine hw_putF (pc := 6) hx hb hts in_X11 tyX11_ok nmX11 hown hK (hpb) (hg) hS rfl 0 (Nat.le_of_ble_eq_true rfl) (hts _ q1665) (fun x h => h) rfl hnm rfl rfl (rfl) (rfl) (Nat.le_of_ble_eq_true rfl) dX11_init_6 (fun Hp1 locsp1 hpp1 zp1 op1 hS => ?_)
  have hpb : pt Γ Hp1 b (ob 6 [.int (nI x9), .int (nI 0), .int (nI 0)]) := hpp1
  have ho := ho.trans (Off.put zp1 op1 (by first | rfl | (simp; done) | exact Or.inl rfl | exact Or.inr rfl | omega))
  refine lv_aload_n (pc := 9) hx hb dX11_init_9 rfl (lk hl rfl) ?_
  refine lv_iload_n (pc := 10) hx hb dX11_init_10 rfl (lk hl rfl) ?_
  refine hw_put (pc := 11) hx hb hts in_X11 tyX11_ok nmX11 hown hK (hpb) (hg) hS rfl 1 (Nat.le_of_ble_eq_true rfl) (hts _ q1667) (fun x h => h) rfl rfl (rfl) (rfl) (Nat.le_of_ble_eq_true rfl) dX11_init_11 (fun Hp2 locsp2 hpp2 zp2 op2 hS => ?_)
  have hpb : pt Γ Hp2 b (ob 6 [.int (nI x9), .int (nI y9 - 1), .int (nI 0)]) := hpp2
  have ho := ho.trans (Off.put zp2 op2 (by first | rfl | (simp; done) | exact Or.inl rfl | exact Or.inr rfl | omega))
  exact hr_v (pc := 14) hQ hx hb hr hlocks hS (by first | exact Nat.le_of_ble_eq_true rfl | (dsimp only [rmd]; omega)) (by first | exact Nat.le_of_ble_eq_true rfl | (dsimp only [rmd]; omega)) (⟨rfl, hpb, ho⟩) dX11_init_14
theorem s_thing_init7 (l : Launch) (Γ : Cx) (H : Heap) (b x9 y9 : Nat) (hpb : pt Γ H b (ob 7 [.int (nI 0), .int (nI 0), .int (nI 0), .int (nI 0)])) (hg : Gz Γ b) : Mt l Γ yX11_init (ws_ yX11_init cX11_init 3 none) 1 0 0 [.ref b, .int (nI x9), .int (nI y9 - 1)] H (fun v H1 => v = none ∧ pt Γ H1 b (ob 7 [.int (nI x9), .int (nI y9 - 1), .int (nI 0), .int (nI 0)]) ∧ Off (fun q => q = b) H H1) := by
  refine mt_of (by decide +kernel) (Nat.le_of_ble_eq_true rfl) ?_
  intro p e s m args below meth c ls Q hx hb hr hlocks hml hts hown hnm hK hS hl hQ
  have ho : Off (fun q => q = b) H H := Off.rf
  refine lv_aload_n (pc := 0) hx hb dX11_init_0 rfl (lk hl rfl) ?_
  refine W.objInit hx hb hown (hts _ q1664) (hts _ q127) (hts _ q128) rfl (by rw [hml]; exact hl.1) rfl dX11_init_1 (Nat.le_of_ble_eq_true rfl) (Nat.le_of_ble_eq_true rfl) ?_
  refine W.eq (g2 := F0 m 4 ls _) rfl ?_
  refine lv_aload_n (pc := 4) hx hb dX11_init_4 rfl (lk hl rfl) ?_
  refine lv_iload_n (pc := 5) hx hb dX11_init_5 rfl (lk hl rfl) ?_
  refine hw_putF (pc := 6) hx hb hts in_X12 tyX12_ok nmX12 hown hK (hpb) (hg) hS rfl 0 (Nat.le_of_ble_eq_true rfl) (hts _ q1665) (fun x h => h) rfl hnm rfl rfl (rfl) (rfl) (Nat.le_of_ble_eq_true rfl) dX11_init_6 (fun Hp1 locsp1 hpp1 zp1 op1 hS => ?_)
  have hpb : pt Γ Hp1 b (ob 7 [.int (nI x9), .int (nI 0), .int (nI 0), .int (nI 0)]) := hpp1
  have ho := ho.trans (Off.put zp1 op1 (by first | rfl | (simp; done) | exact Or.inl rfl | exact Or.inr rfl | omega))
  refine lv_aload_n (pc := 9) hx hb dX11_init_9 rfl (lk hl rfl) ?_
  refine lv_iload_n (pc := 10) hx hb dX11_init_10 rfl (lk hl rfl) ?_
  refine hw_put (pc := 11) hx hb hts in_X12 tyX12_ok nmX12 hown hK (hpb) (hg) hS rfl 1 (Nat.le_of_ble_eq_true rfl) (hts _ q1667) (fun x h => h) rfl rfl (rfl) (rfl) (Nat.le_of_ble_eq_true rfl) dX11_init_11 (fun Hp2 locsp2 hpp2 zp2 op2 hS => ?_)
  have hpb : pt Γ Hp2 b (ob 7 [.int (nI x9), .int (nI y9 - 1), .int (nI 0), .int (nI 0)]) := hpp2
  have ho := ho.trans (Off.put zp2 op2 (by first | rfl | (simp; done) | exact Or.inl rfl | exact Or.inr rfl | omega))
  exact hr_v (pc := 14) hQ hx hb hr hlocks hS (by first | exact Nat.le_of_ble_eq_true rfl | (dsimp only [rmd]; omega)) (by first | exact Nat.le_of_ble_eq_true rfl | (dsimp only [rmd]; omega)) (⟨rfl, hpb, ho⟩) dX11_init_14
theorem s_int_init (l : Launch) (Γ : Cx) (H : Heap) (b x9 : Nat) (hpb : pt Γ H b (ob 7 [.int (nI 0), .int (nI 0), .int (nI 0), .int (nI 0)])) (hg : Gz Γ b) : Mt l Γ yX12_init (ws_ yX12_init cX12_init 2 none) 2 0 0 [.ref b, .int (nI x9)] H (fun v H1 => v = none ∧ pt Γ H1 b (ob 7 [.int (nI x9), .int (nI 0 - 1), .int (nI 0), .int (nI 0)]) ∧ Off (fun q => q = b) H H1) := by
  refine mt_of (by decide +kernel) (Nat.le_of_ble_eq_true rfl) ?_
  intro p e s m args below meth c ls Q hx hb hr hlocks hml hts hown hnm hK hS hl hQ
  refine lv_aload_n (pc := 0) hx hb dX12_init_0 rfl (lk hl rfl) ?_
  refine lv_iload_n (pc := 1) hx hb dX12_init_1 rfl (lk hl rfl) ?_
  refine lv_iconst (v := nI 0 - 1) (pc := 2) hx hb dX12_init_2 (by decide) ?_
  refine hc_I (pc := 3) hx hb hml hown hts hK hS (s_thing_init7 l Γ H b x9 0 hpb hg) (cwI 2 hts (lw_meth q1663) rfl rfl rfl (hts _ q119) (hts _ q1689) (hts _ q1662) rfl (by decide +kernel) ⟨(Nat.le_of_ble_eq_true rfl), (Nat.le_of_ble_eq_true rfl)⟩) rfl hl.1 rfl (Nat.le_of_ble_eq_true rfl) dX12_init_3 ⟨by first | exact Nat.le_of_ble_eq_true rfl | (dsimp only [rmd]; omega), by first | exact Nat.le_of_ble_eq_true rfl | (dsimp only [rmd]; omega)⟩ (fun v9 H9 locs9 hq9 hS => ?_)
  obtain ⟨rfl, h1, h2⟩ := hq9
  exact hr_v (pc := 6) hQ hx hb hr hlocks hS (by first | exact Nat.le_of_ble_eq_true rfl | (dsimp only [rmd]; omega)) (by first | exact Nat.le_of_ble_eq_true rfl | (dsimp only [rmd]; omega)) (⟨rfl, h1, h2⟩) dX12_init_6
theorem s_mayBe (l : Launch) (Γ : Cx) (H : Heap) (b ci9 x9 k : Nat) (fs : List Value) (hc : ci9 = 6 ∨ ci9 = 7) (hpb : pt Γ H b (ob ci9 (.int (nI x9) :: fs))) (hx9 : x9 < 256) (hk : k < 8) : Mt l Γ yX11_mayBeOn (ws_ yX11_mayBeOn cX11_mayBeOn 2 (some .boolean)) 1 0 0 [.ref b, .int (nI k)] H (Rd (b01 (x9.testBit k)) H) := by
  have key : ∀ (z : Int32), z = nI (x9 / 2 ^ k) &&& nI 1 → (z = nI 1 ↔ x9.testBit k = true) := by
    intro z hz
    have hd : x9 / 2 ^ k ≤ x9 := Nat.div_le_self _ _
    rw [hz, n_and1 (by omega), tb]
    constructor
    · intro q
      have := (nI_eq (by omega) (by omega)).mp q
      simp [this]
    · intro q
      have := of_decide_eq_true q
      rw [this]
  have fin : ∀ (b9 : Bool), b9 = x9.testBit k → Rd (b01 (x9.testBit k)) H = Rd (b01 b9) H := fun b9 h => by rw [h]
  rcases hc with rfl | rfl
  · refine mt_of (by decide +kernel) (Nat.le_of_ble_eq_true rfl) ?_
    intro p e s m args below meth c ls Q hx hb hr hlocks hml hts hown hnm hK hS hl hQ
    refine lv_aload_n (pc := 0) hx hb dX11_mayBeOn_0 rfl (lk hl rfl) ?_
    refine hw_get (pc := 1) hx hb hts in_X11 hown hK (hpb) rfl 0 (Nat.le_of_ble_eq_true rfl) (hts _ q1665) (fun x h => h) rfl dX11_mayBeOn_1 ?_
    refine lv_iload_n (pc := 4) hx hb dX11_mayBeOn_4 rfl (lk hl rfl) ?_
    refine lv_ishr (pc := 5) hx hb dX11_mayBeOn_5 ?_
    refine hw_top (congrArg Value.int (show _ = nI (x9 / 2 ^ k) from n_shr (by omega) (by omega))) ?_
    refine lv_iconst (v := nI 1) (pc := 6) hx hb dX11_mayBeOn_6 (by decide) ?_
    refine lv_iand (pc := 7) hx hb dX11_mayBeOn_7 ?_
    refine lv_iconst (v := nI 1) (pc := 8) hx hb dX11_mayBeOn_8 (by decide) ?_
    refine lv_icmp_ne (tgt := 16) (pc := 9) hx hb dX11_mayBeOn_9 (by decide) (fun h => ?_) (fun h => ?_)
    · skip
      refine lv_iconst (v := nI 0) (pc := 16) hx hb dX11_mayBeOn_16 (by decide) ?_
      exact hr_z (pc := 17) hQ hx hb hr hlocks hS (by first | exact Nat.le_of_ble_eq_true rfl | (dsimp only [rmd]; omega)) (by first | exact Nat.le_of_ble_eq_true rfl | (dsimp only [rmd]; omega)) (rfl) (⟨by rw [show x9.testBit k = false by have := (not_congr (key _ rfl)).mp h; simpa using this]; rfl, rfl⟩) dX11_mayBeOn_17
    · skip
      refine lv_iconst (v := nI 1) (pc := 12) hx hb dX11_mayBeOn_12 (by decide) ?_
      refine lv_goto (tgt := 17) (pc := 13) hx hb dX11_mayBeOn_13 (by decide) ?_
      exact hr_z (pc := 17) hQ hx hb hr hlocks hS (by first | exact Nat.le_of_ble_eq_true rfl | (dsimp only [rmd]; omega)) (by first | exact Nat.le_of_ble_eq_true rfl | (dsimp only [rmd]; omega)) (rfl) (⟨by rw [(key _ rfl).mp h]; rfl, rfl⟩) dX11_mayBeOn_17
  · refine mt_of (by decide +kernel) (Nat.le_of_ble_eq_true rfl) ?_
    intro p e s m args below meth c ls Q hx hb hr hlocks hml hts hown hnm hK hS hl hQ
    refine lv_aload_n (pc := 0) hx hb dX11_mayBeOn_0 rfl (lk hl rfl) ?_
    refine hw_get (pc := 1) hx hb hts in_X12 hown hK (hpb) rfl 0 (Nat.le_of_ble_eq_true rfl) (hts _ q1665) (fun x h => h) rfl dX11_mayBeOn_1 ?_
    refine lv_iload_n (pc := 4) hx hb dX11_mayBeOn_4 rfl (lk hl rfl) ?_
    refine lv_ishr (pc := 5) hx hb dX11_mayBeOn_5 ?_
    refine hw_top (congrArg Value.int (show _ = nI (x9 / 2 ^ k) from n_shr (by omega) (by omega))) ?_
    refine lv_iconst (v := nI 1) (pc := 6) hx hb dX11_mayBeOn_6 (by decide) ?_
    refine lv_iand (pc := 7) hx hb dX11_mayBeOn_7 ?_
    refine lv_iconst (v := nI 1) (pc := 8) hx hb dX11_mayBeOn_8 (by decide) ?_
    refine lv_icmp_ne (tgt := 16) (pc := 9) hx hb dX11_mayBeOn_9 (by decide) (fun h => ?_) (fun h => ?_)
    · skip
      refine lv_iconst (v := nI 0) (pc := 16) hx hb dX11_mayBeOn_16 (by decide) ?_
      exact hr_z (pc := 17) hQ hx hb hr hlocks hS (by first | exact Nat.le_of_ble_eq_true rfl | (dsimp only [rmd]; omega)) (by first | exact Nat.le_of_ble_eq_true rfl | (dsimp only [rmd]; omega)) (rfl) (⟨by rw [show x9.testBit k = false by have := (not_congr (key _ rfl)).mp h; simpa using this]; rfl, rfl⟩) dX11_mayBeOn_17
    · skip
      refine lv_iconst (v := nI 1) (pc := 12) hx hb dX11_mayBeOn_12 (by decide) ?_
      refine lv_goto (tgt := 17) (pc := 13) hx hb dX11_mayBeOn_13 (by decide) ?_
      exact hr_z (pc := 17) hQ hx hb hr hlocks hS (by first | exact Nat.le_of_ble_eq_true rfl | (dsimp only [rmd]; omega)) (by first | exact Nat.le_of_ble_eq_true rfl | (dsimp only [rmd]; omega)) (rfl) (⟨by rw [(key _ rfl).mp h]; rfl, rfl⟩) dX11_mayBeOn_17
/-- a move: to is the place + 1 -/
theorem s_move6 (l : Launch) (Γ : Cx) (H : Heap) (b y9 mv to : Nat) (w : Value) (hpb : pt Γ H b (ob 6 [w, .int (nI y9 - 1), .int (nI mv)])) (hg : Gz Γ b) (hy : y9 < 100) (hto : to < 100) : Mt l Γ yX11_move (ws_ yX11_move cX11_move 2 none) 1 0 0 [.ref b, .int (nI to - 1)] H (fun v H1 => v = none ∧ pt Γ H1 b (ob 6 [w, .int (nI to - 1), .int (nI (if to = y9 then mv else mv + 1))]) ∧ Off (fun q => q = b) H H1) := by
  refine mt_of (by decide +kernel) (Nat.le_of_ble_eq_true rfl) ?_
  intro p e s m args below meth c ls Q hx hb hr hlocks hml hts hown hnm hK hS hl hQ
  have ho : Off (fun q => q = b) H H := Off.rf
  refine lv_aload_n (pc := 0) hx hb dX11_move_0 rfl (lk hl rfl) ?_
  refine lv_dup (pc := 1) hx hb dX11_move_1 rfl ?_
  refine hw_get (pc := 2) hx hb hts in_X11 hown hK (hpb) rfl 2 (Nat.le_of_ble_eq_true rfl) (hts _ q1669) (fun x h => h) rfl dX11_move_2 ?_
  refine lv_iload_n (pc := 5) hx hb dX11_move_5 rfl (lk hl rfl) ?_
  refine lv_aload_n (pc := 6) hx hb dX11_move_6 rfl (lk hl rfl) ?_
  refine hw_get (pc := 7) hx hb hts in_X11 hown hK (hpb) rfl 1 (Nat.le_of_ble_eq_true rfl) (hts _ q1667) (fun x h => h) rfl dX11_move_7 ?_
  refine hm_ne (tgt := 17) (pc := 10) hx hb dX11_move_10 (by decide) (by omega) (by omega) (fun h => ?_) (fun h => ?_)
  · refine lv_iconst (v := nI 1) (pc := 17) hx hb dX11_move_17 (by decide) ?_
    refine lv_iadd (pc := 18) hx hb dX11_move_18 ?_
    refine hw_top (congrArg Value.int (show _ = nI (mv + 1) from nI_add _ _)) ?_
    refine hw_put (pc := 19) hx hb hts in_X11 tyX11_ok nmX11 hown hK (hpb) (hg) hS rfl 2 (Nat.le_of_ble_eq_true rfl) (hts _ q1669) (fun x h => h) rfl rfl (rfl) (rfl) (Nat.le_of_ble_eq_true rfl) dX11_move_19 (fun Hp1 locsp1 hpp1 zp1 op1 hS => ?_)
    have hpb : pt Γ Hp1 b (ob 6 [w, .int (nI y9 - 1), .int (nI (mv + 1))]) := hpp1
    have ho := ho.trans (Off.put zp1 op1 (by first | rfl | (simp; done) | exact Or.inl rfl | exact Or.inr rfl | omega))
    refine lv_aload_n (pc := 22) hx hb dX11_move_22 rfl (lk hl rfl) ?_
    refine lv_iload_n (pc := 23) hx hb dX11_move_23 rfl (lk hl rfl) ?_
    refine hw_put (pc := 24) hx hb hts in_X11 tyX11_ok nmX11 hown hK (hpb) (hg) hS rfl 1 (Nat.le_of_ble_eq_true rfl) (hts _ q1667) (fun x h => h) rfl rfl (rfl) (rfl) (Nat.le_of_ble_eq_true rfl) dX11_move_24 (fun Hp2 locsp2 hpp2 zp2 op2 hS => ?_)
    have hpb : pt Γ Hp2 b (ob 6 [w, .int (nI to - 1), .int (nI (mv + 1))]) := hpp2
    have ho := ho.trans (Off.put zp2 op2 (by first | rfl | (simp; done) | exact Or.inl rfl | exact Or.inr rfl | omega))
    exact hr_v (pc := 27) hQ hx hb hr hlocks hS (by first | exact Nat.le_of_ble_eq_true rfl | (dsimp only [rmd]; omega)) (by first | exact Nat.le_of_ble_eq_true rfl | (dsimp only [rmd]; omega)) (⟨rfl, by rw [if_neg h]; exact hpb, ho⟩) dX11_move_27
  · skip
    refine lv_iconst (v := nI 0) (pc := 13) hx hb dX11_move_13 (by decide) ?_
    refine lv_goto (tgt := 18) (pc := 14) hx hb dX11_move_14 (by decide) ?_
    refine lv_iadd (pc := 18) hx hb dX11_move_18 ?_
    refine hw_top (congrArg Value.int (show _ = nI (mv + 0) from nI_add _ _)) ?_
    refine hw_put (pc := 19) hx hb hts in_X11 tyX11_ok nmX11 hown hK (hpb) (hg) hS rfl 2 (Nat.le_of_ble_eq_true rfl) (hts _ q1669) (fun x h => h) rfl rfl (rfl) (rfl) (Nat.le_of_ble_eq_true rfl) dX11_move_19 (fun Hp3 locsp3 hpp3 zp3 op3 hS => ?_)
    have hpb : pt Γ Hp3 b (ob 6 [w, .int (nI y9 - 1), .int (nI (mv + 0))]) := hpp3
    have ho := ho.trans (Off.put zp3 op3 (by first | rfl | (simp; done) | exact Or.inl rfl | exact Or.inr rfl | omega))
    refine lv_aload_n (pc := 22) hx hb dX11_move_22 rfl (lk hl rfl) ?_
    refine lv_iload_n (pc := 23) hx hb dX11_move_23 rfl (lk hl rfl) ?_
    refine hw_put (pc := 24) hx hb hts in_X11 tyX11_ok nmX11 hown hK (hpb) (hg) hS rfl 1 (Nat.le_of_ble_eq_true rfl) (hts _ q1667) (fun x h => h) rfl rfl (rfl) (rfl) (Nat.le_of_ble_eq_true rfl) dX11_move_24 (fun Hp4 locsp4 hpp4 zp4 op4 hS => ?_)
    have hpb : pt Γ Hp4 b (ob 6 [w, .int (nI to - 1), .int (nI (mv + 0))]) := hpp4
    have ho := ho.trans (Off.put zp4 op4 (by first | rfl | (simp; done) | exact Or.inl rfl | exact Or.inr rfl | omega))
    exact hr_v (pc := 27) hQ hx hb hr hlocks hS (by first | exact Nat.le_of_ble_eq_true rfl | (dsimp only [rmd]; omega)) (by first | exact Nat.le_of_ble_eq_true rfl | (dsimp only [rmd]; omega)) (⟨rfl, by rw [if_pos h]; exact hpb, ho⟩) dX11_move_27
theorem s_move7 (l : Launch) (Γ : Cx) (H : Heap) (b y9 mv to : Nat) (w u : Value) (hpb : pt Γ H b (ob 7 [w, .int (nI y9 - 1), .int (nI mv), u])) (hg : Gz Γ b) (hy : y9 < 100) (hto : to < 100) : Mt l Γ yX11_move (ws_ yX11_move cX11_move 2 none) 1 0 0 [.ref b, .int (nI to - 1)] H (fun v H1 => v = none ∧ pt Γ H1 b (ob 7 [w, .int (nI to - 1), .int (nI (if to = y9 then mv else mv + 1)), u]) ∧ Off (fun q => q = b) H H1) := by
  refine mt_of (by decide +kernel) (Nat.le_of_ble_eq_true rfl) ?_
  intro p e s m args below meth c ls Q hx hb hr hlocks hml hts hown hnm hK hS hl hQ
  have ho : Off (fun q => q = b) H H := Off.rf
  refine lv_aload_n (pc := 0) hx hb dX11_move_0 rfl (lk hl rfl) ?_
  refine lv_dup (pc := 1) hx hb dX11_move_1 rfl ?_
  refine hw_get (pc := 2) hx hb hts in_X12 hown hK (hpb) rfl 2 (Nat.le_of_ble_eq_true rfl) (hts _ q1669) (fun x h => h) rfl dX11_move_2 ?_
  refine lv_iload_n (pc := 5) hx hb dX11_move_5 rfl (lk hl rfl) ?_
  refine lv_aload_n (pc := 6) hx hb dX11_move_6 rfl (lk hl rfl) ?_
  refine hw_get (pc := 7) hx hb hts in_X12 hown hK (hpb) rfl 1 (Nat.le_of_ble_eq_true rfl) (hts _ q1667) (fun x h => h) rfl dX11_move_7 ?_
  refine hm_ne (tgt := 17) (pc := 10) hx hb dX11_move_10 (by decide) (by omega) (by omega) (fun h => ?_) (fun h => ?_)
  · refine lv_iconst (v := nI 1) (pc := 17) hx hb dX11_move_17 (by decide) ?_
    refine lv_iadd (pc := 18) hx hb dX11_move_18 ?_
    refine hw_top (congrArg Value.int (show _ = nI (mv + 1) from nI_add _ _)) ?_
    refine hw_put (pc := 19) hx hb hts in_X12 tyX12_ok nmX12 hown hK (hpb) (hg) hS rfl 2 (Nat.le_of_ble_eq_true rfl) (hts _ q1669) (fun x h => h) rfl rfl (rfl) (rfl) (Nat.le_of_ble_eq_true rfl) dX11_move_19 (fun Hp1 locsp1 hpp1 zp1 op1 hS => ?_)
    have hpb : pt Γ Hp1 b (ob 7 [w, .int (nI y9 - 1), .int (nI (mv + 1)), u]) := hpp1
    have ho := ho.trans (Off.put zp1 op1 (by first | rfl | (simp; done) | exact Or.inl rfl | exact Or.inr rfl | omega))
    refine lv_aload_n (pc := 22) hx hb dX11_move_22 rfl (lk hl rfl) ?_
    refine lv_iload_n (pc := 23) hx hb dX11_move_23 rfl (lk hl rfl) ?_
    refine hw_put (pc := 24) hx hb hts in_X12 tyX12_ok nmX12 hown hK (hpb) (hg) hS rfl 1 (Nat.le_of_ble_eq_true rfl) (hts _ q1667) (fun x h => h) rfl rfl (rfl) (rfl) (Nat.le_of_ble_eq_true rfl) dX11_move_24 (fun Hp2 locsp2 hpp2 zp2 op2 hS => ?_)
    have hpb : pt Γ Hp2 b (ob 7 [w, .int (nI to - 1), .int (nI (mv + 1)), u]) := hpp2
    have ho := ho.trans (Off.put zp2 op2 (by first | rfl | (simp; done) | exact Or.inl rfl | exact Or.inr rfl | omega))
    exact hr_v (pc := 27) hQ hx hb hr hlocks hS (by first | exact Nat.le_of_ble_eq_true rfl | (dsimp only [rmd]; omega)) (by first | exact Nat.le_of_ble_eq_true rfl | (dsimp only [rmd]; omega)) (⟨rfl, by rw [if_neg h]; exact hpb, ho⟩) dX11_move_27
  · skip
    refine lv_iconst (v := nI 0) (pc := 13) hx hb dX11_move_13 (by decide) ?_
    refine lv_goto (tgt := 18) (pc := 14) hx hb dX11_move_14 (by decide) ?_
    refine lv_iadd (pc := 18) hx hb dX11_move_18 ?_
    refine hw_top (congrArg Value.int (show _ = nI (mv + 0) from nI_add _ _)) ?_
    refine hw_put (pc := 19) hx hb hts in_X12 tyX12_ok nmX12 hown hK (hpb) (hg) hS rfl 2 (Nat.le_of_ble_eq_true rfl) (hts _ q1669) (fun x h => h) rfl rfl (rfl) (rfl) (Nat.le_of_ble_eq_true rfl) dX11_move_19 (fun Hp3 locsp3 hpp3 zp3 op3 hS => ?_)
    have hpb : pt Γ Hp3 b (ob 7 [w, .int (nI y9 - 1), .int (nI (mv + 0)), u]) := hpp3
    have ho := ho.trans (Off.put zp3 op3 (by first | rfl | (simp; done) | exact Or.inl rfl | exact Or.inr rfl | omega))
    refine lv_aload_n (pc := 22) hx hb dX11_move_22 rfl (lk hl rfl) ?_
    refine lv_iload_n (pc := 23) hx hb dX11_move_23 rfl (lk hl rfl) ?_
    refine hw_put (pc := 24) hx hb hts in_X12 tyX12_ok nmX12 hown hK (hpb) (hg) hS rfl 1 (Nat.le_of_ble_eq_true rfl) (hts _ q1667) (fun x h => h) rfl rfl (rfl) (rfl) (Nat.le_of_ble_eq_true rfl) dX11_move_24 (fun Hp4 locsp4 hpp4 zp4 op4 hS => ?_)
    have hpb : pt Γ Hp4 b (ob 7 [w, .int (nI to - 1), .int (nI (mv + 0)), u]) := hpp4
    have ho := ho.trans (Off.put zp4 op4 (by first | rfl | (simp; done) | exact Or.inl rfl | exact Or.inr rfl | omega))
    exact hr_v (pc := 27) hQ hx hb hr hlocks hS (by first | exact Nat.le_of_ble_eq_true rfl | (dsimp only [rmd]; omega)) (by first | exact Nat.le_of_ble_eq_true rfl | (dsimp only [rmd]; omega)) (⟨rfl, by rw [if_pos h]; exact hpb, ho⟩) dX11_move_27
