/-! the operations that call: add, remove, instance, retire, up, down -/
set_option maxRecDepth 100000
def bn (b : Bool) : Nat := if b then 1 else 0
theorem b01_bn (b : Bool) : b01 b = nI (bn b) := by cases b <;> rfl
theorem bn_le (b : Bool) : bn b ≤ 1 := by cases b <;> decide
def aOk (x : Int32) (a b : Bool) : Bool := inI x (nI 0) (nI 19) && (decide (x ≠ nI 10) && (a || b))
def pnew (S : Sx) (p : Nat) (a b s : Bool) : Sx := up2 (up2 (up2 (up2 (up2 S 2 p 1) 3 p (bn a)) 4 p (bn b)) 5 p (bn s)) 6 p 0
def psince0 (S : Sx) (p : Nat) : Sx := up2 (up2 (up2 (up2 S 14 (4 * p) 0) 14 (4 * p + 1) 0) 14 (4 * p + 2) 0) 14 (4 * p + 3) 0
def paddS (S : Sx) (p : Nat) (a b s : Bool) : Sx := psince0 (pnew S p a b s) p
def psin (S : Sx) (p i : Nat) : Sx := up2 S 14 (4 * p + i) (S 0 1)
def oAdd (S : Sx) (x : Int32) (a b s : Bool) : Ox :=
  if aOk x a b = true then
    if S 2 (tn x) ≠ 0 then (S, 2, nI 0)
    else if s = true then (up2 (poA (tn x) 0 (S 0 0) 0 (psin (paddS S (tn x) a b s) (tn x) 0)).1 6 (tn x) 1, 0, nI (psm (up2 (poA (tn x) 0 (S 0 0) 0 (psin (paddS S (tn x) a b s) (tn x) 0)).1 6 (tn x) 1)))
    else (paddS S (tn x) a b s, 0, nI (psm (paddS S (tn x) a b s)))
  else (S, 1, nI 0)
theorem paddS_0 (S : Sx) (p : Nat) (a b s : Bool) {f j : Nat} (h : f < 2 ∨ (6 < f ∧ f ≠ 14)) : paddS S p a b s f j = S f j := by
  rw [paddS, psince0, up2_f (by omega), up2_f (by omega), up2_f (by omega), up2_f (by omega), pnew, up2_f (by omega), up2_f (by omega), up2_f (by omega), up2_f (by omega), up2_f (by omega)]
theorem wf_paddS {S : Sx} (hw : WF S) (p : Nat) (a b s : Bool) : WF (paddS S p a b s) := by
  have h1 := bn_le a
  have h2 := bn_le b
  have h3 := bn_le s
  exact (((((((((hw.up (by omega)).up (by omega)).up (by omega)).up (by omega)).up (by omega)).up (by omega)).up (by omega)).up (by omega)).up (by omega))
set_option maxHeartbeats 8000000 in
theorem m_add (l : Launch) (Γ : Cx) (H : Heap) (μ : Nat → Nat) (S : Sx) (th : Int32) (x : Int32) (a9 b9 s9 : Bool) (hM : MW Γ H μ S th) (hw : WF S) (hr9 : S 0 1 + 16 ≤ 40000) : Mt l Γ yX3_add (ws_ yX3_add cX3_add 6 (some .int)) 6 0 0 [.ref (μ 0), .int x, .int (b01 a9), .int (b01 b9), .int (b01 s9)] H (MO Γ μ H (oAdd S x a9 b9 s9)) := by
  refine mt_of (by decide +kernel) (Nat.le_of_ble_eq_true rfl) ?_
  intro p e s m args below meth c ls Q hx hb hr hlocks hml hts hown hnm hK hS hl hQ
  have ho : Off (Mf μ) H H := Off.rf
  have no : ¬ aOk x a9 b9 = true → ∀ (locs : List Loc) (ls : Array Slot), va_S (Gz Γ) s.heap H locs → lv_has ls 6 [(0, .ref (μ 0))] → W p l e (rmd 6 0 0) s m args below meth c H locs 0 0 Q (F0 m 24 ls []) := by
    intro hn locs ls hS hl
    rw [oAdd, if_neg hn] at hQ
    refine lv_aload_n (pc := 24) hx hb dX3_add_24 rfl (lk hl rfl) ?_
    refine lv_iconst (v := nI 1) (pc := 25) hx hb dX3_add_25 (by decide) ?_
    refine hc_V (pc := 26) hx hb hml hown hts hK hS (m_refuse l Γ H μ S th (nI 1) hM) (cwV 1 hts (lw_V q1846 q1848 qs46 q83 q1849) rfl rfl rfl (by decide +kernel) ⟨(Nat.le_of_ble_eq_true rfl), (Nat.le_of_ble_eq_true rfl)⟩) (hK.recv hM.p0 rfl) rfl hl.1 rfl (Nat.le_of_ble_eq_true rfl) dX3_add_26 ⟨by first | exact Nat.le_of_ble_eq_true rfl | (dsimp only [rmd]; omega), by first | exact Nat.le_of_ble_eq_true rfl | (dsimp only [rmd]; omega)⟩ (fun v1 H1 locs1 hq1 hS => ?_)
    obtain ⟨rfl, hM, ho1⟩ := hq1
    have ho := ho.trans ho1
    exact hr_i (pc := 29) hQ hx hb hr hlocks hS (by first | exact Nat.le_of_ble_eq_true rfl | (dsimp only [rmd]; omega)) (by first | exact Nat.le_of_ble_eq_true rfl | (dsimp only [rmd]; omega)) (⟨rfl, hM, ho⟩) dX3_add_29
  have yes : aOk x a9 b9 = true → ∀ (locs : List Loc) (ls : Array Slot), va_S (Gz Γ) s.heap H locs → lv_has ls 6 [(0, .ref (μ 0)), (1, .int x), (2, .int (b01 a9)), (3, .int (b01 b9)), (4, .int (b01 s9))] → W p l e (rmd 6 0 0) s m args below meth c H locs 0 0 Q (F0 m 30 ls []) := by
    intro hn locs ls hS hl
    rw [oAdd, if_pos hn] at hQ
    rw [aOk, Bool.and_eq_true] at hn
    obtain ⟨p9, -, hp9, rfl⟩ := i_in (lo := 0) (by decide) (by decide) (of_decide_eq_true hn.1).1 (of_decide_eq_true hn.1).2
    rw [tn_nI (by omega)] at hQ
    refine lv_aload_n (pc := 30) hx hb dX3_add_30 rfl (lk hl rfl) ?_
    refine hw_get (pc := 31) hx hb hts in_X3 hown hK (hM.p0) rfl 3 (Nat.le_of_ble_eq_true rfl) (hts _ q1780) (fun x h => h) rfl dX3_add_31 ?_
    refine lv_iload_n (pc := 34) hx hb dX3_add_34 rfl (lk hl rfl) ?_
    refine hm_zald (k := 2) (pc := 35) hx hb hK hM (by decide) (show p9 < 20 from (by omega)) dX3_add_35 ?_
    have := hw.b2 p9
    refine hn_z_eq (tgt := 45) (pc := 36) hx hb dX3_add_36 (by decide) (by omega) (fun h2 => ?_) (fun h2 => ?_)
    · rw [if_neg (by omega)] at hQ
      have ha := bn_le a9
      have hb9 := bn_le b9
      have hs9 := bn_le s9
      refine lv_aload_n (pc := 45) hx hb dX3_add_45 rfl (lk hl rfl) ?_
      refine hw_get (pc := 46) hx hb hts in_X3 hown hK (hM.p0) rfl 3 (Nat.le_of_ble_eq_true rfl) (hts _ q1780) (fun x h => h) rfl dX3_add_46 ?_
      refine lv_iload_n (pc := 49) hx hb dX3_add_49 rfl (lk hl rfl) ?_
      refine lv_iconst (v := nI 1) (pc := 50) hx hb dX3_add_50 (by decide) ?_
      refine hm_zast (k := 2) (pc := 51) hx hb hK hM (by decide) (show p9 < 20 from (by omega)) (show 1 ≤ 1 from by omega) hS dX3_add_51 (fun H1 locs1 hM ho1 hS => ?_)
      have ho := ho.trans ho1
      refine lv_aload_n (pc := 52) hx hb dX3_add_52 rfl (lk hl rfl) ?_
      refine hw_get (pc := 53) hx hb hts in_X3 hown hK (hM.p0) rfl 4 (Nat.le_of_ble_eq_true rfl) (hts _ q1781) (fun x h => h) rfl dX3_add_53 ?_
      refine lv_iload_n (pc := 56) hx hb dX3_add_56 rfl (lk hl rfl) ?_
      refine lv_iload_n (pc := 57) hx hb dX3_add_57 rfl (lk hl rfl) ?_
      refine hw_top (congrArg Value.int (b01_bn a9)) ?_
      refine hm_zast (k := 3) (pc := 58) hx hb hK hM (by decide) (show p9 < 20 from (by omega)) (show bn a9 ≤ 1 from by omega) hS dX3_add_58 (fun H2 locs2 hM ho2 hS => ?_)
      have ho := ho.trans ho2
      refine lv_aload_n (pc := 59) hx hb dX3_add_59 rfl (lk hl rfl) ?_
      refine hw_get (pc := 60) hx hb hts in_X3 hown hK (hM.p0) rfl 5 (Nat.le_of_ble_eq_true rfl) (hts _ q1782) (fun x h => h) rfl dX3_add_60 ?_
      refine lv_iload_n (pc := 63) hx hb dX3_add_63 rfl (lk hl rfl) ?_
      refine lv_iload_n (pc := 64) hx hb dX3_add_64 rfl (lk hl rfl) ?_
      refine hw_top (congrArg Value.int (b01_bn b9)) ?_
      refine hm_zast (k := 4) (pc := 65) hx hb hK hM (by decide) (show p9 < 20 from (by omega)) (show bn b9 ≤ 1 from by omega) hS dX3_add_65 (fun H3 locs3 hM ho3 hS => ?_)
      have ho := ho.trans ho3
      refine lv_aload_n (pc := 66) hx hb dX3_add_66 rfl (lk hl rfl) ?_
      refine hw_get (pc := 67) hx hb hts in_X3 hown hK (hM.p0) rfl 6 (Nat.le_of_ble_eq_true rfl) (hts _ q1783) (fun x h => h) rfl dX3_add_67 ?_
      refine lv_iload_n (pc := 70) hx hb dX3_add_70 rfl (lk hl rfl) ?_
      refine lv_iload (pc := 71) hx hb dX3_add_71 (lk hl rfl) ?_
      refine hw_top (congrArg Value.int (b01_bn s9)) ?_
      refine hm_zast (k := 5) (pc := 73) hx hb hK hM (by decide) (show p9 < 20 from (by omega)) (show bn s9 ≤ 1 from by omega) hS dX3_add_73 (fun H4 locs4 hM ho4 hS => ?_)
      have ho := ho.trans ho4
      refine lv_aload_n (pc := 74) hx hb dX3_add_74 rfl (lk hl rfl) ?_
      refine hw_get (pc := 75) hx hb hts in_X3 hown hK (hM.p0) rfl 7 (Nat.le_of_ble_eq_true rfl) (hts _ q1784) (fun x h => h) rfl dX3_add_75 ?_
      refine lv_iload_n (pc := 78) hx hb dX3_add_78 rfl (lk hl rfl) ?_
      refine lv_iconst (v := nI 0) (pc := 79) hx hb dX3_add_79 (by decide) ?_
      refine hm_iast (k := 6) (pc := 80) hx hb hK hM (by decide) (show p9 < 20 from (by omega)) hS dX3_add_80 (fun H5 locs5 hM ho5 hS => ?_)
      have ho := ho.trans ho5
      refine lv_iload (pc := 81) hx hb dX3_add_81 (lk hl rfl) ?_
      have hM := (((hM.row (f := 14) (i := 4 * p9) (v := 0) (by decide)).row (f := 14) (i := 4 * p9 + 1) (v := 0) (by decide)).row (f := 14) (i := 4 * p9 + 2) (v := 0) (by decide)).row (f := 14) (i := 4 * p9 + 3) (v := 0) (by decide)
      have hw' := wf_paddS hw p9 a9 b9 s9
      have h00 : paddS S p9 a9 b9 s9 0 0 = S 0 0 := paddS_0 S p9 a9 b9 s9 (by omega)
      have h01 : paddS S p9 a9 b9 s9 0 1 = S 0 1 := paddS_0 S p9 a9 b9 s9 (by omega)
      obtain ⟨T, hT⟩ : ∃ T, T = paddS S p9 a9 b9 s9 := ⟨_, rfl⟩
      have hM := hM.eq (show _ = T from hT.symm)
      rw [← hT] at hw' h00 h01 hQ
      have hw := hw'
      refine hz_eq (tgt := 101) (pc := 83) hx hb dX3_add_83 (by decide) (fun h3 => ?_) (fun h3 => ?_)
      · rw [if_neg (by rw [h3]; simp)] at hQ
        refine lv_aload_n (pc := 101) hx hb dX3_add_101 rfl (lk hl rfl) ?_
        refine lv_aload_n (pc := 102) hx hb dX3_add_102 rfl (lk hl rfl) ?_
        refine hc_V (pc := 103) hx hb hml hown hts hK hS (m_stepMany l Γ H5 μ T th hM hw) (cwV 0 hts (lw_V q1883 q1885 qs52 q83 q1886) rfl rfl rfl (by decide +kernel) ⟨(Nat.le_of_ble_eq_true rfl), (Nat.le_of_ble_eq_true rfl)⟩) (hK.recv hM.p0 rfl) rfl hl.1 rfl (Nat.le_of_ble_eq_true rfl) dX3_add_103 ⟨by first | exact Nat.le_of_ble_eq_true rfl | (dsimp only [rmd]; omega), by first | exact Nat.le_of_ble_eq_true rfl | (dsimp only [rmd]; omega)⟩ (fun v6 H6 locs6 hq6 hS => ?_)
        obtain ⟨rfl, rfl⟩ := hq6
        refine hc_V (pc := 106) hx hb hml hown hts hK hS (m_told l Γ H5 μ T th (nI (psm T)) hM) (cwV 1 hts (lw_V q1838 q1840 qs45 q83 q1841) rfl rfl rfl (by decide +kernel) ⟨(Nat.le_of_ble_eq_true rfl), (Nat.le_of_ble_eq_true rfl)⟩) (hK.recv hM.p0 rfl) rfl hl.1 rfl (Nat.le_of_ble_eq_true rfl) dX3_add_106 ⟨by first | exact Nat.le_of_ble_eq_true rfl | (dsimp only [rmd]; omega), by first | exact Nat.le_of_ble_eq_true rfl | (dsimp only [rmd]; omega)⟩ (fun v7 H7 locs7 hq7 hS => ?_)
        obtain ⟨rfl, hM, ho7⟩ := hq7
        have ho := ho.trans ho7
        exact hr_i (pc := 109) hQ hx hb hr hlocks hS (by first | exact Nat.le_of_ble_eq_true rfl | (dsimp only [rmd]; omega)) (by first | exact Nat.le_of_ble_eq_true rfl | (dsimp only [rmd]; omega)) (⟨rfl, hM, ho⟩) dX3_add_109
      · skip
        rw [if_pos h3] at hQ
        have hM := hM.row (f := 14) (i := 4 * p9 + 0) (v := T 0 1) (by decide)
        have hw : WF (psin T p9 0) := hw.up (by omega)
        have g00 : psin T p9 0 0 0 = S 0 0 := (up2_f (by decide)).trans h00
        have g01 : psin T p9 0 0 1 = S 0 1 := (up2_f (by decide)).trans h01
        have hM := hM.eq (show _ = psin T p9 0 from rfl)
        refine lv_aload_n (pc := 86) hx hb dX3_add_86 rfl (lk hl rfl) ?_
        refine lv_iload_n (pc := 87) hx hb dX3_add_87 rfl (lk hl rfl) ?_
        refine lv_iconst (v := nI 0) (pc := 88) hx hb dX3_add_88 (by decide) ?_
        refine hc_V (pc := 89) hx hb hml hown hts hK hS (m_startsOnAll l Γ H5 μ (psin T p9 0) th p9 0 hM hw (by omega) (by omega) (by omega)) (cwV 2 hts (lw_V q1857 q1859 qs47 q83 q1860) rfl rfl rfl (by decide +kernel) ⟨(Nat.le_of_ble_eq_true rfl), (Nat.le_of_ble_eq_true rfl)⟩) (hK.recv hM.p0 rfl) rfl hl.1 rfl (Nat.le_of_ble_eq_true rfl) dX3_add_89 ⟨by first | exact Nat.le_of_ble_eq_true rfl | (dsimp only [rmd]; omega), by first | exact Nat.le_of_ble_eq_true rfl | (dsimp only [rmd]; omega)⟩ (fun v8 H8 locs8 hq8 hS => ?_)
        obtain ⟨rfl, hM, ho8⟩ := hq8
        have ho := ho.trans ho8
        refine lv_istore (pc := 92) hx hb dX3_add_92 hl (Nat.le_of_ble_eq_true rfl) rfl (fun ls hl => ?_)
        have q := kp_poA p9 0 (psin T p9 0 0 0) 0 (psin T p9 0)
        have hb0 := hw.b0
        have hw := q.2.1 hw (by omega)
        refine lv_aload_n (pc := 94) hx hb dX3_add_94 rfl (lk hl rfl) ?_
        refine hw_get (pc := 95) hx hb hts in_X3 hown hK (hM.p0) rfl 7 (Nat.le_of_ble_eq_true rfl) (hts _ q1784) (fun x h => h) rfl dX3_add_95 ?_
        refine lv_iload_n (pc := 98) hx hb dX3_add_98 rfl (lk hl rfl) ?_
        refine lv_iconst (v := nI 1) (pc := 99) hx hb dX3_add_99 (by decide) ?_
        refine hm_iast (k := 6) (pc := 100) hx hb hK hM (by decide) (show p9 < 20 from (by omega)) hS dX3_add_100 (fun H9 locs9 hM ho9 hS => ?_)
        have ho := ho.trans ho9
        have hw := hw.up (f := 6) (i := p9) (v := 1) (by omega)
        refine lv_aload_n (pc := 101) hx hb dX3_add_101 rfl (lk hl rfl) ?_
        refine lv_aload_n (pc := 102) hx hb dX3_add_102 rfl (lk hl rfl) ?_
        refine hc_V (pc := 103) hx hb hml hown hts hK hS (m_stepMany l Γ H9 μ (up2 ((poA p9 0 ((psin T p9 0) 0 0) 0 (psin T p9 0)).1) 6 p9 1) th hM hw) (cwV 0 hts (lw_V q1883 q1885 qs52 q83 q1886) rfl rfl rfl (by decide +kernel) ⟨(Nat.le_of_ble_eq_true rfl), (Nat.le_of_ble_eq_true rfl)⟩) (hK.recv hM.p0 rfl) rfl hl.1 rfl (Nat.le_of_ble_eq_true rfl) dX3_add_103 ⟨by first | exact Nat.le_of_ble_eq_true rfl | (dsimp only [rmd]; omega), by first | exact Nat.le_of_ble_eq_true rfl | (dsimp only [rmd]; omega)⟩ (fun v10 H10 locs10 hq10 hS => ?_)
        obtain ⟨rfl, rfl⟩ := hq10
        refine hc_V (pc := 106) hx hb hml hown hts hK hS (m_told l Γ H9 μ (up2 ((poA p9 0 ((psin T p9 0) 0 0) 0 (psin T p9 0)).1) 6 p9 1) th (nI (psm (up2 ((poA p9 0 ((psin T p9 0) 0 0) 0 (psin T p9 0)).1) 6 p9 1))) hM) (cwV 1 hts (lw_V q1838 q1840 qs45 q83 q1841) rfl rfl rfl (by decide +kernel) ⟨(Nat.le_of_ble_eq_true rfl), (Nat.le_of_ble_eq_true rfl)⟩) (hK.recv hM.p0 rfl) rfl hl.1 rfl (Nat.le_of_ble_eq_true rfl) dX3_add_106 ⟨by first | exact Nat.le_of_ble_eq_true rfl | (dsimp only [rmd]; omega), by first | exact Nat.le_of_ble_eq_true rfl | (dsimp only [rmd]; omega)⟩ (fun v11 H11 locs11 hq11 hS => ?_)
        obtain ⟨rfl, hM, ho11⟩ := hq11
        have ho := ho.trans ho11
        rw [g00] at *
        exact hr_i (pc := 109) hQ hx hb hr hlocks hS (by first | exact Nat.le_of_ble_eq_true rfl | (dsimp only [rmd]; omega)) (by first | exact Nat.le_of_ble_eq_true rfl | (dsimp only [rmd]; omega)) (⟨rfl, hM, ho⟩) dX3_add_109
    · skip
      rw [if_pos h2] at hQ
      refine lv_aload_n (pc := 39) hx hb dX3_add_39 rfl (lk hl rfl) ?_
      refine lv_iconst (v := nI 2) (pc := 40) hx hb dX3_add_40 (by decide) ?_
      refine hc_V (pc := 41) hx hb hml hown hts hK hS (m_refuse l Γ H μ S th (nI 2) hM) (cwV 1 hts (lw_V q1846 q1848 qs46 q83 q1849) rfl rfl rfl (by decide +kernel) ⟨(Nat.le_of_ble_eq_true rfl), (Nat.le_of_ble_eq_true rfl)⟩) (hK.recv hM.p0 rfl) rfl hl.1 rfl (Nat.le_of_ble_eq_true rfl) dX3_add_41 ⟨by first | exact Nat.le_of_ble_eq_true rfl | (dsimp only [rmd]; omega), by first | exact Nat.le_of_ble_eq_true rfl | (dsimp only [rmd]; omega)⟩ (fun v12 H12 locs12 hq12 hS => ?_)
      obtain ⟨rfl, hM, ho12⟩ := hq12
      have ho := ho.trans ho12
      exact hr_i (pc := 44) hQ hx hb hr hlocks hS (by first | exact Nat.le_of_ble_eq_true rfl | (dsimp only [rmd]; omega)) (by first | exact Nat.le_of_ble_eq_true rfl | (dsimp only [rmd]; omega)) (⟨rfl, hM, ho⟩) dX3_add_44
  refine lv_iload_n (pc := 0) hx hb dX3_add_0 rfl (lk hl rfl) ?_
  refine lv_iconst (v := nI 0) (pc := 1) hx hb dX3_add_1 (by decide) ?_
  refine lv_bipush (v := nI 19) (pc := 2) hx hb dX3_add_2 (by decide) ?_
  refine hc_S (pc := 4) hx hb hml hown hts hK hS (m_in l Γ H x (nI 0) (nI 19)) (va_cwS 3 hts (lw_S q1854 q1855 q83 q1856) rfl rfl rfl (by decide +kernel) ⟨(Nat.le_of_ble_eq_true rfl), (Nat.le_of_ble_eq_true rfl)⟩) rfl hl.1 rfl (Nat.le_of_ble_eq_true rfl) dX3_add_4 ⟨by first | exact Nat.le_of_ble_eq_true rfl | (dsimp only [rmd]; omega), by first | exact Nat.le_of_ble_eq_true rfl | (dsimp only [rmd]; omega)⟩ (fun v1 H1 locs1 hq1 hS => ?_)
  obtain ⟨rfl, rfl⟩ := hq1
  refine hz_eq (tgt := 24) (pc := 7) hx hb dX3_add_7 (by decide) (fun h1 => ?_) (fun h1 => ?_)
  · exact no (by rw [aOk, show inI x (nI 0) (nI 19) = false from h1]; simp) _ ls hS (by repeat first | exact lv_0 hl | refine lv_c (lk hl rfl) ?_)
  · skip
    refine lv_iload_n (pc := 10) hx hb dX3_add_10 rfl (lk hl rfl) ?_
    refine lv_bipush (v := nI 10) (pc := 11) hx hb dX3_add_11 (by decide) ?_
    refine lv_icmp_eq (tgt := 24) (pc := 13) hx hb dX3_add_13 (by decide) (fun h2 => ?_) (fun h2 => ?_)
    · exact no (by rw [aOk, show decide (x ≠ nI 10) = false from decide_eq_false (fun q => q h2)]; simp) _ ls hS (by repeat first | exact lv_0 hl | refine lv_c (lk hl rfl) ?_)
    · skip
      refine lv_iload_n (pc := 16) hx hb dX3_add_16 rfl (lk hl rfl) ?_
      refine hz_ne (tgt := 30) (pc := 17) hx hb dX3_add_17 (by decide) (fun h3 => ?_) (fun h3 => ?_)
      · exact yes (by rw [aOk, show inI x (nI 0) (nI 19) = true from h1, decide_eq_true (show x ≠ nI 10 from h2), h3]; rfl) _ ls hS (by repeat first | exact lv_0 hl | refine lv_c (lk hl rfl) ?_)
      · skip
        refine lv_iload_n (pc := 20) hx hb dX3_add_20 rfl (lk hl rfl) ?_
        refine hz_ne (tgt := 30) (pc := 21) hx hb dX3_add_21 (by decide) (fun h4 => ?_) (fun h4 => ?_)
        · exact yes (by rw [aOk, show inI x (nI 0) (nI 19) = true from h1, decide_eq_true (show x ≠ nI 10 from h2), h4]; simp) _ ls hS (by repeat first | exact lv_0 hl | refine lv_c (lk hl rfl) ?_)
        · skip
          exact no (by rw [aOk, h3, h4]; simp) _ ls hS (by repeat first | exact lv_0 hl | refine lv_c (lk hl rfl) ?_)
def prm (p : Nat) : Nat → Sx → Sx
  | 0, S => S
  | n + 1, S => prm p n (pforget p n 8 0 (if (S 6 p).testBit n = true then poU p n (S 0 0) S else S))
def oRemove (S : Sx) (x : Int32) : Ox := if isP S x = true then (up2 (up2 (prm (tn x) 4 S) 2 (tn x) 0) 6 (tn x) 0, 0, nI (prm (tn x) 4 S 0 1 - S 0 1)) else (S, 1, nI 0)
set_option maxHeartbeats 8000000 in
theorem m_remove (l : Launch) (Γ : Cx) (H : Heap) (μ : Nat → Nat) (S : Sx) (th : Int32) (x : Int32) (hM : MW Γ H μ S th) (hw : WF S) (hr9 : S 0 1 + 32 ≤ 40000) : Mt l Γ yX3_remove (ws_ yX3_remove cX3_remove 4 (some .int)) 6 0 0 [.ref (μ 0), .int x] H (MO Γ μ H (oRemove S x)) := by
  refine mt_of (by decide +kernel) (Nat.le_of_ble_eq_true rfl) ?_
  intro p e s m args below meth c ls Q hx hb hr hlocks hml hts hown hnm hK hS hl hQ
  have ho : Off (Mf μ) H H := Off.rf
  refine lv_aload_n (pc := 0) hx hb dX3_remove_0 rfl (lk hl rfl) ?_
  refine lv_iload_n (pc := 1) hx hb dX3_remove_1 rfl (lk hl rfl) ?_
  refine hc_V (pc := 2) hx hb hml hown hts hK hS (m_isStepAt l Γ H μ S th x hM hw) (cwV 1 hts (lw_V q1891 q1893 qs53 q83 q1894) rfl rfl rfl (by decide +kernel) ⟨(Nat.le_of_ble_eq_true rfl), (Nat.le_of_ble_eq_true rfl)⟩) (hK.recv hM.p0 rfl) rfl hl.1 rfl (Nat.le_of_ble_eq_true rfl) dX3_remove_2 ⟨by first | exact Nat.le_of_ble_eq_true rfl | (dsimp only [rmd]; omega), by first | exact Nat.le_of_ble_eq_true rfl | (dsimp only [rmd]; omega)⟩ (fun v9 H9 locs9 hq9 hS => ?_)
  obtain ⟨b, rfl, rfl, q1, q0⟩ := hq9
  refine hz_ne (tgt := 14) (pc := 5) hx hb dX3_remove_5 (by decide) (fun h1 => ?_) (fun h1 => ?_)
  · obtain ⟨p9, hp9, rfl, e2, hP⟩ := stepAt_t q1 h1
    rw [oRemove, if_pos hP, tn_nI (by omega)] at hQ
    refine lv_aload_n (pc := 14) hx hb dX3_remove_14 rfl (lk hl rfl) ?_
    refine hw_get (pc := 15) hx hb hts in_X3 hown hK (hM.p0) rfl 14 (Nat.le_of_ble_eq_true rfl) (hts _ q1791) (fun x h => h) rfl dX3_remove_15 ?_
    refine lv_istore_n (pc := 18) hx hb dX3_remove_18 rfl hl (Nat.le_of_ble_eq_true rfl) rfl (fun ls hl => ?_)
    refine lv_iconst (v := nI 3) (pc := 19) hx hb dX3_remove_19 (by decide) ?_
    refine lv_istore_n (pc := 20) hx hb dX3_remove_20 rfl hl (Nat.le_of_ble_eq_true rfl) rfl (fun ls hl => ?_)
    have L : ∀ (u : Nat) (S1 : Sx) (H' : Heap) (locs : List Loc) (ls : Array Slot), u ≤ 4 → MW Γ H' μ S1 th → WF S1 → S1 0 1 + 8 * u ≤ 40000 → S 0 1 ≤ S1 0 1 → Off (Mf μ) H H' → va_S (Gz Γ) s.heap H' locs → lv_has ls 4 [(0, .ref (μ 0)), (1, .int (nI p9)), (2, .int (nI (S 0 1))), (3, .int (nI u - 1))] → prm p9 u S1 = prm p9 4 S → W p l e (rmd 6 0 0) s m args below meth c H' locs 0 0 Q (F0 m 21 ls []) := by
      intro u
      induction u with
      | zero =>
        intro S1 H' locs ls _ hM hw hr1 hg ho hS hl he
        rw [prm] at he
        rw [← he] at hQ
        refine lv_iload_n (pc := 21) hx hb dX3_remove_21 rfl (lk hl rfl) ?_
        refine hm_z_lt (tgt := 56) (pc := 22) hx hb dX3_remove_22 (by decide) (by omega) (fun _ => ?_) (fun hn => absurd hn (by omega))
        have hb01 := hw.b01
        refine lv_aload_n (pc := 56) hx hb dX3_remove_56 rfl (lk hl rfl) ?_
        refine hw_get (pc := 57) hx hb hts in_X3 hown hK (hM.p0) rfl 3 (Nat.le_of_ble_eq_true rfl) (hts _ q1780) (fun x h => h) rfl dX3_remove_57 ?_
        refine lv_iload_n (pc := 60) hx hb dX3_remove_60 rfl (lk hl rfl) ?_
        refine lv_iconst (v := nI 0) (pc := 61) hx hb dX3_remove_61 (by decide) ?_
        refine hm_zast (k := 2) (pc := 62) hx hb hK hM (by decide) (show p9 < 20 from (by omega)) (show 0 ≤ 1 from by omega) hS dX3_remove_62 (fun H1 locs1 hM ho1 hS => ?_)
        have ho := ho.trans ho1
        refine lv_aload_n (pc := 63) hx hb dX3_remove_63 rfl (lk hl rfl) ?_
        refine hw_get (pc := 64) hx hb hts in_X3 hown hK (hM.p0) rfl 7 (Nat.le_of_ble_eq_true rfl) (hts _ q1784) (fun x h => h) rfl dX3_remove_64 ?_
        refine lv_iload_n (pc := 67) hx hb dX3_remove_67 rfl (lk hl rfl) ?_
        refine lv_iconst (v := nI 0) (pc := 68) hx hb dX3_remove_68 (by decide) ?_
        refine hm_iast (k := 6) (pc := 69) hx hb hK hM (by decide) (show p9 < 20 from (by omega)) hS dX3_remove_69 (fun H2 locs2 hM ho2 hS => ?_)
        have ho := ho.trans ho2
        refine lv_aload_n (pc := 70) hx hb dX3_remove_70 rfl (lk hl rfl) ?_
        refine lv_aload_n (pc := 71) hx hb dX3_remove_71 rfl (lk hl rfl) ?_
        refine hw_get (pc := 72) hx hb hts in_X3 hown hK (hM.p0) rfl 14 (Nat.le_of_ble_eq_true rfl) (hts _ q1791) (fun x h => h) rfl dX3_remove_72 ?_
        rw [up2_f (by decide), up2_f (by decide)]
        refine lv_iload_n (pc := 75) hx hb dX3_remove_75 rfl (lk hl rfl) ?_
        refine lv_isub (pc := 76) hx hb dX3_remove_76 ?_
        refine hw_top (congrArg Value.int (show _ = nI (S1 0 1 - (S 0 1)) from n_sub hg)) ?_
        refine hc_V (pc := 77) hx hb hml hown hts hK hS (m_told l Γ H2 μ (up2 (up2 S1 2 p9 0) 6 p9 0) th (nI (S1 0 1 - (S 0 1))) hM) (cwV 1 hts (lw_V q1838 q1840 qs45 q83 q1841) rfl rfl rfl (by decide +kernel) ⟨(Nat.le_of_ble_eq_true rfl), (Nat.le_of_ble_eq_true rfl)⟩) (hK.recv hM.p0 rfl) rfl hl.1 rfl (Nat.le_of_ble_eq_true rfl) dX3_remove_77 ⟨by first | exact Nat.le_of_ble_eq_true rfl | (dsimp only [rmd]; omega), by first | exact Nat.le_of_ble_eq_true rfl | (dsimp only [rmd]; omega)⟩ (fun v3 H3 locs3 hq3 hS => ?_)
        obtain ⟨rfl, hM, ho3⟩ := hq3
        have ho := ho.trans ho3
        exact hr_i (pc := 80) hQ hx hb hr hlocks hS (by first | exact Nat.le_of_ble_eq_true rfl | (dsimp only [rmd]; omega)) (by first | exact Nat.le_of_ble_eq_true rfl | (dsimp only [rmd]; omega)) (⟨rfl, hM, ho⟩) dX3_remove_80
      | succ u ih =>
        intro S1 H' locs ls hu hM hw hr1 hg ho hS hl he
        have hb6 := hw.b6 p9
        have hb0 := hw.b0
        rw [prm] at he
        rw [nI_pred] at hl
        refine lv_iload_n (pc := 21) hx hb dX3_remove_21 rfl (lk hl rfl) ?_
        refine lv_if_lt (tgt := 56) (pc := 22) hx hb dX3_remove_22 (by decide) (fun q => absurd q (nI_pos (by omega))) (fun _ => ?_)
        refine lv_aload_n (pc := 25) hx hb dX3_remove_25 rfl (lk hl rfl) ?_
        refine hw_get (pc := 26) hx hb hts in_X3 hown hK (hM.p0) rfl 7 (Nat.le_of_ble_eq_true rfl) (hts _ q1784) (fun x h => h) rfl dX3_remove_26 ?_
        refine lv_iload_n (pc := 29) hx hb dX3_remove_29 rfl (lk hl rfl) ?_
        refine hm_iald (k := 6) (pc := 30) hx hb hK hM (by decide) (show p9 < 20 from (by omega)) dX3_remove_30 ?_
        refine lv_iload_n (pc := 31) hx hb dX3_remove_31 rfl (lk hl rfl) ?_
        refine hc_S (pc := 32) hx hb hml hown hts hK hS (m_has l Γ H' (S1 6 p9) u (by omega) (by omega)) (va_cwS 2 hts (lw_S q1873 q1874 q83 q1875) rfl rfl rfl (by decide +kernel) ⟨(Nat.le_of_ble_eq_true rfl), (Nat.le_of_ble_eq_true rfl)⟩) rfl hl.1 rfl (Nat.le_of_ble_eq_true rfl) dX3_remove_32 ⟨by first | exact Nat.le_of_ble_eq_true rfl | (dsimp only [rmd]; omega), by first | exact Nat.le_of_ble_eq_true rfl | (dsimp only [rmd]; omega)⟩ (fun v4 H4 locs4 hq4 hS => ?_)
        obtain ⟨rfl, rfl⟩ := hq4
        refine hz_eq (tgt := 44) (pc := 35) hx hb dX3_remove_35 (by decide) (fun h2 => ?_) (fun h2 => ?_)
        · rw [if_neg (by rw [h2]; simp)] at he
          refine lv_aload_n (pc := 44) hx hb dX3_remove_44 rfl (lk hl rfl) ?_
          refine lv_iload_n (pc := 45) hx hb dX3_remove_45 rfl (lk hl rfl) ?_
          refine lv_iload_n (pc := 46) hx hb dX3_remove_46 rfl (lk hl rfl) ?_
          refine hc_V (pc := 47) hx hb hml hown hts hK hS (m_forgets l Γ H' μ S1 th p9 u hM (by omega) (by omega)) (cwV 2 hts (lw_V q1899 q1901 qs55 q83 q1902) rfl rfl rfl (by decide +kernel) ⟨(Nat.le_of_ble_eq_true rfl), (Nat.le_of_ble_eq_true rfl)⟩) (hK.recv hM.p0 rfl) rfl hl.1 rfl (Nat.le_of_ble_eq_true rfl) dX3_remove_47 ⟨by first | exact Nat.le_of_ble_eq_true rfl | (dsimp only [rmd]; omega), by first | exact Nat.le_of_ble_eq_true rfl | (dsimp only [rmd]; omega)⟩ (fun v5 H5 locs5 hq5 hS => ?_)
          obtain ⟨rfl, hM, ho5⟩ := hq5
          have ho := ho.trans ho5
          refine hw_iinc (v := nI u - 1) (pc := 50) hx hb dX3_remove_50 hl (lk hl rfl) (n_dec _) (Nat.le_of_ble_eq_true rfl) (fun ls hl => ?_)
          refine lv_goto (tgt := 21) (pc := 53) hx hb dX3_remove_53 (by decide) ?_
          have q1 := pforget_f p9 u 8 0 S1 0 1 (by decide)
          exact ih _ _ _ _ (by omega) hM (wf_pforget p9 u 8 0 _ hw) (by omega) (by omega) ho hS (by repeat first | exact lv_0 hl | refine lv_c (lk hl rfl) ?_) he
        · skip
          rw [if_pos h2] at he
          refine lv_aload_n (pc := 38) hx hb dX3_remove_38 rfl (lk hl rfl) ?_
          refine lv_iload_n (pc := 39) hx hb dX3_remove_39 rfl (lk hl rfl) ?_
          refine lv_iload_n (pc := 40) hx hb dX3_remove_40 rfl (lk hl rfl) ?_
          refine hc_V (pc := 41) hx hb hml hown hts hK hS (m_stopsOnAll l Γ H' μ S1 th p9 u hM hw (by omega) (by omega) (by omega)) (cwV 2 hts (lw_V q1895 q1897 qs54 q83 q1898) rfl rfl rfl (by decide +kernel) ⟨(Nat.le_of_ble_eq_true rfl), (Nat.le_of_ble_eq_true rfl)⟩) (hK.recv hM.p0 rfl) rfl hl.1 rfl (Nat.le_of_ble_eq_true rfl) dX3_remove_41 ⟨by first | exact Nat.le_of_ble_eq_true rfl | (dsimp only [rmd]; omega), by first | exact Nat.le_of_ble_eq_true rfl | (dsimp only [rmd]; omega)⟩ (fun v6 H6 locs6 hq6 hS => ?_)
          obtain ⟨rfl, hM, ho6⟩ := hq6
          have ho := ho.trans ho6
          have q := kp_poU p9 u (S1 0 0) S1
          have hw' := q.2.1 hw (by omega)
          have q3 := q.2.2
          refine lv_aload_n (pc := 44) hx hb dX3_remove_44 rfl (lk hl rfl) ?_
          refine lv_iload_n (pc := 45) hx hb dX3_remove_45 rfl (lk hl rfl) ?_
          refine lv_iload_n (pc := 46) hx hb dX3_remove_46 rfl (lk hl rfl) ?_
          refine hc_V (pc := 47) hx hb hml hown hts hK hS (m_forgets l Γ H6 μ (poU p9 u (S1 0 0) S1) th p9 u hM (by omega) (by omega)) (cwV 2 hts (lw_V q1899 q1901 qs55 q83 q1902) rfl rfl rfl (by decide +kernel) ⟨(Nat.le_of_ble_eq_true rfl), (Nat.le_of_ble_eq_true rfl)⟩) (hK.recv hM.p0 rfl) rfl hl.1 rfl (Nat.le_of_ble_eq_true rfl) dX3_remove_47 ⟨by first | exact Nat.le_of_ble_eq_true rfl | (dsimp only [rmd]; omega), by first | exact Nat.le_of_ble_eq_true rfl | (dsimp only [rmd]; omega)⟩ (fun v7 H7 locs7 hq7 hS => ?_)
          obtain ⟨rfl, hM, ho7⟩ := hq7
          have ho := ho.trans ho7
          refine hw_iinc (v := nI u - 1) (pc := 50) hx hb dX3_remove_50 hl (lk hl rfl) (n_dec _) (Nat.le_of_ble_eq_true rfl) (fun ls hl => ?_)
          refine lv_goto (tgt := 21) (pc := 53) hx hb dX3_remove_53 (by decide) ?_
          have q1 := pforget_f p9 u 8 0 (poU p9 u (S1 0 0) S1) 0 1 (by decide)
          exact ih _ _ _ _ (by omega) hM (wf_pforget p9 u 8 0 _ hw') (by omega) (by omega) ho hS (by repeat first | exact lv_0 hl | refine lv_c (lk hl rfl) ?_) he
    exact L 4 S _ _ _ (by omega) hM hw (by omega) (by omega) ho hS (lv_c (lk hl rfl) (lv_c (lk hl rfl) (lv_c (lk hl rfl) (lv_c (lk hl rfl) (lv_0 hl))))) rfl
  · skip
    rw [oRemove, if_neg (stepAt_f q0 h1)] at hQ
    refine lv_aload_n (pc := 8) hx hb dX3_remove_8 rfl (lk hl rfl) ?_
    refine lv_iconst (v := nI 1) (pc := 9) hx hb dX3_remove_9 (by decide) ?_
    refine hc_V (pc := 10) hx hb hml hown hts hK hS (m_refuse l Γ H μ S th (nI 1) hM) (cwV 1 hts (lw_V q1846 q1848 qs46 q83 q1849) rfl rfl rfl (by decide +kernel) ⟨(Nat.le_of_ble_eq_true rfl), (Nat.le_of_ble_eq_true rfl)⟩) (hK.recv hM.p0 rfl) rfl hl.1 rfl (Nat.le_of_ble_eq_true rfl) dX3_remove_10 ⟨by first | exact Nat.le_of_ble_eq_true rfl | (dsimp only [rmd]; omega), by first | exact Nat.le_of_ble_eq_true rfl | (dsimp only [rmd]; omega)⟩ (fun v8 H8 locs8 hq8 hS => ?_)
    obtain ⟨rfl, hM, ho8⟩ := hq8
    have ho := ho.trans ho8
    exact hr_i (pc := 13) hQ hx hb hr hlocks hS (by first | exact Nat.le_of_ble_eq_true rfl | (dsimp only [rmd]; omega)) (by first | exact Nat.le_of_ble_eq_true rfl | (dsimp only [rmd]; omega)) (⟨rfl, hM, ho⟩) dX3_remove_13
