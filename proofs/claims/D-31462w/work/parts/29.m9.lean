set_option maxRecDepth 100000
def lowC (v : Nat) : Nat := if v.testBit 0 = false then 0 else if v.testBit 1 = false then 1 else if v.testBit 2 = false then 2 else 3
theorem lowC_lt (v : Nat) : lowC v < 4 := by unfold lowC; split; omega; split; omega; split <;> omega
theorem lowC_f : ∀ v, v < 16 → ∀ i, i < 4 → i ≤ lowC v → v.testBit i = false → i = lowC v := by decide +kernel
theorem lowC_t : ∀ v, v < 15 → ∀ i, i < 4 → i ≤ lowC v → v.testBit i = true → i + 1 ≤ lowC v := by decide +kernel
def oInstance (S : Sx) (x : Int32) : Ox :=
  if isP S x = true then
    if S 5 (tn x) ≠ 0 ∨ S 6 (tn x) = 15 then (S, 2, nI 0)
    else if (poA (tn x) (lowC (S 6 (tn x))) (S 0 0) 0 (psin S (tn x) (lowC (S 6 (tn x))))).2 = true then (up2 (poA (tn x) (lowC (S 6 (tn x))) (S 0 0) 0 (psin S (tn x) (lowC (S 6 (tn x))))).1 6 (tn x) (S 6 (tn x) ||| 2 ^ lowC (S 6 (tn x))), 0, nI (lowC (S 6 (tn x))))
    else ((poA (tn x) (lowC (S 6 (tn x))) (S 0 0) 0 (psin S (tn x) (lowC (S 6 (tn x))))).1, 0, nI 0 - 1)
  else (S, 1, nI 0)
set_option maxHeartbeats 8000000 in
theorem m_instance (l : Launch) (Γ : Cx) (H : Heap) (μ : Nat → Nat) (S : Sx) (th : Int32) (x : Int32) (hM : MW Γ H μ S th) (hw : WF S) (hr9 : S 0 1 + 16 ≤ 40000) : Mt l Γ yX3_instance (ws_ yX3_instance cX3_instance 3 (some .int)) 6 0 0 [.ref (μ 0), .int x] H (MO Γ μ H (oInstance S x)) := by
  refine mt_of (by decide +kernel) (Nat.le_of_ble_eq_true rfl) ?_
  intro p e s m args below meth c ls Q hx hb hr hlocks hml hts hown hnm hK hS hl hQ
  have ho : Off (Mf μ) H H := Off.rf
  have hb0 := hw.b0
  refine lv_aload_n (pc := 0) hx hb dX3_instance_0 rfl (lk hl rfl) ?_
  refine lv_iload_n (pc := 1) hx hb dX3_instance_1 rfl (lk hl rfl) ?_
  refine hc_V (pc := 2) hx hb hml hown hts hK hS (m_isStepAt l Γ H μ S th x hM hw) (cwV 1 hts (lw_V q1891 q1893 qs53 q83 q1894) rfl rfl rfl (by decide +kernel) ⟨(Nat.le_of_ble_eq_true rfl), (Nat.le_of_ble_eq_true rfl)⟩) (hK.recv hM.p0 rfl) rfl hl.1 rfl (Nat.le_of_ble_eq_true rfl) dX3_instance_2 ⟨by first | exact Nat.le_of_ble_eq_true rfl | (dsimp only [rmd]; omega), by first | exact Nat.le_of_ble_eq_true rfl | (dsimp only [rmd]; omega)⟩ (fun v9 H9 locs9 hq9 hS => ?_)
  obtain ⟨b, rfl, rfl, q1, q0⟩ := hq9
  refine hz_ne (tgt := 14) (pc := 5) hx hb dX3_instance_5 (by decide) (fun h1 => ?_) (fun h1 => ?_)
  · obtain ⟨p9, hp9, rfl, e2, hP⟩ := stepAt_t q1 h1
    rw [oInstance, if_pos hP, tn_nI (by omega)] at hQ
    have no : (S 5 p9 ≠ 0 ∨ S 6 p9 = 15) → ∀ (locs : List Loc) (ls : Array Slot), va_S (Gz Γ) s.heap H locs → lv_has ls 3 [(0, .ref (μ 0))] → W p l e (rmd 6 0 0) s m args below meth c H locs 0 0 Q (F0 m 34 ls []) := by
      intro hn locs ls hS hl
      rw [if_pos hn] at hQ
      refine lv_aload_n (pc := 34) hx hb dX3_instance_34 rfl (lk hl rfl) ?_
      refine lv_iconst (v := nI 2) (pc := 35) hx hb dX3_instance_35 (by decide) ?_
      refine hc_V (pc := 36) hx hb hml hown hts hK hS (m_refuse l Γ H μ S th (nI 2) hM) (cwV 1 hts (lw_V q1846 q1848 qs46 q83 q1849) rfl rfl rfl (by decide +kernel) ⟨(Nat.le_of_ble_eq_true rfl), (Nat.le_of_ble_eq_true rfl)⟩) (hK.recv hM.p0 rfl) rfl hl.1 rfl (Nat.le_of_ble_eq_true rfl) dX3_instance_36 ⟨by first | exact Nat.le_of_ble_eq_true rfl | (dsimp only [rmd]; omega), by first | exact Nat.le_of_ble_eq_true rfl | (dsimp only [rmd]; omega)⟩ (fun v1 H1 locs1 hq1 hS => ?_)
      obtain ⟨rfl, hM, ho1⟩ := hq1
      have ho := ho.trans ho1
      exact hr_i (pc := 39) hQ hx hb hr hlocks hS (by first | exact Nat.le_of_ble_eq_true rfl | (dsimp only [rmd]; omega)) (by first | exact Nat.le_of_ble_eq_true rfl | (dsimp only [rmd]; omega)) (⟨rfl, hM, ho⟩) dX3_instance_39
    refine lv_aload_n (pc := 14) hx hb dX3_instance_14 rfl (lk hl rfl) ?_
    refine hw_get (pc := 15) hx hb hts in_X3 hown hK (hM.p0) rfl 6 (Nat.le_of_ble_eq_true rfl) (hts _ q1783) (fun x h => h) rfl dX3_instance_15 ?_
    refine lv_iload_n (pc := 18) hx hb dX3_instance_18 rfl (lk hl rfl) ?_
    refine hm_zald (k := 5) (pc := 19) hx hb hK hM (by decide) (show p9 < 20 from (by omega)) dX3_instance_19 ?_
    have := hw.b5 p9
    refine hn_z_ne (tgt := 34) (pc := 20) hx hb dX3_instance_20 (by decide) (by omega) (fun h2 => ?_) (fun h2 => ?_)
    · exact no (Or.inl h2) _ ls hS (by repeat first | exact lv_0 hl | refine lv_c (lk hl rfl) ?_)
    · skip
      refine lv_aload_n (pc := 23) hx hb dX3_instance_23 rfl (lk hl rfl) ?_
      refine hw_get (pc := 24) hx hb hts in_X3 hown hK (hM.p0) rfl 7 (Nat.le_of_ble_eq_true rfl) (hts _ q1784) (fun x h => h) rfl dX3_instance_24 ?_
      refine lv_iload_n (pc := 27) hx hb dX3_instance_27 rfl (lk hl rfl) ?_
      refine hm_iald (k := 6) (pc := 28) hx hb hK hM (by decide) (show p9 < 20 from (by omega)) dX3_instance_28 ?_
      have := hw.b6 p9
      refine lv_bipush (v := nI 15) (pc := 29) hx hb dX3_instance_29 (by decide) ?_
      refine hn_ne (tgt := 40) (pc := 31) hx hb dX3_instance_31 (by decide) (by omega) (by omega) (fun h3 => ?_) (fun h3 => ?_)
      · have h6 := hw.b6 p9
        rw [if_neg (by omega)] at hQ
        obtain ⟨i, hi⟩ : ∃ i, i = lowC (S 6 p9) := ⟨_, rfl⟩
        have hi4 := lowC_lt (S 6 p9)
        rw [← hi] at hQ hi4
        refine lv_iconst (v := nI 0) (pc := 40) hx hb dX3_instance_40 (by decide) ?_
        refine lv_istore_n (pc := 41) hx hb dX3_instance_41 rfl hl (Nat.le_of_ble_eq_true rfl) rfl (fun ls hl => ?_)
        have L : ∀ (n k : Nat) (locs : List Loc) (ls : Array Slot), k + n = i → va_S (Gz Γ) s.heap H locs → lv_has ls 3 [(0, .ref (μ 0)), (1, .int (nI p9)), (2, .int (nI k))] → (∀ (locs : List Loc) (ls : Array Slot), va_S (Gz Γ) s.heap H locs → lv_has ls 3 [(0, .ref (μ 0)), (1, .int (nI p9)), (2, .int (nI i))] → W p l e (rmd 6 0 0) s m args below meth c H locs 0 0 Q (F0 m 61 ls [])) → W p l e (rmd 6 0 0) s m args below meth c H locs 0 0 Q (F0 m 42 ls []) := by
          intro n
          induction n with
          | zero =>
            intro k locs ls hk hS hl kk
            refine lv_aload_n (pc := 42) hx hb dX3_instance_42 rfl (lk hl rfl) ?_
            refine hw_get (pc := 43) hx hb hts in_X3 hown hK (hM.p0) rfl 7 (Nat.le_of_ble_eq_true rfl) (hts _ q1784) (fun x h => h) rfl dX3_instance_43 ?_
            refine lv_iload_n (pc := 46) hx hb dX3_instance_46 rfl (lk hl rfl) ?_
            refine hm_iald (k := 6) (pc := 47) hx hb hK hM (by decide) (show p9 < 20 from (by omega)) dX3_instance_47 ?_
            have := hw.b6 p9
            refine lv_iload_n (pc := 48) hx hb dX3_instance_48 rfl (lk hl rfl) ?_
            refine hc_S (pc := 49) hx hb hml hown hts hK hS (m_has l Γ H (S 6 p9) k (by omega) (by omega)) (va_cwS 2 hts (lw_S q1873 q1874 q83 q1875) rfl rfl rfl (by decide +kernel) ⟨(Nat.le_of_ble_eq_true rfl), (Nat.le_of_ble_eq_true rfl)⟩) rfl hl.1 rfl (Nat.le_of_ble_eq_true rfl) dX3_instance_49 ⟨by first | exact Nat.le_of_ble_eq_true rfl | (dsimp only [rmd]; omega), by first | exact Nat.le_of_ble_eq_true rfl | (dsimp only [rmd]; omega)⟩ (fun v2 H2 locs2 hq2 hS => ?_)
            obtain ⟨rfl, rfl⟩ := hq2
            refine hz_eq (tgt := 61) (pc := 52) hx hb dX3_instance_52 (by decide) (fun h4 => ?_) (fun h4 => ?_)
            · exact kk _ ls hS (by have e : k = i := by omega
                                   rw [← e]; exact (lv_c (lk hl rfl) (lv_c (lk hl rfl) (lv_c (lk hl rfl) (lv_0 hl)))))
            · skip
              exact absurd (lowC_t _ (by omega) k (by omega) (by omega) h4) (by omega)
          | succ n ih =>
            intro k locs ls hk hS hl kk
            refine lv_aload_n (pc := 42) hx hb dX3_instance_42 rfl (lk hl rfl) ?_
            refine hw_get (pc := 43) hx hb hts in_X3 hown hK (hM.p0) rfl 7 (Nat.le_of_ble_eq_true rfl) (hts _ q1784) (fun x h => h) rfl dX3_instance_43 ?_
            refine lv_iload_n (pc := 46) hx hb dX3_instance_46 rfl (lk hl rfl) ?_
            refine hm_iald (k := 6) (pc := 47) hx hb hK hM (by decide) (show p9 < 20 from (by omega)) dX3_instance_47 ?_
            have := hw.b6 p9
            refine lv_iload_n (pc := 48) hx hb dX3_instance_48 rfl (lk hl rfl) ?_
            refine hc_S (pc := 49) hx hb hml hown hts hK hS (m_has l Γ H (S 6 p9) k (by omega) (by omega)) (va_cwS 2 hts (lw_S q1873 q1874 q83 q1875) rfl rfl rfl (by decide +kernel) ⟨(Nat.le_of_ble_eq_true rfl), (Nat.le_of_ble_eq_true rfl)⟩) rfl hl.1 rfl (Nat.le_of_ble_eq_true rfl) dX3_instance_49 ⟨by first | exact Nat.le_of_ble_eq_true rfl | (dsimp only [rmd]; omega), by first | exact Nat.le_of_ble_eq_true rfl | (dsimp only [rmd]; omega)⟩ (fun v3 H3 locs3 hq3 hS => ?_)
            obtain ⟨rfl, rfl⟩ := hq3
            refine hz_eq (tgt := 61) (pc := 52) hx hb dX3_instance_52 (by decide) (fun h4 => ?_) (fun h4 => ?_)
            · exact absurd (lowC_f _ (by omega) k (by omega) (by omega) h4) (by omega)
            · skip
              refine hw_iinc (v := nI (k + 1)) (pc := 55) hx hb dX3_instance_55 hl (lk hl rfl) (n_inc _ 1) (Nat.le_of_ble_eq_true rfl) (fun ls hl => ?_)
              refine lv_goto (tgt := 42) (pc := 58) hx hb dX3_instance_58 (by decide) ?_
              exact ih (k + 1) _ ls (by omega) hS (lv_c (lk hl rfl) (lv_c (lk hl rfl) (lv_c (lk hl rfl) (lv_0 hl)))) kk
        refine L i 0 _ ls (by omega) hS (by repeat first | exact lv_0 hl | refine lv_c (lk hl rfl) ?_) (fun locs ls hS hl => ?_)
        have hM := hM.row (f := 14) (i := 4 * p9 + i) (v := S 0 1) (by decide)
        have hw' : WF (psin S p9 i) := hw.up (by omega)
        have g00 : psin S p9 i 0 0 = S 0 0 := up2_f (by decide)
        have g01 : psin S p9 i 0 1 = S 0 1 := up2_f (by decide)
        have g6 : psin S p9 i 6 p9 = S 6 p9 := up2_f (by decide)
        have hM := hM.eq (show _ = psin S p9 i from rfl)
        have hw := hw'
        refine lv_aload_n (pc := 61) hx hb dX3_instance_61 rfl (lk hl rfl) ?_
        refine lv_iload_n (pc := 62) hx hb dX3_instance_62 rfl (lk hl rfl) ?_
        refine lv_iload_n (pc := 63) hx hb dX3_instance_63 rfl (lk hl rfl) ?_
        refine hc_V (pc := 64) hx hb hml hown hts hK hS (m_startsOnAll l Γ H μ (psin S p9 i) th p9 i hM hw (by omega) (by omega) (by omega)) (cwV 2 hts (lw_V q1857 q1859 qs47 q83 q1860) rfl rfl rfl (by decide +kernel) ⟨(Nat.le_of_ble_eq_true rfl), (Nat.le_of_ble_eq_true rfl)⟩) (hK.recv hM.p0 rfl) rfl hl.1 rfl (Nat.le_of_ble_eq_true rfl) dX3_instance_64 ⟨by first | exact Nat.le_of_ble_eq_true rfl | (dsimp only [rmd]; omega), by first | exact Nat.le_of_ble_eq_true rfl | (dsimp only [rmd]; omega)⟩ (fun v4 H4 locs4 hq4 hS => ?_)
        obtain ⟨rfl, hM, ho4⟩ := hq4
        have ho := ho.trans ho4
        have q := kp_poA p9 i (psin S p9 i 0 0) 0 (psin S p9 i)
        have q6 := (q.row (f := 6) (by decide) (by decide) (by decide))
        have e6 : (poA p9 i (psin S p9 i 0 0) 0 (psin S p9 i)).1 6 p9 = S 6 p9 := by rw [q6, g6]
        have hp2 : 2 ^ i ≤ 2 ^ 3 := Nat.pow_le_pow_right (by decide) (by omega)
        rw [g00] at e6
        refine hz_ne (tgt := 76) (pc := 67) hx hb dX3_instance_67 (by decide) (fun h5 => ?_) (fun h5 => ?_)
        · rw [g00] at h5
          rw [if_pos h5] at hQ
          refine lv_aload_n (pc := 76) hx hb dX3_instance_76 rfl (lk hl rfl) ?_
          refine hw_get (pc := 77) hx hb hts in_X3 hown hK (hM.p0) rfl 7 (Nat.le_of_ble_eq_true rfl) (hts _ q1784) (fun x h => h) rfl dX3_instance_77 ?_
          refine lv_iload_n (pc := 80) hx hb dX3_instance_80 rfl (lk hl rfl) ?_
          refine lv_dup2_11 (pc := 81) hx hb dX3_instance_81 rfl rfl ?_
          refine hm_iald (k := 6) (pc := 82) hx hb hK hM (by decide) (show p9 < 20 from (by omega)) dX3_instance_82 ?_
          rw [g00] at *
          rw [e6]
          refine lv_iconst (v := nI 1) (pc := 83) hx hb dX3_instance_83 (by decide) ?_
          refine lv_iload_n (pc := 84) hx hb dX3_instance_84 rfl (lk hl rfl) ?_
          refine lv_ishl (pc := 85) hx hb dX3_instance_85 ?_
          refine hw_top (congrArg Value.int (show _ = nI (1 * 2 ^ i) from n_shl (by omega) (by omega) )) ?_
          refine lv_ior (pc := 86) hx hb dX3_instance_86 ?_
          refine hw_top (congrArg Value.int (show _ = nI ((S 6 p9) ||| (1 * 2 ^ i)) from n_or _ _ (by omega) (by omega))) ?_
          refine hm_iast (k := 6) (pc := 87) hx hb hK hM (by decide) (show p9 < 20 from (by omega)) hS dX3_instance_87 (fun H5 locs5 hM ho5 hS => ?_)
          have ho := ho.trans ho5
          refine lv_aload_n (pc := 88) hx hb dX3_instance_88 rfl (lk hl rfl) ?_
          refine lv_iload_n (pc := 89) hx hb dX3_instance_89 rfl (lk hl rfl) ?_
          refine hc_V (pc := 90) hx hb hml hown hts hK hS (m_told l Γ H5 μ (up2 ((poA p9 i (S 0 0) 0 (psin S p9 i)).1) 6 p9 ((S 6 p9) ||| (1 * 2 ^ i))) th (nI i) hM) (cwV 1 hts (lw_V q1838 q1840 qs45 q83 q1841) rfl rfl rfl (by decide +kernel) ⟨(Nat.le_of_ble_eq_true rfl), (Nat.le_of_ble_eq_true rfl)⟩) (hK.recv hM.p0 rfl) rfl hl.1 rfl (Nat.le_of_ble_eq_true rfl) dX3_instance_90 ⟨by first | exact Nat.le_of_ble_eq_true rfl | (dsimp only [rmd]; omega), by first | exact Nat.le_of_ble_eq_true rfl | (dsimp only [rmd]; omega)⟩ (fun v6 H6 locs6 hq6 hS => ?_)
          obtain ⟨rfl, hM, ho6⟩ := hq6
          have ho := ho.trans ho6
          exact hr_i (pc := 93) hQ hx hb hr hlocks hS (by first | exact Nat.le_of_ble_eq_true rfl | (dsimp only [rmd]; omega)) (by first | exact Nat.le_of_ble_eq_true rfl | (dsimp only [rmd]; omega)) (⟨rfl, hM.eq (by rw [Nat.one_mul]), ho⟩) dX3_instance_93
        · skip
          rw [g00] at h5
          rw [if_neg (by rw [h5]; simp)] at hQ
          refine lv_aload_n (pc := 70) hx hb dX3_instance_70 rfl (lk hl rfl) ?_
          refine lv_iconst (v := nI 0 - 1) (pc := 71) hx hb dX3_instance_71 (by decide) ?_
          refine hc_V (pc := 72) hx hb hml hown hts hK hS (m_told l Γ H4 μ ((poA p9 i ((psin S p9 i) 0 0) 0 (psin S p9 i)).1) th (nI 0 - 1) hM) (cwV 1 hts (lw_V q1838 q1840 qs45 q83 q1841) rfl rfl rfl (by decide +kernel) ⟨(Nat.le_of_ble_eq_true rfl), (Nat.le_of_ble_eq_true rfl)⟩) (hK.recv hM.p0 rfl) rfl hl.1 rfl (Nat.le_of_ble_eq_true rfl) dX3_instance_72 ⟨by first | exact Nat.le_of_ble_eq_true rfl | (dsimp only [rmd]; omega), by first | exact Nat.le_of_ble_eq_true rfl | (dsimp only [rmd]; omega)⟩ (fun v7 H7 locs7 hq7 hS => ?_)
          obtain ⟨rfl, hM, ho7⟩ := hq7
          have ho := ho.trans ho7
          rw [g00] at *
          exact hr_i (pc := 75) hQ hx hb hr hlocks hS (by first | exact Nat.le_of_ble_eq_true rfl | (dsimp only [rmd]; omega)) (by first | exact Nat.le_of_ble_eq_true rfl | (dsimp only [rmd]; omega)) (⟨rfl, hM, ho⟩) dX3_instance_75
      · skip
        exact no (Or.inr h3) _ ls hS (by repeat first | exact lv_0 hl | refine lv_c (lk hl rfl) ?_)
  · skip
    rw [oInstance, if_neg (stepAt_f q0 h1)] at hQ
    refine lv_aload_n (pc := 8) hx hb dX3_instance_8 rfl (lk hl rfl) ?_
    refine lv_iconst (v := nI 1) (pc := 9) hx hb dX3_instance_9 (by decide) ?_
    refine hc_V (pc := 10) hx hb hml hown hts hK hS (m_refuse l Γ H μ S th (nI 1) hM) (cwV 1 hts (lw_V q1846 q1848 qs46 q83 q1849) rfl rfl rfl (by decide +kernel) ⟨(Nat.le_of_ble_eq_true rfl), (Nat.le_of_ble_eq_true rfl)⟩) (hK.recv hM.p0 rfl) rfl hl.1 rfl (Nat.le_of_ble_eq_true rfl) dX3_instance_10 ⟨by first | exact Nat.le_of_ble_eq_true rfl | (dsimp only [rmd]; omega), by first | exact Nat.le_of_ble_eq_true rfl | (dsimp only [rmd]; omega)⟩ (fun v8 H8 locs8 hq8 hS => ?_)
    obtain ⟨rfl, hM, ho8⟩ := hq8
    have ho := ho.trans ho8
    exact hr_i (pc := 13) hQ hx hb hr hlocks hS (by first | exact Nat.le_of_ble_eq_true rfl | (dsimp only [rmd]; omega)) (by first | exact Nat.le_of_ble_eq_true rfl | (dsimp only [rmd]; omega)) (⟨rfl, hM, ho⟩) dX3_instance_13
theorem clr_b : ∀ v, v < 16 → ∀ i, i < 4 → v.testBit i = true → nI v &&& ((nI 1 <<< (nI i &&& 31)) ^^^ (-1)) = nI (v - 2 ^ i) := by decide +kernel
def oRetire (S : Sx) (x y : Int32) : Ox :=
  if (isP S x && (inI y (nI 0) (nI 3) && (S 6 (tn x)).testBit (tn y))) = true then
    if S 5 (tn x) ≠ 0 then (S, 2, nI 0)
    else (up2 (pforget (tn x) (tn y) 8 0 (poU (tn x) (tn y) (S 0 0) S)) 6 (tn x) (S 6 (tn x) - 2 ^ tn y), 0, nI ((poU (tn x) (tn y) (S 0 0) S) 0 1 - S 0 1))
  else (S, 1, nI 0)
set_option maxHeartbeats 8000000 in
theorem m_retire (l : Launch) (Γ : Cx) (H : Heap) (μ : Nat → Nat) (S : Sx) (th : Int32) (x y : Int32) (hM : MW Γ H μ S th) (hw : WF S) (hr9 : S 0 1 + 8 ≤ 40000) : Mt l Γ yX3_retire (ws_ yX3_retire cX3_retire 4 (some .int)) 6 0 0 [.ref (μ 0), .int x, .int y] H (MO Γ μ H (oRetire S x y)) := by
  refine mt_of (by decide +kernel) (Nat.le_of_ble_eq_true rfl) ?_
  intro p e s m args below meth c ls Q hx hb hr hlocks hml hts hown hnm hK hS hl hQ
  have ho : Off (Mf μ) H H := Off.rf
  have hb0 := hw.b0
  have no : ¬ (isP S x && (inI y (nI 0) (nI 3) && (S 6 (tn x)).testBit (tn y))) = true → ∀ (locs : List Loc) (ls : Array Slot), va_S (Gz Γ) s.heap H locs → lv_has ls 4 [(0, .ref (μ 0))] → W p l e (rmd 6 0 0) s m args below meth c H locs 0 0 Q (F0 m 17 ls []) := by
    intro hn locs ls hS hl
    rw [oRetire, if_neg hn] at hQ
    refine lv_aload_n (pc := 17) hx hb dX3_retire_17 rfl (lk hl rfl) ?_
    refine lv_iconst (v := nI 1) (pc := 18) hx hb dX3_retire_18 (by decide) ?_
    refine hc_V (pc := 19) hx hb hml hown hts hK hS (m_refuse l Γ H μ S th (nI 1) hM) (cwV 1 hts (lw_V q1846 q1848 qs46 q83 q1849) rfl rfl rfl (by decide +kernel) ⟨(Nat.le_of_ble_eq_true rfl), (Nat.le_of_ble_eq_true rfl)⟩) (hK.recv hM.p0 rfl) rfl hl.1 rfl (Nat.le_of_ble_eq_true rfl) dX3_retire_19 ⟨by first | exact Nat.le_of_ble_eq_true rfl | (dsimp only [rmd]; omega), by first | exact Nat.le_of_ble_eq_true rfl | (dsimp only [rmd]; omega)⟩ (fun v1 H1 locs1 hq1 hS => ?_)
    obtain ⟨rfl, hM, ho1⟩ := hq1
    have ho := ho.trans ho1
    exact hr_i (pc := 22) hQ hx hb hr hlocks hS (by first | exact Nat.le_of_ble_eq_true rfl | (dsimp only [rmd]; omega)) (by first | exact Nat.le_of_ble_eq_true rfl | (dsimp only [rmd]; omega)) (⟨rfl, hM, ho⟩) dX3_retire_22
  refine lv_aload_n (pc := 0) hx hb dX3_retire_0 rfl (lk hl rfl) ?_
  refine lv_iload_n (pc := 1) hx hb dX3_retire_1 rfl (lk hl rfl) ?_
  refine hc_V (pc := 2) hx hb hml hown hts hK hS (m_isStepAt l Γ H μ S th x hM hw) (cwV 1 hts (lw_V q1891 q1893 qs53 q83 q1894) rfl rfl rfl (by decide +kernel) ⟨(Nat.le_of_ble_eq_true rfl), (Nat.le_of_ble_eq_true rfl)⟩) (hK.recv hM.p0 rfl) rfl hl.1 rfl (Nat.le_of_ble_eq_true rfl) dX3_retire_2 ⟨by first | exact Nat.le_of_ble_eq_true rfl | (dsimp only [rmd]; omega), by first | exact Nat.le_of_ble_eq_true rfl | (dsimp only [rmd]; omega)⟩ (fun v9 H9 locs9 hq9 hS => ?_)
  obtain ⟨b, rfl, rfl, q1, q0⟩ := hq9
  refine hz_eq (tgt := 17) (pc := 5) hx hb dX3_retire_5 (by decide) (fun h1 => ?_) (fun h1 => ?_)
  · exact no (by rw [show isP S x = false by simpa using stepAt_f q0 h1]; simp) _ ls hS (by repeat first | exact lv_0 hl | refine lv_c (lk hl rfl) ?_)
  · skip
    obtain ⟨p9, hp9, rfl, e2, hP⟩ := stepAt_t q1 h1
    have h6 := hw.b6 p9
    refine lv_iload_n (pc := 8) hx hb dX3_retire_8 rfl (lk hl rfl) ?_
    refine lv_iconst (v := nI 0) (pc := 9) hx hb dX3_retire_9 (by decide) ?_
    refine lv_iconst (v := nI 3) (pc := 10) hx hb dX3_retire_10 (by decide) ?_
    refine hc_S (pc := 11) hx hb hml hown hts hK hS (m_in l Γ H y (nI 0) (nI 3)) (va_cwS 3 hts (lw_S q1854 q1855 q83 q1856) rfl rfl rfl (by decide +kernel) ⟨(Nat.le_of_ble_eq_true rfl), (Nat.le_of_ble_eq_true rfl)⟩) rfl hl.1 rfl (Nat.le_of_ble_eq_true rfl) dX3_retire_11 ⟨by first | exact Nat.le_of_ble_eq_true rfl | (dsimp only [rmd]; omega), by first | exact Nat.le_of_ble_eq_true rfl | (dsimp only [rmd]; omega)⟩ (fun v1 H1 locs1 hq1 hS => ?_)
    obtain ⟨rfl, rfl⟩ := hq1
    refine hz_ne (tgt := 23) (pc := 14) hx hb dX3_retire_14 (by decide) (fun h2 => ?_) (fun h2 => ?_)
    · obtain ⟨i, -, hi, rfl⟩ := i_in (lo := 0) (by decide) (by decide) (of_decide_eq_true h2).1 (of_decide_eq_true h2).2
      refine lv_aload_n (pc := 23) hx hb dX3_retire_23 rfl (lk hl rfl) ?_
      refine hw_get (pc := 24) hx hb hts in_X3 hown hK (hM.p0) rfl 7 (Nat.le_of_ble_eq_true rfl) (hts _ q1784) (fun x h => h) rfl dX3_retire_24 ?_
      refine lv_iload_n (pc := 27) hx hb dX3_retire_27 rfl (lk hl rfl) ?_
      refine hm_iald (k := 6) (pc := 28) hx hb hK hM (by decide) (show p9 < 20 from (by omega)) dX3_retire_28 ?_
      have := hw.b6 p9
      refine lv_iload_n (pc := 29) hx hb dX3_retire_29 rfl (lk hl rfl) ?_
      refine hc_S (pc := 30) hx hb hml hown hts hK hS (m_has l Γ H (S 6 p9) i (by omega) (by omega)) (va_cwS 2 hts (lw_S q1873 q1874 q83 q1875) rfl rfl rfl (by decide +kernel) ⟨(Nat.le_of_ble_eq_true rfl), (Nat.le_of_ble_eq_true rfl)⟩) rfl hl.1 rfl (Nat.le_of_ble_eq_true rfl) dX3_retire_30 ⟨by first | exact Nat.le_of_ble_eq_true rfl | (dsimp only [rmd]; omega), by first | exact Nat.le_of_ble_eq_true rfl | (dsimp only [rmd]; omega)⟩ (fun v2 H2 locs2 hq2 hS => ?_)
      obtain ⟨rfl, rfl⟩ := hq2
      refine hz_ne (tgt := 42) (pc := 33) hx hb dX3_retire_33 (by decide) (fun h3 => ?_) (fun h3 => ?_)
      · rw [oRetire, tn_nI (by omega), tn_nI (by omega), if_pos (by rw [hP, show inI (nI i) (nI 0) (nI 3) = true from h2, h3]; rfl)] at hQ
        refine lv_aload_n (pc := 42) hx hb dX3_retire_42 rfl (lk hl rfl) ?_
        refine hw_get (pc := 43) hx hb hts in_X3 hown hK (hM.p0) rfl 6 (Nat.le_of_ble_eq_true rfl) (hts _ q1783) (fun x h => h) rfl dX3_retire_43 ?_
        refine lv_iload_n (pc := 46) hx hb dX3_retire_46 rfl (lk hl rfl) ?_
        refine hm_zald (k := 5) (pc := 47) hx hb hK hM (by decide) (show p9 < 20 from (by omega)) dX3_retire_47 ?_
        have := hw.b5 p9
        refine hn_z_eq (tgt := 57) (pc := 48) hx hb dX3_retire_48 (by decide) (by omega) (fun h4 => ?_) (fun h4 => ?_)
        · rw [if_neg (by omega)] at hQ
          refine lv_aload_n (pc := 57) hx hb dX3_retire_57 rfl (lk hl rfl) ?_
          refine hw_get (pc := 58) hx hb hts in_X3 hown hK (hM.p0) rfl 14 (Nat.le_of_ble_eq_true rfl) (hts _ q1791) (fun x h => h) rfl dX3_retire_58 ?_
          refine lv_istore_n (pc := 61) hx hb dX3_retire_61 rfl hl (Nat.le_of_ble_eq_true rfl) rfl (fun ls hl => ?_)
          refine lv_aload_n (pc := 62) hx hb dX3_retire_62 rfl (lk hl rfl) ?_
          refine lv_iload_n (pc := 63) hx hb dX3_retire_63 rfl (lk hl rfl) ?_
          refine lv_iload_n (pc := 64) hx hb dX3_retire_64 rfl (lk hl rfl) ?_
          refine hc_V (pc := 65) hx hb hml hown hts hK hS (m_stopsOnAll l Γ H μ S th p9 i hM hw (by omega) (by omega) (by omega)) (cwV 2 hts (lw_V q1895 q1897 qs54 q83 q1898) rfl rfl rfl (by decide +kernel) ⟨(Nat.le_of_ble_eq_true rfl), (Nat.le_of_ble_eq_true rfl)⟩) (hK.recv hM.p0 rfl) rfl hl.1 rfl (Nat.le_of_ble_eq_true rfl) dX3_retire_65 ⟨by first | exact Nat.le_of_ble_eq_true rfl | (dsimp only [rmd]; omega), by first | exact Nat.le_of_ble_eq_true rfl | (dsimp only [rmd]; omega)⟩ (fun v3 H3 locs3 hq3 hS => ?_)
          obtain ⟨rfl, hM, ho3⟩ := hq3
          have ho := ho.trans ho3
          have q := kp_poU p9 i (S 0 0) S
          have q6 := (q.row (f := 6) (by decide) (by decide) (by decide))
          have hw' := q.2.1 hw (by omega)
          have hg := q.2.2.1
          have hb9 := hw'.b01
          refine lv_aload_n (pc := 68) hx hb dX3_retire_68 rfl (lk hl rfl) ?_
          refine lv_iload_n (pc := 69) hx hb dX3_retire_69 rfl (lk hl rfl) ?_
          refine lv_iload_n (pc := 70) hx hb dX3_retire_70 rfl (lk hl rfl) ?_
          refine hc_V (pc := 71) hx hb hml hown hts hK hS (m_forgets l Γ H3 μ (poU p9 i (S 0 0) S) th p9 i hM (by omega) (by omega)) (cwV 2 hts (lw_V q1899 q1901 qs55 q83 q1902) rfl rfl rfl (by decide +kernel) ⟨(Nat.le_of_ble_eq_true rfl), (Nat.le_of_ble_eq_true rfl)⟩) (hK.recv hM.p0 rfl) rfl hl.1 rfl (Nat.le_of_ble_eq_true rfl) dX3_retire_71 ⟨by first | exact Nat.le_of_ble_eq_true rfl | (dsimp only [rmd]; omega), by first | exact Nat.le_of_ble_eq_true rfl | (dsimp only [rmd]; omega)⟩ (fun v4 H4 locs4 hq4 hS => ?_)
          obtain ⟨rfl, hM, ho4⟩ := hq4
          have ho := ho.trans ho4
          refine lv_aload_n (pc := 74) hx hb dX3_retire_74 rfl (lk hl rfl) ?_
          refine hw_get (pc := 75) hx hb hts in_X3 hown hK (hM.p0) rfl 7 (Nat.le_of_ble_eq_true rfl) (hts _ q1784) (fun x h => h) rfl dX3_retire_75 ?_
          refine lv_iload_n (pc := 78) hx hb dX3_retire_78 rfl (lk hl rfl) ?_
          refine lv_dup2_11 (pc := 79) hx hb dX3_retire_79 rfl rfl ?_
          refine hm_iald (k := 6) (pc := 80) hx hb hK hM (by decide) (show p9 < 20 from (by omega)) dX3_retire_80 ?_
          refine lv_iconst (v := nI 1) (pc := 81) hx hb dX3_retire_81 (by decide) ?_
          refine lv_iload_n (pc := 82) hx hb dX3_retire_82 rfl (lk hl rfl) ?_
          have q1 := pforget_f p9 i 8 0 (poU p9 i (S 0 0) S) 0 1 (by decide)
          rw [pforget_f p9 i 8 0 (poU p9 i (S 0 0) S) 6 p9 (by decide), q6]
          refine lv_ishl (pc := 83) hx hb dX3_retire_83 ?_
          refine lv_iconst (v := (-1)) (pc := 84) hx hb dX3_retire_84 (by decide) ?_
          refine lv_ixor (pc := 85) hx hb dX3_retire_85 ?_
          refine lv_iand (pc := 86) hx hb dX3_retire_86 ?_
          refine hw_top (congrArg Value.int (clr_b _ (by omega) _ (by omega) h3)) ?_
          refine hm_iast (k := 6) (pc := 87) hx hb hK hM (by decide) (show p9 < 20 from (by omega)) hS dX3_retire_87 (fun H5 locs5 hM ho5 hS => ?_)
          have ho := ho.trans ho5
          refine lv_aload_n (pc := 88) hx hb dX3_retire_88 rfl (lk hl rfl) ?_
          refine lv_aload_n (pc := 89) hx hb dX3_retire_89 rfl (lk hl rfl) ?_
          refine hw_get (pc := 90) hx hb hts in_X3 hown hK (hM.p0) rfl 14 (Nat.le_of_ble_eq_true rfl) (hts _ q1791) (fun x h => h) rfl dX3_retire_90 ?_
          rw [up2_f (by decide), q1]
          refine lv_iload_n (pc := 93) hx hb dX3_retire_93 rfl (lk hl rfl) ?_
          refine lv_isub (pc := 94) hx hb dX3_retire_94 ?_
          refine hw_top (congrArg Value.int (show _ = nI ((poU p9 i (S 0 0) S) 0 1 - (S 0 1)) from n_sub hg)) ?_
          refine hc_V (pc := 95) hx hb hml hown hts hK hS (m_told l Γ H5 μ (up2 (pforget p9 i 8 0 (poU p9 i (S 0 0) S)) 6 p9 (S 6 p9 - 2 ^ i)) th (nI ((poU p9 i (S 0 0) S) 0 1 - (S 0 1))) hM) (cwV 1 hts (lw_V q1838 q1840 qs45 q83 q1841) rfl rfl rfl (by decide +kernel) ⟨(Nat.le_of_ble_eq_true rfl), (Nat.le_of_ble_eq_true rfl)⟩) (hK.recv hM.p0 rfl) rfl hl.1 rfl (Nat.le_of_ble_eq_true rfl) dX3_retire_95 ⟨by first | exact Nat.le_of_ble_eq_true rfl | (dsimp only [rmd]; omega), by first | exact Nat.le_of_ble_eq_true rfl | (dsimp only [rmd]; omega)⟩ (fun v6 H6 locs6 hq6 hS => ?_)
          obtain ⟨rfl, hM, ho6⟩ := hq6
          have ho := ho.trans ho6
          exact hr_i (pc := 98) hQ hx hb hr hlocks hS (by first | exact Nat.le_of_ble_eq_true rfl | (dsimp only [rmd]; omega)) (by first | exact Nat.le_of_ble_eq_true rfl | (dsimp only [rmd]; omega)) (⟨rfl, hM, ho⟩) dX3_retire_98
        · skip
          rw [if_pos h4] at hQ
          refine lv_aload_n (pc := 51) hx hb dX3_retire_51 rfl (lk hl rfl) ?_
          refine lv_iconst (v := nI 2) (pc := 52) hx hb dX3_retire_52 (by decide) ?_
          refine hc_V (pc := 53) hx hb hml hown hts hK hS (m_refuse l Γ H μ S th (nI 2) hM) (cwV 1 hts (lw_V q1846 q1848 qs46 q83 q1849) rfl rfl rfl (by decide +kernel) ⟨(Nat.le_of_ble_eq_true rfl), (Nat.le_of_ble_eq_true rfl)⟩) (hK.recv hM.p0 rfl) rfl hl.1 rfl (Nat.le_of_ble_eq_true rfl) dX3_retire_53 ⟨by first | exact Nat.le_of_ble_eq_true rfl | (dsimp only [rmd]; omega), by first | exact Nat.le_of_ble_eq_true rfl | (dsimp only [rmd]; omega)⟩ (fun v7 H7 locs7 hq7 hS => ?_)
          obtain ⟨rfl, hM, ho7⟩ := hq7
          have ho := ho.trans ho7
          exact hr_i (pc := 56) hQ hx hb hr hlocks hS (by first | exact Nat.le_of_ble_eq_true rfl | (dsimp only [rmd]; omega)) (by first | exact Nat.le_of_ble_eq_true rfl | (dsimp only [rmd]; omega)) (⟨rfl, hM, ho⟩) dX3_retire_56
      · skip
        rw [oRetire, tn_nI (by omega), tn_nI (by omega), if_neg (by rw [h3]; simp)] at hQ
        refine lv_aload_n (pc := 36) hx hb dX3_retire_36 rfl (lk hl rfl) ?_
        refine lv_iconst (v := nI 1) (pc := 37) hx hb dX3_retire_37 (by decide) ?_
        refine hc_V (pc := 38) hx hb hml hown hts hK hS (m_refuse l Γ H μ S th (nI 1) hM) (cwV 1 hts (lw_V q1846 q1848 qs46 q83 q1849) rfl rfl rfl (by decide +kernel) ⟨(Nat.le_of_ble_eq_true rfl), (Nat.le_of_ble_eq_true rfl)⟩) (hK.recv hM.p0 rfl) rfl hl.1 rfl (Nat.le_of_ble_eq_true rfl) dX3_retire_38 ⟨by first | exact Nat.le_of_ble_eq_true rfl | (dsimp only [rmd]; omega), by first | exact Nat.le_of_ble_eq_true rfl | (dsimp only [rmd]; omega)⟩ (fun v8 H8 locs8 hq8 hS => ?_)
        obtain ⟨rfl, hM, ho8⟩ := hq8
        have ho := ho.trans ho8
        exact hr_i (pc := 41) hQ hx hb hr hlocks hS (by first | exact Nat.le_of_ble_eq_true rfl | (dsimp only [rmd]; omega)) (by first | exact Nat.le_of_ble_eq_true rfl | (dsimp only [rmd]; omega)) (⟨rfl, hM, ho⟩) dX3_retire_41
    · skip
      exact no (by rw [show inI y (nI 0) (nI 3) = false from h2]; simp) _ ls hS (by repeat first | exact lv_0 hl | refine lv_c (lk hl rfl) ?_)
