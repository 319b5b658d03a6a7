/-! BitSet: set, clear, made -/
set_option maxRecDepth 100000
set_option maxHeartbeats 4000000
theorem j_bs_ens (l : Launch) (Γ : Cx) (H : Heap) (b w : Nat) (u v : Value) (f : Nat → Int64) (hpb : pt Γ H b (ob 12 [.ref w, u, v])) (hpw : pt Γ H w (ja Γ 1 f)) : Mt l Γ yJ15_ensureCapacity (ws_ yJ15_ensureCapacity cJ15_ensureCapacity 3 none) 1 0 0 [.ref b, .int (nI 1)] H (Rn H) := by
  refine mt_of (by decide +kernel) (Nat.le_of_ble_eq_true rfl) ?_
  intro p e s m args below meth c ls Q hx hb hr hlocks hml hts hown hnm hK hS hl hQ
  refine lv_aload_n (pc := 0) hx hb dJ15_ensureCapacity_0 rfl (lk hl rfl) ?_
  refine hw_get (pc := 1) hx hb hts in_J15 hown hK (hpb) rfl 0 (Nat.le_of_ble_eq_true rfl) (hts _ q1224) (fun x h => h) rfl dJ15_ensureCapacity_1 ?_
  refine hw_llen (pc := 4) hx hb hK (hpw) dJ15_ensureCapacity_4 ?_
  refine lv_iload_n (pc := 5) hx hb dJ15_ensureCapacity_5 rfl (lk hl rfl) ?_
  refine hn_ge (tgt := 38) (pc := 6) hx hb dJ15_ensureCapacity_6 (by decide) (by omega) (by omega) (fun _ => ?_) (fun hn => absurd hn (by omega))
  exact hr_v (pc := 38) hQ hx hb hr hlocks hS (by first | exact Nat.le_of_ble_eq_true rfl | (dsimp only [rmd]; omega)) (by first | exact Nat.le_of_ble_eq_true rfl | (dsimp only [rmd]; omega)) (⟨rfl, rfl⟩) dJ15_ensureCapacity_38
theorem j_bs_exp (l : Launch) (Γ : Cx) (H : Heap) (b w u : Nat) (v : Value) (f : Nat → Int64) (hpb : pt Γ H b (ob 12 [.ref w, .int (nI u), v])) (hpw : pt Γ H w (ja Γ 1 f)) (hu : u ≤ 1) (hg : Gz Γ b) (hne : w ≠ b) : Mt l Γ yJ15_expandTo (ws_ yJ15_expandTo cJ15_expandTo 3 none) 2 0 0 [.ref b, .int (nI 0)] H (fun x H1 => x = none ∧ pt Γ H1 b (ob 12 [.ref w, .int (nI 1), v]) ∧ pt Γ H1 w (ja Γ 1 f) ∧ Off (fun q => q = b) H H1) := by
  refine mt_of (by decide +kernel) (Nat.le_of_ble_eq_true rfl) ?_
  intro p e s m args below meth c ls Q hx hb hr hlocks hml hts hown hnm hK hS hl hQ
  have ho : Off (fun q => q = b) H H := Off.rf
  refine lv_iload_n (pc := 0) hx hb dJ15_expandTo_0 rfl (lk hl rfl) ?_
  refine lv_iconst (v := nI 1) (pc := 1) hx hb dJ15_expandTo_1 (by decide) ?_
  refine lv_iadd (pc := 2) hx hb dJ15_expandTo_2 ?_
  refine hw_top (congrArg Value.int (show _ = nI 1 from nI_add _ _)) ?_
  refine hw_top (congrArg Value.int (show _ = nI 1 from rfl)) ?_
  refine lv_istore_n (pc := 3) hx hb dJ15_expandTo_3 rfl hl (Nat.le_of_ble_eq_true rfl) rfl (fun ls hl => ?_)
  refine lv_aload_n (pc := 4) hx hb dJ15_expandTo_4 rfl (lk hl rfl) ?_
  refine hw_get (pc := 5) hx hb hts in_J15 hown hK (hpb) rfl 1 (Nat.le_of_ble_eq_true rfl) (hts _ q1225) (fun x h => h) rfl dJ15_expandTo_5 ?_
  refine lv_iload_n (pc := 8) hx hb dJ15_expandTo_8 rfl (lk hl rfl) ?_
  refine hn_ge (tgt := 22) (pc := 9) hx hb dJ15_expandTo_9 (by decide) (by omega) (by omega) (fun h => ?_) (fun h => ?_)
  · obtain rfl : u = 1 := by omega
    exact hr_v (pc := 22) hQ hx hb hr hlocks hS (by first | exact Nat.le_of_ble_eq_true rfl | (dsimp only [rmd]; omega)) (by first | exact Nat.le_of_ble_eq_true rfl | (dsimp only [rmd]; omega)) (⟨rfl, hpb, hpw, ho⟩) dJ15_expandTo_22
  · skip
    refine lv_aload_n (pc := 12) hx hb dJ15_expandTo_12 rfl (lk hl rfl) ?_
    refine lv_iload_n (pc := 13) hx hb dJ15_expandTo_13 rfl (lk hl rfl) ?_
    refine hc_V (pc := 14) hx hb hml hown hts hK hS (j_bs_ens l Γ H b w _ _ f hpb hpw) (cwV 1 hts (lw_V q1280 q1282 qs18 q90 q1283) rfl rfl rfl (by decide +kernel) ⟨(Nat.le_of_ble_eq_true rfl), (Nat.le_of_ble_eq_true rfl)⟩) (hK.recv hpb rfl) rfl hl.1 rfl (Nat.le_of_ble_eq_true rfl) dJ15_expandTo_14 ⟨by first | exact Nat.le_of_ble_eq_true rfl | (dsimp only [rmd]; omega), by first | exact Nat.le_of_ble_eq_true rfl | (dsimp only [rmd]; omega)⟩ (fun v9 H9 locs9 hq9 hS => ?_)
    obtain ⟨rfl, rfl⟩ := hq9
    refine lv_aload_n (pc := 17) hx hb dJ15_expandTo_17 rfl (lk hl rfl) ?_
    refine lv_iload_n (pc := 18) hx hb dJ15_expandTo_18 rfl (lk hl rfl) ?_
    refine hw_put (pc := 19) hx hb hts in_J15 tyJ15_ok nmJ15 hown hK (hpb) (hg) hS rfl 1 (Nat.le_of_ble_eq_true rfl) (hts _ q1225) (fun x h => h) rfl rfl (rfl) (rfl) (Nat.le_of_ble_eq_true rfl) dJ15_expandTo_19 (fun Hp1 locsp1 hpp1 zp1 op1 hS => ?_)
    have hpb : pt Γ Hp1 b (ob 12 [.ref w, .int (nI 1), v]) := hpp1
    have hpw := hpw.ne op1 (by first | assumption | omega | (intro hne; subst hne; simp_all))
    have ho := ho.trans (Off.put zp1 op1 (by first | rfl | (simp; done) | exact Or.inl rfl | exact Or.inr rfl | omega))
    exact hr_v (pc := 22) hQ hx hb hr hlocks hS (by first | exact Nat.le_of_ble_eq_true rfl | (dsimp only [rmd]; omega)) (by first | exact Nat.le_of_ble_eq_true rfl | (dsimp only [rmd]; omega)) (⟨rfl, hpb, hpw, ho⟩) dJ15_expandTo_22
theorem or_b : ∀ v, v < 16 → ∀ i, i < 4 → Int64.ofNat v ||| ((1 : Int64) <<< ((nI i).toInt64 &&& 63)) = Int64.ofNat (v ||| 2 ^ i) := by decide +kernel
theorem or_n0 : ∀ v, v < 16 → ∀ i, i < 4 → u01 (v ||| 2 ^ i) = 1 := by decide +kernel
theorem j_bs_set (l : Launch) (Γ : Cx) (H : Heap) (b w v i : Nat) (hB : BS Γ H b w v) (hv : v < 16) (hi : i < 4) (hg : Gz Γ b) (hgw : Gz Γ w) (hne : w ≠ b) : Mt l Γ yJ15_set (ws_ yJ15_set cJ15_set 3 none) 3 0 0 [.ref b, .int (nI i)] H (fun x H1 => x = none ∧ BS Γ H1 b w (v ||| 2 ^ i) ∧ Off (fun q => q = b ∨ q = w) H H1) := by
  obtain ⟨hpb, f, hf, hpw⟩ := hB
  refine mt_of (by decide +kernel) (Nat.le_of_ble_eq_true rfl) ?_
  intro p e s m args below meth c ls Q hx hb hr hlocks hml hts hown hnm hK hS hl hQ
  have hu : u01 v ≤ 1 := by unfold u01; split <;> omega
  refine lv_iload_n (pc := 0) hx hb dJ15_set_0 rfl (lk hl rfl) ?_
  refine lv_if_ge (tgt := 31) (pc := 1) hx hb dJ15_set_1 (by decide) (fun _ => ?_) (fun q => absurd (nI_0le (by omega)) q)
  refine lv_iload_n (pc := 31) hx hb dJ15_set_31 rfl (lk hl rfl) ?_
  refine hc_S (pc := 32) hx hb hml hown hts hK hS (j_bs_wi l Γ _ i (by omega)) (va_cwS 1 hts (lw_S q973 q974 q90 q975) rfl rfl rfl (by decide +kernel) ⟨(Nat.le_of_ble_eq_true rfl), (Nat.le_of_ble_eq_true rfl)⟩) rfl hl.1 rfl (Nat.le_of_ble_eq_true rfl) dJ15_set_32 ⟨by first | exact Nat.le_of_ble_eq_true rfl | (dsimp only [rmd]; omega), by first | exact Nat.le_of_ble_eq_true rfl | (dsimp only [rmd]; omega)⟩ (fun v1 H1 locs1 hq1 hS => ?_)
  obtain ⟨rfl, rfl⟩ := hq1
  refine lv_istore_n (pc := 35) hx hb dJ15_set_35 rfl hl (Nat.le_of_ble_eq_true rfl) rfl (fun ls hl => ?_)
  refine lv_aload_n (pc := 36) hx hb dJ15_set_36 rfl (lk hl rfl) ?_
  refine lv_iload_n (pc := 37) hx hb dJ15_set_37 rfl (lk hl rfl) ?_
  refine hc_V (pc := 38) hx hb hml hown hts hK hS (j_bs_exp l Γ _ b w _ _ f hpb hpw hu hg hne) (cwV 1 hts (lw_V q1276 q1278 qs17 q90 q1279) rfl rfl rfl (by decide +kernel) ⟨(Nat.le_of_ble_eq_true rfl), (Nat.le_of_ble_eq_true rfl)⟩) (hK.recv hpb rfl) rfl hl.1 rfl (Nat.le_of_ble_eq_true rfl) dJ15_set_38 ⟨by first | exact Nat.le_of_ble_eq_true rfl | (dsimp only [rmd]; omega), by first | exact Nat.le_of_ble_eq_true rfl | (dsimp only [rmd]; omega)⟩ (fun v9 H9 locs9 hq9 hS => ?_)
  obtain ⟨rfl, hpb, hpw, ho9⟩ := hq9
  have ho := ho9.mono (T := fun q => q = b ∨ q = w) (fun q _ e => Or.inl e)
  refine lv_aload_n (pc := 41) hx hb dJ15_set_41 rfl (lk hl rfl) ?_
  refine hw_get (pc := 42) hx hb hts in_J15 hown hK (hpb) rfl 0 (Nat.le_of_ble_eq_true rfl) (hts _ q1224) (fun x h => h) rfl dJ15_set_42 ?_
  refine lv_iload_n (pc := 45) hx hb dJ15_set_45 rfl (lk hl rfl) ?_
  refine lv_dup2_11 (pc := 46) hx hb dJ15_set_46 rfl rfl ?_
  refine hw_lald (pc := 47) hx hb hK hpw (vp_in_nI (show 0 < 1 from by omega) (by omega)) dJ15_set_47 ?_
  rw [nI_clamp (show 0 < 2 ^ 31 from by omega)]
  rw [hf]
  refine lv_lconst (v := 1) (pc := 48) hx hb dJ15_set_48 (by decide) ?_
  refine lv_iload_n (pc := 49) hx hb dJ15_set_49 rfl (lk hl rfl) ?_
  refine lv_lshl (pc := 50) hx hb dJ15_set_50 rfl ?_
  refine lv_lor (pc := 51) hx hb dJ15_set_51 ?_
  rw [or_b v hv i hi]
  refine hw_last (pc := 52) hx hb hK (hpw) (hgw) hS (vp_in_nI (show 0 < 1 by omega) (by omega)) dJ15_set_52 (fun H1 locs1 hp1 z1 o1 hS => ?_)
  have hpb := hpb.ne o1 hne.symm
  have ho := ho.trans (Off.put z1 o1 (Or.inr rfl))
  refine lv_aload_n (pc := 53) hx hb dJ15_set_53 rfl (lk hl rfl) ?_
  refine hc_V (pc := 54) hx hb hml hown hts hK hS (j_bs_ci l Γ _ b) (cwV 0 hts (lw_V q966 q968 qs13 q90 q970) rfl rfl rfl (by decide +kernel) ⟨(Nat.le_of_ble_eq_true rfl), (Nat.le_of_ble_eq_true rfl)⟩) (hK.recv hpb rfl) rfl hl.1 rfl (Nat.le_of_ble_eq_true rfl) dJ15_set_54 ⟨by first | exact Nat.le_of_ble_eq_true rfl | (dsimp only [rmd]; omega), by first | exact Nat.le_of_ble_eq_true rfl | (dsimp only [rmd]; omega)⟩ (fun v8 H8 locs8 hq8 hS => ?_)
  obtain ⟨rfl, rfl⟩ := hq8
  have hBn : BS Γ H1 b w (v ||| 2 ^ i) := by
    refine ⟨?_, _, ?_, hp1⟩
    · rw [or_n0 v hv i hi]; exact hpb
    · rw [nI_clamp (by decide)]; rfl
  exact hr_v (pc := 57) hQ hx hb hr hlocks hS (by first | exact Nat.le_of_ble_eq_true rfl | (dsimp only [rmd]; omega)) (by first | exact Nat.le_of_ble_eq_true rfl | (dsimp only [rmd]; omega)) (⟨rfl, hBn, ho⟩) dJ15_set_57
theorem an_b : ∀ v, v < 16 → ∀ i, i < 4 → v.testBit i = true → Int64.ofNat v &&& (((1 : Int64) <<< ((nI i).toInt64 &&& 63)) ^^^ (-1 : Int64)) = Int64.ofNat (v - 2 ^ i) := by decide +kernel
theorem rc_b : ∀ v, v < 16 → lcI (Int64.ofNat v) 0 = 0 → v = 0 := by decide +kernel
theorem j_bs_recalc (l : Launch) (Γ : Cx) (H : Heap) (b w v : Nat) (u : Value) (f : Nat → Int64) (hpb : pt Γ H b (ob 12 [.ref w, .int (nI 1), u])) (hf : f 0 = Int64.ofNat v) (hpw : pt Γ H w (ja Γ 1 f)) (hv : v < 16) (hg : Gz Γ b) (hne : w ≠ b) : Mt l Γ yJ15_recalculateWordsInUse (ws_ yJ15_recalculateWordsInUse cJ15_recalculateWordsInUse 2 none) 1 0 0 [.ref b] H (fun x H1 => x = none ∧ pt Γ H1 b (ob 12 [.ref w, .int (nI (u01 v)), u]) ∧ pt Γ H1 w (ja Γ 1 f) ∧ Off (fun q => q = b) H H1) := by
  refine mt_of (by decide +kernel) (Nat.le_of_ble_eq_true rfl) ?_
  intro p e s m args below meth c ls Q hx hb hr hlocks hml hts hown hnm hK hS hl hQ
  have ho : Off (fun q => q = b) H H := Off.rf
  refine lv_aload_n (pc := 0) hx hb dJ15_recalculateWordsInUse_0 rfl (lk hl rfl) ?_
  refine hw_get (pc := 1) hx hb hts in_J15 hown hK (hpb) rfl 1 (Nat.le_of_ble_eq_true rfl) (hts _ q1225) (fun x h => h) rfl dJ15_recalculateWordsInUse_1 ?_
  refine lv_iconst (v := nI 1) (pc := 4) hx hb dJ15_recalculateWordsInUse_4 (by decide) ?_
  refine lv_isub (pc := 5) hx hb dJ15_recalculateWordsInUse_5 ?_
  refine hw_top (congrArg Value.int (show _ = nI 0 from rfl)) ?_
  refine lv_istore_n (pc := 6) hx hb dJ15_recalculateWordsInUse_6 rfl hl (Nat.le_of_ble_eq_true rfl) rfl (fun ls hl => ?_)
  refine lv_iload_n (pc := 7) hx hb dJ15_recalculateWordsInUse_7 rfl (lk hl rfl) ?_
  refine lv_if_lt (tgt := 31) (pc := 8) hx hb dJ15_recalculateWordsInUse_8 (by decide) (fun q => absurd q (by decide)) (fun _ => ?_)
  refine lv_aload_n (pc := 11) hx hb dJ15_recalculateWordsInUse_11 rfl (lk hl rfl) ?_
  refine hw_get (pc := 12) hx hb hts in_J15 hown hK (hpb) rfl 0 (Nat.le_of_ble_eq_true rfl) (hts _ q1224) (fun x h => h) rfl dJ15_recalculateWordsInUse_12 ?_
  refine lv_iload_n (pc := 15) hx hb dJ15_recalculateWordsInUse_15 rfl (lk hl rfl) ?_
  refine hw_lald (pc := 16) hx hb hK hpw (vp_in_nI (show 0 < 1 from by omega) (by omega)) dJ15_recalculateWordsInUse_16 ?_
  rw [nI_clamp (show 0 < 2 ^ 31 from by omega)]
  rw [hf]
  refine lv_lconst (v := 0) (pc := 17) hx hb dJ15_recalculateWordsInUse_17 (by decide) ?_
  refine lv_lcmp (pc := 18) hx hb dJ15_recalculateWordsInUse_18 ?_
  refine lv_if_eq (tgt := 25) (pc := 19) hx hb dJ15_recalculateWordsInUse_19 (by decide) (fun h => ?_) (fun h => ?_)
  · have h0 := rc_b v hv h
    subst h0
    refine hw_iinc (v := nI 0 - 1) (pc := 25) hx hb dJ15_recalculateWordsInUse_25 hl (lk hl rfl) (n_dec _) (Nat.le_of_ble_eq_true rfl) (fun ls hl => ?_)
    refine lv_goto (tgt := 7) (pc := 28) hx hb dJ15_recalculateWordsInUse_28 (by decide) ?_
    refine lv_iload_n (pc := 7) hx hb dJ15_recalculateWordsInUse_7 rfl (lk hl rfl) ?_
    refine lv_if_lt (tgt := 31) (pc := 8) hx hb dJ15_recalculateWordsInUse_8 (by decide) (fun _ => ?_) (fun q => absurd (by decide) q)
    refine lv_aload_n (pc := 31) hx hb dJ15_recalculateWordsInUse_31 rfl (lk hl rfl) ?_
    refine lv_iload_n (pc := 32) hx hb dJ15_recalculateWordsInUse_32 rfl (lk hl rfl) ?_
    refine lv_iconst (v := nI 1) (pc := 33) hx hb dJ15_recalculateWordsInUse_33 (by decide) ?_
    refine lv_iadd (pc := 34) hx hb dJ15_recalculateWordsInUse_34 ?_
    refine hw_top (congrArg Value.int (show _ = nI 0 from n_mp _)) ?_
    refine hw_put (pc := 35) hx hb hts in_J15 tyJ15_ok nmJ15 hown hK (hpb) (hg) hS rfl 1 (Nat.le_of_ble_eq_true rfl) (hts _ q1225) (fun x h => h) rfl rfl (rfl) (rfl) (Nat.le_of_ble_eq_true rfl) dJ15_recalculateWordsInUse_35 (fun Hp1 locsp1 hpp1 zp1 op1 hS => ?_)
    have hpb : pt Γ Hp1 b (ob 12 [.ref w, .int (nI 0), u]) := hpp1
    have hpw := hpw.ne op1 (by first | assumption | omega | (intro hne; subst hne; simp_all))
    have ho := ho.trans (Off.put zp1 op1 (by first | rfl | (simp; done) | exact Or.inl rfl | exact Or.inr rfl | omega))
    exact hr_v (pc := 38) hQ hx hb hr hlocks hS (by first | exact Nat.le_of_ble_eq_true rfl | (dsimp only [rmd]; omega)) (by first | exact Nat.le_of_ble_eq_true rfl | (dsimp only [rmd]; omega)) (⟨rfl, hpb, hpw, ho⟩) dJ15_recalculateWordsInUse_38
  · skip
    have h0 : v ≠ 0 := fun e => by subst e; exact h rfl
    refine lv_goto (tgt := 31) (pc := 22) hx hb dJ15_recalculateWordsInUse_22 (by decide) ?_
    refine lv_aload_n (pc := 31) hx hb dJ15_recalculateWordsInUse_31 rfl (lk hl rfl) ?_
    refine lv_iload_n (pc := 32) hx hb dJ15_recalculateWordsInUse_32 rfl (lk hl rfl) ?_
    refine lv_iconst (v := nI 1) (pc := 33) hx hb dJ15_recalculateWordsInUse_33 (by decide) ?_
    refine lv_iadd (pc := 34) hx hb dJ15_recalculateWordsInUse_34 ?_
    refine hw_top (congrArg Value.int (show _ = nI 1 from nI_add _ _)) ?_
    refine hw_put (pc := 35) hx hb hts in_J15 tyJ15_ok nmJ15 hown hK (hpb) (hg) hS rfl 1 (Nat.le_of_ble_eq_true rfl) (hts _ q1225) (fun x h => h) rfl rfl (rfl) (rfl) (Nat.le_of_ble_eq_true rfl) dJ15_recalculateWordsInUse_35 (fun Hp2 locsp2 hpp2 zp2 op2 hS => ?_)
    have hpb : pt Γ Hp2 b (ob 12 [.ref w, .int (nI 1), u]) := hpp2
    have hpw := hpw.ne op2 (by first | assumption | omega | (intro hne; subst hne; simp_all))
    have ho := ho.trans (Off.put zp2 op2 (by first | rfl | (simp; done) | exact Or.inl rfl | exact Or.inr rfl | omega))
    rw [u01_p h0] at hQ
    exact hr_v (pc := 38) hQ hx hb hr hlocks hS (by first | exact Nat.le_of_ble_eq_true rfl | (dsimp only [rmd]; omega)) (by first | exact Nat.le_of_ble_eq_true rfl | (dsimp only [rmd]; omega)) (⟨rfl, hpb, hpw, ho⟩) dJ15_recalculateWordsInUse_38
theorem j_bs_clear (l : Launch) (Γ : Cx) (H : Heap) (b w v i : Nat) (hB : BS Γ H b w v) (hv : v < 16) (hi : i < 4) (ht : v.testBit i = true) (hg : Gz Γ b) (hgw : Gz Γ w) (hne : w ≠ b) : Mt l Γ yJ15_clear (ws_ yJ15_clear cJ15_clear 3 none) 3 0 0 [.ref b, .int (nI i)] H (fun x H1 => x = none ∧ BS Γ H1 b w (v - 2 ^ i) ∧ Off (fun q => q = b ∨ q = w) H H1) := by
  obtain ⟨hpb, f, hf, hpw⟩ := hB
  have h0 : v ≠ 0 := fun e => by rw [e, Nat.zero_testBit] at ht; cases ht
  rw [u01_p h0] at hpb
  refine mt_of (by decide +kernel) (Nat.le_of_ble_eq_true rfl) ?_
  intro p e s m args below meth c ls Q hx hb hr hlocks hml hts hown hnm hK hS hl hQ
  have ho : Off (fun q => q = b ∨ q = w) H H := Off.rf
  refine lv_iload_n (pc := 0) hx hb dJ15_clear_0 rfl (lk hl rfl) ?_
  refine lv_if_ge (tgt := 31) (pc := 1) hx hb dJ15_clear_1 (by decide) (fun _ => ?_) (fun q => absurd (nI_0le (by omega)) q)
  refine lv_iload_n (pc := 31) hx hb dJ15_clear_31 rfl (lk hl rfl) ?_
  refine hc_S (pc := 32) hx hb hml hown hts hK hS (j_bs_wi l Γ _ i (by omega)) (va_cwS 1 hts (lw_S q973 q974 q90 q975) rfl rfl rfl (by decide +kernel) ⟨(Nat.le_of_ble_eq_true rfl), (Nat.le_of_ble_eq_true rfl)⟩) rfl hl.1 rfl (Nat.le_of_ble_eq_true rfl) dJ15_clear_32 ⟨by first | exact Nat.le_of_ble_eq_true rfl | (dsimp only [rmd]; omega), by first | exact Nat.le_of_ble_eq_true rfl | (dsimp only [rmd]; omega)⟩ (fun v1 H1 locs1 hq1 hS => ?_)
  obtain ⟨rfl, rfl⟩ := hq1
  refine lv_istore_n (pc := 35) hx hb dJ15_clear_35 rfl hl (Nat.le_of_ble_eq_true rfl) rfl (fun ls hl => ?_)
  refine lv_iload_n (pc := 36) hx hb dJ15_clear_36 rfl (lk hl rfl) ?_
  refine lv_aload_n (pc := 37) hx hb dJ15_clear_37 rfl (lk hl rfl) ?_
  refine hw_get (pc := 38) hx hb hts in_J15 hown hK (hpb) rfl 1 (Nat.le_of_ble_eq_true rfl) (hts _ q1225) (fun x h => h) rfl dJ15_clear_38 ?_
  refine hn_lt (tgt := 45) (pc := 41) hx hb dJ15_clear_41 (by decide) (by omega) (by omega) (fun _ => ?_) (fun hn => absurd hn (by omega))
  refine lv_aload_n (pc := 45) hx hb dJ15_clear_45 rfl (lk hl rfl) ?_
  refine hw_get (pc := 46) hx hb hts in_J15 hown hK (hpb) rfl 0 (Nat.le_of_ble_eq_true rfl) (hts _ q1224) (fun x h => h) rfl dJ15_clear_46 ?_
  refine lv_iload_n (pc := 49) hx hb dJ15_clear_49 rfl (lk hl rfl) ?_
  refine lv_dup2_11 (pc := 50) hx hb dJ15_clear_50 rfl rfl ?_
  refine hw_lald (pc := 51) hx hb hK hpw (vp_in_nI (show 0 < 1 from by omega) (by omega)) dJ15_clear_51 ?_
  rw [nI_clamp (show 0 < 2 ^ 31 from by omega)]
  rw [hf]
  refine lv_lconst (v := 1) (pc := 52) hx hb dJ15_clear_52 (by decide) ?_
  refine lv_iload_n (pc := 53) hx hb dJ15_clear_53 rfl (lk hl rfl) ?_
  refine lv_lshl (pc := 54) hx hb dJ15_clear_54 rfl ?_
  refine lv_ldc2 (pc := 55) hx hb hown (hts _ q976) dJ15_clear_55 ?_
  refine lv_lxor (pc := 58) hx hb dJ15_clear_58 ?_
  refine lv_land (pc := 59) hx hb dJ15_clear_59 ?_
  rw [an_b v hv i hi ht]
  refine hw_last (pc := 60) hx hb hK (hpw) (hgw) hS (vp_in_nI (show 0 < 1 by omega) (by omega)) dJ15_clear_60 (fun H1 locs1 hp1 z1 o1 hS => ?_)
  have hpb := hpb.ne o1 hne.symm
  have ho := ho.trans (Off.put z1 o1 (Or.inr rfl))
  refine lv_aload_n (pc := 61) hx hb dJ15_clear_61 rfl (lk hl rfl) ?_
  refine hc_V (pc := 62) hx hb hml hown hts hK hS (j_bs_recalc l Γ _ b w (v - 2 ^ i) _ _ hpb (by rw [nI_clamp (by decide)]; rfl) hp1 (Nat.lt_of_le_of_lt (Nat.sub_le _ _) hv) hg hne) (cwV 0 hts (lw_V q1426 q1428 qs25 q90 q1429) rfl rfl rfl (by decide +kernel) ⟨(Nat.le_of_ble_eq_true rfl), (Nat.le_of_ble_eq_true rfl)⟩) (hK.recv hpb rfl) rfl hl.1 rfl (Nat.le_of_ble_eq_true rfl) dJ15_clear_62 ⟨by first | exact Nat.le_of_ble_eq_true rfl | (dsimp only [rmd]; omega), by first | exact Nat.le_of_ble_eq_true rfl | (dsimp only [rmd]; omega)⟩ (fun v9 H9 locs9 hq9 hS => ?_)
  obtain ⟨rfl, hpb, hpw, ho9⟩ := hq9
  have ho := ho.trans (ho9.mono (fun q _ e => Or.inl e))
  refine lv_aload_n (pc := 65) hx hb dJ15_clear_65 rfl (lk hl rfl) ?_
  refine hc_V (pc := 66) hx hb hml hown hts hK hS (j_bs_ci l Γ _ b) (cwV 0 hts (lw_V q966 q968 qs13 q90 q970) rfl rfl rfl (by decide +kernel) ⟨(Nat.le_of_ble_eq_true rfl), (Nat.le_of_ble_eq_true rfl)⟩) (hK.recv hpb rfl) rfl hl.1 rfl (Nat.le_of_ble_eq_true rfl) dJ15_clear_66 ⟨by first | exact Nat.le_of_ble_eq_true rfl | (dsimp only [rmd]; omega), by first | exact Nat.le_of_ble_eq_true rfl | (dsimp only [rmd]; omega)⟩ (fun v8 H8 locs8 hq8 hS => ?_)
  obtain ⟨rfl, rfl⟩ := hq8
  have hBn : BS Γ H9 b w (v - 2 ^ i) := ⟨hpb, _, by rw [nI_clamp (by decide)]; rfl, hpw⟩
  exact hr_v (pc := 69) hQ hx hb hr hlocks hS (by first | exact Nat.le_of_ble_eq_true rfl | (dsimp only [rmd]; omega)) (by first | exact Nat.le_of_ble_eq_true rfl | (dsimp only [rmd]; omega)) (⟨rfl, hBn, ho⟩) dJ15_clear_69
theorem j_bs_iw (l : Launch) (Γ : Cx) (H : Heap) (b : Nat) (u v : Value) (hpb : pt Γ H b (ob 12 [.null, u, v])) (hg : Gz Γ b) : Mt l Γ yJ15_initWords (ws_ yJ15_initWords cJ15_initWords 2 none) 2 1 1 [.ref b, .int (nI 64)] H (fun x H1 => x = none ∧ pt Γ H1 b (ob 12 [.ref H.size, u, v]) ∧ pt Γ H1 H.size (ja Γ 1 (fun _ => 0)) ∧ Gz Γ H.size ∧ Off (fun q => q = b) H H1) := by
  refine mt_of (by decide +kernel) (Nat.le_of_ble_eq_true rfl) ?_
  intro p e s m args below meth c ls Q hx hb hr hlocks hml hts hown hnm hK hS hl hQ
  have ho : Off (fun q => q = b) H H := Off.rf
  have hla := hpb.lt
  refine lv_aload_n (pc := 0) hx hb dJ15_initWords_0 rfl (lk hl rfl) ?_
  refine lv_iload_n (pc := 1) hx hb dJ15_initWords_1 rfl (lk hl rfl) ?_
  refine lv_iconst (v := nI 1) (pc := 2) hx hb dJ15_initWords_2 (by decide) ?_
  refine lv_isub (pc := 3) hx hb dJ15_initWords_3 ?_
  refine hw_top (congrArg Value.int (show _ = nI 63 from rfl)) ?_
  refine hc_S (pc := 4) hx hb hml hown hts hK hS (j_bs_wi l Γ _ 63 (by omega)) (va_cwS 1 hts (lw_S q973 q974 q90 q975) rfl rfl rfl (by decide +kernel) ⟨(Nat.le_of_ble_eq_true rfl), (Nat.le_of_ble_eq_true rfl)⟩) rfl hl.1 rfl (Nat.le_of_ble_eq_true rfl) dJ15_initWords_4 ⟨by first | exact Nat.le_of_ble_eq_true rfl | (dsimp only [rmd]; omega), by first | exact Nat.le_of_ble_eq_true rfl | (dsimp only [rmd]; omega)⟩ (fun v1 H1 locs1 hq1 hS => ?_)
  obtain ⟨rfl, rfl⟩ := hq1
  refine lv_iconst (v := nI 1) (pc := 7) hx hb dJ15_initWords_7 (by decide) ?_
  refine lv_iadd (pc := 8) hx hb dJ15_initWords_8 ?_
  refine hw_top (congrArg Value.int (show _ = nI 1 from nI_add _ _)) ?_
  refine hw_top (congrArg Value.int (show _ = nI 1 from rfl)) ?_
  refine hw_newl (N := 1) (pc := 9) hx hb hK (hts _ q1234) hS (by decide) (by decide) (by first | exact Nat.le_of_ble_eq_true rfl | (dsimp only [rmd]; omega)) (by first | exact Nat.le_of_ble_eq_true rfl | (dsimp only [rmd]; omega)) dJ15_initWords_9 (fun qn Hn eqn hpn hgn zn on hS => ?_)
  have hpb := hpb.old on
  have ho := ho.trans (Off.new zn on)
  have : b < Hn.size := hpb.lt
  have hne : b ≠ qn := by omega
  have hgb := hg
  refine hw_put (pc := 11) hx hb hts in_J15 tyJ15_ok nmJ15 hown hK (hpb) (hgb) hS rfl 0 (Nat.le_of_ble_eq_true rfl) (hts _ q1224) (fun x h => h) rfl rfl (rfl) (rfl) (Nat.le_of_ble_eq_true rfl) dJ15_initWords_11 (fun Hp2 locsp2 hpp2 zp2 op2 hS => ?_)
  have hpb : pt Γ Hp2 b (ob 12 [.ref qn, u, v]) := hpp2
  have ho := ho.trans (Off.put zp2 op2 (by first | rfl | (simp; done) | exact Or.inl rfl | exact Or.inr rfl | omega))
  subst eqn
  exact hr_v (pc := 14) hQ hx hb hr hlocks hS (by first | exact Nat.le_of_ble_eq_true rfl | (dsimp only [rmd]; omega)) (by first | exact Nat.le_of_ble_eq_true rfl | (dsimp only [rmd]; omega)) (⟨rfl, hpb, hpn.ne op2 (by omega), hgn, ho⟩) dJ15_initWords_14
theorem j_bs_init (l : Launch) (Γ : Cx) (H : Heap) (b : Nat) (hpb : pt Γ H b (ob 12 [.null, .int (nI 0), .int (nI 0)])) (hg : Gz Γ b) : Mt l Γ yJ15_init (ws_ yJ15_init cJ15_init 1 none) 3 1 1 [.ref b] H (fun x H1 => x = none ∧ BS Γ H1 b H.size 0 ∧ Gz Γ H.size ∧ Off (fun q => q = b) H H1) := by
  refine mt_of (by decide +kernel) (Nat.le_of_ble_eq_true rfl) ?_
  intro p e s m args below meth c ls Q hx hb hr hlocks hml hts hown hnm hK hS hl hQ
  have ho : Off (fun q => q = b) H H := Off.rf
  have hla := hpb.lt
  refine lv_aload_n (pc := 0) hx hb dJ15_init_0 rfl (lk hl rfl) ?_
  refine W.objInit hx hb hown (hts _ q1219) (hts _ q127) (hts _ q128) rfl (by rw [hml]; exact hl.1) rfl dJ15_init_1 (Nat.le_of_ble_eq_true rfl) (Nat.le_of_ble_eq_true rfl) ?_
  refine W.eq (g2 := F0 m 4 ls _) rfl ?_
  refine lv_aload_n (pc := 4) hx hb dJ15_init_4 rfl (lk hl rfl) ?_
  refine lv_iconst (v := nI 0) (pc := 5) hx hb dJ15_init_5 (by decide) ?_
  refine hw_put (pc := 6) hx hb hts in_J15 tyJ15_ok nmJ15 hown hK (hpb) (hg) hS rfl 1 (Nat.le_of_ble_eq_true rfl) (hts _ q1225) (fun x h => h) rfl rfl (rfl) (rfl) (Nat.le_of_ble_eq_true rfl) dJ15_init_6 (fun Hp1 locsp1 hpp1 zp1 op1 hS => ?_)
  have hpb : pt Γ Hp1 b (ob 12 [.null, .int (nI 0), .int (nI 0)]) := hpp1
  have ho := ho.trans (Off.put zp1 op1 (by first | rfl | (simp; done) | exact Or.inl rfl | exact Or.inr rfl | omega))
  refine lv_aload_n (pc := 9) hx hb dJ15_init_9 rfl (lk hl rfl) ?_
  refine lv_iconst (v := nI 0) (pc := 10) hx hb dJ15_init_10 (by decide) ?_
  refine hw_put (pc := 11) hx hb hts in_J15 tyJ15_ok nmJ15 hown hK (hpb) (hg) hS rfl 2 (Nat.le_of_ble_eq_true rfl) (hts _ q1226) (fun x h => h) rfl rfl (rfl) (rfl) (Nat.le_of_ble_eq_true rfl) dJ15_init_11 (fun Hp2 locsp2 hpp2 zp2 op2 hS => ?_)
  have hpb : pt Γ Hp2 b (ob 12 [.null, .int (nI 0), .int (nI 0)]) := hpp2
  have ho := ho.trans (Off.put zp2 op2 (by first | rfl | (simp; done) | exact Or.inl rfl | exact Or.inr rfl | omega))
  refine lv_aload_n (pc := 14) hx hb dJ15_init_14 rfl (lk hl rfl) ?_
  refine lv_bipush (v := nI 64) (pc := 15) hx hb dJ15_init_15 (by decide) ?_
  refine hc_V (pc := 17) hx hb hml hown hts hK hS (j_bs_iw l Γ _ b _ _ hpb hg) (cwV 1 hts (lw_V q1220 q1222 qs15 q90 q1223) rfl rfl rfl (by decide +kernel) ⟨(Nat.le_of_ble_eq_true rfl), (Nat.le_of_ble_eq_true rfl)⟩) (hK.recv hpb rfl) rfl hl.1 rfl (Nat.le_of_ble_eq_true rfl) dJ15_init_17 ⟨by first | exact Nat.le_of_ble_eq_true rfl | (dsimp only [rmd]; omega), by first | exact Nat.le_of_ble_eq_true rfl | (dsimp only [rmd]; omega)⟩ (fun v9 H9 locs9 hq9 hS => ?_)
  obtain ⟨rfl, hpb, hpw, hgw, ho9⟩ := hq9
  rw [zp2, zp1] at hpb hpw hgw
  have ho := ho.trans ho9
  refine lv_aload_n (pc := 20) hx hb dJ15_init_20 rfl (lk hl rfl) ?_
  refine lv_iconst (v := nI 0) (pc := 21) hx hb dJ15_init_21 (by decide) ?_
  refine hw_put (pc := 22) hx hb hts in_J15 tyJ15_ok nmJ15 hown hK (hpb) (hg) hS rfl 2 (Nat.le_of_ble_eq_true rfl) (hts _ q1226) (fun x h => h) rfl rfl (rfl) (rfl) (Nat.le_of_ble_eq_true rfl) dJ15_init_22 (fun Hp3 locsp3 hpp3 zp3 op3 hS => ?_)
  have hpb : pt Γ Hp3 b (ob 12 [.ref H.size, .int (nI 0), .int (nI 0)]) := hpp3
  have ho := ho.trans (Off.put zp3 op3 (by first | rfl | (simp; done) | exact Or.inl rfl | exact Or.inr rfl | omega))
  have hBn : BS Γ Hp3 b H.size 0 := ⟨hpb, _, rfl, hpw.ne op3 (by omega)⟩
  exact hr_v (pc := 25) hQ hx hb hr hlocks hS (by first | exact Nat.le_of_ble_eq_true rfl | (dsimp only [rmd]; omega)) (by first | exact Nat.le_of_ble_eq_true rfl | (dsimp only [rmd]; omega)) (⟨rfl, hBn, hgw, ho⟩) dJ15_init_25
