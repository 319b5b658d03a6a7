/-! java.util.BitSet of one word, its bits below four -/
set_option maxRecDepth 100000
set_option maxHeartbeats 4000000
def u01 (v : Nat) : Nat := if v = 0 then 0 else 1
theorem u01_p {v : Nat} (h : v ≠ 0) : u01 v = 1 := if_neg h
def BS (Γ : Cx) (H : Heap) (b w v : Nat) : Prop := pt Γ H b (ob 12 [.ref w, .int (nI (u01 v)), .int (nI 0)]) ∧ ∃ f : Nat → Int64, f 0 = Int64.ofNat v ∧ pt Γ H w (ja Γ 1 f)
theorem BS.off {Γ : Cx} {H H1 : Heap} {S : Nat → Prop} {b w v : Nat} (h : BS Γ H b w v) (o : Off S H H1) (hb9 : ¬ S b) (hw9 : ¬ S w) : BS Γ H1 b w v := by
  obtain ⟨h1, f, h2, h3⟩ := h
  exact ⟨h1.off o hb9, f, h2, h3.off o hw9⟩
def nsb (v i : Nat) : Nat := if i ≤ 0 ∧ v.testBit 0 = true then 1 else if i ≤ 1 ∧ v.testBit 1 = true then 2 else if i ≤ 2 ∧ v.testBit 2 = true then 3 else if i ≤ 3 ∧ v.testBit 3 = true then 4 else 0
def psb (v i : Nat) : Nat := if 3 ≤ i ∧ v.testBit 3 = true then 4 else if 2 ≤ i ∧ v.testBit 2 = true then 3 else if 1 ≤ i ∧ v.testBit 1 = true then 2 else if v.testBit 0 = true then 1 else 0
def ncb (v : Nat) : Nat := if v = 15 then 4 else lowC v
theorem j_bs_wi (l : Launch) (Γ : Cx) (H : Heap) (i : Nat) (hi : i < 64) : Mt l Γ yJ15_wordIndex (ws_ yJ15_wordIndex cJ15_wordIndex 1 (some .int)) 1 0 0 [.int (nI i)] H (Rd (nI 0) H) := by
  refine mt_of (by decide +kernel) (Nat.le_of_ble_eq_true rfl) ?_
  intro p e s m args below meth c ls Q hx hb hr hlocks hml hts hown hnm hK hS hl hQ
  refine lv_iload_n (pc := 0) hx hb dJ15_wordIndex_0 rfl (lk hl rfl) ?_
  refine lv_bipush (v := nI 6) (pc := 1) hx hb dJ15_wordIndex_1 (by decide) ?_
  refine lv_ishr (pc := 3) hx hb dJ15_wordIndex_3 ?_
  refine hw_top (congrArg Value.int (show _ = nI (i / 2 ^ 6) from n_shr (by omega) (by omega))) ?_
  exact hr_i (pc := 4) hQ hx hb hr hlocks hS (by first | exact Nat.le_of_ble_eq_true rfl | (dsimp only [rmd]; omega)) (by first | exact Nat.le_of_ble_eq_true rfl | (dsimp only [rmd]; omega)) (⟨by rw [show i / 2 ^ 6 = 0 by omega], rfl⟩) dJ15_wordIndex_4
theorem j_bs_ci (l : Launch) (Γ : Cx) (H : Heap) (b : Nat) : Mt l Γ yJ15_checkInvariants (ws_ yJ15_checkInvariants cJ15_checkInvariants 1 none) 1 0 0 [.ref b] H (Rn H) := by
  refine mt_of (by decide +kernel) (Nat.le_of_ble_eq_true rfl) ?_
  intro p e s m args below meth c ls Q hx hb hr hlocks hml hts hown hnm hK hS hl hQ
  refine va_gets (pc := 0) hx hb (hK.cc.2.2.2.2.1) hS hown (hts _ q971) (fun x h => h) dJ15_checkInvariants_0 ?_
  refine lv_if_ne (tgt := 37) (pc := 3) hx hb dJ15_checkInvariants_3 (by decide) (fun _ => ?_) (fun hn => absurd hn (by decide))
  refine va_gets (pc := 37) hx hb (hK.cc.2.2.2.2.1) hS hown (hts _ q971) (fun x h => h) dJ15_checkInvariants_37 ?_
  refine lv_if_ne (tgt := 70) (pc := 40) hx hb dJ15_checkInvariants_40 (by decide) (fun _ => ?_) (fun hn => absurd hn (by decide))
  refine va_gets (pc := 70) hx hb (hK.cc.2.2.2.2.1) hS hown (hts _ q971) (fun x h => h) dJ15_checkInvariants_70 ?_
  refine lv_if_ne (tgt := 110) (pc := 73) hx hb dJ15_checkInvariants_73 (by decide) (fun _ => ?_) (fun hn => absurd hn (by decide))
  exact hr_v (pc := 110) hQ hx hb hr hlocks hS (by first | exact Nat.le_of_ble_eq_true rfl | (dsimp only [rmd]; omega)) (by first | exact Nat.le_of_ble_eq_true rfl | (dsimp only [rmd]; omega)) (⟨rfl, rfl⟩) dJ15_checkInvariants_110
theorem ns_0 : ∀ v, v < 16 → ∀ i, i < 5 → lcI (Int64.ofNat v &&& ((-1 : Int64) <<< ((nI i).toInt64 &&& 63))) 0 = 0 → nsb v i = 0 := by decide +kernel
theorem ns_1 : ∀ v, v < 16 → ∀ i, i < 5 → lcI (Int64.ofNat v &&& ((-1 : Int64) <<< ((nI i).toInt64 &&& 63))) 0 ≠ 0 → nI 0 * nI 64 + ntL (Int64.ofNat v &&& ((-1 : Int64) <<< ((nI i).toInt64 &&& 63))) = nI (nsb v i) - 1 := by decide +kernel
theorem nsb_0 (i : Nat) : nsb 0 i = 0 := by simp [nsb]
theorem j_bs_next (l : Launch) (Γ : Cx) (H : Heap) (b w v i : Nat) (hB : BS Γ H b w v) (hv : v < 16) (hi : i < 5) : Mt l Γ yJ15_nextSetBit (ws_ yJ15_nextSetBit cJ15_nextSetBit 5 (some .int)) 3 0 0 [.ref b, .int (nI i)] H (Rd (nI (nsb v i) - 1) H) := by
  obtain ⟨hpb, f, hf, hpw⟩ := hB
  refine mt_of (by decide +kernel) (Nat.le_of_ble_eq_true rfl) ?_
  intro p e s m args below meth c ls Q hx hb hr hlocks hml hts hown hnm hK hS hl hQ
  refine lv_iload_n (pc := 0) hx hb dJ15_nextSetBit_0 rfl (lk hl rfl) ?_
  refine lv_if_ge (tgt := 31) (pc := 1) hx hb dJ15_nextSetBit_1 (by decide) (fun _ => ?_) (fun q => absurd (nI_0le (by omega)) q)
  refine lv_aload_n (pc := 31) hx hb dJ15_nextSetBit_31 rfl (lk hl rfl) ?_
  refine hc_V (pc := 32) hx hb hml hown hts hK hS (j_bs_ci l Γ H b) (cwV 0 hts (lw_V q966 q968 qs13 q90 q970) rfl rfl rfl (by decide +kernel) ⟨(Nat.le_of_ble_eq_true rfl), (Nat.le_of_ble_eq_true rfl)⟩) (hK.recv hpb rfl) rfl hl.1 rfl (Nat.le_of_ble_eq_true rfl) dJ15_nextSetBit_32 ⟨by first | exact Nat.le_of_ble_eq_true rfl | (dsimp only [rmd]; omega), by first | exact Nat.le_of_ble_eq_true rfl | (dsimp only [rmd]; omega)⟩ (fun v9 H9 locs9 hq9 hS => ?_)
  obtain ⟨rfl, rfl⟩ := hq9
  have hu : u01 v ≤ 1 := by unfold u01; split <;> omega
  refine lv_iload_n (pc := 35) hx hb dJ15_nextSetBit_35 rfl (lk hl rfl) ?_
  refine hc_S (pc := 36) hx hb hml hown hts hK hS (j_bs_wi l Γ _ i (by omega)) (va_cwS 1 hts (lw_S q973 q974 q90 q975) rfl rfl rfl (by decide +kernel) ⟨(Nat.le_of_ble_eq_true rfl), (Nat.le_of_ble_eq_true rfl)⟩) rfl hl.1 rfl (Nat.le_of_ble_eq_true rfl) dJ15_nextSetBit_36 ⟨by first | exact Nat.le_of_ble_eq_true rfl | (dsimp only [rmd]; omega), by first | exact Nat.le_of_ble_eq_true rfl | (dsimp only [rmd]; omega)⟩ (fun v1 H1 locs1 hq1 hS => ?_)
  obtain ⟨rfl, rfl⟩ := hq1
  refine lv_istore_n (pc := 39) hx hb dJ15_nextSetBit_39 rfl hl (Nat.le_of_ble_eq_true rfl) rfl (fun ls hl => ?_)
  refine lv_iload_n (pc := 40) hx hb dJ15_nextSetBit_40 rfl (lk hl rfl) ?_
  refine lv_aload_n (pc := 41) hx hb dJ15_nextSetBit_41 rfl (lk hl rfl) ?_
  refine hw_get (pc := 42) hx hb hts in_J15 hown hK (hpb) rfl 1 (Nat.le_of_ble_eq_true rfl) (hts _ q1225) (fun x h => h) rfl dJ15_nextSetBit_42 ?_
  refine hn_lt (tgt := 50) (pc := 45) hx hb dJ15_nextSetBit_45 (by decide) (by omega) (by omega) (fun h => ?_) (fun h => ?_)
  · have h0 : v ≠ 0 := fun e => by rw [e] at h; exact absurd h (by decide)
    refine lv_aload_n (pc := 50) hx hb dJ15_nextSetBit_50 rfl (lk hl rfl) ?_
    refine hw_get (pc := 51) hx hb hts in_J15 hown hK (hpb) rfl 0 (Nat.le_of_ble_eq_true rfl) (hts _ q1224) (fun x h => h) rfl dJ15_nextSetBit_51 ?_
    refine lv_iload_n (pc := 54) hx hb dJ15_nextSetBit_54 rfl (lk hl rfl) ?_
    refine hw_lald (pc := 55) hx hb hK hpw (vp_in_nI (show 0 < 1 from by omega) (by omega)) dJ15_nextSetBit_55 ?_
    rw [nI_clamp (show 0 < 2 ^ 31 from by omega)]
    rw [hf]
    refine lv_ldc2 (pc := 56) hx hb hown (hts _ q976) dJ15_nextSetBit_56 ?_
    refine lv_iload_n (pc := 59) hx hb dJ15_nextSetBit_59 rfl (lk hl rfl) ?_
    refine lv_lshl (pc := 60) hx hb dJ15_nextSetBit_60 rfl ?_
    refine lv_land (pc := 61) hx hb dJ15_nextSetBit_61 ?_
    refine lv_lstore_n (pc := 62) hx hb dJ15_nextSetBit_62 rfl hl (Nat.le_of_ble_eq_true rfl) rfl (fun ls hl => ?_)
    refine lv_lload_n (pc := 63) hx hb dJ15_nextSetBit_63 rfl (lk hl rfl) ?_
    refine lv_lconst (v := 0) (pc := 64) hx hb dJ15_nextSetBit_64 (by decide) ?_
    refine lv_lcmp (pc := 65) hx hb dJ15_nextSetBit_65 ?_
    refine lv_if_eq (tgt := 79) (pc := 66) hx hb dJ15_nextSetBit_66 (by decide) (fun h2 => ?_) (fun h2 => ?_)
    · have e9 := ns_0 v hv i hi h2
      refine hw_iinc (v := nI (0 + 1)) (pc := 79) hx hb dJ15_nextSetBit_79 hl (lk hl rfl) (n_inc _ 1) (Nat.le_of_ble_eq_true rfl) (fun ls hl => ?_)
      refine lv_iload_n (pc := 82) hx hb dJ15_nextSetBit_82 rfl (lk hl rfl) ?_
      refine lv_aload_n (pc := 83) hx hb dJ15_nextSetBit_83 rfl (lk hl rfl) ?_
      refine hw_get (pc := 84) hx hb hts in_J15 hown hK (hpb) rfl 1 (Nat.le_of_ble_eq_true rfl) (hts _ q1225) (fun x h => h) rfl dJ15_nextSetBit_84 ?_
      rw [u01_p h0]
      refine hn_ne (tgt := 92) (pc := 87) hx hb dJ15_nextSetBit_87 (by decide) (by omega) (by omega) (fun hn => absurd hn (by omega)) (fun _ => ?_)
      refine lv_iconst (v := nI 0 - 1) (pc := 90) hx hb dJ15_nextSetBit_90 (by decide) ?_
      exact hr_i (pc := 91) hQ hx hb hr hlocks hS (by first | exact Nat.le_of_ble_eq_true rfl | (dsimp only [rmd]; omega)) (by first | exact Nat.le_of_ble_eq_true rfl | (dsimp only [rmd]; omega)) (⟨by rw [e9], rfl⟩) dJ15_nextSetBit_91
    · skip
      refine lv_iload_n (pc := 69) hx hb dJ15_nextSetBit_69 rfl (lk hl rfl) ?_
      refine lv_bipush (v := nI 64) (pc := 70) hx hb dJ15_nextSetBit_70 (by decide) ?_
      refine lv_imul (pc := 72) hx hb dJ15_nextSetBit_72 ?_
      refine hw_top (congrArg Value.int (show _ = nI 0 from pk_mul _ _)) ?_
      refine lv_lload_n (pc := 73) hx hb dJ15_nextSetBit_73 rfl (lk hl rfl) ?_
      refine hc_S (pc := 74) hx hb hml hown hts hK hS (j_longNtz l Γ H _) (va_cwS 1 hts (lw_S q977 q978 q105 q979) rfl rfl rfl (by decide +kernel) ⟨(Nat.le_of_ble_eq_true rfl), (Nat.le_of_ble_eq_true rfl)⟩) rfl hl.1 rfl (Nat.le_of_ble_eq_true rfl) dJ15_nextSetBit_74 ⟨by first | exact Nat.le_of_ble_eq_true rfl | (dsimp only [rmd]; omega), by first | exact Nat.le_of_ble_eq_true rfl | (dsimp only [rmd]; omega)⟩ (fun v8 H8 locs8 hq8 hS => ?_)
      obtain ⟨rfl, rfl⟩ := hq8
      refine lv_iadd (pc := 77) hx hb dJ15_nextSetBit_77 ?_
      exact hr_i (pc := 78) hQ hx hb hr hlocks hS (by first | exact Nat.le_of_ble_eq_true rfl | (dsimp only [rmd]; omega)) (by first | exact Nat.le_of_ble_eq_true rfl | (dsimp only [rmd]; omega)) (⟨congrArg some (congrArg Value.int (ns_1 v hv i hi h2)), rfl⟩) dJ15_nextSetBit_78
  · skip
    have h0 : v = 0 := by
      rcases Nat.eq_zero_or_pos v with e | e
      · exact e
      · rw [u01_p (by omega)] at h
        omega
    subst h0
    refine lv_iconst (v := nI 0 - 1) (pc := 48) hx hb dJ15_nextSetBit_48 (by decide) ?_
    exact hr_i (pc := 49) hQ hx hb hr hlocks hS (by first | exact Nat.le_of_ble_eq_true rfl | (dsimp only [rmd]; omega)) (by first | exact Nat.le_of_ble_eq_true rfl | (dsimp only [rmd]; omega)) (⟨by rw [nsb_0], rfl⟩) dJ15_nextSetBit_49
theorem ps_0 : ∀ v, v < 16 → ∀ i, i < 4 → lcI (Int64.ofNat v &&& ((-1 : Int64).toUInt64 >>> ((-(nI (i + 1))).toInt64.toUInt64 &&& Int64.toUInt64 63)).toInt64) 0 = 0 → psb v i = 0 := by decide +kernel
theorem ps_1 : ∀ v, v < 16 → ∀ i, i < 4 → lcI (Int64.ofNat v &&& ((-1 : Int64).toUInt64 >>> ((-(nI (i + 1))).toInt64.toUInt64 &&& Int64.toUInt64 63)).toInt64) 0 ≠ 0 → (nI 64 - 1) - nlL (Int64.ofNat v &&& ((-1 : Int64).toUInt64 >>> ((-(nI (i + 1))).toInt64.toUInt64 &&& Int64.toUInt64 63)).toInt64) = nI (psb v i) - 1 := by decide +kernel
theorem psb_0 (i : Nat) : psb 0 i = 0 := by simp [psb]
theorem j_bs_length0 (l : Launch) (Γ : Cx) (H : Heap) (b : Nat) (w u : Value) (hpb : pt Γ H b (ob 12 [w, .int (nI 0), u])) : Mt l Γ yJ15_length (ws_ yJ15_length cJ15_length 1 (some .int)) 1 0 0 [.ref b] H (Rd (nI 0) H) := by
  refine mt_of (by decide +kernel) (Nat.le_of_ble_eq_true rfl) ?_
  intro p e s m args below meth c ls Q hx hb hr hlocks hml hts hown hnm hK hS hl hQ
  refine lv_aload_n (pc := 0) hx hb dJ15_length_0 rfl (lk hl rfl) ?_
  refine hw_get (pc := 1) hx hb hts in_J15 hown hK (hpb) rfl 1 (Nat.le_of_ble_eq_true rfl) (hts _ q1225) (fun x h => h) rfl dJ15_length_1 ?_
  refine hn_z_ne (tgt := 9) (pc := 4) hx hb dJ15_length_4 (by decide) (by omega) (fun hn => absurd hn (by simp)) (fun _ => ?_)
  refine lv_iconst (v := nI 0) (pc := 7) hx hb dJ15_length_7 (by decide) ?_
  exact hr_i (pc := 8) hQ hx hb hr hlocks hS (by first | exact Nat.le_of_ble_eq_true rfl | (dsimp only [rmd]; omega)) (by first | exact Nat.le_of_ble_eq_true rfl | (dsimp only [rmd]; omega)) (⟨rfl, rfl⟩) dJ15_length_8
theorem j_bs_prev (l : Launch) (Γ : Cx) (H : Heap) (b w v i : Nat) (hB : BS Γ H b w v) (hv : v < 16) (hi : i < 4) : Mt l Γ yJ15_previousSetBit (ws_ yJ15_previousSetBit cJ15_previousSetBit 5 (some .int)) 3 0 0 [.ref b, .int (nI i)] H (Rd (nI (psb v i) - 1) H) := by
  obtain ⟨hpb, f, hf, hpw⟩ := hB
  refine mt_of (by decide +kernel) (Nat.le_of_ble_eq_true rfl) ?_
  intro p e s m args below meth c ls Q hx hb hr hlocks hml hts hown hnm hK hS hl hQ
  refine lv_iload_n (pc := 0) hx hb dJ15_previousSetBit_0 rfl (lk hl rfl) ?_
  refine lv_if_ge (tgt := 38) (pc := 1) hx hb dJ15_previousSetBit_1 (by decide) (fun _ => ?_) (fun q => absurd (nI_0le (by omega)) q)
  refine lv_aload_n (pc := 38) hx hb dJ15_previousSetBit_38 rfl (lk hl rfl) ?_
  refine hc_V (pc := 39) hx hb hml hown hts hK hS (j_bs_ci l Γ H b) (cwV 0 hts (lw_V q966 q968 qs13 q90 q970) rfl rfl rfl (by decide +kernel) ⟨(Nat.le_of_ble_eq_true rfl), (Nat.le_of_ble_eq_true rfl)⟩) (hK.recv hpb rfl) rfl hl.1 rfl (Nat.le_of_ble_eq_true rfl) dJ15_previousSetBit_39 ⟨by first | exact Nat.le_of_ble_eq_true rfl | (dsimp only [rmd]; omega), by first | exact Nat.le_of_ble_eq_true rfl | (dsimp only [rmd]; omega)⟩ (fun v9 H9 locs9 hq9 hS => ?_)
  obtain ⟨rfl, rfl⟩ := hq9
  have hu : u01 v ≤ 1 := by unfold u01; split <;> omega
  refine lv_iload_n (pc := 42) hx hb dJ15_previousSetBit_42 rfl (lk hl rfl) ?_
  refine hc_S (pc := 43) hx hb hml hown hts hK hS (j_bs_wi l Γ _ i (by omega)) (va_cwS 1 hts (lw_S q973 q974 q90 q975) rfl rfl rfl (by decide +kernel) ⟨(Nat.le_of_ble_eq_true rfl), (Nat.le_of_ble_eq_true rfl)⟩) rfl hl.1 rfl (Nat.le_of_ble_eq_true rfl) dJ15_previousSetBit_43 ⟨by first | exact Nat.le_of_ble_eq_true rfl | (dsimp only [rmd]; omega), by first | exact Nat.le_of_ble_eq_true rfl | (dsimp only [rmd]; omega)⟩ (fun v1 H1 locs1 hq1 hS => ?_)
  obtain ⟨rfl, rfl⟩ := hq1
  refine lv_istore_n (pc := 46) hx hb dJ15_previousSetBit_46 rfl hl (Nat.le_of_ble_eq_true rfl) rfl (fun ls hl => ?_)
  refine lv_iload_n (pc := 47) hx hb dJ15_previousSetBit_47 rfl (lk hl rfl) ?_
  refine lv_aload_n (pc := 48) hx hb dJ15_previousSetBit_48 rfl (lk hl rfl) ?_
  refine hw_get (pc := 49) hx hb hts in_J15 hown hK (hpb) rfl 1 (Nat.le_of_ble_eq_true rfl) (hts _ q1225) (fun x h => h) rfl dJ15_previousSetBit_49 ?_
  refine hn_lt (tgt := 62) (pc := 52) hx hb dJ15_previousSetBit_52 (by decide) (by omega) (by omega) (fun h => ?_) (fun h => ?_)
  · have h0 : v ≠ 0 := fun e => by rw [e] at h; exact absurd h (by decide)
    refine lv_aload_n (pc := 62) hx hb dJ15_previousSetBit_62 rfl (lk hl rfl) ?_
    refine hw_get (pc := 63) hx hb hts in_J15 hown hK (hpb) rfl 0 (Nat.le_of_ble_eq_true rfl) (hts _ q1224) (fun x h => h) rfl dJ15_previousSetBit_63 ?_
    refine lv_iload_n (pc := 66) hx hb dJ15_previousSetBit_66 rfl (lk hl rfl) ?_
    refine hw_lald (pc := 67) hx hb hK hpw (vp_in_nI (show 0 < 1 from by omega) (by omega)) dJ15_previousSetBit_67 ?_
    rw [nI_clamp (show 0 < 2 ^ 31 from by omega)]
    rw [hf]
    refine lv_ldc2 (pc := 68) hx hb hown (hts _ q976) dJ15_previousSetBit_68 ?_
    refine lv_iload_n (pc := 71) hx hb dJ15_previousSetBit_71 rfl (lk hl rfl) ?_
    refine lv_iconst (v := nI 1) (pc := 72) hx hb dJ15_previousSetBit_72 (by decide) ?_
    refine lv_iadd (pc := 73) hx hb dJ15_previousSetBit_73 ?_
    refine hw_top (congrArg Value.int (show _ = nI (i + 1) from nI_add _ _)) ?_
    refine lv_ineg (pc := 74) hx hb dJ15_previousSetBit_74 ?_
    refine lv_lushr (pc := 75) hx hb dJ15_previousSetBit_75 rfl ?_
    refine lv_land (pc := 76) hx hb dJ15_previousSetBit_76 ?_
    refine lv_lstore_n (pc := 77) hx hb dJ15_previousSetBit_77 rfl hl (Nat.le_of_ble_eq_true rfl) rfl (fun ls hl => ?_)
    refine lv_lload_n (pc := 78) hx hb dJ15_previousSetBit_78 rfl (lk hl rfl) ?_
    refine lv_lconst (v := 0) (pc := 79) hx hb dJ15_previousSetBit_79 (by decide) ?_
    refine lv_lcmp (pc := 80) hx hb dJ15_previousSetBit_80 ?_
    refine lv_if_eq (tgt := 98) (pc := 81) hx hb dJ15_previousSetBit_81 (by decide) (fun h2 => ?_) (fun h2 => ?_)
    · have e9 := ps_0 v hv i hi h2
      refine lv_iload_n (pc := 98) hx hb dJ15_previousSetBit_98 rfl (lk hl rfl) ?_
      refine hw_iinc (v := nI 0 - 1) (pc := 99) hx hb dJ15_previousSetBit_99 hl (lk hl rfl) (n_dec _) (Nat.le_of_ble_eq_true rfl) (fun ls hl => ?_)
      refine hn_z_ne (tgt := 107) (pc := 102) hx hb dJ15_previousSetBit_102 (by decide) (by omega) (fun hn => absurd hn (by omega)) (fun _ => ?_)
      refine lv_iconst (v := nI 0 - 1) (pc := 105) hx hb dJ15_previousSetBit_105 (by decide) ?_
      exact hr_i (pc := 106) hQ hx hb hr hlocks hS (by first | exact Nat.le_of_ble_eq_true rfl | (dsimp only [rmd]; omega)) (by first | exact Nat.le_of_ble_eq_true rfl | (dsimp only [rmd]; omega)) (⟨by rw [e9], rfl⟩) dJ15_previousSetBit_106
    · skip
      refine lv_iload_n (pc := 84) hx hb dJ15_previousSetBit_84 rfl (lk hl rfl) ?_
      refine lv_iconst (v := nI 1) (pc := 85) hx hb dJ15_previousSetBit_85 (by decide) ?_
      refine lv_iadd (pc := 86) hx hb dJ15_previousSetBit_86 ?_
      refine hw_top (congrArg Value.int (show _ = nI 1 from nI_add _ _)) ?_
      refine lv_bipush (v := nI 64) (pc := 87) hx hb dJ15_previousSetBit_87 (by decide) ?_
      refine lv_imul (pc := 89) hx hb dJ15_previousSetBit_89 ?_
      refine hw_top (congrArg Value.int (show _ = nI 64 from pk_mul _ _)) ?_
      refine lv_iconst (v := nI 1) (pc := 90) hx hb dJ15_previousSetBit_90 (by decide) ?_
      refine lv_isub (pc := 91) hx hb dJ15_previousSetBit_91 ?_
      refine hw_top (congrArg Value.int (show _ = nI 64 - 1 from n_1 _)) ?_
      refine lv_lload_n (pc := 92) hx hb dJ15_previousSetBit_92 rfl (lk hl rfl) ?_
      refine hc_S (pc := 93) hx hb hml hown hts hK hS (j_longNlz l Γ H _) (va_cwS 1 hts (lw_S q993 q994 q105 q995) rfl rfl rfl (by decide +kernel) ⟨(Nat.le_of_ble_eq_true rfl), (Nat.le_of_ble_eq_true rfl)⟩) rfl hl.1 rfl (Nat.le_of_ble_eq_true rfl) dJ15_previousSetBit_93 ⟨by first | exact Nat.le_of_ble_eq_true rfl | (dsimp only [rmd]; omega), by first | exact Nat.le_of_ble_eq_true rfl | (dsimp only [rmd]; omega)⟩ (fun v8 H8 locs8 hq8 hS => ?_)
      obtain ⟨rfl, rfl⟩ := hq8
      refine lv_isub (pc := 96) hx hb dJ15_previousSetBit_96 ?_
      exact hr_i (pc := 97) hQ hx hb hr hlocks hS (by first | exact Nat.le_of_ble_eq_true rfl | (dsimp only [rmd]; omega)) (by first | exact Nat.le_of_ble_eq_true rfl | (dsimp only [rmd]; omega)) (⟨congrArg some (congrArg Value.int (ps_1 v hv i hi h2)), rfl⟩) dJ15_previousSetBit_97
  · skip
    have h0 : v = 0 := by
      rcases Nat.eq_zero_or_pos v with e | e
      · exact e
      · rw [u01_p (by omega)] at h
        omega
    subst h0
    refine lv_aload_n (pc := 55) hx hb dJ15_previousSetBit_55 rfl (lk hl rfl) ?_
    refine hc_V (pc := 56) hx hb hml hown hts hK hS (j_bs_length0 l Γ H b _ _ hpb) (cwV 0 hts (lw_V q989 q990 q991 q90 q992) rfl rfl rfl (by decide +kernel) ⟨(Nat.le_of_ble_eq_true rfl), (Nat.le_of_ble_eq_true rfl)⟩) (hK.recv hpb rfl) rfl hl.1 rfl (Nat.le_of_ble_eq_true rfl) dJ15_previousSetBit_56 ⟨by first | exact Nat.le_of_ble_eq_true rfl | (dsimp only [rmd]; omega), by first | exact Nat.le_of_ble_eq_true rfl | (dsimp only [rmd]; omega)⟩ (fun v8 H8 locs8 hq8 hS => ?_)
    obtain ⟨rfl, rfl⟩ := hq8
    refine lv_iconst (v := nI 1) (pc := 59) hx hb dJ15_previousSetBit_59 (by decide) ?_
    refine lv_isub (pc := 60) hx hb dJ15_previousSetBit_60 ?_
    refine hw_top (congrArg Value.int (show _ = nI 0 - 1 from n_1 _)) ?_
    exact hr_i (pc := 61) hQ hx hb hr hlocks hS (by first | exact Nat.le_of_ble_eq_true rfl | (dsimp only [rmd]; omega)) (by first | exact Nat.le_of_ble_eq_true rfl | (dsimp only [rmd]; omega)) (⟨by rw [psb_0], rfl⟩) dJ15_previousSetBit_61
theorem nc_0 : ∀ v, v < 16 → lcI ((Int64.ofNat v ^^^ (-1 : Int64)) &&& ((-1 : Int64) <<< ((nI 0).toInt64 &&& 63))) 0 ≠ 0 := by decide +kernel
theorem nc_1 : ∀ v, v < 16 → nI 0 + ntL ((Int64.ofNat v ^^^ (-1 : Int64)) &&& ((-1 : Int64) <<< ((nI 0).toInt64 &&& 63))) = nI (ncb v) := by decide +kernel
theorem j_bs_nextClear (l : Launch) (Γ : Cx) (H : Heap) (b w v : Nat) (hB : BS Γ H b w v) (hv : v < 16) : Mt l Γ yJ15_nextClearBit (ws_ yJ15_nextClearBit cJ15_nextClearBit 5 (some .int)) 3 0 0 [.ref b, .int (nI 0)] H (Rd (nI (ncb v)) H) := by
  obtain ⟨hpb, f, hf, hpw⟩ := hB
  refine mt_of (by decide +kernel) (Nat.le_of_ble_eq_true rfl) ?_
  intro p e s m args below meth c ls Q hx hb hr hlocks hml hts hown hnm hK hS hl hQ
  refine lv_iload_n (pc := 0) hx hb dJ15_nextClearBit_0 rfl (lk hl rfl) ?_
  refine lv_if_ge (tgt := 31) (pc := 1) hx hb dJ15_nextClearBit_1 (by decide) (fun _ => ?_) (fun q => absurd (nI_0le (by omega)) q)
  refine lv_aload_n (pc := 31) hx hb dJ15_nextClearBit_31 rfl (lk hl rfl) ?_
  refine hc_V (pc := 32) hx hb hml hown hts hK hS (j_bs_ci l Γ H b) (cwV 0 hts (lw_V q966 q968 qs13 q90 q970) rfl rfl rfl (by decide +kernel) ⟨(Nat.le_of_ble_eq_true rfl), (Nat.le_of_ble_eq_true rfl)⟩) (hK.recv hpb rfl) rfl hl.1 rfl (Nat.le_of_ble_eq_true rfl) dJ15_nextClearBit_32 ⟨by first | exact Nat.le_of_ble_eq_true rfl | (dsimp only [rmd]; omega), by first | exact Nat.le_of_ble_eq_true rfl | (dsimp only [rmd]; omega)⟩ (fun v9 H9 locs9 hq9 hS => ?_)
  obtain ⟨rfl, rfl⟩ := hq9
  have hu : u01 v ≤ 1 := by unfold u01; split <;> omega
  refine lv_iload_n (pc := 35) hx hb dJ15_nextClearBit_35 rfl (lk hl rfl) ?_
  refine hc_S (pc := 36) hx hb hml hown hts hK hS (j_bs_wi l Γ _ 0 (by omega)) (va_cwS 1 hts (lw_S q973 q974 q90 q975) rfl rfl rfl (by decide +kernel) ⟨(Nat.le_of_ble_eq_true rfl), (Nat.le_of_ble_eq_true rfl)⟩) rfl hl.1 rfl (Nat.le_of_ble_eq_true rfl) dJ15_nextClearBit_36 ⟨by first | exact Nat.le_of_ble_eq_true rfl | (dsimp only [rmd]; omega), by first | exact Nat.le_of_ble_eq_true rfl | (dsimp only [rmd]; omega)⟩ (fun v1 H1 locs1 hq1 hS => ?_)
  obtain ⟨rfl, rfl⟩ := hq1
  refine lv_istore_n (pc := 39) hx hb dJ15_nextClearBit_39 rfl hl (Nat.le_of_ble_eq_true rfl) rfl (fun ls hl => ?_)
  refine lv_iload_n (pc := 40) hx hb dJ15_nextClearBit_40 rfl (lk hl rfl) ?_
  refine lv_aload_n (pc := 41) hx hb dJ15_nextClearBit_41 rfl (lk hl rfl) ?_
  refine hw_get (pc := 42) hx hb hts in_J15 hown hK (hpb) rfl 1 (Nat.le_of_ble_eq_true rfl) (hts _ q1225) (fun x h => h) rfl dJ15_nextClearBit_42 ?_
  refine hn_lt (tgt := 50) (pc := 45) hx hb dJ15_nextClearBit_45 (by decide) (by omega) (by omega) (fun h => ?_) (fun h => ?_)
  · refine lv_aload_n (pc := 50) hx hb dJ15_nextClearBit_50 rfl (lk hl rfl) ?_
    refine hw_get (pc := 51) hx hb hts in_J15 hown hK (hpb) rfl 0 (Nat.le_of_ble_eq_true rfl) (hts _ q1224) (fun x h => h) rfl dJ15_nextClearBit_51 ?_
    refine lv_iload_n (pc := 54) hx hb dJ15_nextClearBit_54 rfl (lk hl rfl) ?_
    refine hw_lald (pc := 55) hx hb hK hpw (vp_in_nI (show 0 < 1 from by omega) (by omega)) dJ15_nextClearBit_55 ?_
    rw [nI_clamp (show 0 < 2 ^ 31 from by omega)]
    rw [hf]
    refine lv_ldc2 (pc := 56) hx hb hown (hts _ q976) dJ15_nextClearBit_56 ?_
    refine lv_lxor (pc := 59) hx hb dJ15_nextClearBit_59 ?_
    refine lv_ldc2 (pc := 60) hx hb hown (hts _ q976) dJ15_nextClearBit_60 ?_
    refine lv_iload_n (pc := 63) hx hb dJ15_nextClearBit_63 rfl (lk hl rfl) ?_
    refine lv_lshl (pc := 64) hx hb dJ15_nextClearBit_64 rfl ?_
    refine lv_land (pc := 65) hx hb dJ15_nextClearBit_65 ?_
    refine lv_lstore_n (pc := 66) hx hb dJ15_nextClearBit_66 rfl hl (Nat.le_of_ble_eq_true rfl) rfl (fun ls hl => ?_)
    refine lv_lload_n (pc := 67) hx hb dJ15_nextClearBit_67 rfl (lk hl rfl) ?_
    refine lv_lconst (v := 0) (pc := 68) hx hb dJ15_nextClearBit_68 (by decide) ?_
    refine lv_lcmp (pc := 69) hx hb dJ15_nextClearBit_69 ?_
    refine lv_if_eq (tgt := 83) (pc := 70) hx hb dJ15_nextClearBit_70 (by decide) (fun hn => absurd hn (fun q => nc_0 v hv q)) (fun _ => ?_)
    refine lv_iload_n (pc := 73) hx hb dJ15_nextClearBit_73 rfl (lk hl rfl) ?_
    refine lv_bipush (v := nI 64) (pc := 74) hx hb dJ15_nextClearBit_74 (by decide) ?_
    refine lv_imul (pc := 76) hx hb dJ15_nextClearBit_76 ?_
    refine hw_top (congrArg Value.int (show _ = nI 0 from pk_mul _ _)) ?_
    refine lv_lload_n (pc := 77) hx hb dJ15_nextClearBit_77 rfl (lk hl rfl) ?_
    refine hc_S (pc := 78) hx hb hml hown hts hK hS (j_longNtz l Γ H _) (va_cwS 1 hts (lw_S q977 q978 q105 q979) rfl rfl rfl (by decide +kernel) ⟨(Nat.le_of_ble_eq_true rfl), (Nat.le_of_ble_eq_true rfl)⟩) rfl hl.1 rfl (Nat.le_of_ble_eq_true rfl) dJ15_nextClearBit_78 ⟨by first | exact Nat.le_of_ble_eq_true rfl | (dsimp only [rmd]; omega), by first | exact Nat.le_of_ble_eq_true rfl | (dsimp only [rmd]; omega)⟩ (fun v8 H8 locs8 hq8 hS => ?_)
    obtain ⟨rfl, rfl⟩ := hq8
    refine lv_iadd (pc := 81) hx hb dJ15_nextClearBit_81 ?_
    exact hr_i (pc := 82) hQ hx hb hr hlocks hS (by first | exact Nat.le_of_ble_eq_true rfl | (dsimp only [rmd]; omega)) (by first | exact Nat.le_of_ble_eq_true rfl | (dsimp only [rmd]; omega)) (⟨congrArg some (congrArg Value.int (nc_1 v hv)), rfl⟩) dJ15_nextClearBit_82
  · skip
    have h0 : v = 0 := by
      rcases Nat.eq_zero_or_pos v with e | e
      · exact e
      · rw [u01_p (by omega)] at h
        omega
    subst h0
    refine lv_iload_n (pc := 48) hx hb dJ15_nextClearBit_48 rfl (lk hl rfl) ?_
    exact hr_i (pc := 49) hQ hx hb hr hlocks hS (by first | exact Nat.le_of_ble_eq_true rfl | (dsimp only [rmd]; omega)) (by first | exact Nat.le_of_ble_eq_true rfl | (dsimp only [rmd]; omega)) (⟨rfl, rfl⟩) dJ15_nextClearBit_49
theorem gb_t : ∀ v, v < 16 → ∀ i, i < 4 → lcI (Int64.ofNat v &&& ((1 : Int64) <<< ((nI i).toInt64 &&& 63))) 0 = 0 → v.testBit i = false := by decide +kernel
theorem gb_f : ∀ v, v < 16 → ∀ i, i < 4 → lcI (Int64.ofNat v &&& ((1 : Int64) <<< ((nI i).toInt64 &&& 63))) 0 ≠ 0 → v.testBit i = true := by decide +kernel
theorem j_bs_get (l : Launch) (Γ : Cx) (H : Heap) (b w v i : Nat) (hB : BS Γ H b w v) (hv : v < 16) (hi : i < 4) : Mt l Γ yJ15_get (ws_ yJ15_get cJ15_get 3 (some .boolean)) 3 0 0 [.ref b, .int (nI i)] H (Rd (b01 (v.testBit i)) H) := by
  obtain ⟨hpb, f, hf, hpw⟩ := hB
  refine mt_of (by decide +kernel) (Nat.le_of_ble_eq_true rfl) ?_
  intro p e s m args below meth c ls Q hx hb hr hlocks hml hts hown hnm hK hS hl hQ
  refine lv_iload_n (pc := 0) hx hb dJ15_get_0 rfl (lk hl rfl) ?_
  refine lv_if_ge (tgt := 31) (pc := 1) hx hb dJ15_get_1 (by decide) (fun _ => ?_) (fun q => absurd (nI_0le (by omega)) q)
  refine lv_aload_n (pc := 31) hx hb dJ15_get_31 rfl (lk hl rfl) ?_
  refine hc_V (pc := 32) hx hb hml hown hts hK hS (j_bs_ci l Γ H b) (cwV 0 hts (lw_V q966 q968 qs13 q90 q970) rfl rfl rfl (by decide +kernel) ⟨(Nat.le_of_ble_eq_true rfl), (Nat.le_of_ble_eq_true rfl)⟩) (hK.recv hpb rfl) rfl hl.1 rfl (Nat.le_of_ble_eq_true rfl) dJ15_get_32 ⟨by first | exact Nat.le_of_ble_eq_true rfl | (dsimp only [rmd]; omega), by first | exact Nat.le_of_ble_eq_true rfl | (dsimp only [rmd]; omega)⟩ (fun v9 H9 locs9 hq9 hS => ?_)
  obtain ⟨rfl, rfl⟩ := hq9
  have hu : u01 v ≤ 1 := by unfold u01; split <;> omega
  refine lv_iload_n (pc := 35) hx hb dJ15_get_35 rfl (lk hl rfl) ?_
  refine hc_S (pc := 36) hx hb hml hown hts hK hS (j_bs_wi l Γ _ i (by omega)) (va_cwS 1 hts (lw_S q973 q974 q90 q975) rfl rfl rfl (by decide +kernel) ⟨(Nat.le_of_ble_eq_true rfl), (Nat.le_of_ble_eq_true rfl)⟩) rfl hl.1 rfl (Nat.le_of_ble_eq_true rfl) dJ15_get_36 ⟨by first | exact Nat.le_of_ble_eq_true rfl | (dsimp only [rmd]; omega), by first | exact Nat.le_of_ble_eq_true rfl | (dsimp only [rmd]; omega)⟩ (fun v1 H1 locs1 hq1 hS => ?_)
  obtain ⟨rfl, rfl⟩ := hq1
  refine lv_istore_n (pc := 39) hx hb dJ15_get_39 rfl hl (Nat.le_of_ble_eq_true rfl) rfl (fun ls hl => ?_)
  refine lv_iload_n (pc := 40) hx hb dJ15_get_40 rfl (lk hl rfl) ?_
  refine lv_aload_n (pc := 41) hx hb dJ15_get_41 rfl (lk hl rfl) ?_
  refine hw_get (pc := 42) hx hb hts in_J15 hown hK (hpb) rfl 1 (Nat.le_of_ble_eq_true rfl) (hts _ q1225) (fun x h => h) rfl dJ15_get_42 ?_
  refine hn_ge (tgt := 67) (pc := 45) hx hb dJ15_get_45 (by decide) (by omega) (by omega) (fun h => ?_) (fun h => ?_)
  · have h0 : v = 0 := by
      rcases Nat.eq_zero_or_pos v with e | e
      · exact e
      · rw [u01_p (by omega)] at h
        omega
    subst h0
    refine lv_iconst (v := nI 0) (pc := 67) hx hb dJ15_get_67 (by decide) ?_
    exact hr_z (pc := 68) hQ hx hb hr hlocks hS (by first | exact Nat.le_of_ble_eq_true rfl | (dsimp only [rmd]; omega)) (by first | exact Nat.le_of_ble_eq_true rfl | (dsimp only [rmd]; omega)) (rfl) (⟨by rw [Nat.zero_testBit]; rfl, rfl⟩) dJ15_get_68
  · skip
    refine lv_aload_n (pc := 48) hx hb dJ15_get_48 rfl (lk hl rfl) ?_
    refine hw_get (pc := 49) hx hb hts in_J15 hown hK (hpb) rfl 0 (Nat.le_of_ble_eq_true rfl) (hts _ q1224) (fun x h => h) rfl dJ15_get_49 ?_
    refine lv_iload_n (pc := 52) hx hb dJ15_get_52 rfl (lk hl rfl) ?_
    refine hw_lald (pc := 53) hx hb hK hpw (vp_in_nI (show 0 < 1 from by omega) (by omega)) dJ15_get_53 ?_
    rw [nI_clamp (show 0 < 2 ^ 31 from by omega)]
    rw [hf]
    refine lv_lconst (v := 1) (pc := 54) hx hb dJ15_get_54 (by decide) ?_
    refine lv_iload_n (pc := 55) hx hb dJ15_get_55 rfl (lk hl rfl) ?_
    refine lv_lshl (pc := 56) hx hb dJ15_get_56 rfl ?_
    refine lv_land (pc := 57) hx hb dJ15_get_57 ?_
    refine lv_lconst (v := 0) (pc := 58) hx hb dJ15_get_58 (by decide) ?_
    refine lv_lcmp (pc := 59) hx hb dJ15_get_59 ?_
    refine lv_if_eq (tgt := 67) (pc := 60) hx hb dJ15_get_60 (by decide) (fun h2 => ?_) (fun h2 => ?_)
    · refine lv_iconst (v := nI 0) (pc := 67) hx hb dJ15_get_67 (by decide) ?_
      exact hr_z (pc := 68) hQ hx hb hr hlocks hS (by first | exact Nat.le_of_ble_eq_true rfl | (dsimp only [rmd]; omega)) (by first | exact Nat.le_of_ble_eq_true rfl | (dsimp only [rmd]; omega)) (rfl) (⟨by rw [gb_t v hv i hi h2]; rfl, rfl⟩) dJ15_get_68
    · skip
      refine lv_iconst (v := nI 1) (pc := 63) hx hb dJ15_get_63 (by decide) ?_
      refine lv_goto (tgt := 68) (pc := 64) hx hb dJ15_get_64 (by decide) ?_
      exact hr_z (pc := 68) hQ hx hb hr hlocks hS (by first | exact Nat.le_of_ble_eq_true rfl | (dsimp only [rmd]; omega)) (by first | exact Nat.le_of_ble_eq_true rfl | (dsimp only [rmd]; omega)) (rfl) (⟨by rw [gb_f v hv i hi h2]; rfl, rfl⟩) dJ15_get_68
