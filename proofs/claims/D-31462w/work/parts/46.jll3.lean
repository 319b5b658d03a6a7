/-! LinkedList: clear, made; its iterator -/
set_option maxRecDepth 100000
set_option maxHeartbeats 4000000
theorem j_ll_clear (l : Launch) (Γ : Cx) (H : Heap) (a n : Nat) (ν it : Nat → Nat) (md : Nat) (hL : LL Γ H a n ν it md) (hg : Gz Γ a) (hgn9 : ∀ k, k < n → Gz Γ (ν k)) (hna : ∀ k, k < n → ν k ≠ a) (hinj : ∀ i j, i < n → j < n → ν i = ν j → i = j) : Mt l Γ yJ8_clear (ws_ yJ8_clear cJ8_clear 3 none) 1 0 0 [.ref a] H (fun v H1 => v = none ∧ pt Γ H1 a (ob 10 [.int (nI (md + 1)), .int (nI 0), .null, .null]) ∧ Off (LLf a n ν) H H1) := by
  refine mt_of (by decide +kernel) (Nat.le_of_ble_eq_true rfl) ?_
  intro p e s m args below meth c ls Q hx hb hr hlocks hml hts hown hnm hK hS hl hQ
  have hpa := hL.1
  have ho : Off (LLf a n ν) H H := Off.rf
  have fin : ∀ (H' : Heap) (locs : List Loc) (ls : Array Slot), pt Γ H' a (ob 10 [.int (nI md), .int (nI n), lnx ν n 0, lpv ν n]) → Off (LLf a n ν) H H' → va_S (Gz Γ) s.heap H' locs → lv_has ls 3 [(0, .ref a), (1, .null)] → W p l e (rmd 1 0 0) s m args below meth c H' locs 0 0 Q (F0 m 5 ls []) := by
    intro H' locs ls hpa hoo hS hl
    have ho : Off (fun q => q = a) H' H' := Off.rf
    refine lv_aload_nN (pc := 5) hx hb dJ8_clear_5 rfl (lk hl rfl) ?_
    refine lv_ifnullN (tgt := 34) (pc := 6) hx hb dJ8_clear_6 (by decide) ?_
    refine lv_aload_n (pc := 34) hx hb dJ8_clear_34 rfl (lk hl rfl) ?_
    refine lv_aload_n (pc := 35) hx hb dJ8_clear_35 rfl (lk hl rfl) ?_
    refine lv_null (pc := 36) hx hb dJ8_clear_36 ?_
    refine lv_dup_x1 (pc := 37) hx hb dJ8_clear_37 rfl rfl ?_
    refine hw_put (pc := 38) hx hb hts in_J8 tyJ8_ok nmJ8 hown hK (hpa) (hg) hS rfl 3 (Nat.le_of_ble_eq_true rfl) (hts _ q309) (fun x h => h) rfl rfl (rfl) (rfl) (Nat.le_of_ble_eq_true rfl) dJ8_clear_38 (fun Hp1 locsp1 hpp1 zp1 op1 hS => ?_)
    have hpa : pt Γ Hp1 a (ob 10 [.int (nI md), .int (nI n), lnx ν n 0, .null]) := hpp1
    have ho := ho.trans (Off.put zp1 op1 (by first | rfl | (simp; done) | exact Or.inl rfl | exact Or.inr rfl | omega))
    refine hw_put (pc := 41) hx hb hts in_J8 tyJ8_ok nmJ8 hown hK (hpa) (hg) hS rfl 2 (Nat.le_of_ble_eq_true rfl) (hts _ q308) (fun x h => h) rfl rfl (rfl) (rfl) (Nat.le_of_ble_eq_true rfl) dJ8_clear_41 (fun Hp2 locsp2 hpp2 zp2 op2 hS => ?_)
    have hpa : pt Γ Hp2 a (ob 10 [.int (nI md), .int (nI n), .null, .null]) := hpp2
    have ho := ho.trans (Off.put zp2 op2 (by first | rfl | (simp; done) | exact Or.inl rfl | exact Or.inr rfl | omega))
    refine lv_aload_n (pc := 44) hx hb dJ8_clear_44 rfl (lk hl rfl) ?_
    refine lv_iconst (v := nI 0) (pc := 45) hx hb dJ8_clear_45 (by decide) ?_
    refine hw_put (pc := 46) hx hb hts in_J8 tyJ8_ok nmJ8 hown hK (hpa) (hg) hS rfl 1 (Nat.le_of_ble_eq_true rfl) (hts _ q306) (fun x h => h) rfl rfl (rfl) (rfl) (Nat.le_of_ble_eq_true rfl) dJ8_clear_46 (fun Hp3 locsp3 hpp3 zp3 op3 hS => ?_)
    have hpa : pt Γ Hp3 a (ob 10 [.int (nI md), .int (nI 0), .null, .null]) := hpp3
    have ho := ho.trans (Off.put zp3 op3 (by first | rfl | (simp; done) | exact Or.inl rfl | exact Or.inr rfl | omega))
    refine lv_aload_n (pc := 49) hx hb dJ8_clear_49 rfl (lk hl rfl) ?_
    refine lv_dup (pc := 50) hx hb dJ8_clear_50 rfl ?_
    refine hw_get (pc := 51) hx hb hts in_J8 hown hK (hpa) rfl 0 (Nat.le_of_ble_eq_true rfl) (hts _ q155) (u_same (hts _ q151)) rfl dJ8_clear_51 ?_
    refine lv_iconst (v := nI 1) (pc := 54) hx hb dJ8_clear_54 (by decide) ?_
    refine lv_iadd (pc := 55) hx hb dJ8_clear_55 ?_
    refine hw_top (congrArg Value.int (show _ = nI (md + 1) from nI_add _ _)) ?_
    refine hw_put (pc := 56) hx hb hts in_J8 tyJ8_ok nmJ8 hown hK (hpa) (hg) hS rfl 0 (Nat.le_of_ble_eq_true rfl) (hts _ q155) (u_same (hts _ q151)) rfl rfl (rfl) (rfl) (Nat.le_of_ble_eq_true rfl) dJ8_clear_56 (fun Hp4 locsp4 hpp4 zp4 op4 hS => ?_)
    have hpa : pt Γ Hp4 a (ob 10 [.int (nI (md + 1)), .int (nI 0), .null, .null]) := hpp4
    have ho := ho.trans (Off.put zp4 op4 (by first | rfl | (simp; done) | exact Or.inl rfl | exact Or.inr rfl | omega))
    exact hr_v (pc := 59) hQ hx hb hr hlocks hS (by first | exact Nat.le_of_ble_eq_true rfl | (dsimp only [rmd]; omega)) (by first | exact Nat.le_of_ble_eq_true rfl | (dsimp only [rmd]; omega)) (⟨rfl, hpa, hoo.trans (ho.mono (fun q _ e => Or.inl e))⟩) dJ8_clear_59
  have L : ∀ (d i : Nat) (H' : Heap) (locs : List Loc) (ls : Array Slot), i + (d + 1) = n → pt Γ H' a (ob 10 [.int (nI md), .int (nI n), lnx ν n 0, lpv ν n]) → (∀ k, i ≤ k → k < n → pt Γ H' (ν k) (ob 9 [.ref (it k), lnx ν n (k + 1), lpv ν k])) → Off (LLf a n ν) H H' → va_S (Gz Γ) s.heap H' locs → lv_has ls 3 [(0, .ref a), (1, .ref (ν i))] → W p l e (rmd 1 0 0) s m args below meth c H' locs 0 0 Q (F0 m 5 ls []) := by
    intro d
    induction d with
    | zero =>
      intro i H' locs ls hi hpa hnd hoo hS hl
      have hni := hnd i (Nat.le_refl _) (by omega)
      have hgi := hgn9 i (by omega)
      have hne := hna i (by omega)
      rw [lnx_f (by omega)] at hni
      have ho : Off (fun q => q = ν i) H' H' := Off.rf
      refine lv_aload_n (pc := 5) hx hb dJ8_clear_5 rfl (lk hl rfl) ?_
      refine lv_ifnull (pc := 6) hx hb dJ8_clear_6 ?_
      refine lv_aload_n (pc := 9) hx hb dJ8_clear_9 rfl (lk hl rfl) ?_
      refine hw_get (pc := 10) hx hb hts in_J6 hown hK (hni) rfl 1 (Nat.le_of_ble_eq_true rfl) (hts _ q287) (fun x h => h) rfl dJ8_clear_10 ?_
      refine lv_astore_nN (pc := 13) hx hb dJ8_clear_13 rfl hl (Nat.le_of_ble_eq_true rfl) rfl (fun ls hl => ?_)
      refine lv_aload_n (pc := 14) hx hb dJ8_clear_14 rfl (lk hl rfl) ?_
      refine lv_null (pc := 15) hx hb dJ8_clear_15 ?_
      refine hw_put (pc := 16) hx hb hts in_J6 tyJ6_ok nmJ6 hown hK (hni) (hgi) hS rfl 0 (Nat.le_of_ble_eq_true rfl) (hts _ q284) (fun x h => h) rfl rfl (rfl) (rfl) (Nat.le_of_ble_eq_true rfl) dJ8_clear_16 (fun Hp1 locsp1 hpp1 zp1 op1 hS => ?_)
      have hni : pt Γ Hp1 (ν i) (ob 9 [.null, .null, lpv ν i]) := hpp1
      have ho := ho.trans (Off.put zp1 op1 (by first | rfl | (simp; done) | exact Or.inl rfl | exact Or.inr rfl | omega))
      refine lv_aload_n (pc := 19) hx hb dJ8_clear_19 rfl (lk hl rfl) ?_
      refine lv_null (pc := 20) hx hb dJ8_clear_20 ?_
      refine hw_put (pc := 21) hx hb hts in_J6 tyJ6_ok nmJ6 hown hK (hni) (hgi) hS rfl 1 (Nat.le_of_ble_eq_true rfl) (hts _ q287) (fun x h => h) rfl rfl (rfl) (rfl) (Nat.le_of_ble_eq_true rfl) dJ8_clear_21 (fun Hp2 locsp2 hpp2 zp2 op2 hS => ?_)
      have hni : pt Γ Hp2 (ν i) (ob 9 [.null, .null, lpv ν i]) := hpp2
      have ho := ho.trans (Off.put zp2 op2 (by first | rfl | (simp; done) | exact Or.inl rfl | exact Or.inr rfl | omega))
      refine lv_aload_n (pc := 24) hx hb dJ8_clear_24 rfl (lk hl rfl) ?_
      refine lv_null (pc := 25) hx hb dJ8_clear_25 ?_
      refine hw_put (pc := 26) hx hb hts in_J6 tyJ6_ok nmJ6 hown hK (hni) (hgi) hS rfl 2 (Nat.le_of_ble_eq_true rfl) (hts _ q289) (fun x h => h) rfl rfl (rfl) (rfl) (Nat.le_of_ble_eq_true rfl) dJ8_clear_26 (fun Hp3 locsp3 hpp3 zp3 op3 hS => ?_)
      have hni : pt Γ Hp3 (ν i) (ob 9 [.null, .null, .null]) := hpp3
      have ho := ho.trans (Off.put zp3 op3 (by first | rfl | (simp; done) | exact Or.inl rfl | exact Or.inr rfl | omega))
      refine lv_aload_nN (pc := 29) hx hb dJ8_clear_29 rfl (lk hl rfl) ?_
      refine lv_astore_nN (pc := 30) hx hb dJ8_clear_30 rfl hl (Nat.le_of_ble_eq_true rfl) rfl (fun ls hl => ?_)
      refine lv_goto (tgt := 5) (pc := 31) hx hb dJ8_clear_31 (by decide) ?_
      exact fin _ _ ls (hpa.off ho (fun z => hne z.symm)) (hoo.trans (ho.mono (fun q _ e => Or.inr ⟨i, by omega, e⟩))) hS (by repeat first | exact lv_0 hl | refine lv_c (lk hl rfl) ?_)
    | succ d ih =>
      intro i H' locs ls hi hpa hnd hoo hS hl
      have hni := hnd i (Nat.le_refl _) (by omega)
      have hgi := hgn9 i (by omega)
      have hne := hna i (by omega)
      rw [lnx_t (show i + 1 < n by omega)] at hni
      have ho : Off (fun q => q = ν i) H' H' := Off.rf
      refine lv_aload_n (pc := 5) hx hb dJ8_clear_5 rfl (lk hl rfl) ?_
      refine lv_ifnull (pc := 6) hx hb dJ8_clear_6 ?_
      refine lv_aload_n (pc := 9) hx hb dJ8_clear_9 rfl (lk hl rfl) ?_
      refine hw_get (pc := 10) hx hb hts in_J6 hown hK (hni) rfl 1 (Nat.le_of_ble_eq_true rfl) (hts _ q287) (fun x h => h) rfl dJ8_clear_10 ?_
      refine lv_astore_n (pc := 13) hx hb dJ8_clear_13 rfl hl (Nat.le_of_ble_eq_true rfl) rfl (fun ls hl => ?_)
      refine lv_aload_n (pc := 14) hx hb dJ8_clear_14 rfl (lk hl rfl) ?_
      refine lv_null (pc := 15) hx hb dJ8_clear_15 ?_
      refine hw_put (pc := 16) hx hb hts in_J6 tyJ6_ok nmJ6 hown hK (hni) (hgi) hS rfl 0 (Nat.le_of_ble_eq_true rfl) (hts _ q284) (fun x h => h) rfl rfl (rfl) (rfl) (Nat.le_of_ble_eq_true rfl) dJ8_clear_16 (fun Hp1 locsp1 hpp1 zp1 op1 hS => ?_)
      have hni : pt Γ Hp1 (ν i) (ob 9 [.null, .ref (ν (i + 1)), lpv ν i]) := hpp1
      have ho := ho.trans (Off.put zp1 op1 (by first | rfl | (simp; done) | exact Or.inl rfl | exact Or.inr rfl | omega))
      refine lv_aload_n (pc := 19) hx hb dJ8_clear_19 rfl (lk hl rfl) ?_
      refine lv_null (pc := 20) hx hb dJ8_clear_20 ?_
      refine hw_put (pc := 21) hx hb hts in_J6 tyJ6_ok nmJ6 hown hK (hni) (hgi) hS rfl 1 (Nat.le_of_ble_eq_true rfl) (hts _ q287) (fun x h => h) rfl rfl (rfl) (rfl) (Nat.le_of_ble_eq_true rfl) dJ8_clear_21 (fun Hp2 locsp2 hpp2 zp2 op2 hS => ?_)
      have hni : pt Γ Hp2 (ν i) (ob 9 [.null, .null, lpv ν i]) := hpp2
      have ho := ho.trans (Off.put zp2 op2 (by first | rfl | (simp; done) | exact Or.inl rfl | exact Or.inr rfl | omega))
      refine lv_aload_n (pc := 24) hx hb dJ8_clear_24 rfl (lk hl rfl) ?_
      refine lv_null (pc := 25) hx hb dJ8_clear_25 ?_
      refine hw_put (pc := 26) hx hb hts in_J6 tyJ6_ok nmJ6 hown hK (hni) (hgi) hS rfl 2 (Nat.le_of_ble_eq_true rfl) (hts _ q289) (fun x h => h) rfl rfl (rfl) (rfl) (Nat.le_of_ble_eq_true rfl) dJ8_clear_26 (fun Hp3 locsp3 hpp3 zp3 op3 hS => ?_)
      have hni : pt Γ Hp3 (ν i) (ob 9 [.null, .null, .null]) := hpp3
      have ho := ho.trans (Off.put zp3 op3 (by first | rfl | (simp; done) | exact Or.inl rfl | exact Or.inr rfl | omega))
      refine lv_aload_n (pc := 29) hx hb dJ8_clear_29 rfl (lk hl rfl) ?_
      refine lv_astore_n (pc := 30) hx hb dJ8_clear_30 rfl hl (Nat.le_of_ble_eq_true rfl) rfl (fun ls hl => ?_)
      refine lv_goto (tgt := 5) (pc := 31) hx hb dJ8_clear_31 (by decide) ?_
      exact ih (i + 1) _ _ ls (by omega) (hpa.off ho (fun z => hne z.symm)) (fun k h1 h2 => (hnd k (by omega) h2).off ho (fun z => by have := hinj _ _ h2 (by omega) z; omega)) (hoo.trans (ho.mono (fun q _ e => Or.inr ⟨i, by omega, e⟩))) hS (by repeat first | exact lv_0 hl | refine lv_c (lk hl rfl) ?_)
  rcases Nat.eq_zero_or_pos n with h0 | h0
  · have hpa' := hpa
    rw [lnx_f (by omega)] at hpa'
    refine lv_aload_n (pc := 0) hx hb dJ8_clear_0 rfl (lk hl rfl) ?_
    refine hw_get (pc := 1) hx hb hts in_J8 hown hK (hpa') rfl 2 (Nat.le_of_ble_eq_true rfl) (hts _ q308) (fun x h => h) rfl dJ8_clear_1 ?_
    refine lv_astore_nN (pc := 4) hx hb dJ8_clear_4 rfl hl (Nat.le_of_ble_eq_true rfl) rfl (fun ls hl => ?_)
    exact fin _ _ ls hpa ho hS (by repeat first | exact lv_0 hl | refine lv_c (lk hl rfl) ?_)
  · have hpa' := hpa
    rw [lnx_t (by omega)] at hpa'
    refine lv_aload_n (pc := 0) hx hb dJ8_clear_0 rfl (lk hl rfl) ?_
    refine hw_get (pc := 1) hx hb hts in_J8 hown hK (hpa') rfl 2 (Nat.le_of_ble_eq_true rfl) (hts _ q308) (fun x h => h) rfl dJ8_clear_1 ?_
    refine lv_astore_n (pc := 4) hx hb dJ8_clear_4 rfl hl (Nat.le_of_ble_eq_true rfl) rfl (fun ls hl => ?_)
    exact L (n - 1) 0 _ _ ls (by omega) hpa (fun k _ hk => hL.2 k hk) ho hS (by repeat first | exact lv_0 hl | refine lv_c (lk hl rfl) ?_)
theorem j_abl_init10 (l : Launch) (Γ : Cx) (H : Heap) (a : Nat) (w : Value) (fs : List Value) (hp : pt Γ H a (ob 10 (w :: fs))) (hg : Gz Γ a) : Mt l Γ yJ1_init (ws_ yJ1_init cJ1_init 1 none) 2 0 0 [.ref a] H (fun v H1 => v = none ∧ pt Γ H1 a (ob 10 (.int (nI 0) :: fs)) ∧ Off (fun q => q = a) H H1) := by
  refine mt_of (by decide +kernel) (Nat.le_of_ble_eq_true rfl) ?_
  intro p e s m args below meth c ls Q hx hb hr hlocks hml hts hown hnm hK hS hl hQ
  refine lv_aload_n (pc := 0) hx hb dJ1_init_0 rfl (lk hl rfl) ?_
  refine hc_I (pc := 1) hx hb hml hown hts hK hS (j_ac_init l Γ H a) (cwI 0 hts (lw_meth q141) rfl rfl rfl (hts _ q71) (hts _ q139) (hts _ q140) rfl (by decide +kernel) ⟨(Nat.le_of_ble_eq_true rfl), (Nat.le_of_ble_eq_true rfl)⟩) rfl hl.1 rfl (Nat.le_of_ble_eq_true rfl) dJ1_init_1 ⟨by first | exact Nat.le_of_ble_eq_true rfl | (dsimp only [rmd]; omega), by first | exact Nat.le_of_ble_eq_true rfl | (dsimp only [rmd]; omega)⟩ (fun v9 H9 locs9 hq9 hS => ?_)
  obtain ⟨rfl, rfl⟩ := hq9
  refine lv_aload_n (pc := 4) hx hb dJ1_init_4 rfl (lk hl rfl) ?_
  refine lv_iconst (v := nI 0) (pc := 5) hx hb dJ1_init_5 (by decide) ?_
  refine hw_put (pc := 6) hx hb hts in_J8 tyJ8_ok nmJ8 hown hK (hp) (hg) hS rfl 0 (Nat.le_of_ble_eq_true rfl) (hts _ q149) (fun x h => h) rfl rfl (rfl) (rfl) (Nat.le_of_ble_eq_true rfl) dJ1_init_6 (fun H1 locs1 hp1 z1 o1 hS => ?_)
  exact hr_v (pc := 9) hQ hx hb hr hlocks hS (by first | exact Nat.le_of_ble_eq_true rfl | (dsimp only [rmd]; omega)) (by first | exact Nat.le_of_ble_eq_true rfl | (dsimp only [rmd]; omega)) (⟨rfl, hp1, Off.put z1 o1 rfl⟩) dJ1_init_9
theorem j_asl_init (l : Launch) (Γ : Cx) (H : Heap) (a : Nat) (w : Value) (fs : List Value) (hp : pt Γ H a (ob 10 (w :: fs))) (hg : Gz Γ a) : Mt l Γ yJ7_init (ws_ yJ7_init cJ7_init 1 none) 3 0 0 [.ref a] H (fun v H1 => v = none ∧ pt Γ H1 a (ob 10 (.int (nI 0) :: fs)) ∧ Off (fun q => q = a) H H1) := by
  refine mt_of (by decide +kernel) (Nat.le_of_ble_eq_true rfl) ?_
  intro p e s m args below meth c ls Q hx hb hr hlocks hml hts hown hnm hK hS hl hQ
  refine lv_aload_n (pc := 0) hx hb dJ7_init_0 rfl (lk hl rfl) ?_
  refine hc_I (pc := 1) hx hb hml hown hts hK hS (j_abl_init10 l Γ H a w fs hp hg) (cwI 0 hts (lw_meth q138) rfl rfl rfl (hts _ q72) (hts _ q305) (hts _ q137) rfl (by decide +kernel) ⟨(Nat.le_of_ble_eq_true rfl), (Nat.le_of_ble_eq_true rfl)⟩) rfl hl.1 rfl (Nat.le_of_ble_eq_true rfl) dJ7_init_1 ⟨by first | exact Nat.le_of_ble_eq_true rfl | (dsimp only [rmd]; omega), by first | exact Nat.le_of_ble_eq_true rfl | (dsimp only [rmd]; omega)⟩ (fun v9 H9 locs9 hq9 hS => ?_)
  obtain ⟨rfl, h1, h2⟩ := hq9
  exact hr_v (pc := 4) hQ hx hb hr hlocks hS (by first | exact Nat.le_of_ble_eq_true rfl | (dsimp only [rmd]; omega)) (by first | exact Nat.le_of_ble_eq_true rfl | (dsimp only [rmd]; omega)) (⟨rfl, h1, h2⟩) dJ7_init_4
theorem j_ll_init (l : Launch) (Γ : Cx) (H : Heap) (a : Nat) (hp : pt Γ H a (ob 10 [.int (nI 0), .int (nI 0), .null, .null])) (hg : Gz Γ a) : Mt l Γ yJ8_init (ws_ yJ8_init cJ8_init 1 none) 4 0 0 [.ref a] H (fun v H1 => v = none ∧ pt Γ H1 a (ob 10 [.int (nI 0), .int (nI 0), .null, .null]) ∧ Off (fun q => q = a) H H1) := by
  refine mt_of (by decide +kernel) (Nat.le_of_ble_eq_true rfl) ?_
  intro p e s m args below meth c ls Q hx hb hr hlocks hml hts hown hnm hK hS hl hQ
  refine lv_aload_n (pc := 0) hx hb dJ8_init_0 rfl (lk hl rfl) ?_
  refine hc_I (pc := 1) hx hb hml hown hts hK hS (j_asl_init l Γ H a _ _ hp hg) (cwI 0 hts (lw_meth q304) rfl rfl rfl (hts _ q80) (hts _ q302) (hts _ q303) rfl (by decide +kernel) ⟨(Nat.le_of_ble_eq_true rfl), (Nat.le_of_ble_eq_true rfl)⟩) rfl hl.1 rfl (Nat.le_of_ble_eq_true rfl) dJ8_init_1 ⟨by first | exact Nat.le_of_ble_eq_true rfl | (dsimp only [rmd]; omega), by first | exact Nat.le_of_ble_eq_true rfl | (dsimp only [rmd]; omega)⟩ (fun v9 H9 locs9 hq9 hS => ?_)
  obtain ⟨rfl, hp, ho⟩ := hq9
  refine lv_aload_n (pc := 4) hx hb dJ8_init_4 rfl (lk hl rfl) ?_
  refine lv_iconst (v := nI 0) (pc := 5) hx hb dJ8_init_5 (by decide) ?_
  refine hw_put (pc := 6) hx hb hts in_J8 tyJ8_ok nmJ8 hown hK (hp) (hg) hS rfl 1 (Nat.le_of_ble_eq_true rfl) (hts _ q306) (fun x h => h) rfl rfl (rfl) (rfl) (Nat.le_of_ble_eq_true rfl) dJ8_init_6 (fun Hp1 locsp1 hpp1 zp1 op1 hS => ?_)
  have hp : pt Γ Hp1 a (ob 10 [.int (nI 0), .int (nI 0), .null, .null]) := hpp1
  have ho := ho.trans (Off.put zp1 op1 (by first | rfl | (simp; done) | exact Or.inl rfl | exact Or.inr rfl | omega))
  exact hr_v (pc := 9) hQ hx hb hr hlocks hS (by first | exact Nat.le_of_ble_eq_true rfl | (dsimp only [rmd]; omega)) (by first | exact Nat.le_of_ble_eq_true rfl | (dsimp only [rmd]; omega)) (⟨rfl, hp, ho⟩) dJ8_init_9
theorem j_li_init (l : Launch) (Γ : Cx) (H : Heap) (ρ a n : Nat) (ν it : Nat → Nat) (md : Nat) (hpi : pt Γ H ρ (ob 15 [.null, .null, .int (nI 0), .int (nI 0), .null])) (hL : LL Γ H a n ν it md) (hn : n ≤ 16) (hg : Gz Γ ρ) (hne : a ≠ ρ) (hnn : ∀ k, k < n → ν k ≠ ρ) : Mt l Γ yJ28_init (ws_ yJ28_init cJ28_init 3 none) 2 0 0 [.ref ρ, .ref a, .int (nI 0)] H (fun v H1 => v = none ∧ pt Γ H1 ρ (ob 15 [.null, lnx ν n 0, .int (nI 0), .int (nI md), .ref a]) ∧ Off (fun q => q = ρ) H H1) := by
  refine mt_of (by decide +kernel) (Nat.le_of_ble_eq_true rfl) ?_
  intro p e s m args below meth c ls Q hx hb hr hlocks hml hts hown hnm hK hS hl hQ
  have ho : Off (fun q => q = ρ) H H := Off.rf
  have hpa := hL.1
  refine lv_aload_n (pc := 0) hx hb dJ28_init_0 rfl (lk hl rfl) ?_
  refine lv_aload_n (pc := 1) hx hb dJ28_init_1 rfl (lk hl rfl) ?_
  refine hw_putF (pc := 2) hx hb hts in_J28 tyJ28_ok nmJ28 hown hK (hpi) (hg) hS rfl 4 (Nat.le_of_ble_eq_true rfl) (hts _ q881) (fun x h => h) rfl hnm rfl rfl (rfl) (rfl) (Nat.le_of_ble_eq_true rfl) dJ28_init_2 (fun Hp1 locsp1 hpp1 zp1 op1 hS => ?_)
  have hpi : pt Γ Hp1 ρ (ob 15 [.null, .null, .int (nI 0), .int (nI 0), .ref a]) := hpp1
  have hpa := hpa.ne op1 (by first | assumption | omega | (intro hne; subst hne; simp_all))
  have ho := ho.trans (Off.put zp1 op1 (by first | rfl | (simp; done) | exact Or.inl rfl | exact Or.inr rfl | omega))
  refine lv_aload_n (pc := 5) hx hb dJ28_init_5 rfl (lk hl rfl) ?_
  refine W.objInit hx hb hown (hts _ q875) (hts _ q127) (hts _ q128) rfl (by rw [hml]; exact hl.1) rfl dJ28_init_6 (Nat.le_of_ble_eq_true rfl) (Nat.le_of_ble_eq_true rfl) ?_
  refine W.eq (g2 := F0 m 9 ls _) rfl ?_
  refine lv_aload_n (pc := 9) hx hb dJ28_init_9 rfl (lk hl rfl) ?_
  refine lv_aload_n (pc := 10) hx hb dJ28_init_10 rfl (lk hl rfl) ?_
  refine hw_get (pc := 11) hx hb hts in_J28 hown hK (hpi) rfl 4 (Nat.le_of_ble_eq_true rfl) (hts _ q881) (fun x h => h) rfl dJ28_init_11 ?_
  refine hw_get (pc := 14) hx hb hts in_J8 hown hK (hpa) rfl 0 (Nat.le_of_ble_eq_true rfl) (hts _ q150) (u_same (hts _ q151)) rfl dJ28_init_14 ?_
  refine hw_put (pc := 17) hx hb hts in_J28 tyJ28_ok nmJ28 hown hK (hpi) (hg) hS rfl 3 (Nat.le_of_ble_eq_true rfl) (hts _ q880) (fun x h => h) rfl rfl (rfl) (rfl) (Nat.le_of_ble_eq_true rfl) dJ28_init_17 (fun Hp2 locsp2 hpp2 zp2 op2 hS => ?_)
  have hpi : pt Γ Hp2 ρ (ob 15 [.null, .null, .int (nI 0), .int (nI md), .ref a]) := hpp2
  have hpa := hpa.ne op2 (by first | assumption | omega | (intro hne; subst hne; simp_all))
  have ho := ho.trans (Off.put zp2 op2 (by first | rfl | (simp; done) | exact Or.inl rfl | exact Or.inr rfl | omega))
  refine lv_aload_n (pc := 20) hx hb dJ28_init_20 rfl (lk hl rfl) ?_
  refine lv_iload_n (pc := 21) hx hb dJ28_init_21 rfl (lk hl rfl) ?_
  refine lv_aload_n (pc := 22) hx hb dJ28_init_22 rfl (lk hl rfl) ?_
  refine hw_get (pc := 23) hx hb hts in_J8 hown hK (hpa) rfl 1 (Nat.le_of_ble_eq_true rfl) (hts _ q307) (fun x h => h) rfl dJ28_init_23 ?_
  refine hn_ne (tgt := 33) (pc := 26) hx hb dJ28_init_26 (by decide) (by omega) (by omega) (fun h => ?_) (fun h => ?_)
  · rw [lnx_t (show 0 < n by omega)] at hQ
    refine lv_aload_n (pc := 33) hx hb dJ28_init_33 rfl (lk hl rfl) ?_
    refine lv_iload_n (pc := 34) hx hb dJ28_init_34 rfl (lk hl rfl) ?_
    refine hc_V (pc := 35) hx hb hml hown hts hK hS (j_ll_node l Γ _ a n 0 ν it md (hL.off ho hne hnn) (by omega) hn) (cwV 1 hts (lw_V q876 q766 q767 q81 q768) rfl rfl rfl (by decide +kernel) ⟨(Nat.le_of_ble_eq_true rfl), (Nat.le_of_ble_eq_true rfl)⟩) (hK.recv hpa rfl) rfl hl.1 rfl (Nat.le_of_ble_eq_true rfl) dJ28_init_35 ⟨by first | exact Nat.le_of_ble_eq_true rfl | (dsimp only [rmd]; omega), by first | exact Nat.le_of_ble_eq_true rfl | (dsimp only [rmd]; omega)⟩ (fun v9 H9 locs9 hq9 hS => ?_)
    obtain ⟨rfl, rfl⟩ := hq9
    refine hw_put (pc := 38) hx hb hts in_J28 tyJ28_ok nmJ28 hown hK (hpi) (hg) hS rfl 1 (Nat.le_of_ble_eq_true rfl) (hts _ q878) (fun x h => h) rfl rfl (rfl) (rfl) (Nat.le_of_ble_eq_true rfl) dJ28_init_38 (fun Hp3 locsp3 hpp3 zp3 op3 hS => ?_)
    have hpi : pt Γ Hp3 ρ (ob 15 [.null, .ref (ν 0), .int (nI 0), .int (nI md), .ref a]) := hpp3
    have hpa := hpa.ne op3 (by first | assumption | omega | (intro hne; subst hne; simp_all))
    have ho := ho.trans (Off.put zp3 op3 (by first | rfl | (simp; done) | exact Or.inl rfl | exact Or.inr rfl | omega))
    refine lv_aload_n (pc := 41) hx hb dJ28_init_41 rfl (lk hl rfl) ?_
    refine lv_iload_n (pc := 42) hx hb dJ28_init_42 rfl (lk hl rfl) ?_
    refine hw_put (pc := 43) hx hb hts in_J28 tyJ28_ok nmJ28 hown hK (hpi) (hg) hS rfl 2 (Nat.le_of_ble_eq_true rfl) (hts _ q879) (fun x h => h) rfl rfl (rfl) (rfl) (Nat.le_of_ble_eq_true rfl) dJ28_init_43 (fun Hp4 locsp4 hpp4 zp4 op4 hS => ?_)
    have hpi : pt Γ Hp4 ρ (ob 15 [.null, .ref (ν 0), .int (nI 0), .int (nI md), .ref a]) := hpp4
    have hpa := hpa.ne op4 (by first | assumption | omega | (intro hne; subst hne; simp_all))
    have ho := ho.trans (Off.put zp4 op4 (by first | rfl | (simp; done) | exact Or.inl rfl | exact Or.inr rfl | omega))
    exact hr_v (pc := 46) hQ hx hb hr hlocks hS (by first | exact Nat.le_of_ble_eq_true rfl | (dsimp only [rmd]; omega)) (by first | exact Nat.le_of_ble_eq_true rfl | (dsimp only [rmd]; omega)) (⟨rfl, hpi, ho⟩) dJ28_init_46
  · skip
    rw [lnx_f (show n ≤ 0 by omega)] at hQ
    refine lv_null (pc := 29) hx hb dJ28_init_29 ?_
    refine lv_goto (tgt := 38) (pc := 30) hx hb dJ28_init_30 (by decide) ?_
    refine hw_put (pc := 38) hx hb hts in_J28 tyJ28_ok nmJ28 hown hK (hpi) (hg) hS rfl 1 (Nat.le_of_ble_eq_true rfl) (hts _ q878) (fun x h => h) rfl rfl (rfl) (rfl) (Nat.le_of_ble_eq_true rfl) dJ28_init_38 (fun Hp5 locsp5 hpp5 zp5 op5 hS => ?_)
    have hpi : pt Γ Hp5 ρ (ob 15 [.null, .null, .int (nI 0), .int (nI md), .ref a]) := hpp5
    have hpa := hpa.ne op5 (by first | assumption | omega | (intro hne; subst hne; simp_all))
    have ho := ho.trans (Off.put zp5 op5 (by first | rfl | (simp; done) | exact Or.inl rfl | exact Or.inr rfl | omega))
    refine lv_aload_n (pc := 41) hx hb dJ28_init_41 rfl (lk hl rfl) ?_
    refine lv_iload_n (pc := 42) hx hb dJ28_init_42 rfl (lk hl rfl) ?_
    refine hw_put (pc := 43) hx hb hts in_J28 tyJ28_ok nmJ28 hown hK (hpi) (hg) hS rfl 2 (Nat.le_of_ble_eq_true rfl) (hts _ q879) (fun x h => h) rfl rfl (rfl) (rfl) (Nat.le_of_ble_eq_true rfl) dJ28_init_43 (fun Hp6 locsp6 hpp6 zp6 op6 hS => ?_)
    have hpi : pt Γ Hp6 ρ (ob 15 [.null, .null, .int (nI 0), .int (nI md), .ref a]) := hpp6
    have hpa := hpa.ne op6 (by first | assumption | omega | (intro hne; subst hne; simp_all))
    have ho := ho.trans (Off.put zp6 op6 (by first | rfl | (simp; done) | exact Or.inl rfl | exact Or.inr rfl | omega))
    exact hr_v (pc := 46) hQ hx hb hr hlocks hS (by first | exact Nat.le_of_ble_eq_true rfl | (dsimp only [rmd]; omega)) (by first | exact Nat.le_of_ble_eq_true rfl | (dsimp only [rmd]; omega)) (⟨rfl, hpi, ho⟩) dJ28_init_46
theorem j_ll_listIterator (l : Launch) (Γ : Cx) (H : Heap) (a n : Nat) (ν it : Nat → Nat) (md : Nat) (hL : LL Γ H a n ν it md) (hn : n ≤ 16) : Mt l Γ yJ8_listIterator (ws_ yJ8_listIterator cJ8_listIterator 2 (some (.object "java/util/ListIterator"))) 3 1 5 [.ref a, .int (nI 0)] H (fun v H1 => v = some (.ref H.size) ∧ pt Γ H1 H.size (ob 15 [.null, lnx ν n 0, .int (nI 0), .int (nI md), .ref a]) ∧ Gz Γ H.size ∧ Grow H H1) := by
  refine mt_of (by decide +kernel) (Nat.le_of_ble_eq_true rfl) ?_
  intro p e s m args below meth c ls Q hx hb hr hlocks hml hts hown hnm hK hS hl hQ
  have hpa := hL.1
  have hla := hpa.lt
  have hlt : ∀ k, k < n → ν k < H.size := fun k hk => (hL.2 k hk).lt
  refine lv_aload_n (pc := 0) hx hb dJ8_listIterator_0 rfl (lk hl rfl) ?_
  refine lv_iload_n (pc := 1) hx hb dJ8_listIterator_1 rfl (lk hl rfl) ?_
  refine hc_V (pc := 2) hx hb hml hown hts hK hS (j_ll_ckPos l Γ H a n 0 _ _ _ hpa (by omega) (by omega)) (cwV 1 hts (lw_V q862 q864 qs10 q81 q865) rfl rfl rfl (by decide +kernel) ⟨(Nat.le_of_ble_eq_true rfl), (Nat.le_of_ble_eq_true rfl)⟩) (hK.recv hpa rfl) rfl hl.1 rfl (Nat.le_of_ble_eq_true rfl) dJ8_listIterator_2 ⟨by first | exact Nat.le_of_ble_eq_true rfl | (dsimp only [rmd]; omega), by first | exact Nat.le_of_ble_eq_true rfl | (dsimp only [rmd]; omega)⟩ (fun v8 H8 locs8 hq8 hS => ?_)
  obtain ⟨rfl, rfl⟩ := hq8
  refine hw_new (ci := 15) (pc := 5) hx hb hts in_J28 tyJ28_ok hown (hts _ q870) (hts _ q871) (hts _ q104) hK hS rfl rfl (by first | exact Nat.le_of_ble_eq_true rfl | (dsimp only [rmd]; omega)) (by first | exact Nat.le_of_ble_eq_true rfl | (dsimp only [rmd]; omega)) dJ8_listIterator_5 (fun qn Hn eqn hpn hgn zn on hS => ?_)
  have hpn : pt Γ Hn qn (ob 15 [.null, .null, .int (nI 0), .int (nI 0), .null]) := hpn
  have hLn : LL Γ Hn a n ν it md := ⟨hpa.old on, fun k hk => (hL.2 k hk).old on⟩
  refine lv_dup (pc := 8) hx hb dJ8_listIterator_8 rfl ?_
  refine lv_aload_n (pc := 9) hx hb dJ8_listIterator_9 rfl (lk hl rfl) ?_
  refine lv_iload_n (pc := 10) hx hb dJ8_listIterator_10 rfl (lk hl rfl) ?_
  refine hc_I (pc := 11) hx hb hml hown hts hK hS (j_li_init l Γ Hn qn a n ν it md hpn hLn hn hgn (by omega) (fun k hk => by have := hlt k hk; omega)) (cwI 2 hts (lw_meth q874) rfl rfl rfl (hts _ q104) (hts _ q872) (hts _ q873) rfl (by decide +kernel) ⟨(Nat.le_of_ble_eq_true rfl), (Nat.le_of_ble_eq_true rfl)⟩) rfl hl.1 rfl (Nat.le_of_ble_eq_true rfl) dJ8_listIterator_11 ⟨by first | exact Nat.le_of_ble_eq_true rfl | (dsimp only [rmd]; omega), by first | exact Nat.le_of_ble_eq_true rfl | (dsimp only [rmd]; omega)⟩ (fun v9 H9 locs9 hq9 hS => ?_)
  obtain ⟨rfl, h1, h2⟩ := hq9
  subst eqn
  have hgr : Grow H H9 := (Off.new (S := fun _ => False) zn on).fresh h2 (fun q hq e => by omega)
  exact hr_a (pc := 14) hQ hx hb hr (Or.inl ⟨_, rfl⟩) (Or.inr ⟨_, rfl⟩) hlocks hS (by first | exact Nat.le_of_ble_eq_true rfl | (dsimp only [rmd]; omega)) (by first | exact Nat.le_of_ble_eq_true rfl | (dsimp only [rmd]; omega)) (⟨rfl, h1, hgn, hgr⟩) dJ8_listIterator_14
theorem j_abl_listIterator (l : Launch) (Γ : Cx) (H : Heap) (a n : Nat) (ν it : Nat → Nat) (md : Nat) (hL : LL Γ H a n ν it md) (hn : n ≤ 16) : Mt l Γ yJ1_listIterator (ws_ yJ1_listIterator cJ1_listIterator 1 (some (.object "java/util/ListIterator"))) 4 1 5 [.ref a] H (fun v H1 => v = some (.ref H.size) ∧ pt Γ H1 H.size (ob 15 [.null, lnx ν n 0, .int (nI 0), .int (nI md), .ref a]) ∧ Gz Γ H.size ∧ Grow H H1) := by
  refine mt_of (by decide +kernel) (Nat.le_of_ble_eq_true rfl) ?_
  intro p e s m args below meth c ls Q hx hb hr hlocks hml hts hown hnm hK hS hl hQ
  refine lv_aload_n (pc := 0) hx hb dJ1_listIterator_0 rfl (lk hl rfl) ?_
  refine lv_iconst (v := nI 0) (pc := 1) hx hb dJ1_listIterator_1 (by decide) ?_
  refine hc_U (pc := 2) hx hb hml hown hts hK hS (j_ll_listIterator l Γ H a n ν it md hL hn) (va_cwA 1 hts (lw_U q822 q824 q859 q860 q81 q861) rfl rfl rfl (hK.2.1.1 _ q893 rfl) (by decide +kernel) ⟨(Nat.le_of_ble_eq_true rfl), (Nat.le_of_ble_eq_true rfl)⟩) (hK.recv hL.1 rfl) rfl hl.1 rfl (Nat.le_of_ble_eq_true rfl) dJ1_listIterator_2 ⟨by first | exact Nat.le_of_ble_eq_true rfl | (dsimp only [rmd]; omega), by first | exact Nat.le_of_ble_eq_true rfl | (dsimp only [rmd]; omega)⟩ (fun v9 H9 locs9 hq9 hS => ?_)
  obtain ⟨rfl, h1, h2, h3⟩ := hq9
  exact hr_a (pc := 5) hQ hx hb hr (Or.inl ⟨_, rfl⟩) (Or.inr ⟨_, rfl⟩) hlocks hS (by first | exact Nat.le_of_ble_eq_true rfl | (dsimp only [rmd]; omega)) (by first | exact Nat.le_of_ble_eq_true rfl | (dsimp only [rmd]; omega)) (⟨rfl, h1, h2, h3⟩) dJ1_listIterator_5
theorem j_ll_iterator (l : Launch) (Γ : Cx) (H : Heap) (a n : Nat) (ν it : Nat → Nat) (md : Nat) (hL : LL Γ H a n ν it md) (hn : n ≤ 16) : Mt l Γ yJ7_iterator (ws_ yJ7_iterator cJ7_iterator 1 (some (.object "java/util/Iterator"))) 5 1 5 [.ref a] H (fun v H1 => v = some (.ref H.size) ∧ pt Γ H1 H.size (ob 15 [.null, lnx ν n 0, .int (nI 0), .int (nI md), .ref a]) ∧ Gz Γ H.size ∧ Grow H H1) := by
  refine mt_of (by decide +kernel) (Nat.le_of_ble_eq_true rfl) ?_
  intro p e s m args below meth c ls Q hx hb hr hlocks hml hts hown hnm hK hS hl hQ
  refine lv_aload_n (pc := 0) hx hb dJ7_iterator_0 rfl (lk hl rfl) ?_
  refine hc_U (pc := 1) hx hb hml hown hts hK hS (j_abl_listIterator l Γ H a n ν it md hL hn) (va_cwU 0 hts (lw_U q816 q817 q819 q820 q72 q821) rfl rfl rfl rfl (by decide +kernel) ⟨(Nat.le_of_ble_eq_true rfl), (Nat.le_of_ble_eq_true rfl)⟩) (hK.recv hL.1 rfl) rfl hl.1 rfl (Nat.le_of_ble_eq_true rfl) dJ7_iterator_1 ⟨by first | exact Nat.le_of_ble_eq_true rfl | (dsimp only [rmd]; omega), by first | exact Nat.le_of_ble_eq_true rfl | (dsimp only [rmd]; omega)⟩ (fun v9 H9 locs9 hq9 hS => ?_)
  obtain ⟨rfl, h1, h2, h3⟩ := hq9
  exact hr_a (pc := 4) hQ hx hb hr (Or.inl ⟨_, rfl⟩) (Or.inr ⟨_, rfl⟩) hlocks hS (by first | exact Nat.le_of_ble_eq_true rfl | (dsimp only [rmd]; omega)) (by first | exact Nat.le_of_ble_eq_true rfl | (dsimp only [rmd]; omega)) (⟨rfl, h1, h2, h3⟩) dJ7_iterator_4
theorem j_li_hasNext (l : Launch) (Γ : Cx) (H : Heap) (ρ a i n : Nat) (lr nx9 md md2 u v : Value) (hpi : pt Γ H ρ (ob 15 [lr, nx9, .int (nI i), md, .ref a])) (hpa : pt Γ H a (ob 10 [md2, .int (nI n), u, v])) (hi : i ≤ n) (hn : n < 2 ^ 31) : Mt l Γ yJ28_hasNext (ws_ yJ28_hasNext cJ28_hasNext 1 (some .boolean)) 1 0 0 [.ref ρ] H (Rd (b01 (decide (i < n))) H) := by
  refine mt_of (by decide +kernel) (Nat.le_of_ble_eq_true rfl) ?_
  intro p e s m args below meth c ls Q hx hb hr hlocks hml hts hown hnm hK hS hl hQ
  refine lv_aload_n (pc := 0) hx hb dJ28_hasNext_0 rfl (lk hl rfl) ?_
  refine hw_get (pc := 1) hx hb hts in_J28 hown hK (hpi) rfl 2 (Nat.le_of_ble_eq_true rfl) (hts _ q879) (fun x h => h) rfl dJ28_hasNext_1 ?_
  refine lv_aload_n (pc := 4) hx hb dJ28_hasNext_4 rfl (lk hl rfl) ?_
  refine hw_get (pc := 5) hx hb hts in_J28 hown hK (hpi) rfl 4 (Nat.le_of_ble_eq_true rfl) (hts _ q881) (fun x h => h) rfl dJ28_hasNext_5 ?_
  refine hw_get (pc := 8) hx hb hts in_J8 hown hK (hpa) rfl 1 (Nat.le_of_ble_eq_true rfl) (hts _ q307) (fun x h => h) rfl dJ28_hasNext_8 ?_
  refine hn_ge (tgt := 18) (pc := 11) hx hb dJ28_hasNext_11 (by decide) (by omega) (by omega) (fun h => ?_) (fun h => ?_)
  · refine lv_iconst (v := nI 0) (pc := 18) hx hb dJ28_hasNext_18 (by decide) ?_
    exact hr_z (pc := 19) hQ hx hb hr hlocks hS (by first | exact Nat.le_of_ble_eq_true rfl | (dsimp only [rmd]; omega)) (by first | exact Nat.le_of_ble_eq_true rfl | (dsimp only [rmd]; omega)) (rfl) (⟨by rw [decide_eq_false (by omega)]; rfl, rfl⟩) dJ28_hasNext_19
  · skip
    refine lv_iconst (v := nI 1) (pc := 14) hx hb dJ28_hasNext_14 (by decide) ?_
    refine lv_goto (tgt := 19) (pc := 15) hx hb dJ28_hasNext_15 (by decide) ?_
    exact hr_z (pc := 19) hQ hx hb hr hlocks hS (by first | exact Nat.le_of_ble_eq_true rfl | (dsimp only [rmd]; omega)) (by first | exact Nat.le_of_ble_eq_true rfl | (dsimp only [rmd]; omega)) (rfl) (⟨by rw [decide_eq_true (by omega)]; rfl, rfl⟩) dJ28_hasNext_19
theorem j_li_check (l : Launch) (Γ : Cx) (H : Heap) (ρ a : Nat) (i lr nx9 u v w : Value) (md : Int32) (hpi : pt Γ H ρ (ob 15 [lr, nx9, i, .int md, .ref a])) (hpa : pt Γ H a (ob 10 [.int md, u, v, w])) : Mt l Γ yJ28_checkForComodification (ws_ yJ28_checkForComodification cJ28_checkForComodification 1 none) 1 0 0 [.ref ρ] H (Rn H) := by
  refine mt_of (by decide +kernel) (Nat.le_of_ble_eq_true rfl) ?_
  intro p e s m args below meth c ls Q hx hb hr hlocks hml hts hown hnm hK hS hl hQ
  refine lv_aload_n (pc := 0) hx hb dJ28_checkForComodification_0 rfl (lk hl rfl) ?_
  refine hw_get (pc := 1) hx hb hts in_J28 hown hK (hpi) rfl 4 (Nat.le_of_ble_eq_true rfl) (hts _ q881) (fun x h => h) rfl dJ28_checkForComodification_1 ?_
  refine hw_get (pc := 4) hx hb hts in_J8 hown hK (hpa) rfl 0 (Nat.le_of_ble_eq_true rfl) (hts _ q150) (u_same (hts _ q151)) rfl dJ28_checkForComodification_4 ?_
  refine lv_aload_n (pc := 7) hx hb dJ28_checkForComodification_7 rfl (lk hl rfl) ?_
  refine hw_get (pc := 8) hx hb hts in_J28 hown hK (hpi) rfl 3 (Nat.le_of_ble_eq_true rfl) (hts _ q880) (fun x h => h) rfl dJ28_checkForComodification_8 ?_
  refine lv_icmp_eq (tgt := 22) (pc := 11) hx hb dJ28_checkForComodification_11 (by decide) (fun _ => ?_) (fun hn => absurd hn (fun z => z rfl))
  exact hr_v (pc := 22) hQ hx hb hr hlocks hS (by first | exact Nat.le_of_ble_eq_true rfl | (dsimp only [rmd]; omega)) (by first | exact Nat.le_of_ble_eq_true rfl | (dsimp only [rmd]; omega)) (⟨rfl, rfl⟩) dJ28_checkForComodification_22
theorem j_li_next (l : Launch) (Γ : Cx) (H : Heap) (ρ a i n : Nat) (lr : Value) (ν it : Nat → Nat) (md : Nat) (hpi : pt Γ H ρ (ob 15 [lr, lnx ν n i, .int (nI i), .int (nI md), .ref a])) (hL : LL Γ H a n ν it md) (hi : i < n) (hn : n ≤ 16) (hg : Gz Γ ρ) (hne : a ≠ ρ) (hnn : ∀ k, k < n → ν k ≠ ρ) : Mt l Γ yJ28_next (ws_ yJ28_next cJ28_next 1 (some (.object "java/lang/Object"))) 2 0 0 [.ref ρ] H (fun v H1 => v = some (.ref (it i)) ∧ pt Γ H1 ρ (ob 15 [.ref (ν i), lnx ν n (i + 1), .int (nI (i + 1)), .int (nI md), .ref a]) ∧ Off (fun q => q = ρ) H H1) := by
  have hpa := hL.1
  have hni := hL.2 i hi
  have hne2 := hnn i hi
  rw [lnx_t hi] at hpi
  have hcase : lnx ν n (i + 1) = .null ∨ ∃ r, lnx ν n (i + 1) = .ref r := by
    unfold lnx
    split
    · exact Or.inr ⟨_, rfl⟩
    · exact Or.inl rfl
  obtain ⟨X9, hX⟩ : ∃ X, X = lnx ν n (i + 1) := ⟨_, rfl⟩
  rw [← hX] at hni hcase ⊢
  rcases hcase with rfl | ⟨r9, rfl⟩
  · refine mt_of (by decide +kernel) (Nat.le_of_ble_eq_true rfl) ?_
    intro p e s m args below meth c ls Q hx hb hr hlocks hml hts hown hnm hK hS hl hQ
    have ho : Off (fun q => q = ρ) H H := Off.rf
    refine lv_aload_n (pc := 0) hx hb dJ28_next_0 rfl (lk hl rfl) ?_
    refine hc_V (pc := 1) hx hb hml hown hts hK hS (j_li_check l Γ H ρ a _ _ _ _ _ _ _ hpi hpa) (cwV 0 hts (lw_V q1141 q1142 q1143 q104 q1144) rfl rfl rfl (by decide +kernel) ⟨(Nat.le_of_ble_eq_true rfl), (Nat.le_of_ble_eq_true rfl)⟩) (hK.recv hpi rfl) rfl hl.1 rfl (Nat.le_of_ble_eq_true rfl) dJ28_next_1 ⟨by first | exact Nat.le_of_ble_eq_true rfl | (dsimp only [rmd]; omega), by first | exact Nat.le_of_ble_eq_true rfl | (dsimp only [rmd]; omega)⟩ (fun v8 H8 locs8 hq8 hS => ?_)
    obtain ⟨rfl, rfl⟩ := hq8
    refine lv_aload_n (pc := 4) hx hb dJ28_next_4 rfl (lk hl rfl) ?_
    refine hc_V (pc := 5) hx hb hml hown hts hK hS (j_li_hasNext l Γ H ρ a i n _ _ _ _ _ _ hpi hpa (by omega) (by omega)) (cwV 0 hts (lw_V q1145 q933 q2054 q104 q935) rfl rfl rfl (by decide +kernel) ⟨(Nat.le_of_ble_eq_true rfl), (Nat.le_of_ble_eq_true rfl)⟩) (hK.recv hpi rfl) rfl hl.1 rfl (Nat.le_of_ble_eq_true rfl) dJ28_next_5 ⟨by first | exact Nat.le_of_ble_eq_true rfl | (dsimp only [rmd]; omega), by first | exact Nat.le_of_ble_eq_true rfl | (dsimp only [rmd]; omega)⟩ (fun v9 H9 locs9 hq9 hS => ?_)
    obtain ⟨rfl, rfl⟩ := hq9
    refine hz_ne (tgt := 19) (pc := 8) hx hb dJ28_next_8 (by decide) (fun _ => ?_) (fun hn => absurd hn (by simp; omega))
    refine lv_aload_n (pc := 19) hx hb dJ28_next_19 rfl (lk hl rfl) ?_
    refine lv_aload_n (pc := 20) hx hb dJ28_next_20 rfl (lk hl rfl) ?_
    refine hw_get (pc := 21) hx hb hts in_J28 hown hK (hpi) rfl 1 (Nat.le_of_ble_eq_true rfl) (hts _ q878) (fun x h => h) rfl dJ28_next_21 ?_
    refine hw_put (pc := 24) hx hb hts in_J28 tyJ28_ok nmJ28 hown hK (hpi) (hg) hS rfl 0 (Nat.le_of_ble_eq_true rfl) (hts _ q877) (fun x h => h) rfl rfl (rfl) (rfl) (Nat.le_of_ble_eq_true rfl) dJ28_next_24 (fun Hp1 locsp1 hpp1 zp1 op1 hS => ?_)
    have hpi : pt Γ Hp1 ρ (ob 15 [.ref (ν i), .ref (ν i), .int (nI i), .int (nI md), .ref a]) := hpp1
    have hpa := hpa.ne op1 (by first | assumption | omega | (intro hne; subst hne; simp_all))
    have hni := hni.ne op1 (by first | assumption | omega | (intro hne; subst hne; simp_all))
    have ho := ho.trans (Off.put zp1 op1 (by first | rfl | (simp; done) | exact Or.inl rfl | exact Or.inr rfl | omega))
    refine lv_aload_n (pc := 27) hx hb dJ28_next_27 rfl (lk hl rfl) ?_
    refine lv_aload_n (pc := 28) hx hb dJ28_next_28 rfl (lk hl rfl) ?_
    refine hw_get (pc := 29) hx hb hts in_J28 hown hK (hpi) rfl 1 (Nat.le_of_ble_eq_true rfl) (hts _ q878) (fun x h => h) rfl dJ28_next_29 ?_
    refine hw_get (pc := 32) hx hb hts in_J6 hown hK (hni) rfl 1 (Nat.le_of_ble_eq_true rfl) (hts _ q286) (fun x h => h) rfl dJ28_next_32 ?_
    refine hw_put (pc := 35) hx hb hts in_J28 tyJ28_ok nmJ28 hown hK (hpi) (hg) hS rfl 1 (Nat.le_of_ble_eq_true rfl) (hts _ q878) (fun x h => h) rfl rfl (rfl) (rfl) (Nat.le_of_ble_eq_true rfl) dJ28_next_35 (fun Hp2 locsp2 hpp2 zp2 op2 hS => ?_)
    have hpi : pt Γ Hp2 ρ (ob 15 [.ref (ν i), .null, .int (nI i), .int (nI md), .ref a]) := hpp2
    have hpa := hpa.ne op2 (by first | assumption | omega | (intro hne; subst hne; simp_all))
    have hni := hni.ne op2 (by first | assumption | omega | (intro hne; subst hne; simp_all))
    have ho := ho.trans (Off.put zp2 op2 (by first | rfl | (simp; done) | exact Or.inl rfl | exact Or.inr rfl | omega))
    refine lv_aload_n (pc := 38) hx hb dJ28_next_38 rfl (lk hl rfl) ?_
    refine lv_dup (pc := 39) hx hb dJ28_next_39 rfl ?_
    refine hw_get (pc := 40) hx hb hts in_J28 hown hK (hpi) rfl 2 (Nat.le_of_ble_eq_true rfl) (hts _ q879) (fun x h => h) rfl dJ28_next_40 ?_
    refine lv_iconst (v := nI 1) (pc := 43) hx hb dJ28_next_43 (by decide) ?_
    refine lv_iadd (pc := 44) hx hb dJ28_next_44 ?_
    refine hw_top (congrArg Value.int (show _ = nI (i + 1) from nI_add _ _)) ?_
    refine hw_put (pc := 45) hx hb hts in_J28 tyJ28_ok nmJ28 hown hK (hpi) (hg) hS rfl 2 (Nat.le_of_ble_eq_true rfl) (hts _ q879) (fun x h => h) rfl rfl (rfl) (rfl) (Nat.le_of_ble_eq_true rfl) dJ28_next_45 (fun Hp3 locsp3 hpp3 zp3 op3 hS => ?_)
    have hpi : pt Γ Hp3 ρ (ob 15 [.ref (ν i), .null, .int (nI (i + 1)), .int (nI md), .ref a]) := hpp3
    have hpa := hpa.ne op3 (by first | assumption | omega | (intro hne; subst hne; simp_all))
    have hni := hni.ne op3 (by first | assumption | omega | (intro hne; subst hne; simp_all))
    have ho := ho.trans (Off.put zp3 op3 (by first | rfl | (simp; done) | exact Or.inl rfl | exact Or.inr rfl | omega))
    refine lv_aload_n (pc := 48) hx hb dJ28_next_48 rfl (lk hl rfl) ?_
    refine hw_get (pc := 49) hx hb hts in_J28 hown hK (hpi) rfl 0 (Nat.le_of_ble_eq_true rfl) (hts _ q877) (fun x h => h) rfl dJ28_next_49 ?_
    refine hw_get (pc := 52) hx hb hts in_J6 hown hK (hni) rfl 0 (Nat.le_of_ble_eq_true rfl) (hts _ q283) (fun x h => h) rfl dJ28_next_52 ?_
    exact hr_a (pc := 55) hQ hx hb hr (Or.inl ⟨_, rfl⟩) (Or.inr ⟨_, rfl⟩) hlocks hS (by first | exact Nat.le_of_ble_eq_true rfl | (dsimp only [rmd]; omega)) (by first | exact Nat.le_of_ble_eq_true rfl | (dsimp only [rmd]; omega)) (⟨rfl, hpi, ho⟩) dJ28_next_55
  · refine mt_of (by decide +kernel) (Nat.le_of_ble_eq_true rfl) ?_
    intro p e s m args below meth c ls Q hx hb hr hlocks hml hts hown hnm hK hS hl hQ
    have ho : Off (fun q => q = ρ) H H := Off.rf
    refine lv_aload_n (pc := 0) hx hb dJ28_next_0 rfl (lk hl rfl) ?_
    refine hc_V (pc := 1) hx hb hml hown hts hK hS (j_li_check l Γ H ρ a _ _ _ _ _ _ _ hpi hpa) (cwV 0 hts (lw_V q1141 q1142 q1143 q104 q1144) rfl rfl rfl (by decide +kernel) ⟨(Nat.le_of_ble_eq_true rfl), (Nat.le_of_ble_eq_true rfl)⟩) (hK.recv hpi rfl) rfl hl.1 rfl (Nat.le_of_ble_eq_true rfl) dJ28_next_1 ⟨by first | exact Nat.le_of_ble_eq_true rfl | (dsimp only [rmd]; omega), by first | exact Nat.le_of_ble_eq_true rfl | (dsimp only [rmd]; omega)⟩ (fun v8 H8 locs8 hq8 hS => ?_)
    obtain ⟨rfl, rfl⟩ := hq8
    refine lv_aload_n (pc := 4) hx hb dJ28_next_4 rfl (lk hl rfl) ?_
    refine hc_V (pc := 5) hx hb hml hown hts hK hS (j_li_hasNext l Γ H ρ a i n _ _ _ _ _ _ hpi hpa (by omega) (by omega)) (cwV 0 hts (lw_V q1145 q933 q2054 q104 q935) rfl rfl rfl (by decide +kernel) ⟨(Nat.le_of_ble_eq_true rfl), (Nat.le_of_ble_eq_true rfl)⟩) (hK.recv hpi rfl) rfl hl.1 rfl (Nat.le_of_ble_eq_true rfl) dJ28_next_5 ⟨by first | exact Nat.le_of_ble_eq_true rfl | (dsimp only [rmd]; omega), by first | exact Nat.le_of_ble_eq_true rfl | (dsimp only [rmd]; omega)⟩ (fun v9 H9 locs9 hq9 hS => ?_)
    obtain ⟨rfl, rfl⟩ := hq9
    refine hz_ne (tgt := 19) (pc := 8) hx hb dJ28_next_8 (by decide) (fun _ => ?_) (fun hn => absurd hn (by simp; omega))
    refine lv_aload_n (pc := 19) hx hb dJ28_next_19 rfl (lk hl rfl) ?_
    refine lv_aload_n (pc := 20) hx hb dJ28_next_20 rfl (lk hl rfl) ?_
    refine hw_get (pc := 21) hx hb hts in_J28 hown hK (hpi) rfl 1 (Nat.le_of_ble_eq_true rfl) (hts _ q878) (fun x h => h) rfl dJ28_next_21 ?_
    refine hw_put (pc := 24) hx hb hts in_J28 tyJ28_ok nmJ28 hown hK (hpi) (hg) hS rfl 0 (Nat.le_of_ble_eq_true rfl) (hts _ q877) (fun x h => h) rfl rfl (rfl) (rfl) (Nat.le_of_ble_eq_true rfl) dJ28_next_24 (fun Hp1 locsp1 hpp1 zp1 op1 hS => ?_)
    have hpi : pt Γ Hp1 ρ (ob 15 [.ref (ν i), .ref (ν i), .int (nI i), .int (nI md), .ref a]) := hpp1
    have hpa := hpa.ne op1 (by first | assumption | omega | (intro hne; subst hne; simp_all))
    have hni := hni.ne op1 (by first | assumption | omega | (intro hne; subst hne; simp_all))
    have ho := ho.trans (Off.put zp1 op1 (by first | rfl | (simp; done) | exact Or.inl rfl | exact Or.inr rfl | omega))
    refine lv_aload_n (pc := 27) hx hb dJ28_next_27 rfl (lk hl rfl) ?_
    refine lv_aload_n (pc := 28) hx hb dJ28_next_28 rfl (lk hl rfl) ?_
    refine hw_get (pc := 29) hx hb hts in_J28 hown hK (hpi) rfl 1 (Nat.le_of_ble_eq_true rfl) (hts _ q878) (fun x h => h) rfl dJ28_next_29 ?_
    refine hw_get (pc := 32) hx hb hts in_J6 hown hK (hni) rfl 1 (Nat.le_of_ble_eq_true rfl) (hts _ q286) (fun x h => h) rfl dJ28_next_32 ?_
    refine hw_put (pc := 35) hx hb hts in_J28 tyJ28_ok nmJ28 hown hK (hpi) (hg) hS rfl 1 (Nat.le_of_ble_eq_true rfl) (hts _ q878) (fun x h => h) rfl rfl (rfl) (rfl) (Nat.le_of_ble_eq_true rfl) dJ28_next_35 (fun Hp2 locsp2 hpp2 zp2 op2 hS => ?_)
    have hpi : pt Γ Hp2 ρ (ob 15 [.ref (ν i), .ref r9, .int (nI i), .int (nI md), .ref a]) := hpp2
    have hpa := hpa.ne op2 (by first | assumption | omega | (intro hne; subst hne; simp_all))
    have hni := hni.ne op2 (by first | assumption | omega | (intro hne; subst hne; simp_all))
    have ho := ho.trans (Off.put zp2 op2 (by first | rfl | (simp; done) | exact Or.inl rfl | exact Or.inr rfl | omega))
    refine lv_aload_n (pc := 38) hx hb dJ28_next_38 rfl (lk hl rfl) ?_
    refine lv_dup (pc := 39) hx hb dJ28_next_39 rfl ?_
    refine hw_get (pc := 40) hx hb hts in_J28 hown hK (hpi) rfl 2 (Nat.le_of_ble_eq_true rfl) (hts _ q879) (fun x h => h) rfl dJ28_next_40 ?_
    refine lv_iconst (v := nI 1) (pc := 43) hx hb dJ28_next_43 (by decide) ?_
    refine lv_iadd (pc := 44) hx hb dJ28_next_44 ?_
    refine hw_top (congrArg Value.int (show _ = nI (i + 1) from nI_add _ _)) ?_
    refine hw_put (pc := 45) hx hb hts in_J28 tyJ28_ok nmJ28 hown hK (hpi) (hg) hS rfl 2 (Nat.le_of_ble_eq_true rfl) (hts _ q879) (fun x h => h) rfl rfl (rfl) (rfl) (Nat.le_of_ble_eq_true rfl) dJ28_next_45 (fun Hp3 locsp3 hpp3 zp3 op3 hS => ?_)
    have hpi : pt Γ Hp3 ρ (ob 15 [.ref (ν i), .ref r9, .int (nI (i + 1)), .int (nI md), .ref a]) := hpp3
    have hpa := hpa.ne op3 (by first | assumption | omega | (intro hne; subst hne; simp_all))
    have hni := hni.ne op3 (by first | assumption | omega | (intro hne; subst hne; simp_all))
    have ho := ho.trans (Off.put zp3 op3 (by first | rfl | (simp; done) | exact Or.inl rfl | exact Or.inr rfl | omega))
    refine lv_aload_n (pc := 48) hx hb dJ28_next_48 rfl (lk hl rfl) ?_
    refine hw_get (pc := 49) hx hb hts in_J28 hown hK (hpi) rfl 0 (Nat.le_of_ble_eq_true rfl) (hts _ q877) (fun x h => h) rfl dJ28_next_49 ?_
    refine hw_get (pc := 52) hx hb hts in_J6 hown hK (hni) rfl 0 (Nat.le_of_ble_eq_true rfl) (hts _ q283) (fun x h => h) rfl dJ28_next_52 ?_
    exact hr_a (pc := 55) hQ hx hb hr (Or.inl ⟨_, rfl⟩) (Or.inr ⟨_, rfl⟩) hlocks hS (by first | exact Nat.le_of_ble_eq_true rfl | (dsimp only [rmd]; omega)) (by first | exact Nat.le_of_ble_eq_true rfl | (dsimp only [rmd]; omega)) (⟨rfl, hpi, ho⟩) dJ28_next_55
