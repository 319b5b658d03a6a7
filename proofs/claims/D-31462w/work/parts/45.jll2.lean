/-! LinkedList: add, clear, made; its iterator -/
set_option maxRecDepth 100000
set_option maxHeartbeats 4000000
theorem j_node_init (l : Launch) (Γ : Cx) (H : Heap) (b q : Nat) (pv9 : Value) (hv : pv9 = .null ∨ ∃ r, pv9 = .ref r) (hpb : pt Γ H b (ob 9 [.null, .null, .null])) (hg : Gz Γ b) : Mt l Γ yJ6_init (ws_ yJ6_init cJ6_init 4 none) 1 0 0 [.ref b, pv9, .ref q, .null] H (fun v H1 => v = none ∧ pt Γ H1 b (ob 9 [.ref q, .null, pv9]) ∧ Off (fun r => r = b) H H1) := by
  rcases hv with rfl | ⟨r9, rfl⟩
  · refine mt_of (by decide +kernel) (Nat.le_of_ble_eq_true rfl) ?_
    intro p e s m args below meth c ls Q hx hb hr hlocks hml hts hown hnm hK hS hl hQ
    have ho : Off (fun r => r = b) H H := Off.rf
    refine lv_aload_n (pc := 0) hx hb dJ6_init_0 rfl (lk hl rfl) ?_
    refine W.objInit hx hb hown (hts _ q281) (hts _ q127) (hts _ q128) rfl (by rw [hml]; exact hl.1) rfl dJ6_init_1 (Nat.le_of_ble_eq_true rfl) (Nat.le_of_ble_eq_true rfl) ?_
    refine W.eq (g2 := F0 m 4 ls _) rfl ?_
    refine lv_aload_n (pc := 4) hx hb dJ6_init_4 rfl (lk hl rfl) ?_
    refine lv_aload_n (pc := 5) hx hb dJ6_init_5 rfl (lk hl rfl) ?_
    refine hw_put (pc := 6) hx hb hts in_J6 tyJ6_ok nmJ6 hown hK (hpb) (hg) hS rfl 0 (Nat.le_of_ble_eq_true rfl) (hts _ q282) (fun x h => h) rfl rfl (rfl) (rfl) (Nat.le_of_ble_eq_true rfl) dJ6_init_6 (fun Hp1 locsp1 hpp1 zp1 op1 hS => ?_)
    have hpb : pt Γ Hp1 b (ob 9 [.ref q, .null, .null]) := hpp1
    have ho := ho.trans (Off.put zp1 op1 (by first | rfl | (simp; done) | exact Or.inl rfl | exact Or.inr rfl | omega))
    refine lv_aload_n (pc := 9) hx hb dJ6_init_9 rfl (lk hl rfl) ?_
    refine lv_aload_nN (pc := 10) hx hb dJ6_init_10 rfl (lk hl rfl) ?_
    refine hw_put (pc := 11) hx hb hts in_J6 tyJ6_ok nmJ6 hown hK (hpb) (hg) hS rfl 1 (Nat.le_of_ble_eq_true rfl) (hts _ q285) (fun x h => h) rfl rfl (rfl) (rfl) (Nat.le_of_ble_eq_true rfl) dJ6_init_11 (fun Hp2 locsp2 hpp2 zp2 op2 hS => ?_)
    have hpb : pt Γ Hp2 b (ob 9 [.ref q, .null, .null]) := hpp2
    have ho := ho.trans (Off.put zp2 op2 (by first | rfl | (simp; done) | exact Or.inl rfl | exact Or.inr rfl | omega))
    refine lv_aload_n (pc := 14) hx hb dJ6_init_14 rfl (lk hl rfl) ?_
    refine lv_aload_nN (pc := 15) hx hb dJ6_init_15 rfl (lk hl rfl) ?_
    refine hw_put (pc := 16) hx hb hts in_J6 tyJ6_ok nmJ6 hown hK (hpb) (hg) hS rfl 2 (Nat.le_of_ble_eq_true rfl) (hts _ q288) (fun x h => h) rfl rfl (rfl) (rfl) (Nat.le_of_ble_eq_true rfl) dJ6_init_16 (fun Hp3 locsp3 hpp3 zp3 op3 hS => ?_)
    have hpb : pt Γ Hp3 b (ob 9 [.ref q, .null, .null]) := hpp3
    have ho := ho.trans (Off.put zp3 op3 (by first | rfl | (simp; done) | exact Or.inl rfl | exact Or.inr rfl | omega))
    exact hr_v (pc := 19) hQ hx hb hr hlocks hS (by first | exact Nat.le_of_ble_eq_true rfl | (dsimp only [rmd]; omega)) (by first | exact Nat.le_of_ble_eq_true rfl | (dsimp only [rmd]; omega)) (⟨rfl, hpb, ho⟩) dJ6_init_19
  · refine mt_of (by decide +kernel) (Nat.le_of_ble_eq_true rfl) ?_
    intro p e s m args below meth c ls Q hx hb hr hlocks hml hts hown hnm hK hS hl hQ
    have ho : Off (fun r => r = b) H H := Off.rf
    refine lv_aload_n (pc := 0) hx hb dJ6_init_0 rfl (lk hl rfl) ?_
    refine W.objInit hx hb hown (hts _ q281) (hts _ q127) (hts _ q128) rfl (by rw [hml]; exact hl.1) rfl dJ6_init_1 (Nat.le_of_ble_eq_true rfl) (Nat.le_of_ble_eq_true rfl) ?_
    refine W.eq (g2 := F0 m 4 ls _) rfl ?_
    refine lv_aload_n (pc := 4) hx hb dJ6_init_4 rfl (lk hl rfl) ?_
    refine lv_aload_n (pc := 5) hx hb dJ6_init_5 rfl (lk hl rfl) ?_
    refine hw_put (pc := 6) hx hb hts in_J6 tyJ6_ok nmJ6 hown hK (hpb) (hg) hS rfl 0 (Nat.le_of_ble_eq_true rfl) (hts _ q282) (fun x h => h) rfl rfl (rfl) (rfl) (Nat.le_of_ble_eq_true rfl) dJ6_init_6 (fun Hp1 locsp1 hpp1 zp1 op1 hS => ?_)
    have hpb : pt Γ Hp1 b (ob 9 [.ref q, .null, .null]) := hpp1
    have ho := ho.trans (Off.put zp1 op1 (by first | rfl | (simp; done) | exact Or.inl rfl | exact Or.inr rfl | omega))
    refine lv_aload_n (pc := 9) hx hb dJ6_init_9 rfl (lk hl rfl) ?_
    refine lv_aload_nN (pc := 10) hx hb dJ6_init_10 rfl (lk hl rfl) ?_
    refine hw_put (pc := 11) hx hb hts in_J6 tyJ6_ok nmJ6 hown hK (hpb) (hg) hS rfl 1 (Nat.le_of_ble_eq_true rfl) (hts _ q285) (fun x h => h) rfl rfl (rfl) (rfl) (Nat.le_of_ble_eq_true rfl) dJ6_init_11 (fun Hp2 locsp2 hpp2 zp2 op2 hS => ?_)
    have hpb : pt Γ Hp2 b (ob 9 [.ref q, .null, .null]) := hpp2
    have ho := ho.trans (Off.put zp2 op2 (by first | rfl | (simp; done) | exact Or.inl rfl | exact Or.inr rfl | omega))
    refine lv_aload_n (pc := 14) hx hb dJ6_init_14 rfl (lk hl rfl) ?_
    refine lv_aload_n (pc := 15) hx hb dJ6_init_15 rfl (lk hl rfl) ?_
    refine hw_put (pc := 16) hx hb hts in_J6 tyJ6_ok nmJ6 hown hK (hpb) (hg) hS rfl 2 (Nat.le_of_ble_eq_true rfl) (hts _ q288) (fun x h => h) rfl rfl (rfl) (rfl) (Nat.le_of_ble_eq_true rfl) dJ6_init_16 (fun Hp3 locsp3 hpp3 zp3 op3 hS => ?_)
    have hpb : pt Γ Hp3 b (ob 9 [.ref q, .null, .ref r9]) := hpp3
    have ho := ho.trans (Off.put zp3 op3 (by first | rfl | (simp; done) | exact Or.inl rfl | exact Or.inr rfl | omega))
    exact hr_v (pc := 19) hQ hx hb hr hlocks hS (by first | exact Nat.le_of_ble_eq_true rfl | (dsimp only [rmd]; omega)) (by first | exact Nat.le_of_ble_eq_true rfl | (dsimp only [rmd]; omega)) (⟨rfl, hpb, ho⟩) dJ6_init_19
theorem lpv_v (ν : Nat → Nat) (k : Nat) : lpv ν k = .null ∨ ∃ r, lpv ν k = .ref r := by
  unfold lpv
  split
  · exact Or.inl rfl
  · exact Or.inr ⟨_, rfl⟩
/-- the frame of a list -/
def LLf (a n : Nat) (ν : Nat → Nat) : Nat → Prop := fun q => q = a ∨ ∃ k, k < n ∧ q = ν k
theorem Off.fresh {S P : Nat → Prop} {H H1 H2 : Heap} (h : Off S H H1) (h2 : Off P H1 H2) (hp : ∀ q, q < H.size → P q → S q) : Off S H H2 :=
  ⟨Nat.le_trans h.1 h2.1, fun q hq hn => (h2.2 q (Nat.lt_of_lt_of_le hq h.1) (fun z => hn (hp q hq z))).trans (h.2 q hq hn)⟩
theorem j_ll_linkLast (l : Launch) (Γ : Cx) (H : Heap) (a n q : Nat) (ν it : Nat → Nat) (md : Nat) (hL : LL Γ H a n ν it md) (hg : Gz Γ a) (hgn9 : ∀ k, k < n → Gz Γ (ν k)) (hna : ∀ k, k < n → ν k ≠ a) (hinj : ∀ i j, i < n → j < n → ν i = ν j → i = j) : Mt l Γ yJ8_linkLast (ws_ yJ8_linkLast cJ8_linkLast 4 none) 2 1 3 [.ref a, .ref q] H (fun v H1 => v = none ∧ LL Γ H1 a (n + 1) (upf ν n H.size) (upf it n q) (md + 1) ∧ Gz Γ H.size ∧ Off (LLf a n ν) H H1) := by
  have hpa := hL.1
  have hlt : ∀ k, k < n → ν k < H.size := fun k hk => (hL.2 k hk).lt
  have hla := hpa.lt
  rcases Nat.eq_zero_or_pos n with h0 | h0
  · subst h0
    refine mt_of (by decide +kernel) (Nat.le_of_ble_eq_true rfl) ?_
    intro p e s m args below meth c ls Q hx hb hr hlocks hml hts hown hnm hK hS hl hQ
    have ho : Off (fun q => q = a) H H := Off.rf
    rw [lnx_f (by omega), lpv_0] at hpa
    refine lv_aload_n (pc := 0) hx hb dJ8_linkLast_0 rfl (lk hl rfl) ?_
    refine hw_get (pc := 1) hx hb hts in_J8 hown hK (hpa) rfl 3 (Nat.le_of_ble_eq_true rfl) (hts _ q309) (fun x h => h) rfl dJ8_linkLast_1 ?_
    refine lv_astore_nN (pc := 4) hx hb dJ8_linkLast_4 rfl hl (Nat.le_of_ble_eq_true rfl) rfl (fun ls hl => ?_)
    refine hw_new (ci := 9) (pc := 5) hx hb hts in_J6 tyJ6_ok hown (hts _ q276) (hts _ q277) (hts _ q79) hK hS rfl rfl (by first | exact Nat.le_of_ble_eq_true rfl | (dsimp only [rmd]; omega)) (by first | exact Nat.le_of_ble_eq_true rfl | (dsimp only [rmd]; omega)) dJ8_linkLast_5 (fun qn Hn eqn hpn hgn zn on hS => ?_)
    have hpa := hpa.old on
    have ho := ho.trans (Off.new zn on)
    have : a < Hn.size := hpa.lt
    have hpn : pt Γ Hn qn (ob 9 [.null, .null, .null]) := hpn
    have hne : a ≠ qn := by omega
    refine lv_dup (pc := 8) hx hb dJ8_linkLast_8 rfl ?_
    refine lv_aload_nN (pc := 9) hx hb dJ8_linkLast_9 rfl (lk hl rfl) ?_
    refine lv_aload_n (pc := 10) hx hb dJ8_linkLast_10 rfl (lk hl rfl) ?_
    refine lv_null (pc := 11) hx hb dJ8_linkLast_11 ?_
    refine hc_I (pc := 12) hx hb hml hown hts hK hS (j_node_init l Γ Hn qn q .null (Or.inl rfl) hpn hgn) (cwI 3 hts (lw_meth q280) rfl rfl rfl (hts _ q79) (hts _ q278) (hts _ q279) rfl (by decide +kernel) ⟨(Nat.le_of_ble_eq_true rfl), (Nat.le_of_ble_eq_true rfl)⟩) rfl hl.1 rfl (Nat.le_of_ble_eq_true rfl) dJ8_linkLast_12 ⟨by first | exact Nat.le_of_ble_eq_true rfl | (dsimp only [rmd]; omega), by first | exact Nat.le_of_ble_eq_true rfl | (dsimp only [rmd]; omega)⟩ (fun v9 H9 locs9 hq9 hS => ?_)
    obtain ⟨rfl, hpn, ho9⟩ := hq9
    have hpa := hpa.off ho9 hne
    have ho := ho.fresh ho9 (fun q hq e => by omega)
    refine lv_astore_n (pc := 15) hx hb dJ8_linkLast_15 rfl hl (Nat.le_of_ble_eq_true rfl) rfl (fun ls hl => ?_)
    refine lv_aload_n (pc := 16) hx hb dJ8_linkLast_16 rfl (lk hl rfl) ?_
    refine lv_aload_n (pc := 17) hx hb dJ8_linkLast_17 rfl (lk hl rfl) ?_
    refine hw_put (pc := 18) hx hb hts in_J8 tyJ8_ok nmJ8 hown hK (hpa) (hg) hS rfl 3 (Nat.le_of_ble_eq_true rfl) (hts _ q309) (fun x h => h) rfl rfl (rfl) (rfl) (Nat.le_of_ble_eq_true rfl) dJ8_linkLast_18 (fun Hp1 locsp1 hpp1 zp1 op1 hS => ?_)
    have hpa : pt Γ Hp1 a (ob 10 [.int (nI md), .int (nI 0), .null, .ref qn]) := hpp1
    have hpn := hpn.ne op1 (by first | assumption | omega | (intro hne; subst hne; simp_all))
    have ho := ho.trans (Off.put zp1 op1 (by first | rfl | (simp; done) | exact Or.inl rfl | exact Or.inr rfl | omega))
    refine lv_aload_nN (pc := 21) hx hb dJ8_linkLast_21 rfl (lk hl rfl) ?_
    refine lv_ifnonnullN (pc := 22) hx hb dJ8_linkLast_22 ?_
    refine lv_aload_n (pc := 25) hx hb dJ8_linkLast_25 rfl (lk hl rfl) ?_
    refine lv_aload_n (pc := 26) hx hb dJ8_linkLast_26 rfl (lk hl rfl) ?_
    refine hw_put (pc := 27) hx hb hts in_J8 tyJ8_ok nmJ8 hown hK (hpa) (hg) hS rfl 2 (Nat.le_of_ble_eq_true rfl) (hts _ q308) (fun x h => h) rfl rfl (rfl) (rfl) (Nat.le_of_ble_eq_true rfl) dJ8_linkLast_27 (fun Hp2 locsp2 hpp2 zp2 op2 hS => ?_)
    have hpa : pt Γ Hp2 a (ob 10 [.int (nI md), .int (nI 0), .ref qn, .ref qn]) := hpp2
    have hpn := hpn.ne op2 (by first | assumption | omega | (intro hne; subst hne; simp_all))
    have ho := ho.trans (Off.put zp2 op2 (by first | rfl | (simp; done) | exact Or.inl rfl | exact Or.inr rfl | omega))
    refine lv_goto (tgt := 38) (pc := 30) hx hb dJ8_linkLast_30 (by decide) ?_
    refine lv_aload_n (pc := 38) hx hb dJ8_linkLast_38 rfl (lk hl rfl) ?_
    refine lv_dup (pc := 39) hx hb dJ8_linkLast_39 rfl ?_
    refine hw_get (pc := 40) hx hb hts in_J8 hown hK (hpa) rfl 1 (Nat.le_of_ble_eq_true rfl) (hts _ q306) (fun x h => h) rfl dJ8_linkLast_40 ?_
    refine lv_iconst (v := nI 1) (pc := 43) hx hb dJ8_linkLast_43 (by decide) ?_
    refine lv_iadd (pc := 44) hx hb dJ8_linkLast_44 ?_
    refine hw_top (congrArg Value.int (show _ = nI 1 from nI_add _ _)) ?_
    refine hw_put (pc := 45) hx hb hts in_J8 tyJ8_ok nmJ8 hown hK (hpa) (hg) hS rfl 1 (Nat.le_of_ble_eq_true rfl) (hts _ q306) (fun x h => h) rfl rfl (rfl) (rfl) (Nat.le_of_ble_eq_true rfl) dJ8_linkLast_45 (fun Hp3 locsp3 hpp3 zp3 op3 hS => ?_)
    have hpa : pt Γ Hp3 a (ob 10 [.int (nI md), .int (nI 1), .ref qn, .ref qn]) := hpp3
    have hpn := hpn.ne op3 (by first | assumption | omega | (intro hne; subst hne; simp_all))
    have ho := ho.trans (Off.put zp3 op3 (by first | rfl | (simp; done) | exact Or.inl rfl | exact Or.inr rfl | omega))
    refine lv_aload_n (pc := 48) hx hb dJ8_linkLast_48 rfl (lk hl rfl) ?_
    refine lv_dup (pc := 49) hx hb dJ8_linkLast_49 rfl ?_
    refine hw_get (pc := 50) hx hb hts in_J8 hown hK (hpa) rfl 0 (Nat.le_of_ble_eq_true rfl) (hts _ q155) (u_same (hts _ q151)) rfl dJ8_linkLast_50 ?_
    refine lv_iconst (v := nI 1) (pc := 53) hx hb dJ8_linkLast_53 (by decide) ?_
    refine lv_iadd (pc := 54) hx hb dJ8_linkLast_54 ?_
    refine hw_top (congrArg Value.int (show _ = nI (md + 1) from nI_add _ _)) ?_
    refine hw_put (pc := 55) hx hb hts in_J8 tyJ8_ok nmJ8 hown hK (hpa) (hg) hS rfl 0 (Nat.le_of_ble_eq_true rfl) (hts _ q155) (u_same (hts _ q151)) rfl rfl (rfl) (rfl) (Nat.le_of_ble_eq_true rfl) dJ8_linkLast_55 (fun Hp4 locsp4 hpp4 zp4 op4 hS => ?_)
    have hpa : pt Γ Hp4 a (ob 10 [.int (nI (md + 1)), .int (nI 1), .ref qn, .ref qn]) := hpp4
    have hpn := hpn.ne op4 (by first | assumption | omega | (intro hne; subst hne; simp_all))
    have ho := ho.trans (Off.put zp4 op4 (by first | rfl | (simp; done) | exact Or.inl rfl | exact Or.inr rfl | omega))
    have hL2 : LL Γ Hp4 a (0 + 1) (upf ν 0 H.size) (upf it 0 q) (md + 1) := by
      refine ⟨hpa.eq ?_, fun k hk => ?_⟩
      · rw [lnx_t (by omega), lpv_s (by omega), upf_s, ← eqn]
      · obtain rfl : k = 0 := by omega
        rw [upf_s, upf_s, lnx_f (by omega), lpv_0, ← eqn]
        exact hpn
    subst eqn
    exact hr_v (pc := 58) hQ hx hb hr hlocks hS (by first | exact Nat.le_of_ble_eq_true rfl | (dsimp only [rmd]; omega)) (by first | exact Nat.le_of_ble_eq_true rfl | (dsimp only [rmd]; omega)) (⟨rfl, hL2, hgn, ho.mono (fun q _ e => Or.inl e)⟩) dJ8_linkLast_58
  · refine mt_of (by decide +kernel) (Nat.le_of_ble_eq_true rfl) ?_
    intro p e s m args below meth c ls Q hx hb hr hlocks hml hts hown hnm hK hS hl hQ
    have ho : Off (fun q => q = a ∨ q = ν (n - 1)) H H := Off.rf
    have hpl := hL.2 (n - 1) (by omega)
    have hgl := hgn9 (n - 1) (by omega)
    have hll := hlt (n - 1) (by omega)
    have hnal := hna (n - 1) (by omega)
    rw [lnx_t (by omega), lpv_s (by omega)] at hpa
    rw [lnx_f (by omega)] at hpl
    refine lv_aload_n (pc := 0) hx hb dJ8_linkLast_0 rfl (lk hl rfl) ?_
    refine hw_get (pc := 1) hx hb hts in_J8 hown hK (hpa) rfl 3 (Nat.le_of_ble_eq_true rfl) (hts _ q309) (fun x h => h) rfl dJ8_linkLast_1 ?_
    refine lv_astore_n (pc := 4) hx hb dJ8_linkLast_4 rfl hl (Nat.le_of_ble_eq_true rfl) rfl (fun ls hl => ?_)
    refine hw_new (ci := 9) (pc := 5) hx hb hts in_J6 tyJ6_ok hown (hts _ q276) (hts _ q277) (hts _ q79) hK hS rfl rfl (by first | exact Nat.le_of_ble_eq_true rfl | (dsimp only [rmd]; omega)) (by first | exact Nat.le_of_ble_eq_true rfl | (dsimp only [rmd]; omega)) dJ8_linkLast_5 (fun qn Hn eqn hpn hgn zn on hS => ?_)
    have hpa := hpa.old on
    have hpl := hpl.old on
    have ho := ho.trans (Off.new zn on)
    have : a < Hn.size := hpa.lt
    have hpn : pt Γ Hn qn (ob 9 [.null, .null, .null]) := hpn
    have hne : a ≠ qn := by omega
    have hne2 : ν (n - 1) ≠ qn := by omega
    refine lv_dup (pc := 8) hx hb dJ8_linkLast_8 rfl ?_
    refine lv_aload_n (pc := 9) hx hb dJ8_linkLast_9 rfl (lk hl rfl) ?_
    refine lv_aload_n (pc := 10) hx hb dJ8_linkLast_10 rfl (lk hl rfl) ?_
    refine lv_null (pc := 11) hx hb dJ8_linkLast_11 ?_
    refine hc_I (pc := 12) hx hb hml hown hts hK hS (j_node_init l Γ Hn qn q (.ref (ν (n - 1))) (Or.inr ⟨_, rfl⟩) hpn hgn) (cwI 3 hts (lw_meth q280) rfl rfl rfl (hts _ q79) (hts _ q278) (hts _ q279) rfl (by decide +kernel) ⟨(Nat.le_of_ble_eq_true rfl), (Nat.le_of_ble_eq_true rfl)⟩) rfl hl.1 rfl (Nat.le_of_ble_eq_true rfl) dJ8_linkLast_12 ⟨by first | exact Nat.le_of_ble_eq_true rfl | (dsimp only [rmd]; omega), by first | exact Nat.le_of_ble_eq_true rfl | (dsimp only [rmd]; omega)⟩ (fun v9 H9 locs9 hq9 hS => ?_)
    obtain ⟨rfl, hpn, ho9⟩ := hq9
    have hpa := hpa.off ho9 hne
    have hpl := hpl.off ho9 hne2
    have ho := ho.fresh ho9 (fun q hq e => by omega)
    refine lv_astore_n (pc := 15) hx hb dJ8_linkLast_15 rfl hl (Nat.le_of_ble_eq_true rfl) rfl (fun ls hl => ?_)
    refine lv_aload_n (pc := 16) hx hb dJ8_linkLast_16 rfl (lk hl rfl) ?_
    refine lv_aload_n (pc := 17) hx hb dJ8_linkLast_17 rfl (lk hl rfl) ?_
    refine hw_put (pc := 18) hx hb hts in_J8 tyJ8_ok nmJ8 hown hK (hpa) (hg) hS rfl 3 (Nat.le_of_ble_eq_true rfl) (hts _ q309) (fun x h => h) rfl rfl (rfl) (rfl) (Nat.le_of_ble_eq_true rfl) dJ8_linkLast_18 (fun Hp1 locsp1 hpp1 zp1 op1 hS => ?_)
    have hpa : pt Γ Hp1 a (ob 10 [.int (nI md), .int (nI n), .ref (ν 0), .ref qn]) := hpp1
    have hpl := hpl.ne op1 (by first | assumption | omega | (intro hne; subst hne; simp_all))
    have hpn := hpn.ne op1 (by first | assumption | omega | (intro hne; subst hne; simp_all))
    have ho := ho.trans (Off.put zp1 op1 (by first | rfl | (simp; done) | exact Or.inl rfl | exact Or.inr rfl | omega))
    refine lv_aload_n (pc := 21) hx hb dJ8_linkLast_21 rfl (lk hl rfl) ?_
    refine lv_ifnonnull (tgt := 33) (pc := 22) hx hb dJ8_linkLast_22 (by decide) ?_
    refine lv_aload_n (pc := 33) hx hb dJ8_linkLast_33 rfl (lk hl rfl) ?_
    refine lv_aload_n (pc := 34) hx hb dJ8_linkLast_34 rfl (lk hl rfl) ?_
    refine hw_put (pc := 35) hx hb hts in_J6 tyJ6_ok nmJ6 hown hK (hpl) (hgl) hS rfl 1 (Nat.le_of_ble_eq_true rfl) (hts _ q287) (fun x h => h) rfl rfl (rfl) (rfl) (Nat.le_of_ble_eq_true rfl) dJ8_linkLast_35 (fun Hp2 locsp2 hpp2 zp2 op2 hS => ?_)
    have hpl : pt Γ Hp2 (ν (n - 1)) (ob 9 [.ref (it (n - 1)), .ref qn, lpv ν (n - 1)]) := hpp2
    have hpa := hpa.ne op2 (by first | assumption | omega | (intro hne; subst hne; simp_all))
    have hpn := hpn.ne op2 (by first | assumption | omega | (intro hne; subst hne; simp_all))
    have ho := ho.trans (Off.put zp2 op2 (by first | rfl | (simp; done) | exact Or.inl rfl | exact Or.inr rfl | omega))
    refine lv_aload_n (pc := 38) hx hb dJ8_linkLast_38 rfl (lk hl rfl) ?_
    refine lv_dup (pc := 39) hx hb dJ8_linkLast_39 rfl ?_
    refine hw_get (pc := 40) hx hb hts in_J8 hown hK (hpa) rfl 1 (Nat.le_of_ble_eq_true rfl) (hts _ q306) (fun x h => h) rfl dJ8_linkLast_40 ?_
    refine lv_iconst (v := nI 1) (pc := 43) hx hb dJ8_linkLast_43 (by decide) ?_
    refine lv_iadd (pc := 44) hx hb dJ8_linkLast_44 ?_
    refine hw_top (congrArg Value.int (show _ = nI (n + 1) from nI_add _ _)) ?_
    refine hw_put (pc := 45) hx hb hts in_J8 tyJ8_ok nmJ8 hown hK (hpa) (hg) hS rfl 1 (Nat.le_of_ble_eq_true rfl) (hts _ q306) (fun x h => h) rfl rfl (rfl) (rfl) (Nat.le_of_ble_eq_true rfl) dJ8_linkLast_45 (fun Hp3 locsp3 hpp3 zp3 op3 hS => ?_)
    have hpa : pt Γ Hp3 a (ob 10 [.int (nI md), .int (nI (n + 1)), .ref (ν 0), .ref qn]) := hpp3
    have hpl := hpl.ne op3 (by first | assumption | omega | (intro hne; subst hne; simp_all))
    have hpn := hpn.ne op3 (by first | assumption | omega | (intro hne; subst hne; simp_all))
    have ho := ho.trans (Off.put zp3 op3 (by first | rfl | (simp; done) | exact Or.inl rfl | exact Or.inr rfl | omega))
    refine lv_aload_n (pc := 48) hx hb dJ8_linkLast_48 rfl (lk hl rfl) ?_
    refine lv_dup (pc := 49) hx hb dJ8_linkLast_49 rfl ?_
    refine hw_get (pc := 50) hx hb hts in_J8 hown hK (hpa) rfl 0 (Nat.le_of_ble_eq_true rfl) (hts _ q155) (u_same (hts _ q151)) rfl dJ8_linkLast_50 ?_
    refine lv_iconst (v := nI 1) (pc := 53) hx hb dJ8_linkLast_53 (by decide) ?_
    refine lv_iadd (pc := 54) hx hb dJ8_linkLast_54 ?_
    refine hw_top (congrArg Value.int (show _ = nI (md + 1) from nI_add _ _)) ?_
    refine hw_put (pc := 55) hx hb hts in_J8 tyJ8_ok nmJ8 hown hK (hpa) (hg) hS rfl 0 (Nat.le_of_ble_eq_true rfl) (hts _ q155) (u_same (hts _ q151)) rfl rfl (rfl) (rfl) (Nat.le_of_ble_eq_true rfl) dJ8_linkLast_55 (fun Hp4 locsp4 hpp4 zp4 op4 hS => ?_)
    have hpa : pt Γ Hp4 a (ob 10 [.int (nI (md + 1)), .int (nI (n + 1)), .ref (ν 0), .ref qn]) := hpp4
    have hpl := hpl.ne op4 (by first | assumption | omega | (intro hne; subst hne; simp_all))
    have hpn := hpn.ne op4 (by first | assumption | omega | (intro hne; subst hne; simp_all))
    have ho := ho.trans (Off.put zp4 op4 (by first | rfl | (simp; done) | exact Or.inl rfl | exact Or.inr rfl | omega))
    have hL2 : LL Γ Hp4 a (n + 1) (upf ν n H.size) (upf it n q) (md + 1) := by
      refine ⟨hpa.eq ?_, fun k hk => ?_⟩
      · rw [lnx_t (by omega), lpv_s (by omega), upf_i (by omega), Nat.add_sub_cancel, upf_s, ← eqn]
      · rcases Nat.lt_or_ge k n with h1 | h1
        · rw [upf_i (by omega), upf_i (by omega)]
          have e2 : lpv (upf ν n H.size) k = lpv ν k := by
            unfold lpv
            split
            · rfl
            · rw [upf_i (by omega)]
          rw [e2]
          rcases Nat.lt_or_ge k (n - 1) with h2 | h2
          · have h3 := hL.2 k (by omega)
            rw [lnx_t (by omega)] at h3
            rw [lnx_t (by omega), upf_i (by omega)]
            exact h3.off ho (fun z => z.elim (hna k h1) (fun z => by have := hinj _ _ h1 (by omega) z; omega))
          · obtain rfl : k = n - 1 := by omega
            rw [lnx_t (by omega), show n - 1 + 1 = n by omega, upf_s, ← eqn]
            exact hpl
        · obtain rfl : k = n := by omega
          rw [upf_s, upf_s, lnx_f (by omega), lpv_s (by omega), upf_i (by omega), ← eqn]
          exact hpn
    subst eqn
    exact hr_v (pc := 58) hQ hx hb hr hlocks hS (by first | exact Nat.le_of_ble_eq_true rfl | (dsimp only [rmd]; omega)) (by first | exact Nat.le_of_ble_eq_true rfl | (dsimp only [rmd]; omega)) (⟨rfl, hL2, hgn, ho.mono (fun q _ e => e.elim Or.inl (fun e => Or.inr ⟨n - 1, by omega, e⟩))⟩) dJ8_linkLast_58
theorem j_ll_add (l : Launch) (Γ : Cx) (H : Heap) (a n q : Nat) (ν it : Nat → Nat) (md : Nat) (hL : LL Γ H a n ν it md) (hg : Gz Γ a) (hgn9 : ∀ k, k < n → Gz Γ (ν k)) (hna : ∀ k, k < n → ν k ≠ a) (hinj : ∀ i j, i < n → j < n → ν i = ν j → i = j) : Mt l Γ yJ8_add (ws_ yJ8_add cJ8_add 2 (some .boolean)) 3 1 3 [.ref a, .ref q] H (fun v H1 => v = some (.int (nI 1)) ∧ LL Γ H1 a (n + 1) (upf ν n H.size) (upf it n q) (md + 1) ∧ Gz Γ H.size ∧ Off (LLf a n ν) H H1) := by
  refine mt_of (by decide +kernel) (Nat.le_of_ble_eq_true rfl) ?_
  intro p e s m args below meth c ls Q hx hb hr hlocks hml hts hown hnm hK hS hl hQ
  refine lv_aload_n (pc := 0) hx hb dJ8_add_0 rfl (lk hl rfl) ?_
  refine lv_aload_n (pc := 1) hx hb dJ8_add_1 rfl (lk hl rfl) ?_
  refine hc_V (pc := 2) hx hb hml hown hts hK hS (j_ll_linkLast l Γ H a n q ν it md hL hg hgn9 hna hinj) (cwV 1 hts (lw_V q272 q273 q274 q81 q275) rfl rfl rfl (by decide +kernel) ⟨(Nat.le_of_ble_eq_true rfl), (Nat.le_of_ble_eq_true rfl)⟩) (hK.recv hL.1 rfl) rfl hl.1 rfl (Nat.le_of_ble_eq_true rfl) dJ8_add_2 ⟨by first | exact Nat.le_of_ble_eq_true rfl | (dsimp only [rmd]; omega), by first | exact Nat.le_of_ble_eq_true rfl | (dsimp only [rmd]; omega)⟩ (fun v9 H9 locs9 hq9 hS => ?_)
  obtain ⟨rfl, h1, h2, h3⟩ := hq9
  refine lv_iconst (v := nI 1) (pc := 5) hx hb dJ8_add_5 (by decide) ?_
  exact hr_z (pc := 6) hQ hx hb hr hlocks hS (by first | exact Nat.le_of_ble_eq_true rfl | (dsimp only [rmd]; omega)) (by first | exact Nat.le_of_ble_eq_true rfl | (dsimp only [rmd]; omega)) (rfl) (⟨rfl, h1, h2, h3⟩) dJ8_add_6
