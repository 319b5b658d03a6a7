/-! ArrayList: add, clear, iterator; its iterator -/
set_option maxRecDepth 100000
set_option maxHeartbeats 4000000
theorem j_al_grow0 (l : Launch) (Γ : Cx) (H : Heap) (a : Nat) (md : Value) (hpa : pt Γ H a (ob 8 [md, .ref (Γ.2.2.2 2), .int (nI 0)])) (hg : Gz Γ a) : Mt l Γ yJ2_grow (ws_ yJ2_grow cJ2_grow 1 (some (.array (.object "java/lang/Object")))) 4 1 10 [.ref a] H (fun v H1 => v = some (.ref H.size) ∧ pt Γ H1 a (ob 8 [md, .ref H.size, .int (nI 0)]) ∧ pt Γ H1 H.size (oa Γ 10 (fun _ => none)) ∧ Gz Γ H.size ∧ Off (fun q => q = a) H H1) := by
  refine mt_of (by decide +kernel) (Nat.le_of_ble_eq_true rfl) ?_
  intro p e s m args below meth c ls Q hx hb hr hlocks hml hts hown hnm hK hS hl hQ
  refine lv_aload_n (pc := 0) hx hb dJ2_grow_0 rfl (lk hl rfl) ?_
  refine lv_aload_n (pc := 1) hx hb dJ2_grow_1 rfl (lk hl rfl) ?_
  refine hw_get (pc := 2) hx hb hts in_J2 hown hK (hpa) rfl 2 (Nat.le_of_ble_eq_true rfl) (hts _ q148) (fun x h => h) rfl dJ2_grow_2 ?_
  refine lv_iconst (v := nI 1) (pc := 5) hx hb dJ2_grow_5 (by decide) ?_
  refine lv_iadd (pc := 6) hx hb dJ2_grow_6 ?_
  refine hw_top (congrArg Value.int (show _ = nI 1 from nI_add _ _)) ?_
  refine hw_top (congrArg Value.int (show _ = nI 1 from rfl)) ?_
  refine hc_V (pc := 7) hx hb hml hown hts hK hS (j_al_growE l Γ H a md hpa hg) (cwV 1 hts (lw_V q201 q203 qs2 q73 q204) rfl rfl rfl (by decide +kernel) ⟨(Nat.le_of_ble_eq_true rfl), (Nat.le_of_ble_eq_true rfl)⟩) (hK.recv hpa rfl) rfl hl.1 rfl (Nat.le_of_ble_eq_true rfl) dJ2_grow_7 ⟨by first | exact Nat.le_of_ble_eq_true rfl | (dsimp only [rmd]; omega), by first | exact Nat.le_of_ble_eq_true rfl | (dsimp only [rmd]; omega)⟩ (fun v9 H9 locs9 hq9 hS => ?_)
  obtain ⟨rfl, h1, h2, h3, h4⟩ := hq9
  exact hr_a (pc := 10) hQ hx hb hr (Or.inr ⟨_, rfl⟩) (Or.inr ⟨_, rfl⟩) hlocks hS (by first | exact Nat.le_of_ble_eq_true rfl | (dsimp only [rmd]; omega)) (by first | exact Nat.le_of_ble_eq_true rfl | (dsimp only [rmd]; omega)) (⟨rfl, h1, h2, h3, h4⟩) dJ2_grow_10
/-- an element at the end of the array: the list has room -/
theorem j_al_addF (l : Launch) (Γ : Cx) (H : Heap) (a arr q n : Nat) (md : Value) (f : Nat → Option Nat) (hpa : pt Γ H a (ob 8 [md, .ref arr, .int (nI n)])) (hpr : pt Γ H arr (oa Γ 10 f)) (hg : Gz Γ a) (hgr : Gz Γ arr) (hn : n < 10) (hv : Anyc Γ H q) (hna : arr ≠ a) : Mt l Γ yJ2_add_2 (ws_ yJ2_add_2 cJ2_add_2 4 none) 5 1 10 [.ref a, .ref q, .ref arr, .int (nI n)] H (fun v H1 => v = none ∧ pt Γ H1 a (ob 8 [md, .ref arr, .int (nI (n + 1))]) ∧ pt Γ H1 arr (oa Γ 10 (va_up f n (some q))) ∧ Off (fun q => q = a ∨ q = arr) H H1) := by
  refine mt_of (by decide +kernel) (Nat.le_of_ble_eq_true rfl) ?_
  intro p e s m args below meth c ls Q hx hb hr hlocks hml hts hown hnm hK hS hl hQ
  have ho : Off (fun q => q = a ∨ q = arr) H H := Off.rf
  refine lv_iload_n (pc := 0) hx hb dJ2_add_2_0 rfl (lk hl rfl) ?_
  refine lv_aload_n (pc := 1) hx hb dJ2_add_2_1 rfl (lk hl rfl) ?_
  refine hw_olen (pc := 2) hx hb hK (hpr) dJ2_add_2_2 ?_
  refine hn_ne (tgt := 11) (pc := 3) hx hb dJ2_add_2_3 (by decide) (by omega) (by omega) (fun _ => ?_) (fun hn => absurd hn (by omega))
  refine lv_aload_n (pc := 11) hx hb dJ2_add_2_11 rfl (lk hl rfl) ?_
  refine lv_iload_n (pc := 12) hx hb dJ2_add_2_12 rfl (lk hl rfl) ?_
  refine lv_aload_n (pc := 13) hx hb dJ2_add_2_13 rfl (lk hl rfl) ?_
  refine hw_oast (pc := 14) hx hb hK (hpr) (hgr) hS (hK.anyc hv) (vp_in_nI hn (by omega)) dJ2_add_2_14 (fun H1 locs1 hp1 z1 o1 hS => ?_)
  rw [nI_clamp (by omega)] at hp1
  have hpa := hpa.ne o1 hna.symm
  have hpr := hp1
  have ho := ho.trans (Off.put z1 o1 (Or.inr rfl))
  refine lv_aload_n (pc := 15) hx hb dJ2_add_2_15 rfl (lk hl rfl) ?_
  refine lv_iload_n (pc := 16) hx hb dJ2_add_2_16 rfl (lk hl rfl) ?_
  refine lv_iconst (v := nI 1) (pc := 17) hx hb dJ2_add_2_17 (by decide) ?_
  refine lv_iadd (pc := 18) hx hb dJ2_add_2_18 ?_
  refine hw_top (congrArg Value.int (show _ = nI (n + 1) from nI_add _ _)) ?_
  refine hw_put (pc := 19) hx hb hts in_J2 tyJ2_ok nmJ2 hown hK (hpa) (hg) hS rfl 2 (Nat.le_of_ble_eq_true rfl) (hts _ q148) (fun x h => h) rfl rfl (rfl) (rfl) (Nat.le_of_ble_eq_true rfl) dJ2_add_2_19 (fun Hp1 locsp1 hpp1 zp1 op1 hS => ?_)
  have hpa : pt Γ Hp1 a (ob 8 [md, .ref arr, .int (nI (n + 1))]) := hpp1
  have hpr := hpr.ne op1 (by first | assumption | omega | (intro hne; subst hne; simp_all))
  have ho := ho.trans (Off.put zp1 op1 (by first | rfl | (simp; done) | exact Or.inl rfl | exact Or.inr rfl | omega))
  exact hr_v (pc := 22) hQ hx hb hr hlocks hS (by first | exact Nat.le_of_ble_eq_true rfl | (dsimp only [rmd]; omega)) (by first | exact Nat.le_of_ble_eq_true rfl | (dsimp only [rmd]; omega)) (⟨rfl, hpa, hpr, ho⟩) dJ2_add_2_22
theorem j_al_addE (l : Launch) (Γ : Cx) (H : Heap) (a q : Nat) (md : Value) (hpa : pt Γ H a (ob 8 [md, .ref (Γ.2.2.2 2), .int (nI 0)])) (hg : Gz Γ a) (hv : Anyc Γ H q) (hqa : q ≠ a) : Mt l Γ yJ2_add_2 (ws_ yJ2_add_2 cJ2_add_2 4 none) 5 1 10 [.ref a, .ref q, .ref (Γ.2.2.2 2), .int (nI 0)] H (fun v H1 => v = none ∧ pt Γ H1 a (ob 8 [md, .ref H.size, .int (nI (0 + 1))]) ∧ pt Γ H1 H.size (oa Γ 10 (va_up (fun _ => none) 0 (some q))) ∧ Gz Γ H.size ∧ Off (fun q => q = a) H H1) := by
  refine mt_of (by decide +kernel) (Nat.le_of_ble_eq_true rfl) ?_
  intro p e s m args below meth c ls Q hx hb hr hlocks hml hts hown hnm hK hS hl hQ
  have hla := hpa.lt
  refine lv_iload_n (pc := 0) hx hb dJ2_add_2_0 rfl (lk hl rfl) ?_
  refine lv_aload_n (pc := 1) hx hb dJ2_add_2_1 rfl (lk hl rfl) ?_
  refine va_tlen (pc := 2) (v := nI 0) hx hb hK.cc.2.2.2.1 hS rfl dJ2_add_2_2 ?_
  refine hn_ne (tgt := 11) (pc := 3) hx hb dJ2_add_2_3 (by decide) (by omega) (by omega) (fun hn => absurd hn (by omega)) (fun _ => ?_)
  refine lv_aload_n (pc := 6) hx hb dJ2_add_2_6 rfl (lk hl rfl) ?_
  refine hc_V (pc := 7) hx hb hml hown hts hK hS (j_al_grow0 l Γ H a md hpa hg) (cwV 0 hts (lw_V q197 q199 qs1 q73 q200) rfl rfl rfl (by decide +kernel) ⟨(Nat.le_of_ble_eq_true rfl), (Nat.le_of_ble_eq_true rfl)⟩) (hK.recv hpa rfl) rfl hl.1 rfl (Nat.le_of_ble_eq_true rfl) dJ2_add_2_7 ⟨by first | exact Nat.le_of_ble_eq_true rfl | (dsimp only [rmd]; omega), by first | exact Nat.le_of_ble_eq_true rfl | (dsimp only [rmd]; omega)⟩ (fun v9 H9 locs9 hq9 hS => ?_)
  obtain ⟨rfl, hpa, h2, hg2, ho⟩ := hq9
  refine lv_astore_n (pc := 10) hx hb dJ2_add_2_10 rfl hl (Nat.le_of_ble_eq_true rfl) rfl (fun ls hl => ?_)
  refine lv_aload_n (pc := 11) hx hb dJ2_add_2_11 rfl (lk hl rfl) ?_
  refine lv_iload_n (pc := 12) hx hb dJ2_add_2_12 rfl (lk hl rfl) ?_
  refine lv_aload_n (pc := 13) hx hb dJ2_add_2_13 rfl (lk hl rfl) ?_
  have hv := hv.off ho hqa
  refine hw_oast (pc := 14) hx hb hK (h2) (hg2) hS (hK.anyc hv) (vp_in_nI (show 0 < 10 by omega) (by omega)) dJ2_add_2_14 (fun H1 locs1 hp1 z1 o1 hS => ?_)
  rw [nI_clamp (by omega)] at hp1
  have hpa := hpa.ne o1 (by omega)
  have hof : Off (fun q => q = a) H H1 := ⟨by rw [z1]; exact ho.1, fun r hr hn => (o1 r (by omega)).trans (ho.2 r hr hn)⟩
  have ho := hof
  refine lv_aload_n (pc := 15) hx hb dJ2_add_2_15 rfl (lk hl rfl) ?_
  refine lv_iload_n (pc := 16) hx hb dJ2_add_2_16 rfl (lk hl rfl) ?_
  refine lv_iconst (v := nI 1) (pc := 17) hx hb dJ2_add_2_17 (by decide) ?_
  refine lv_iadd (pc := 18) hx hb dJ2_add_2_18 ?_
  refine hw_top (congrArg Value.int (show _ = nI 1 from nI_add _ _)) ?_
  refine hw_put (pc := 19) hx hb hts in_J2 tyJ2_ok nmJ2 hown hK (hpa) (hg) hS rfl 2 (Nat.le_of_ble_eq_true rfl) (hts _ q148) (fun x h => h) rfl rfl (rfl) (rfl) (Nat.le_of_ble_eq_true rfl) dJ2_add_2_19 (fun Hp1 locsp1 hpp1 zp1 op1 hS => ?_)
  have hpa : pt Γ Hp1 a (ob 8 [md, .ref H.size, .int (nI (0 + 1))]) := hpp1
  have ho := ho.trans (Off.put zp1 op1 (by first | rfl | (simp; done) | exact Or.inl rfl | exact Or.inr rfl | omega))
  exact hr_v (pc := 22) hQ hx hb hr hlocks hS (by first | exact Nat.le_of_ble_eq_true rfl | (dsimp only [rmd]; omega)) (by first | exact Nat.le_of_ble_eq_true rfl | (dsimp only [rmd]; omega)) (⟨rfl, hpa, hp1.ne op1 (by omega), hg2, ho⟩) dJ2_add_2_22
theorem j_al_add (l : Launch) (Γ : Cx) (H : Heap) (a arr q n : Nat) (md : Nat) (f : Nat → Option Nat) (hpa : pt Γ H a (ob 8 [.int (nI md), .ref arr, .int (nI n)])) (hpr : pt Γ H arr (oa Γ 10 f)) (hg : Gz Γ a) (hgr : Gz Γ arr) (hn : n < 10) (hv : Anyc Γ H q) (hna : arr ≠ a) (hqa : q ≠ a) : Mt l Γ yJ2_add (ws_ yJ2_add cJ2_add 2 (some .boolean)) 6 1 10 [.ref a, .ref q] H (fun v H1 => v = some (.int (nI 1)) ∧ pt Γ H1 a (ob 8 [.int (nI (md + 1)), .ref arr, .int (nI (n + 1))]) ∧ pt Γ H1 arr (oa Γ 10 (va_up f n (some q))) ∧ Off (fun q => q = a ∨ q = arr) H H1) := by
  refine mt_of (by decide +kernel) (Nat.le_of_ble_eq_true rfl) ?_
  intro p e s m args below meth c ls Q hx hb hr hlocks hml hts hown hnm hK hS hl hQ
  have ho : Off (fun q => q = a ∨ q = arr) H H := Off.rf
  refine lv_aload_n (pc := 0) hx hb dJ2_add_0 rfl (lk hl rfl) ?_
  refine lv_dup (pc := 1) hx hb dJ2_add_1 rfl ?_
  refine hw_get (pc := 2) hx hb hts in_J2 hown hK (hpa) rfl 0 (Nat.le_of_ble_eq_true rfl) (hts _ q156) (u_same (hts _ q153)) rfl dJ2_add_2 ?_
  refine lv_iconst (v := nI 1) (pc := 5) hx hb dJ2_add_5 (by decide) ?_
  refine lv_iadd (pc := 6) hx hb dJ2_add_6 ?_
  refine hw_top (congrArg Value.int (show _ = nI (md + 1) from nI_add _ _)) ?_
  refine hw_put (pc := 7) hx hb hts in_J2 tyJ2_ok nmJ2 hown hK (hpa) (hg) hS rfl 0 (Nat.le_of_ble_eq_true rfl) (hts _ q156) (u_same (hts _ q153)) rfl rfl (rfl) (rfl) (Nat.le_of_ble_eq_true rfl) dJ2_add_7 (fun Hp1 locsp1 hpp1 zp1 op1 hS => ?_)
  have hpa : pt Γ Hp1 a (ob 8 [.int (nI (md + 1)), .ref arr, .int (nI n)]) := hpp1
  have hpr := hpr.ne op1 (by first | assumption | omega | (intro hne; subst hne; simp_all))
  have ho := ho.trans (Off.put zp1 op1 (by first | rfl | (simp; done) | exact Or.inl rfl | exact Or.inr rfl | omega))
  have hv := hv.ne op1 hqa
  refine lv_aload_n (pc := 10) hx hb dJ2_add_10 rfl (lk hl rfl) ?_
  refine lv_aload_n (pc := 11) hx hb dJ2_add_11 rfl (lk hl rfl) ?_
  refine lv_aload_n (pc := 12) hx hb dJ2_add_12 rfl (lk hl rfl) ?_
  refine hw_get (pc := 13) hx hb hts in_J2 hown hK (hpa) rfl 1 (Nat.le_of_ble_eq_true rfl) (hts _ q145) (fun x h => h) rfl dJ2_add_13 ?_
  refine lv_aload_n (pc := 16) hx hb dJ2_add_16 rfl (lk hl rfl) ?_
  refine hw_get (pc := 17) hx hb hts in_J2 hown hK (hpa) rfl 2 (Nat.le_of_ble_eq_true rfl) (hts _ q148) (fun x h => h) rfl dJ2_add_17 ?_
  refine hc_V (pc := 20) hx hb hml hown hts hK hS (j_al_addF l Γ _ a arr q n _ f hpa hpr hg hgr hn hv hna) (cwV 3 hts (lw_V q193 q195 qs0 q73 q196) rfl rfl rfl (by decide +kernel) ⟨(Nat.le_of_ble_eq_true rfl), (Nat.le_of_ble_eq_true rfl)⟩) (hK.recv hpa rfl) rfl hl.1 rfl (Nat.le_of_ble_eq_true rfl) dJ2_add_20 ⟨by first | exact Nat.le_of_ble_eq_true rfl | (dsimp only [rmd]; omega), by first | exact Nat.le_of_ble_eq_true rfl | (dsimp only [rmd]; omega)⟩ (fun v9 H9 locs9 hq9 hS => ?_)
  obtain ⟨rfl, h1, h2, h3⟩ := hq9
  have ho := ho.trans h3
  refine lv_iconst (v := nI 1) (pc := 23) hx hb dJ2_add_23 (by decide) ?_
  exact hr_z (pc := 24) hQ hx hb hr hlocks hS (by first | exact Nat.le_of_ble_eq_true rfl | (dsimp only [rmd]; omega)) (by first | exact Nat.le_of_ble_eq_true rfl | (dsimp only [rmd]; omega)) (rfl) (⟨rfl, h1, h2, ho⟩) dJ2_add_24
theorem j_al_add0 (l : Launch) (Γ : Cx) (H : Heap) (a q : Nat) (md : Nat) (hpa : pt Γ H a (ob 8 [.int (nI md), .ref (Γ.2.2.2 2), .int (nI 0)])) (hg : Gz Γ a) (hv : Anyc Γ H q) (hqa : q ≠ a) : Mt l Γ yJ2_add (ws_ yJ2_add cJ2_add 2 (some .boolean)) 6 1 10 [.ref a, .ref q] H (fun v H1 => v = some (.int (nI 1)) ∧ pt Γ H1 a (ob 8 [.int (nI (md + 1)), .ref H.size, .int (nI (0 + 1))]) ∧ pt Γ H1 H.size (oa Γ 10 (va_up (fun _ => none) 0 (some q))) ∧ Gz Γ H.size ∧ Off (fun q => q = a) H H1) := by
  refine mt_of (by decide +kernel) (Nat.le_of_ble_eq_true rfl) ?_
  intro p e s m args below meth c ls Q hx hb hr hlocks hml hts hown hnm hK hS hl hQ
  have ho : Off (fun q => q = a) H H := Off.rf
  refine lv_aload_n (pc := 0) hx hb dJ2_add_0 rfl (lk hl rfl) ?_
  refine lv_dup (pc := 1) hx hb dJ2_add_1 rfl ?_
  refine hw_get (pc := 2) hx hb hts in_J2 hown hK (hpa) rfl 0 (Nat.le_of_ble_eq_true rfl) (hts _ q156) (u_same (hts _ q153)) rfl dJ2_add_2 ?_
  refine lv_iconst (v := nI 1) (pc := 5) hx hb dJ2_add_5 (by decide) ?_
  refine lv_iadd (pc := 6) hx hb dJ2_add_6 ?_
  refine hw_top (congrArg Value.int (show _ = nI (md + 1) from nI_add _ _)) ?_
  refine hw_put (pc := 7) hx hb hts in_J2 tyJ2_ok nmJ2 hown hK (hpa) (hg) hS rfl 0 (Nat.le_of_ble_eq_true rfl) (hts _ q156) (u_same (hts _ q153)) rfl rfl (rfl) (rfl) (Nat.le_of_ble_eq_true rfl) dJ2_add_7 (fun Hp1 locsp1 hpp1 zp1 op1 hS => ?_)
  have hpa : pt Γ Hp1 a (ob 8 [.int (nI (md + 1)), .ref (Γ.2.2.2 2), .int (nI 0)]) := hpp1
  have ho := ho.trans (Off.put zp1 op1 (by first | rfl | (simp; done) | exact Or.inl rfl | exact Or.inr rfl | omega))
  have hv := hv.ne op1 hqa
  refine lv_aload_n (pc := 10) hx hb dJ2_add_10 rfl (lk hl rfl) ?_
  refine lv_aload_n (pc := 11) hx hb dJ2_add_11 rfl (lk hl rfl) ?_
  refine lv_aload_n (pc := 12) hx hb dJ2_add_12 rfl (lk hl rfl) ?_
  refine hw_get (pc := 13) hx hb hts in_J2 hown hK (hpa) rfl 1 (Nat.le_of_ble_eq_true rfl) (hts _ q145) (fun x h => h) rfl dJ2_add_13 ?_
  refine lv_aload_n (pc := 16) hx hb dJ2_add_16 rfl (lk hl rfl) ?_
  refine hw_get (pc := 17) hx hb hts in_J2 hown hK (hpa) rfl 2 (Nat.le_of_ble_eq_true rfl) (hts _ q148) (fun x h => h) rfl dJ2_add_17 ?_
  refine hc_V (pc := 20) hx hb hml hown hts hK hS (j_al_addE l Γ _ a q _ hpa hg hv hqa) (cwV 3 hts (lw_V q193 q195 qs0 q73 q196) rfl rfl rfl (by decide +kernel) ⟨(Nat.le_of_ble_eq_true rfl), (Nat.le_of_ble_eq_true rfl)⟩) (hK.recv hpa rfl) rfl hl.1 rfl (Nat.le_of_ble_eq_true rfl) dJ2_add_20 ⟨by first | exact Nat.le_of_ble_eq_true rfl | (dsimp only [rmd]; omega), by first | exact Nat.le_of_ble_eq_true rfl | (dsimp only [rmd]; omega)⟩ (fun v9 H9 locs9 hq9 hS => ?_)
  obtain ⟨rfl, h1, h2, h3, h4⟩ := hq9
  rw [zp1] at h1 h2 h3
  have ho := ho.trans h4
  refine lv_iconst (v := nI 1) (pc := 23) hx hb dJ2_add_23 (by decide) ?_
  exact hr_z (pc := 24) hQ hx hb hr hlocks hS (by first | exact Nat.le_of_ble_eq_true rfl | (dsimp only [rmd]; omega)) (by first | exact Nat.le_of_ble_eq_true rfl | (dsimp only [rmd]; omega)) (rfl) (⟨rfl, h1, h2, h3, ho⟩) dJ2_add_24
