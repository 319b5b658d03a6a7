/-! boxes, the two ways, what is small -/
set_option maxRecDepth 100000
set_option maxHeartbeats 4000000
theorem vc_n : ∀ i, i < 100 → vb_c (128 + i) = nI i := by decide +kernel
theorem KK.box {Γ : Cx} {s : State} {H : Heap} {locs : List Loc} (hK : KK Γ s) (hS : va_S (Gz Γ) s.heap H locs) (k : Nat) (hk : k < 256) : ∃ cell : Cell, H[Γ.2.2.2 (10 + k)]? = some cell ∧ cell.vm.isStatics = false ∧ s.vm.findClass "java/lang/Integer" = some cell.cls := by
  obtain ⟨cell, h1, h2, h3, -⟩ := (hK.cc.2.2.2.2.2.2.2.2.2.2.1 k hk).kept hS.2.1
  exact ⟨cell, h1, h2, h3⟩
theorem j_valueOf (l : Launch) (Γ : Cx) (H : Heap) (i : Nat) (hi : i < 100) : Mt l Γ yJ24_valueOf (ws_ yJ24_valueOf cJ24_valueOf 1 (some (.object "java/lang/Integer"))) 1 0 0 [.int (nI i)] H (Rv (.ref (Γ.2.2.2 (10 + (128 + i)))) H) := by
  refine mt_of (by decide +kernel) (Nat.le_of_ble_eq_true rfl) ?_
  intro p e s m args below meth c ls Q hx hb hr hlocks hml hts hown hnm hK hS hl hQ
  refine lv_iload_n (pc := 0) hx hb dJ24_valueOf_0 rfl (lk hl rfl) ?_
  refine lv_bipush (v := -128) (pc := 1) hx hb dJ24_valueOf_1 (by decide) ?_
  have k1 : ∀ i, i < 100 → ¬ nI i < -128 := by decide +kernel
  refine lv_icmp_lt (tgt := 23) (pc := 3) hx hb dJ24_valueOf_3 (by decide) (fun q => absurd q (k1 i hi)) (fun _ => ?_)
  refine lv_iload_n (pc := 6) hx hb dJ24_valueOf_6 rfl (lk hl rfl) ?_
  refine va_gets (pc := 7) hx hb (hK.cc.2.2.2.2.2.2.2.1) hS hown (hts _ q1002) (fun x h => h) dJ24_valueOf_7 ?_
  have k2 : ∀ i, i < 100 → ¬ (127 : Int32) < nI i := by decide +kernel
  refine lv_icmp_gt (tgt := 23) (pc := 10) hx hb dJ24_valueOf_10 (by decide) (fun q => absurd q (k2 i hi)) (fun _ => ?_)
  refine va_gets (pc := 13) hx hb (hK.cc.2.2.2.2.2.2.2.2.1) hS hown (hts _ q1004) (fun x h => h) dJ24_valueOf_13 ?_
  refine lv_iload_n (pc := 16) hx hb dJ24_valueOf_16 rfl (lk hl rfl) ?_
  refine lv_sipush (v := nI 128) (pc := 17) hx hb dJ24_valueOf_17 (by decide) ?_
  refine lv_iadd (pc := 20) hx hb dJ24_valueOf_20 ?_
  refine hw_top (congrArg Value.int (show _ = nI (i + 128) from nI_add _ _)) ?_
  refine vb_tq (pc := 21) hx hb hK.cc.2.2.2.2.2.2.2.2.2.1 hS (vp_in_nI (show i + 128 < 256 by omega) (by decide)) rfl dJ24_valueOf_21 ?_
  rw [nI_clamp (by omega)]
  exact hr_a (pc := 22) hQ hx hb hr (Or.inl ⟨_, rfl⟩) (Or.inr ⟨_, rfl⟩) hlocks hS (by first | exact Nat.le_of_ble_eq_true rfl | (dsimp only [rmd]; omega)) (by first | exact Nat.le_of_ble_eq_true rfl | (dsimp only [rmd]; omega)) (⟨by rw [Nat.add_comm i 128], rfl⟩) dJ24_valueOf_22
theorem j_intValue (l : Launch) (Γ : Cx) (H : Heap) (i : Nat) (hi : i < 100) : Mt l Γ yJ24_intValue (ws_ yJ24_intValue cJ24_intValue 1 (some .int)) 1 0 0 [.ref (Γ.2.2.2 (10 + (128 + i)))] H (Rd (nI i) H) := by
  refine mt_of (by decide +kernel) (Nat.le_of_ble_eq_true rfl) ?_
  intro p e s m args below meth c ls Q hx hb hr hlocks hml hts hown hnm hK hS hl hQ
  refine lv_aload_n (pc := 0) hx hb dJ24_intValue_0 rfl (lk hl rfl) ?_
  refine va_getX (pc := 1) (i := 128 + i) (v := fun k => .int (vb_c k)) (ad := fun k => Γ.2.2.2 (10 + k)) hx hb hK.cc.2.2.2.2.2.2.2.2.2.2.2 (by omega) hS hown (hts _ q1015) (fun x h => h) dJ24_intValue_1 ?_
  exact hr_i (pc := 4) hQ hx hb hr hlocks hS (by first | exact Nat.le_of_ble_eq_true rfl | (dsimp only [rmd]; omega)) (by first | exact Nat.le_of_ble_eq_true rfl | (dsimp only [rmd]; omega)) (⟨by rw [vc_n i hi], rfl⟩) dJ24_intValue_4
/-- a way, told by whether it starts -/
def wy (Γ : Cx) (st : Bool) : Nat := Γ.2.2.2 (if st then 0 else 1)
def wo (st : Bool) : Nat := if st then 0 else 1
theorem KK.w1 {Γ : Cx} {s : State} (hK : KK Γ s) : va_Ec "Coreplug$Way" RX8 "LCoreplug$Way;" ["STARTING"] [("java/lang/Enum", "ordinal", "I", [0])] (fun _ => wy Γ true) (Gz Γ) s s.heap := hK.cc.1
theorem KK.w0 {Γ : Cx} {s : State} (hK : KK Γ s) : va_Ec "Coreplug$Way" RX9 "LCoreplug$Way;" ["STOPPING"] [("java/lang/Enum", "ordinal", "I", [1])] (fun _ => wy Γ false) (Gz Γ) s s.heap := hK.cc.2.1
theorem KK.rw1 {Γ : Cx} {s : State} {H : Heap} {locs : List Loc} (hK : KK Γ s) (hS : va_S (Gz Γ) s.heap H locs) : ∃ cell : Cell, H[wy Γ true]? = some cell ∧ cell.vm.isStatics = false ∧ s.vm.findClass RX8 = some cell.cls := va_recvEc (i := 0) (ad := fun _ => wy Γ true) hK.w1 (by decide) hS
theorem KK.rw0 {Γ : Cx} {s : State} {H : Heap} {locs : List Loc} (hK : KK Γ s) (hS : va_S (Gz Γ) s.heap H locs) : ∃ cell : Cell, H[wy Γ false]? = some cell ∧ cell.vm.isStatics = false ∧ s.vm.findClass RX9 = some cell.cls := va_recvEc (i := 0) (ad := fun _ => wy Γ false) hK.w0 (by decide) hS
theorem KK.wne {Γ : Cx} {s : State} (hK : KK Γ s) : wy Γ true ≠ wy Γ false := by
  intro e
  obtain ⟨cf, k, i, f, cell, h1, h2, h3, h4, h5, h6⟩ := (hK.w1.1 0 (by decide)).2.2 _ (List.mem_singleton.mpr rfl)
  obtain ⟨cf', k', i', f', cell', g1, g2, g3, g4, g5, g6⟩ := (hK.w0.1 0 (by decide)).2.2 _ (List.mem_singleton.mpr rfl)
  have e1 := h1.symm.trans g1
  simp only [Option.some.injEq, Prod.mk.injEq] at e1
  obtain ⟨-, -, -, rfl⟩ := e1
  have h3 : s.heap[wy Γ true]? = some cell := h3
  have g3 : s.heap[wy Γ false]? = some cell' := g3
  rw [e] at h3
  cases Option.some.inj (h3.symm.trans g3)
  have h7 := h5.symm.trans g5
  simp at h7
theorem j_ordinal (l : Launch) (Γ : Cx) (H : Heap) (st : Bool) : Mt l Γ yJ32_ordinal (ws_ yJ32_ordinal cJ32_ordinal 1 (some .int)) 1 0 0 [.ref (wy Γ st)] H (Rd (nI (wo st)) H) := by
  cases st
  · refine mt_of (by decide +kernel) (Nat.le_of_ble_eq_true rfl) ?_
    intro p e s m args below meth c ls Q hx hb hr hlocks hml hts hown hnm hK hS hl hQ
    refine lv_aload_n (pc := 0) hx hb dJ32_ordinal_0 rfl (lk hl rfl) ?_
    refine va_getEc (pc := 1) (i := 0) (ad := fun _ => wy Γ false) hx hb hK.w0 (by decide) hS hown (List.mem_singleton.mpr rfl) (hts _ q2108) (fun x h => h) dJ32_ordinal_1 ?_
    exact hr_i (pc := 4) hQ hx hb hr hlocks hS (by first | exact Nat.le_of_ble_eq_true rfl | (dsimp only [rmd]; omega)) (by first | exact Nat.le_of_ble_eq_true rfl | (dsimp only [rmd]; omega)) (⟨rfl, rfl⟩) dJ32_ordinal_4
  · refine mt_of (by decide +kernel) (Nat.le_of_ble_eq_true rfl) ?_
    intro p e s m args below meth c ls Q hx hb hr hlocks hml hts hown hnm hK hS hl hQ
    refine lv_aload_n (pc := 0) hx hb dJ32_ordinal_0 rfl (lk hl rfl) ?_
    refine va_getEc (pc := 1) (i := 0) (ad := fun _ => wy Γ true) hx hb hK.w1 (by decide) hS hown (List.mem_singleton.mpr rfl) (hts _ q2108) (fun x h => h) dJ32_ordinal_1 ?_
    exact hr_i (pc := 4) hQ hx hb hr hlocks hS (by first | exact Nat.le_of_ble_eq_true rfl | (dsimp only [rmd]; omega)) (by first | exact Nat.le_of_ble_eq_true rfl | (dsimp only [rmd]; omega)) (⟨rfl, rfl⟩) dJ32_ordinal_4
/-- the place of a failure in a step -/
def fat (c i : Nat) (st : Bool) : Nat := (c * 4 + i) * 2 + wo st
theorem fat_lt {c i : Nat} (st : Bool) (hc : c < 8) (hi : i < 4) : fat c i st < 64 := by
  unfold fat wo
  split <;> omega
theorem s_at (l : Launch) (Γ : Cx) (H : Heap) (c9 i : Nat) (st : Bool) : Mt l Γ yX4_at (ws_ yX4_at cX4_at 3 (some .int)) 2 0 0 [.int (nI c9), .int (nI i), .ref (wy Γ st)] H (Rd (nI (fat c9 i st)) H) := by
  cases st
  · refine mt_of (by decide +kernel) (Nat.le_of_ble_eq_true rfl) ?_
    intro p e s m args below meth c ls Q hx hb hr hlocks hml hts hown hnm hK hS hl hQ
    refine lv_iload_n (pc := 0) hx hb dX4_at_0 rfl (lk hl rfl) ?_
    refine lv_iconst (v := nI 4) (pc := 1) hx hb dX4_at_1 (by decide) ?_
    refine lv_imul (pc := 2) hx hb dX4_at_2 ?_
    refine hw_top (congrArg Value.int (show _ = nI (c9 * 4) from pk_mul _ _)) ?_
    refine lv_iload_n (pc := 3) hx hb dX4_at_3 rfl (lk hl rfl) ?_
    refine lv_iadd (pc := 4) hx hb dX4_at_4 ?_
    refine hw_top (congrArg Value.int (show _ = nI (c9 * 4 + i) from nI_add _ _)) ?_
    refine lv_iconst (v := nI 2) (pc := 5) hx hb dX4_at_5 (by decide) ?_
    refine lv_imul (pc := 6) hx hb dX4_at_6 ?_
    refine hw_top (congrArg Value.int (show _ = nI ((c9 * 4 + i) * 2) from pk_mul _ _)) ?_
    refine lv_aload_n (pc := 7) hx hb dX4_at_7 rfl (lk hl rfl) ?_
    refine hc_U (pc := 8) hx hb hml hown hts hK hS (j_ordinal l Γ H false) (va_cwU 0 hts (lw_U q1315 q1316 q1319 q1320 q109 q1321) rfl rfl rfl rfl (by decide +kernel) ⟨(Nat.le_of_ble_eq_true rfl), (Nat.le_of_ble_eq_true rfl)⟩) (hK.rw0 hS) rfl hl.1 rfl (Nat.le_of_ble_eq_true rfl) dX4_at_8 ⟨by first | exact Nat.le_of_ble_eq_true rfl | (dsimp only [rmd]; omega), by first | exact Nat.le_of_ble_eq_true rfl | (dsimp only [rmd]; omega)⟩ (fun v9 H9 locs9 hq9 hS => ?_)
    obtain ⟨rfl, rfl⟩ := hq9
    refine lv_iadd (pc := 11) hx hb dX4_at_11 ?_
    refine hw_top (congrArg Value.int (show _ = nI ((c9 * 4 + i) * 2 + wo false) from nI_add _ _)) ?_
    exact hr_i (pc := 12) hQ hx hb hr hlocks hS (by first | exact Nat.le_of_ble_eq_true rfl | (dsimp only [rmd]; omega)) (by first | exact Nat.le_of_ble_eq_true rfl | (dsimp only [rmd]; omega)) (⟨rfl, rfl⟩) dX4_at_12
  · refine mt_of (by decide +kernel) (Nat.le_of_ble_eq_true rfl) ?_
    intro p e s m args below meth c ls Q hx hb hr hlocks hml hts hown hnm hK hS hl hQ
    refine lv_iload_n (pc := 0) hx hb dX4_at_0 rfl (lk hl rfl) ?_
    refine lv_iconst (v := nI 4) (pc := 1) hx hb dX4_at_1 (by decide) ?_
    refine lv_imul (pc := 2) hx hb dX4_at_2 ?_
    refine hw_top (congrArg Value.int (show _ = nI (c9 * 4) from pk_mul _ _)) ?_
    refine lv_iload_n (pc := 3) hx hb dX4_at_3 rfl (lk hl rfl) ?_
    refine lv_iadd (pc := 4) hx hb dX4_at_4 ?_
    refine hw_top (congrArg Value.int (show _ = nI (c9 * 4 + i) from nI_add _ _)) ?_
    refine lv_iconst (v := nI 2) (pc := 5) hx hb dX4_at_5 (by decide) ?_
    refine lv_imul (pc := 6) hx hb dX4_at_6 ?_
    refine hw_top (congrArg Value.int (show _ = nI ((c9 * 4 + i) * 2) from pk_mul _ _)) ?_
    refine lv_aload_n (pc := 7) hx hb dX4_at_7 rfl (lk hl rfl) ?_
    refine hc_U (pc := 8) hx hb hml hown hts hK hS (j_ordinal l Γ H true) (va_cwU 0 hts (lw_U q1315 q1316 q1318 q1320 q109 q1321) rfl rfl rfl rfl (by decide +kernel) ⟨(Nat.le_of_ble_eq_true rfl), (Nat.le_of_ble_eq_true rfl)⟩) (hK.rw1 hS) rfl hl.1 rfl (Nat.le_of_ble_eq_true rfl) dX4_at_8 ⟨by first | exact Nat.le_of_ble_eq_true rfl | (dsimp only [rmd]; omega), by first | exact Nat.le_of_ble_eq_true rfl | (dsimp only [rmd]; omega)⟩ (fun v9 H9 locs9 hq9 hS => ?_)
    obtain ⟨rfl, rfl⟩ := hq9
    refine lv_iadd (pc := 11) hx hb dX4_at_11 ?_
    refine hw_top (congrArg Value.int (show _ = nI ((c9 * 4 + i) * 2 + wo true) from nI_add _ _)) ?_
    exact hr_i (pc := 12) hQ hx hb hr hlocks hS (by first | exact Nat.le_of_ble_eq_true rfl | (dsimp only [rmd]; omega)) (by first | exact Nat.le_of_ble_eq_true rfl | (dsimp only [rmd]; omega)) (⟨rfl, rfl⟩) dX4_at_12
theorem s_has (l : Launch) (Γ : Cx) (H : Heap) (b : Nat) (st : Bool) (pl sg bs si fa : Value) (u v : Nat) (hpb : pt Γ H b (ob 3 [pl, .int (nI u), .int (nI v), sg, bs, si, fa])) (hu : u ≤ 1) (hv : v ≤ 1) : (st = true → Mt l Γ yX8_has (ws_ yX8_has cX8_has 2 (some .boolean)) 1 0 0 [.ref (wy Γ true), .ref b] H (Rd (nI u) H)) ∧ (st = false → Mt l Γ yX9_has (ws_ yX9_has cX9_has 2 (some .boolean)) 1 0 0 [.ref (wy Γ false), .ref b] H (Rd (nI v) H)) := by
  refine ⟨fun _ => ?_, fun _ => ?_⟩
  · refine mt_of (by decide +kernel) (Nat.le_of_ble_eq_true rfl) ?_
    intro p e s m args below meth c ls Q hx hb hr hlocks hml hts hown hnm hK hS hl hQ
    refine lv_aload_n (pc := 0) hx hb dX8_has_0 rfl (lk hl rfl) ?_
    refine hw_getN (pc := 1) hx hb hts in_X4 hown hK (hpb) rfl 1 (Nat.le_of_ble_eq_true rfl) q1238 (fun x h => h) rfl dX8_has_1 ?_
    exact hr_z (pc := 4) hQ hx hb hr hlocks hS (by first | exact Nat.le_of_ble_eq_true rfl | (dsimp only [rmd]; omega)) (by first | exact Nat.le_of_ble_eq_true rfl | (dsimp only [rmd]; omega)) (nar_z hu) (⟨rfl, rfl⟩) dX8_has_4
  · refine mt_of (by decide +kernel) (Nat.le_of_ble_eq_true rfl) ?_
    intro p e s m args below meth c ls Q hx hb hr hlocks hml hts hown hnm hK hS hl hQ
    refine lv_aload_n (pc := 0) hx hb dX9_has_0 rfl (lk hl rfl) ?_
    refine hw_getN (pc := 1) hx hb hts in_X4 hown hK (hpb) rfl 2 (Nat.le_of_ble_eq_true rfl) q1241 (fun x h => h) rfl dX9_has_1 ?_
    exact hr_z (pc := 4) hQ hx hb hr hlocks hS (by first | exact Nat.le_of_ble_eq_true rfl | (dsimp only [rmd]; omega)) (by first | exact Nat.le_of_ble_eq_true rfl | (dsimp only [rmd]; omega)) (nar_z hv) (⟨rfl, rfl⟩) dX9_has_4
theorem s_back1 (l : Launch) (Γ : Cx) (H : Heap) : Mt l Γ yX8_back (ws_ yX8_back cX8_back 1 (some (.object "Coreplug$Way"))) 1 0 0 [.ref (wy Γ true)] H (Rv (.ref (wy Γ false)) H) := by
  refine mt_of (by decide +kernel) (Nat.le_of_ble_eq_true rfl) ?_
  intro p e s m args below meth c ls Q hx hb hr hlocks hml hts hown hnm hK hS hl hQ
  refine va_gets (pc := 0) hx hb ((hK.w0.1 0 (by decide)).1) hS hown (hts _ q1569) (u_same (hts _ q1570)) dX8_back_0 ?_
  exact hr_a (pc := 3) hQ hx hb hr (Or.inl ⟨_, rfl⟩) (Or.inr ⟨_, rfl⟩) hlocks hS (by first | exact Nat.le_of_ble_eq_true rfl | (dsimp only [rmd]; omega)) (by first | exact Nat.le_of_ble_eq_true rfl | (dsimp only [rmd]; omega)) (⟨rfl, rfl⟩) dX8_back_3
theorem s_back0 (l : Launch) (Γ : Cx) (H : Heap) : Mt l Γ yX9_back (ws_ yX9_back cX9_back 1 (some (.object "Coreplug$Way"))) 1 0 0 [.ref (wy Γ false)] H (Rv (.ref (wy Γ true)) H) := by
  refine mt_of (by decide +kernel) (Nat.le_of_ble_eq_true rfl) ?_
  intro p e s m args below meth c ls Q hx hb hr hlocks hml hts hown hnm hK hS hl hQ
  refine va_gets (pc := 0) hx hb ((hK.w1.1 0 (by decide)).1) hS hown (hts _ q1574) (u_same (hts _ q1575)) dX9_back_0 ?_
  exact hr_a (pc := 3) hQ hx hb hr (Or.inl ⟨_, rfl⟩) (Or.inr ⟨_, rfl⟩) hlocks hS (by first | exact Nat.le_of_ble_eq_true rfl | (dsimp only [rmd]; omega)) (by first | exact Nat.le_of_ble_eq_true rfl | (dsimp only [rmd]; omega)) (⟨rfl, rfl⟩) dX9_back_3
/-- the failures array of a step -/
theorem s_takes (l : Launch) (Γ : Cx) (H : Heap) (b fa c9 i : Nat) (st : Bool) (w0 w1 w2 w3 w4 w5 : Value) (F : Nat → Nat) (hpb : pt Γ H b (ob 3 [w0, w1, w2, w3, w4, w5, .ref fa])) (hpf : pt Γ H fa (ia Γ 64 (fun j => nI (F j)))) (hg : Gz Γ fa) (hc : c9 < 8) (hi : i < 4) (hF : ∀ j, F j ≤ 9) : Mt l Γ yX4_takesFailure (ws_ yX4_takesFailure cX4_takesFailure 5 (some .boolean)) 3 0 0 [.ref b, .int (nI c9), .int (nI i), .ref (wy Γ st)] H (fun v H1 => v = some (.int (b01 (decide (0 < F (fat c9 i st))))) ∧ pt Γ H1 fa (ia Γ 64 (fun j => nI (upf F (fat c9 i st) (F (fat c9 i st) - 1) j))) ∧ Off (fun q => q = fa) H H1) := by
  have hlt := fat_lt st hc hi
  have hF9 := hF (fat c9 i st)
  refine mt_of (by decide +kernel) (Nat.le_of_ble_eq_true rfl) ?_
  intro p e s m args below meth c ls Q hx hb hr hlocks hml hts hown hnm hK hS hl hQ
  have ho : Off (fun q => q = fa) H H := Off.rf
  refine lv_aload_n (pc := 0) hx hb dX4_takesFailure_0 rfl (lk hl rfl) ?_
  refine hw_get (pc := 1) hx hb hts in_X4 hown hK (hpb) rfl 6 (Nat.le_of_ble_eq_true rfl) (hts _ q1250) (fun x h => h) rfl dX4_takesFailure_1 ?_
  refine lv_iload_n (pc := 4) hx hb dX4_takesFailure_4 rfl (lk hl rfl) ?_
  refine lv_iload_n (pc := 5) hx hb dX4_takesFailure_5 rfl (lk hl rfl) ?_
  refine lv_aload_n (pc := 6) hx hb dX4_takesFailure_6 rfl (lk hl rfl) ?_
  refine hc_S (pc := 7) hx hb hml hown hts hK hS (s_at l Γ H c9 i st) (va_cwS 3 hts (lw_S q1312 q1313 q89 q1314) rfl rfl rfl (by decide +kernel) ⟨(Nat.le_of_ble_eq_true rfl), (Nat.le_of_ble_eq_true rfl)⟩) rfl hl.1 rfl (Nat.le_of_ble_eq_true rfl) dX4_takesFailure_7 ⟨by first | exact Nat.le_of_ble_eq_true rfl | (dsimp only [rmd]; omega), by first | exact Nat.le_of_ble_eq_true rfl | (dsimp only [rmd]; omega)⟩ (fun v7 H7 locs7 hq7 hS => ?_)
  obtain ⟨rfl, rfl⟩ := hq7
  refine hw_iald (pc := 10) hx hb hK hpf (vp_in_nI (show fat c9 i st < 64 from by omega) (by omega)) dX4_takesFailure_10 ?_
  rw [nI_clamp (show fat c9 i st < 2 ^ 31 from by omega)]
  refine lv_istore (pc := 11) hx hb dX4_takesFailure_11 hl (Nat.le_of_ble_eq_true rfl) rfl (fun ls hl => ?_)
  refine lv_aload_n (pc := 13) hx hb dX4_takesFailure_13 rfl (lk hl rfl) ?_
  refine hw_get (pc := 14) hx hb hts in_X4 hown hK (hpb) rfl 6 (Nat.le_of_ble_eq_true rfl) (hts _ q1250) (fun x h => h) rfl dX4_takesFailure_14 ?_
  refine lv_iload_n (pc := 17) hx hb dX4_takesFailure_17 rfl (lk hl rfl) ?_
  refine lv_iload_n (pc := 18) hx hb dX4_takesFailure_18 rfl (lk hl rfl) ?_
  refine lv_aload_n (pc := 19) hx hb dX4_takesFailure_19 rfl (lk hl rfl) ?_
  refine hc_S (pc := 20) hx hb hml hown hts hK hS (s_at l Γ H c9 i st) (va_cwS 3 hts (lw_S q1312 q1313 q89 q1314) rfl rfl rfl (by decide +kernel) ⟨(Nat.le_of_ble_eq_true rfl), (Nat.le_of_ble_eq_true rfl)⟩) rfl hl.1 rfl (Nat.le_of_ble_eq_true rfl) dX4_takesFailure_20 ⟨by first | exact Nat.le_of_ble_eq_true rfl | (dsimp only [rmd]; omega), by first | exact Nat.le_of_ble_eq_true rfl | (dsimp only [rmd]; omega)⟩ (fun v8 H8 locs8 hq8 hS => ?_)
  obtain ⟨rfl, rfl⟩ := hq8
  refine lv_dup2_11 (pc := 23) hx hb dX4_takesFailure_23 rfl rfl ?_
  refine hw_iald (pc := 24) hx hb hK hpf (vp_in_nI (show fat c9 i st < 64 from by omega) (by omega)) dX4_takesFailure_24 ?_
  rw [nI_clamp (show fat c9 i st < 2 ^ 31 from by omega)]
  refine lv_iload (pc := 25) hx hb dX4_takesFailure_25 (lk hl rfl) ?_
  have L : ∀ (d9 : Nat) (ls : Array Slot) (locs : List Loc), d9 = (if 0 < F (fat c9 i st) then 1 else 0) → va_S (Gz Γ) s.heap H locs → lv_has ls 5 [(0, .ref b), (4, .int (nI (F (fat c9 i st))))] → W p l e (rmd 3 0 0) s m args below meth c H locs 0 0 Q (F0 m 35 ls [.int (nI d9), .int (nI (F (fat c9 i st))), .int (nI (fat c9 i st)), .ref fa]) := by
    intro d9 ls locs hd hS hl
    refine lv_isub (pc := 35) hx hb dX4_takesFailure_35 ?_
    refine hw_top (congrArg Value.int (show _ = nI (F (fat c9 i st) - d9) from n_sub (show d9 ≤ F (fat c9 i st) by rw [hd]; split <;> omega))) ?_
    have e : F (fat c9 i st) - d9 = F (fat c9 i st) - 1 := by rw [hd]; split <;> omega
    rw [e]
    refine hw_iast (pc := 36) hx hb hK (hpf) (hg) hS (vp_in_nI hlt (by omega)) dX4_takesFailure_36 (fun H1 locs1 hp1 z1 o1 hS => ?_)
    have e2 : upd (fun j => nI (F j)) (nI (fat c9 i st)).toNatClampNeg (nI (F (fat c9 i st) - 1)) = (fun j => nI (upf F (fat c9 i st) (F (fat c9 i st) - 1) j)) := by
      funext j
      rw [nI_clamp (by omega)]
      unfold upd upf
      split <;> rfl
    rw [e2] at hp1
    have ho := ho.trans (Off.put z1 o1 rfl)
    refine lv_iload (pc := 37) hx hb dX4_takesFailure_37 (lk hl rfl) ?_
    refine hn_z_le (tgt := 46) (pc := 39) hx hb dX4_takesFailure_39 (by decide) (by omega) (fun h => ?_) (fun h => ?_)
    · refine lv_iconst (v := nI 0) (pc := 46) hx hb dX4_takesFailure_46 (by decide) ?_
      exact hr_z (pc := 47) hQ hx hb hr hlocks hS (by first | exact Nat.le_of_ble_eq_true rfl | (dsimp only [rmd]; omega)) (by first | exact Nat.le_of_ble_eq_true rfl | (dsimp only [rmd]; omega)) (rfl) (⟨by rw [decide_eq_false (by omega)]; rfl, hp1, ho⟩) dX4_takesFailure_47
    · skip
      refine lv_iconst (v := nI 1) (pc := 42) hx hb dX4_takesFailure_42 (by decide) ?_
      refine lv_goto (tgt := 47) (pc := 43) hx hb dX4_takesFailure_43 (by decide) ?_
      exact hr_z (pc := 47) hQ hx hb hr hlocks hS (by first | exact Nat.le_of_ble_eq_true rfl | (dsimp only [rmd]; omega)) (by first | exact Nat.le_of_ble_eq_true rfl | (dsimp only [rmd]; omega)) (rfl) (⟨by rw [decide_eq_true (by omega)]; rfl, hp1, ho⟩) dX4_takesFailure_47
  refine hn_z_le (tgt := 34) (pc := 27) hx hb dX4_takesFailure_27 (by decide) (by omega) (fun h => ?_) (fun h => ?_)
  · refine lv_iconst (v := nI 0) (pc := 34) hx hb dX4_takesFailure_34 (by decide) ?_
    exact L 0 ls _ (by rw [if_neg (by omega)]) hS (by repeat first | exact lv_0 hl | refine lv_c (lk hl rfl) ?_)
  · skip
    refine lv_iconst (v := nI 1) (pc := 30) hx hb dX4_takesFailure_30 (by decide) ?_
    refine lv_goto (tgt := 35) (pc := 31) hx hb dX4_takesFailure_31 (by decide) ?_
    exact L 1 ls _ (by rw [if_pos (by omega)]) hS (by repeat first | exact lv_0 hl | refine lv_c (lk hl rfl) ?_)
