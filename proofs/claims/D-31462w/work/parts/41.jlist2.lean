/-! ArrayList: made, added to, cleared, walked -/
set_option maxRecDepth 100000
set_option maxHeartbeats 4000000
theorem KK.cc {Γ : Cx} {s : State} (h : KK Γ s) : CC Γ s s.heap := h.2.2.2.2.2.1
def upf (f : Nat → Nat) (i v : Nat) : Nat → Nat := fun j => if j = i then v else f j
theorem upf_s {f : Nat → Nat} {i v : Nat} : upf f i v i = v := if_pos rfl
theorem upf_i {f : Nat → Nat} {i v j : Nat} (h : j ≠ i) : upf f i v j = f j := if_neg h
theorem j_ac_init (l : Launch) (Γ : Cx) (H : Heap) (a : Nat) : Mt l Γ yJ0_init (ws_ yJ0_init cJ0_init 1 none) 1 0 0 [.ref a] H (Rn H) := by
  refine mt_of (by decide +kernel) (Nat.le_of_ble_eq_true rfl) ?_
  intro p e s m args below meth c ls Q hx hb hr hlocks hml hts hown hnm hK hS hl hQ
  refine lv_aload_n (pc := 0) hx hb dJ0_init_0 rfl (lk hl rfl) ?_
  refine W.objInit hx hb hown (hts _ q142) (hts _ q127) (hts _ q128) rfl (by rw [hml]; exact hl.1) rfl dJ0_init_1 (Nat.le_of_ble_eq_true rfl) (Nat.le_of_ble_eq_true rfl) ?_
  refine W.eq (g2 := F0 m 4 ls _) rfl ?_
  exact hr_v (pc := 4) hQ hx hb hr hlocks hS (by first | exact Nat.le_of_ble_eq_true rfl | (dsimp only [rmd]; omega)) (by first | exact Nat.le_of_ble_eq_true rfl | (dsimp only [rmd]; omega)) (⟨rfl, rfl⟩) dJ0_init_4
theorem j_abl_init (l : Launch) (Γ : Cx) (H : Heap) (a : Nat) (w : Value) (fs : List Value) (hp : pt Γ H a (ob 8 (w :: fs))) (hg : Gz Γ a) : Mt l Γ yJ1_init (ws_ yJ1_init cJ1_init 1 none) 2 0 0 [.ref a] H (fun v H1 => v = none ∧ pt Γ H1 a (ob 8 (.int (nI 0) :: fs)) ∧ Off (fun q => q = a) H H1) := by
  refine mt_of (by decide +kernel) (Nat.le_of_ble_eq_true rfl) ?_
  intro p e s m args below meth c ls Q hx hb hr hlocks hml hts hown hnm hK hS hl hQ
  refine lv_aload_n (pc := 0) hx hb dJ1_init_0 rfl (lk hl rfl) ?_
  refine hc_I (pc := 1) hx hb hml hown hts hK hS (j_ac_init l Γ H a) (cwI 0 hts (lw_meth q141) rfl rfl rfl (hts _ q71) (hts _ q139) (hts _ q140) rfl (by decide +kernel) ⟨(Nat.le_of_ble_eq_true rfl), (Nat.le_of_ble_eq_true rfl)⟩) rfl hl.1 rfl (Nat.le_of_ble_eq_true rfl) dJ1_init_1 ⟨by first | exact Nat.le_of_ble_eq_true rfl | (dsimp only [rmd]; omega), by first | exact Nat.le_of_ble_eq_true rfl | (dsimp only [rmd]; omega)⟩ (fun v9 H9 locs9 hq9 hS => ?_)
  obtain ⟨rfl, rfl⟩ := hq9
  refine lv_aload_n (pc := 4) hx hb dJ1_init_4 rfl (lk hl rfl) ?_
  refine lv_iconst (v := nI 0) (pc := 5) hx hb dJ1_init_5 (by decide) ?_
  refine hw_put (pc := 6) hx hb hts in_J2 tyJ2_ok nmJ2 hown hK (hp) (hg) hS rfl 0 (Nat.le_of_ble_eq_true rfl) (hts _ q149) (fun x h => h) rfl rfl (rfl) (rfl) (Nat.le_of_ble_eq_true rfl) dJ1_init_6 (fun H1 locs1 hp1 z1 o1 hS => ?_)
  exact hr_v (pc := 9) hQ hx hb hr hlocks hS (by first | exact Nat.le_of_ble_eq_true rfl | (dsimp only [rmd]; omega)) (by first | exact Nat.le_of_ble_eq_true rfl | (dsimp only [rmd]; omega)) (⟨rfl, hp1, Off.put z1 o1 rfl⟩) dJ1_init_9
theorem j_al_init (l : Launch) (Γ : Cx) (H : Heap) (a : Nat) (hp : pt Γ H a (ob 8 [.int 0, .null, .int 0])) (hg : Gz Γ a) : Mt l Γ yJ2_init (ws_ yJ2_init cJ2_init 1 none) 3 0 0 [.ref a] H (fun v H1 => v = none ∧ pt Γ H1 a (ob 8 [.int (nI 0), .ref (Γ.2.2.2 2), .int (nI 0)]) ∧ Off (fun q => q = a) H H1) := by
  refine mt_of (by decide +kernel) (Nat.le_of_ble_eq_true rfl) ?_
  intro p e s m args below meth c ls Q hx hb hr hlocks hml hts hown hnm hK hS hl hQ
  refine lv_aload_n (pc := 0) hx hb dJ2_init_0 rfl (lk hl rfl) ?_
  refine hc_I (pc := 1) hx hb hml hown hts hK hS (j_abl_init l Γ H a _ _ hp hg) (cwI 0 hts (lw_meth q138) rfl rfl rfl (hts _ q72) (hts _ q136) (hts _ q137) rfl (by decide +kernel) ⟨(Nat.le_of_ble_eq_true rfl), (Nat.le_of_ble_eq_true rfl)⟩) rfl hl.1 rfl (Nat.le_of_ble_eq_true rfl) dJ2_init_1 ⟨by first | exact Nat.le_of_ble_eq_true rfl | (dsimp only [rmd]; omega), by first | exact Nat.le_of_ble_eq_true rfl | (dsimp only [rmd]; omega)⟩ (fun v9 H9 locs9 hq9 hS => ?_)
  obtain ⟨rfl, hp, ho⟩ := hq9
  refine lv_aload_n (pc := 4) hx hb dJ2_init_4 rfl (lk hl rfl) ?_
  refine va_gets (pc := 5) hx hb (hK.cc.2.2.1) hS hown (hts _ q143) (fun x h => h) dJ2_init_5 ?_
  refine hw_put (pc := 8) hx hb hts in_J2 tyJ2_ok nmJ2 hown hK (hp) (hg) hS rfl 1 (Nat.le_of_ble_eq_true rfl) (hts _ q145) (fun x h => h) rfl rfl (rfl) (rfl) (Nat.le_of_ble_eq_true rfl) dJ2_init_8 (fun H1 locs1 hp1 z1 o1 hS => ?_)
  exact hr_v (pc := 11) hQ hx hb hr hlocks hS (by first | exact Nat.le_of_ble_eq_true rfl | (dsimp only [rmd]; omega)) (by first | exact Nat.le_of_ble_eq_true rfl | (dsimp only [rmd]; omega)) (⟨rfl, hp1, ho.trans (Off.put z1 o1 rfl)⟩) dJ2_init_11
theorem j_max (l : Launch) (Γ : Cx) (H : Heap) (i n : Nat) (hi : i < 2 ^ 31) (hn : n < 2 ^ 31) : Mt l Γ yJ4_max (ws_ yJ4_max cJ4_max 2 (some .int)) 1 0 0 [.int (nI i), .int (nI n)] H (Rd (nI (max i n)) H) := by
  refine mt_ofF (by decide +kernel) (Nat.le_of_ble_eq_true rfl) ?_
  intro p e s m args below meth c ls Q hx hb hr hlocks hml hts hown hnm hK hS hl hQ
  refine lv_iload_n (pc := 0) hx hb dJ4_max_0 rfl (lk hl rfl) ?_
  refine lv_iload_n (pc := 1) hx hb dJ4_max_1 rfl (lk hl rfl) ?_
  refine hn_lt (tgt := 9) (pc := 2) hx hb dJ4_max_2 (by decide) (by omega) (by omega) (fun h => ?_) (fun h => ?_)
  · refine lv_iload_n (pc := 9) hx hb dJ4_max_9 rfl (lk hl rfl) ?_
    exact hr_i (pc := 10) hQ hx hb hr hlocks hS (by first | exact Nat.le_of_ble_eq_true rfl | (dsimp only [rmd]; omega)) (by first | exact Nat.le_of_ble_eq_true rfl | (dsimp only [rmd]; omega)) (⟨by rw [Nat.max_eq_right (by omega)], rfl⟩) dJ4_max_10
  · skip
    refine lv_iload_n (pc := 5) hx hb dJ4_max_5 rfl (lk hl rfl) ?_
    refine lv_goto (tgt := 10) (pc := 6) hx hb dJ4_max_6 (by decide) ?_
    exact hr_i (pc := 10) hQ hx hb hr hlocks hS (by first | exact Nat.le_of_ble_eq_true rfl | (dsimp only [rmd]; omega)) (by first | exact Nat.le_of_ble_eq_true rfl | (dsimp only [rmd]; omega)) (⟨by rw [Nat.max_eq_left (by omega)], rfl⟩) dJ4_max_10
/-- an object that may lie where any may -/
def Anyc (Γ : Cx) (H : Heap) (q : Nat) : Prop := ∃ (ci : Nat) (qc : vw_C) (fs : List Value), pt Γ H q (.inr (ci, fs)) ∧ cls[ci]? = some qc ∧ Cond.castable qc.1 "java/lang/Object" ∈ lw_tbl
theorem Anyc.ne {Γ : Cx} {H H1 : Heap} {a q : Nat} (h : Anyc Γ H q) (o : ∀ q : Nat, q ≠ a → H1[q]? = H[q]?) (hn : q ≠ a) : Anyc Γ H1 q := by
  obtain ⟨ci, qc, fs, h1, h2, h3⟩ := h
  exact ⟨ci, qc, fs, h1.ne o hn, h2, h3⟩
theorem Anyc.off {Γ : Cx} {H H1 : Heap} {S : Nat → Prop} {q : Nat} (h : Anyc Γ H q) (o : Off S H H1) (hn : ¬ S q) : Anyc Γ H1 q := by
  obtain ⟨ci, qc, fs, h1, h2, h3⟩ := h
  exact ⟨ci, qc, fs, h1.off o hn, h2, h3⟩
theorem KK.anyc {Γ : Cx} {s : State} {H : Heap} {q : Nat} (hK : KK Γ s) (h : Anyc Γ H q) : va_Any "java/lang/Object" s H q := by
  obtain ⟨ci, qc, fs, h1, h2, h3⟩ := h
  exact hK.any h1 h2 h3
theorem anyc_core {Γ : Cx} {H : Heap} {q : Nat} {fs : List Value} (h : pt Γ H q (ob 1 fs)) : Anyc Γ H q := ⟨1, _, fs, h, rfl, q2063⟩
theorem anyc_thing {Γ : Cx} {H : Heap} {q : Nat} {fs : List Value} (h : pt Γ H q (ob 6 fs)) : Anyc Γ H q := ⟨6, _, fs, h, rfl, q2088⟩
/-- the first array of a list that was never added to -/
theorem j_al_growE (l : Launch) (Γ : Cx) (H : Heap) (a : Nat) (md : Value) (hpa : pt Γ H a (ob 8 [md, .ref (Γ.2.2.2 2), .int (nI 0)])) (hg : Gz Γ a) : Mt l Γ yJ2_grow_2 (ws_ yJ2_grow_2 cJ2_grow_2 4 (some (.array (.object "java/lang/Object")))) 3 1 10 [.ref a, .int (nI 1)] H (fun v H1 => v = some (.ref H.size) ∧ pt Γ H1 a (ob 8 [md, .ref H.size, .int (nI 0)]) ∧ pt Γ H1 H.size (oa Γ 10 (fun _ => none)) ∧ Gz Γ H.size ∧ Off (fun q => q = a) H H1) := by
  refine mt_of (by decide +kernel) (Nat.le_of_ble_eq_true rfl) ?_
  intro p e s m args below meth c ls Q hx hb hr hlocks hml hts hown hnm hK hS hl hQ
  have ho : Off (fun q => q = a) H H := Off.rf
  have hla := hpa.lt
  refine lv_aload_n (pc := 0) hx hb dJ2_grow_2_0 rfl (lk hl rfl) ?_
  refine hw_get (pc := 1) hx hb hts in_J2 hown hK (hpa) rfl 1 (Nat.le_of_ble_eq_true rfl) (hts _ q145) (fun x h => h) rfl dJ2_grow_2_1 ?_
  refine va_tlen (pc := 4) (v := nI 0) hx hb hK.cc.2.2.2.1 hS rfl dJ2_grow_2_4 ?_
  refine lv_istore_n (pc := 5) hx hb dJ2_grow_2_5 rfl hl (Nat.le_of_ble_eq_true rfl) rfl (fun ls hl => ?_)
  refine lv_iload_n (pc := 6) hx hb dJ2_grow_2_6 rfl (lk hl rfl) ?_
  refine lv_if_gt (tgt := 20) (pc := 7) hx hb dJ2_grow_2_7 (by decide) (fun q => absurd q (by decide)) (fun _ => ?_)
  refine lv_aload_n (pc := 10) hx hb dJ2_grow_2_10 rfl (lk hl rfl) ?_
  refine hw_get (pc := 11) hx hb hts in_J2 hown hK (hpa) rfl 1 (Nat.le_of_ble_eq_true rfl) (hts _ q145) (fun x h => h) rfl dJ2_grow_2_11 ?_
  refine va_gets (pc := 14) hx hb (hK.cc.2.2.1) hS hown (hts _ q143) (fun x h => h) dJ2_grow_2_14 ?_
  refine lv_acmp_eq (tgt := 45) (pc := 17) (rx := some (Γ.2.2.2 2)) (ry := some (Γ.2.2.2 2)) hx hb dJ2_grow_2_17 (by decide) (fun _ => ?_) (fun hn => absurd rfl hn)
  refine lv_aload_n (pc := 45) hx hb dJ2_grow_2_45 rfl (lk hl rfl) ?_
  refine lv_bipush (v := nI 10) (pc := 46) hx hb dJ2_grow_2_46 (by decide) ?_
  refine lv_iload_n (pc := 48) hx hb dJ2_grow_2_48 rfl (lk hl rfl) ?_
  refine hc_S (pc := 49) hx hb hml hown hts hK hS (j_max l Γ _ 10 1 (by omega) (by omega)) (va_cwS 2 hts (lw_S q264 q209 q76 q210) rfl rfl rfl (by decide +kernel) ⟨(Nat.le_of_ble_eq_true rfl), (Nat.le_of_ble_eq_true rfl)⟩) rfl hl.1 rfl (Nat.le_of_ble_eq_true rfl) dJ2_grow_2_49 ⟨by first | exact Nat.le_of_ble_eq_true rfl | (dsimp only [rmd]; omega), by first | exact Nat.le_of_ble_eq_true rfl | (dsimp only [rmd]; omega)⟩ (fun v1 H1 locs1 hq1 hS => ?_)
  obtain ⟨rfl, rfl⟩ := hq1
  refine hw_top (congrArg Value.int (show _ = nI 10 from rfl)) ?_
  refine hw_newq (t0 := 3) (N := 10) (pc := 52) hx hb hown (hts _ q265) hK.2.1.2.1 hK rfl hS (by decide) (by decide) (by first | exact Nat.le_of_ble_eq_true rfl | (dsimp only [rmd]; omega)) (by first | exact Nat.le_of_ble_eq_true rfl | (dsimp only [rmd]; omega)) dJ2_grow_2_52 (fun qn Hn eqn hpn hgn zn on hS => ?_)
  have hpa := hpa.old on
  have ho := ho.trans (Off.new zn on)
  have : a < Hn.size := hpa.lt
  have hne : a ≠ qn := by omega
  have hga := hg
  refine lv_dup_x1 (pc := 55) hx hb dJ2_grow_2_55 rfl rfl ?_
  refine hw_put (pc := 56) hx hb hts in_J2 tyJ2_ok nmJ2 hown hK (hpa) (hga) hS rfl 1 (Nat.le_of_ble_eq_true rfl) (hts _ q145) (fun x h => h) rfl rfl (rfl) (rfl) (Nat.le_of_ble_eq_true rfl) dJ2_grow_2_56 (fun Hp2 locsp2 hpp2 zp2 op2 hS => ?_)
  have hpa : pt Γ Hp2 a (ob 8 [md, .ref qn, .int (nI 0)]) := hpp2
  have ho := ho.trans (Off.put zp2 op2 (by first | rfl | (simp; done) | exact Or.inl rfl | exact Or.inr rfl | omega))
  subst eqn
  exact hr_a (pc := 59) hQ hx hb hr (Or.inr ⟨_, rfl⟩) (Or.inr ⟨_, rfl⟩) hlocks hS (by first | exact Nat.le_of_ble_eq_true rfl | (dsimp only [rmd]; omega)) (by first | exact Nat.le_of_ble_eq_true rfl | (dsimp only [rmd]; omega)) (⟨rfl, hpa, hpn.ne op2 (by omega), hgn, ho⟩) dJ2_grow_2_59
