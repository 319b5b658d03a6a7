/-! a step, its iterator -/
set_option maxRecDepth 100000
set_option maxHeartbeats 4000000
/-- what the iterator finds, + 1: upward from k, downward below k -/
def fnd (v : Nat) (up : Bool) (k : Nat) : Nat := if up then nsb v k else if k = 0 then 0 else psb v (k - 1)
def fra (up : Bool) (k : Nat) : Int32 := if up then nI k else nI k - 1
theorem nsb_le (v i : Nat) : nsb v i ≤ 4 := by unfold nsb; split; omega; split; omega; split; omega; split <;> omega
theorem psb_le (v i : Nat) : psb v i ≤ 4 := by unfold psb; split; omega; split; omega; split; omega; split <;> omega
theorem fnd_le (v : Nat) (up : Bool) (k : Nat) : fnd v up k ≤ 4 := by
  unfold fnd
  split
  · exact nsb_le _ _
  · split
    · omega
    · exact psb_le _ _
/-- the parts of a step that an iterator reads -/
def SI (Γ : Cx) (H : Heap) (b bs w v : Nat) : Prop := (∃ w0 w1 w2 w3 w5 w6, pt Γ H b (ob 3 [w0, w1, w2, w3, .ref bs, w5, w6])) ∧ BS Γ H bs w v
theorem SI.off {Γ : Cx} {H H1 : Heap} {S : Nat → Prop} {b bs w v : Nat} (h : SI Γ H b bs w v) (o : Off S H H1) (h1 : ¬ S b) (h2 : ¬ S bs) (h3 : ¬ S w) : SI Γ H1 b bs w v := by
  obtain ⟨⟨w0, w1, w2, w3, w5, w6, hp⟩, hB⟩ := h
  exact ⟨⟨w0, w1, w2, w3, w5, w6, hp.off o h1⟩, hB.off o h2 h3⟩
theorem s_find (l : Launch) (Γ : Cx) (H : Heap) (ρ b bs w v k : Nat) (up : Bool) (nx9 fr : Value) (hpi : pt Γ H ρ (ob 5 [nx9, fr, .int (b01 up), .ref b])) (hI : SI Γ H b bs w v) (hv : v < 16) (hk : k < 5) : Mt l Γ yX7_find (ws_ yX7_find cX7_find 2 (some .int)) 4 0 0 [.ref ρ, .int (fra up k)] H (Rd (nI (fnd v up k) - 1) H) := by
  obtain ⟨⟨w0, w1, w2, w3, w5, w6, hpb⟩, hB⟩ := hI
  cases up
  · refine mt_of (by decide +kernel) (Nat.le_of_ble_eq_true rfl) ?_
    intro p e s m args below meth c ls Q hx hb hr hlocks hml hts hown hnm hK hS hl hQ
    refine lv_aload_n (pc := 0) hx hb dX7_find_0 rfl (lk hl rfl) ?_
    refine hw_get (pc := 1) hx hb hts in_X7 hown hK (hpi) rfl 2 (Nat.le_of_ble_eq_true rfl) (hts _ q1544) (fun x h => h) rfl dX7_find_1 ?_
    refine hz_eq (tgt := 21) (pc := 4) hx hb dX7_find_4 (by decide) (fun _ => ?_) (fun hn => absurd hn (by simp))
    refine lv_iload_n (pc := 21) hx hb dX7_find_21 rfl (lk hl rfl) ?_
    rcases Nat.eq_zero_or_pos k with h0 | h0
    · subst h0
      refine lv_if_ge (tgt := 29) (pc := 22) hx hb dX7_find_22 (by decide) (fun q => absurd q (by decide)) (fun _ => ?_)
      refine lv_iconst (v := nI 0 - 1) (pc := 25) hx hb dX7_find_25 (by decide) ?_
      refine lv_goto (tgt := 40) (pc := 26) hx hb dX7_find_26 (by decide) ?_
      exact hr_i (pc := 40) hQ hx hb hr hlocks hS (by first | exact Nat.le_of_ble_eq_true rfl | (dsimp only [rmd]; omega)) (by first | exact Nat.le_of_ble_eq_true rfl | (dsimp only [rmd]; omega)) (⟨rfl, rfl⟩) dX7_find_40
    · have e : fra false k = nI (k - 1) := n_m h0
      rw [e] at hl ⊢
      refine lv_if_ge (tgt := 29) (pc := 22) hx hb dX7_find_22 (by decide) (fun _ => ?_) (fun q => absurd (nI_0le (by omega)) q)
      refine lv_aload_n (pc := 29) hx hb dX7_find_29 rfl (lk hl rfl) ?_
      refine hw_get (pc := 30) hx hb hts in_X7 hown hK (hpi) rfl 3 (Nat.le_of_ble_eq_true rfl) (hts _ q1545) (fun x h => h) rfl dX7_find_30 ?_
      refine hw_getN (pc := 33) hx hb hts in_X4 hown hK (hpb) rfl 4 (Nat.le_of_ble_eq_true rfl) q1246 (fun x h => h) rfl dX7_find_33 ?_
      refine lv_iload_n (pc := 36) hx hb dX7_find_36 rfl (lk hl rfl) ?_
      refine hc_V (pc := 37) hx hb hml hown hts hK hS (j_bs_prev l Γ H bs w v (k - 1) hB hv (by omega)) (cwV 1 hts (lw_V q984 q985 q986 q90 q987) rfl rfl rfl (by decide +kernel) ⟨(Nat.le_of_ble_eq_true rfl), (Nat.le_of_ble_eq_true rfl)⟩) (hK.recv hB.1 rfl) rfl hl.1 rfl (Nat.le_of_ble_eq_true rfl) dX7_find_37 ⟨by first | exact Nat.le_of_ble_eq_true rfl | (dsimp only [rmd]; omega), by first | exact Nat.le_of_ble_eq_true rfl | (dsimp only [rmd]; omega)⟩ (fun v9 H9 locs9 hq9 hS => ?_)
      obtain ⟨rfl, rfl⟩ := hq9
      have e2 : fnd v false k = psb v (k - 1) := by
        unfold fnd
        rw [if_neg (by simp), if_neg (by omega)]
      exact hr_i (pc := 40) hQ hx hb hr hlocks hS (by first | exact Nat.le_of_ble_eq_true rfl | (dsimp only [rmd]; omega)) (by first | exact Nat.le_of_ble_eq_true rfl | (dsimp only [rmd]; omega)) (⟨by rw [e2], rfl⟩) dX7_find_40
  · refine mt_of (by decide +kernel) (Nat.le_of_ble_eq_true rfl) ?_
    intro p e s m args below meth c ls Q hx hb hr hlocks hml hts hown hnm hK hS hl hQ
    refine lv_aload_n (pc := 0) hx hb dX7_find_0 rfl (lk hl rfl) ?_
    refine hw_get (pc := 1) hx hb hts in_X7 hown hK (hpi) rfl 2 (Nat.le_of_ble_eq_true rfl) (hts _ q1544) (fun x h => h) rfl dX7_find_1 ?_
    refine hz_eq (tgt := 21) (pc := 4) hx hb dX7_find_4 (by decide) (fun hn => absurd hn (by simp)) (fun _ => ?_)
    refine lv_aload_n (pc := 7) hx hb dX7_find_7 rfl (lk hl rfl) ?_
    refine hw_get (pc := 8) hx hb hts in_X7 hown hK (hpi) rfl 3 (Nat.le_of_ble_eq_true rfl) (hts _ q1545) (fun x h => h) rfl dX7_find_8 ?_
    refine hw_getN (pc := 11) hx hb hts in_X4 hown hK (hpb) rfl 4 (Nat.le_of_ble_eq_true rfl) q1246 (fun x h => h) rfl dX7_find_11 ?_
    refine lv_iload_n (pc := 14) hx hb dX7_find_14 rfl (lk hl rfl) ?_
    refine hc_V (pc := 15) hx hb hml hown hts hK hS (j_bs_next l Γ H bs w v k hB hv hk) (cwV 1 hts (lw_V q954 q955 q956 q90 q957) rfl rfl rfl (by decide +kernel) ⟨(Nat.le_of_ble_eq_true rfl), (Nat.le_of_ble_eq_true rfl)⟩) (hK.recv hB.1 rfl) rfl hl.1 rfl (Nat.le_of_ble_eq_true rfl) dX7_find_15 ⟨by first | exact Nat.le_of_ble_eq_true rfl | (dsimp only [rmd]; omega), by first | exact Nat.le_of_ble_eq_true rfl | (dsimp only [rmd]; omega)⟩ (fun v9 H9 locs9 hq9 hS => ?_)
    obtain ⟨rfl, rfl⟩ := hq9
    refine lv_goto (tgt := 40) (pc := 18) hx hb dX7_find_18 (by decide) ?_
    exact hr_i (pc := 40) hQ hx hb hr hlocks hS (by first | exact Nat.le_of_ble_eq_true rfl | (dsimp only [rmd]; omega)) (by first | exact Nat.le_of_ble_eq_true rfl | (dsimp only [rmd]; omega)) (⟨rfl, rfl⟩) dX7_find_40
theorem s_it_init (l : Launch) (Γ : Cx) (H : Heap) (ρ b bs w v k : Nat) (up : Bool) (hpi : pt Γ H ρ (ob 5 [.int (nI 0), .int (nI 0), .int (nI 0), .null])) (hI : SI Γ H b bs w v) (hv : v < 16) (hk : k < 5) (hg : Gz Γ ρ) (h1 : b ≠ ρ) (h2 : bs ≠ ρ) (h3 : w ≠ ρ) : Mt l Γ yX7_init (ws_ yX7_init cX7_init 4 none) 5 0 0 [.ref ρ, .ref b, .int (fra up k), .int (b01 up)] H (fun x H1 => x = none ∧ pt Γ H1 ρ (ob 5 [.int (nI (fnd v up k) - 1), .int (fra up k), .int (b01 up), .ref b]) ∧ Off (fun q => q = ρ) H H1) := by
  refine mt_of (by decide +kernel) (Nat.le_of_ble_eq_true rfl) ?_
  intro p e s m args below meth c ls Q hx hb hr hlocks hml hts hown hnm hK hS hl hQ
  have ho : Off (fun q => q = ρ) H H := Off.rf
  refine lv_aload_n (pc := 0) hx hb dX7_init_0 rfl (lk hl rfl) ?_
  refine lv_aload_n (pc := 1) hx hb dX7_init_1 rfl (lk hl rfl) ?_
  refine hw_putF (pc := 2) hx hb hts in_X7 tyX7_ok nmX7 hown hK (hpi) (hg) hS rfl 3 (Nat.le_of_ble_eq_true rfl) (hts _ q1545) (fun x h => h) rfl hnm rfl rfl (rfl) (rfl) (Nat.le_of_ble_eq_true rfl) dX7_init_2 (fun Hp1 locsp1 hpp1 zp1 op1 hS => ?_)
  have hpi : pt Γ Hp1 ρ (ob 5 [.int (nI 0), .int (nI 0), .int (nI 0), .ref b]) := hpp1
  have ho := ho.trans (Off.put zp1 op1 (by first | rfl | (simp; done) | exact Or.inl rfl | exact Or.inr rfl | omega))
  refine lv_aload_n (pc := 5) hx hb dX7_init_5 rfl (lk hl rfl) ?_
  refine lv_iload_n (pc := 6) hx hb dX7_init_6 rfl (lk hl rfl) ?_
  refine hw_putF (pc := 7) hx hb hts in_X7 tyX7_ok nmX7 hown hK (hpi) (hg) hS rfl 1 (Nat.le_of_ble_eq_true rfl) (hts _ q1543) (fun x h => h) rfl hnm rfl rfl (rfl) (rfl) (Nat.le_of_ble_eq_true rfl) dX7_init_7 (fun Hp2 locsp2 hpp2 zp2 op2 hS => ?_)
  have hpi : pt Γ Hp2 ρ (ob 5 [.int (nI 0), .int (fra up k), .int (nI 0), .ref b]) := hpp2
  have ho := ho.trans (Off.put zp2 op2 (by first | rfl | (simp; done) | exact Or.inl rfl | exact Or.inr rfl | omega))
  refine lv_aload_n (pc := 10) hx hb dX7_init_10 rfl (lk hl rfl) ?_
  refine lv_iload_n (pc := 11) hx hb dX7_init_11 rfl (lk hl rfl) ?_
  refine hw_putF (pc := 12) hx hb hts in_X7 tyX7_ok nmX7 hown hK (hpi) (hg) hS rfl 2 (Nat.le_of_ble_eq_true rfl) (hts _ q1544) (fun x h => h) rfl hnm rfl rfl (b01_z up) ((by cases up <;> rfl)) (Nat.le_of_ble_eq_true rfl) dX7_init_12 (fun Hp9 locsp9 hpp9 zp9 op9 hS => ?_)
  have hpi : pt Γ Hp9 ρ (ob 5 [.int (nI 0), .int (fra up k), .int (b01 up), .ref b]) := hpp9
  have ho := ho.trans (Off.put zp9 op9 rfl)
  refine lv_aload_n (pc := 15) hx hb dX7_init_15 rfl (lk hl rfl) ?_
  refine W.objInit hx hb hown (hts _ q1541) (hts _ q127) (hts _ q128) rfl (by rw [hml]; exact hl.1) rfl dX7_init_16 (Nat.le_of_ble_eq_true rfl) (Nat.le_of_ble_eq_true rfl) ?_
  refine W.eq (g2 := F0 m 19 ls _) rfl ?_
  refine lv_aload_n (pc := 19) hx hb dX7_init_19 rfl (lk hl rfl) ?_
  refine lv_aload_n (pc := 20) hx hb dX7_init_20 rfl (lk hl rfl) ?_
  refine lv_aload_n (pc := 21) hx hb dX7_init_21 rfl (lk hl rfl) ?_
  refine hw_get (pc := 22) hx hb hts in_X7 hown hK (hpi) rfl 1 (Nat.le_of_ble_eq_true rfl) (hts _ q1543) (fun x h => h) rfl dX7_init_22 ?_
  refine hc_V (pc := 25) hx hb hml hown hts hK hS (s_find l Γ _ ρ b bs w v k up _ _ hpi (hI.off ho h1 h2 h3) hv hk) (cwV 1 hts (lw_V q949 q951 qs12 q115 q953) rfl rfl rfl (by decide +kernel) ⟨(Nat.le_of_ble_eq_true rfl), (Nat.le_of_ble_eq_true rfl)⟩) (hK.recv hpi rfl) rfl hl.1 rfl (Nat.le_of_ble_eq_true rfl) dX7_init_25 ⟨by first | exact Nat.le_of_ble_eq_true rfl | (dsimp only [rmd]; omega), by first | exact Nat.le_of_ble_eq_true rfl | (dsimp only [rmd]; omega)⟩ (fun v9 H9 locs9 hq9 hS => ?_)
  obtain ⟨rfl, rfl⟩ := hq9
  refine hw_put (pc := 28) hx hb hts in_X7 tyX7_ok nmX7 hown hK (hpi) (hg) hS rfl 0 (Nat.le_of_ble_eq_true rfl) (hts _ q1542) (fun x h => h) rfl rfl (rfl) (rfl) (Nat.le_of_ble_eq_true rfl) dX7_init_28 (fun Hp3 locsp3 hpp3 zp3 op3 hS => ?_)
  have hpi : pt Γ Hp3 ρ (ob 5 [.int (nI (fnd v up k) - 1), .int (fra up k), .int (b01 up), .ref b]) := hpp3
  have ho := ho.trans (Off.put zp3 op3 (by first | rfl | (simp; done) | exact Or.inl rfl | exact Or.inr rfl | omega))
  exact hr_v (pc := 31) hQ hx hb hr hlocks hS (by first | exact Nat.le_of_ble_eq_true rfl | (dsimp only [rmd]; omega)) (by first | exact Nat.le_of_ble_eq_true rfl | (dsimp only [rmd]; omega)) (⟨rfl, hpi, ho⟩) dX7_init_31
theorem s_along (l : Launch) (Γ : Cx) (H : Heap) (b bs w v k : Nat) (up : Bool) (hI : SI Γ H b bs w v) (hv : v < 16) (hk : k < 5) : Mt l Γ yX4_along (ws_ yX4_along cX4_along 3 (some (.object "java/util/Iterator"))) 6 1 4 [.ref b, .int (b01 up), .int (fra up k)] H (fun x H1 => x = some (.ref H.size) ∧ pt Γ H1 H.size (ob 5 [.int (nI (fnd v up k) - 1), .int (fra up k), .int (b01 up), .ref b]) ∧ Gz Γ H.size ∧ Grow H H1) := by
  have hb9 : b < H.size := by
    obtain ⟨⟨w0, w1, w2, w3, w5, w6, hp⟩, -⟩ := hI
    exact hp.lt
  have hb8 := hI.2.1.lt
  have hb7 : w < H.size := by
    obtain ⟨-, -, f, -, hp⟩ := hI
    exact hp.lt
  refine mt_of (by decide +kernel) (Nat.le_of_ble_eq_true rfl) ?_
  intro p e s m args below meth c ls Q hx hb hr hlocks hml hts hown hnm hK hS hl hQ
  refine hw_new (ci := 5) (pc := 0) hx hb hts in_X7 tyX7_ok hown (hts _ q1537) (hts _ q952) (hts _ q115) hK hS rfl rfl (by first | exact Nat.le_of_ble_eq_true rfl | (dsimp only [rmd]; omega)) (by first | exact Nat.le_of_ble_eq_true rfl | (dsimp only [rmd]; omega)) dX4_along_0 (fun qn Hn eqn hpn hgn zn on hS => ?_)
  have hpn : pt Γ Hn qn (ob 5 [.int (nI 0), .int (nI 0), .int (nI 0), .null]) := hpn
  have hIn : SI Γ Hn b bs w v := hI.off (Off.new (S := fun _ => False) zn on) id id id
  refine lv_dup (pc := 3) hx hb dX4_along_3 rfl ?_
  refine lv_aload_n (pc := 4) hx hb dX4_along_4 rfl (lk hl rfl) ?_
  refine lv_iload_n (pc := 5) hx hb dX4_along_5 rfl (lk hl rfl) ?_
  refine lv_iload_n (pc := 6) hx hb dX4_along_6 rfl (lk hl rfl) ?_
  refine hc_I (pc := 7) hx hb hml hown hts hK hS (s_it_init l Γ Hn qn b bs w v k up hpn hIn hv hk hgn (by omega) (by omega) (by omega)) (cwI 3 hts (lw_meth q1540) rfl rfl rfl (hts _ q115) (hts _ q1538) (hts _ q1539) rfl (by decide +kernel) ⟨(Nat.le_of_ble_eq_true rfl), (Nat.le_of_ble_eq_true rfl)⟩) rfl hl.1 rfl (Nat.le_of_ble_eq_true rfl) dX4_along_7 ⟨by first | exact Nat.le_of_ble_eq_true rfl | (dsimp only [rmd]; omega), by first | exact Nat.le_of_ble_eq_true rfl | (dsimp only [rmd]; omega)⟩ (fun v9 H9 locs9 hq9 hS => ?_)
  obtain ⟨rfl, h1, h2⟩ := hq9
  subst eqn
  have hgr : Grow H H9 := (Off.new (S := fun _ => False) zn on).fresh h2 (fun q hq e => by omega)
  exact hr_a (pc := 10) hQ hx hb hr (Or.inl ⟨_, rfl⟩) (Or.inr ⟨_, rfl⟩) hlocks hS (by first | exact Nat.le_of_ble_eq_true rfl | (dsimp only [rmd]; omega)) (by first | exact Nat.le_of_ble_eq_true rfl | (dsimp only [rmd]; omega)) (⟨rfl, h1, hgn, hgr⟩) dX4_along_10
theorem s_it_hasNext (l : Launch) (Γ : Cx) (H : Heap) (ρ n : Nat) (w0 w1 w2 : Value) (hpi : pt Γ H ρ (ob 5 [.int (nI n - 1), w0, w1, w2])) (hn : n < 100) : Mt l Γ yX7_hasNext (ws_ yX7_hasNext cX7_hasNext 1 (some .boolean)) 1 0 0 [.ref ρ] H (Rd (b01 (decide (n ≠ 0))) H) := by
  refine mt_of (by decide +kernel) (Nat.le_of_ble_eq_true rfl) ?_
  intro p e s m args below meth c ls Q hx hb hr hlocks hml hts hown hnm hK hS hl hQ
  refine lv_aload_n (pc := 0) hx hb dX7_hasNext_0 rfl (lk hl rfl) ?_
  refine hw_get (pc := 1) hx hb hts in_X7 hown hK (hpi) rfl 0 (Nat.le_of_ble_eq_true rfl) (hts _ q1542) (fun x h => h) rfl dX7_hasNext_1 ?_
  refine lv_iconst (v := nI 0 - 1) (pc := 4) hx hb dX7_hasNext_4 (by decide) ?_
  refine hm_eq (tgt := 12) (pc := 5) hx hb dX7_hasNext_5 (by decide) (by omega) (by omega) (fun h => ?_) (fun h => ?_)
  · refine lv_iconst (v := nI 0) (pc := 12) hx hb dX7_hasNext_12 (by decide) ?_
    exact hr_z (pc := 13) hQ hx hb hr hlocks hS (by first | exact Nat.le_of_ble_eq_true rfl | (dsimp only [rmd]; omega)) (by first | exact Nat.le_of_ble_eq_true rfl | (dsimp only [rmd]; omega)) (rfl) (⟨by rw [decide_eq_false (by omega)]; rfl, rfl⟩) dX7_hasNext_13
  · skip
    refine lv_iconst (v := nI 1) (pc := 8) hx hb dX7_hasNext_8 (by decide) ?_
    refine lv_goto (tgt := 13) (pc := 9) hx hb dX7_hasNext_9 (by decide) ?_
    exact hr_z (pc := 13) hQ hx hb hr hlocks hS (by first | exact Nat.le_of_ble_eq_true rfl | (dsimp only [rmd]; omega)) (by first | exact Nat.le_of_ble_eq_true rfl | (dsimp only [rmd]; omega)) (rfl) (⟨by rw [decide_eq_true (by omega)]; rfl, rfl⟩) dX7_hasNext_13
def fnx (up : Bool) (j : Nat) : Nat := if up then j + 1 else j
theorem fnx_t (j : Nat) : fra true (fnx true j) = nI (j + 1) := rfl
theorem s_it_next2 (l : Launch) (Γ : Cx) (H : Heap) (ρ b bs w v j : Nat) (up : Bool) (fr : Value) (hpi : pt Γ H ρ (ob 5 [.int (nI (j + 1) - 1), fr, .int (b01 up), .ref b])) (hI : SI Γ H b bs w v) (hv : v < 16) (hj : j < 4) (hg : Gz Γ ρ) (h1 : b ≠ ρ) (h2 : bs ≠ ρ) (h3 : w ≠ ρ) : Mt l Γ yX7_next_2 (ws_ yX7_next_2 cX7_next_2 2 (some (.object "java/lang/Integer"))) 5 0 0 [.ref ρ] H (fun x H1 => x = some (.ref (Γ.2.2.2 (10 + (128 + j)))) ∧ pt Γ H1 ρ (ob 5 [.int (nI (fnd v up (fnx up j)) - 1), fr, .int (b01 up), .ref b]) ∧ Off (fun q => q = ρ) H H1) := by
  rw [nI_pred] at hpi
  have fin : True := trivial
  cases up
  · refine mt_of (by decide +kernel) (Nat.le_of_ble_eq_true rfl) ?_
    intro p e s m args below meth c ls Q hx hb hr hlocks hml hts hown hnm hK hS hl hQ
    have ho : Off (fun q => q = ρ) H H := Off.rf
    refine lv_aload_n (pc := 0) hx hb dX7_next_2_0 rfl (lk hl rfl) ?_
    refine hw_get (pc := 1) hx hb hts in_X7 hown hK (hpi) rfl 0 (Nat.le_of_ble_eq_true rfl) (hts _ q1542) (fun x h => h) rfl dX7_next_2_1 ?_
    refine lv_istore_n (pc := 4) hx hb dX7_next_2_4 rfl hl (Nat.le_of_ble_eq_true rfl) rfl (fun ls hl => ?_)
    refine lv_aload_n (pc := 5) hx hb dX7_next_2_5 rfl (lk hl rfl) ?_
    refine lv_aload_n (pc := 6) hx hb dX7_next_2_6 rfl (lk hl rfl) ?_
    refine lv_aload_n (pc := 7) hx hb dX7_next_2_7 rfl (lk hl rfl) ?_
    refine hw_get (pc := 8) hx hb hts in_X7 hown hK (hpi) rfl 2 (Nat.le_of_ble_eq_true rfl) (hts _ q1544) (fun x h => h) rfl dX7_next_2_8 ?_
    refine hz_eq (tgt := 20) (pc := 11) hx hb dX7_next_2_11 (by decide) (fun _ => ?_) (fun hn => absurd hn (by simp))
    refine lv_iload_n (pc := 20) hx hb dX7_next_2_20 rfl (lk hl rfl) ?_
    refine lv_iconst (v := nI 1) (pc := 21) hx hb dX7_next_2_21 (by decide) ?_
    refine lv_isub (pc := 22) hx hb dX7_next_2_22 ?_
    refine hw_top (congrArg Value.int (show _ = nI j - 1 from n_1 _)) ?_
    refine hc_V (pc := 23) hx hb hml hown hts hK hS (s_find l Γ _ ρ b bs w v j false _ _ hpi hI hv (by omega)) (cwV 1 hts (lw_V q949 q951 qs12 q115 q953) rfl rfl rfl (by decide +kernel) ⟨(Nat.le_of_ble_eq_true rfl), (Nat.le_of_ble_eq_true rfl)⟩) (hK.recv hpi rfl) rfl hl.1 rfl (Nat.le_of_ble_eq_true rfl) dX7_next_2_23 ⟨by first | exact Nat.le_of_ble_eq_true rfl | (dsimp only [rmd]; omega), by first | exact Nat.le_of_ble_eq_true rfl | (dsimp only [rmd]; omega)⟩ (fun v9 H9 locs9 hq9 hS => ?_)
    obtain ⟨rfl, rfl⟩ := hq9
    refine hw_put (pc := 26) hx hb hts in_X7 tyX7_ok nmX7 hown hK (hpi) (hg) hS rfl 0 (Nat.le_of_ble_eq_true rfl) (hts _ q1542) (fun x h => h) rfl rfl (rfl) (rfl) (Nat.le_of_ble_eq_true rfl) dX7_next_2_26 (fun Hp1 locsp1 hpp1 zp1 op1 hS => ?_)
    have hpi : pt Γ Hp1 ρ (ob 5 [.int (nI (fnd v false j) - 1), fr, .int (b01 false), .ref b]) := hpp1
    have ho := ho.trans (Off.put zp1 op1 (by first | rfl | (simp; done) | exact Or.inl rfl | exact Or.inr rfl | omega))
    refine lv_iload_n (pc := 29) hx hb dX7_next_2_29 rfl (lk hl rfl) ?_
    refine hc_S (pc := 30) hx hb hml hown hts hK hS (j_valueOf l Γ _ j (by omega)) (va_cwS 1 hts (lw_S q999 q1000 q99 q1001) rfl rfl rfl (by decide +kernel) ⟨(Nat.le_of_ble_eq_true rfl), (Nat.le_of_ble_eq_true rfl)⟩) rfl hl.1 rfl (Nat.le_of_ble_eq_true rfl) dX7_next_2_30 ⟨by first | exact Nat.le_of_ble_eq_true rfl | (dsimp only [rmd]; omega), by first | exact Nat.le_of_ble_eq_true rfl | (dsimp only [rmd]; omega)⟩ (fun v8 H8 locs8 hq8 hS => ?_)
    obtain ⟨rfl, rfl⟩ := hq8
    exact hr_a (pc := 33) hQ hx hb hr (Or.inl ⟨_, rfl⟩) (Or.inr ⟨_, rfl⟩) hlocks hS (by first | exact Nat.le_of_ble_eq_true rfl | (dsimp only [rmd]; omega)) (by first | exact Nat.le_of_ble_eq_true rfl | (dsimp only [rmd]; omega)) (⟨rfl, hpi, ho⟩) dX7_next_2_33
  · refine mt_of (by decide +kernel) (Nat.le_of_ble_eq_true rfl) ?_
    intro p e s m args below meth c ls Q hx hb hr hlocks hml hts hown hnm hK hS hl hQ
    have ho : Off (fun q => q = ρ) H H := Off.rf
    refine lv_aload_n (pc := 0) hx hb dX7_next_2_0 rfl (lk hl rfl) ?_
    refine hw_get (pc := 1) hx hb hts in_X7 hown hK (hpi) rfl 0 (Nat.le_of_ble_eq_true rfl) (hts _ q1542) (fun x h => h) rfl dX7_next_2_1 ?_
    refine lv_istore_n (pc := 4) hx hb dX7_next_2_4 rfl hl (Nat.le_of_ble_eq_true rfl) rfl (fun ls hl => ?_)
    refine lv_aload_n (pc := 5) hx hb dX7_next_2_5 rfl (lk hl rfl) ?_
    refine lv_aload_n (pc := 6) hx hb dX7_next_2_6 rfl (lk hl rfl) ?_
    refine lv_aload_n (pc := 7) hx hb dX7_next_2_7 rfl (lk hl rfl) ?_
    refine hw_get (pc := 8) hx hb hts in_X7 hown hK (hpi) rfl 2 (Nat.le_of_ble_eq_true rfl) (hts _ q1544) (fun x h => h) rfl dX7_next_2_8 ?_
    refine hz_eq (tgt := 20) (pc := 11) hx hb dX7_next_2_11 (by decide) (fun hn => absurd hn (by simp)) (fun _ => ?_)
    refine lv_iload_n (pc := 14) hx hb dX7_next_2_14 rfl (lk hl rfl) ?_
    refine lv_iconst (v := nI 1) (pc := 15) hx hb dX7_next_2_15 (by decide) ?_
    refine lv_iadd (pc := 16) hx hb dX7_next_2_16 ?_
    refine hw_top (congrArg Value.int (show _ = nI (j + 1) from nI_add _ _)) ?_
    refine lv_goto (tgt := 23) (pc := 17) hx hb dX7_next_2_17 (by decide) ?_
    refine hc_V (pc := 23) hx hb hml hown hts hK hS (s_find l Γ _ ρ b bs w v (j + 1) true _ _ hpi hI hv (by omega)) (cwV 1 hts (lw_V q949 q951 qs12 q115 q953) rfl rfl rfl (by decide +kernel) ⟨(Nat.le_of_ble_eq_true rfl), (Nat.le_of_ble_eq_true rfl)⟩) (hK.recv hpi rfl) rfl hl.1 rfl (Nat.le_of_ble_eq_true rfl) dX7_next_2_23 ⟨by first | exact Nat.le_of_ble_eq_true rfl | (dsimp only [rmd]; omega), by first | exact Nat.le_of_ble_eq_true rfl | (dsimp only [rmd]; omega)⟩ (fun v9 H9 locs9 hq9 hS => ?_)
    obtain ⟨rfl, rfl⟩ := hq9
    refine hw_put (pc := 26) hx hb hts in_X7 tyX7_ok nmX7 hown hK (hpi) (hg) hS rfl 0 (Nat.le_of_ble_eq_true rfl) (hts _ q1542) (fun x h => h) rfl rfl (rfl) (rfl) (Nat.le_of_ble_eq_true rfl) dX7_next_2_26 (fun Hp1 locsp1 hpp1 zp1 op1 hS => ?_)
    have hpi : pt Γ Hp1 ρ (ob 5 [.int (nI (fnd v true (j + 1)) - 1), fr, .int (b01 true), .ref b]) := hpp1
    have ho := ho.trans (Off.put zp1 op1 (by first | rfl | (simp; done) | exact Or.inl rfl | exact Or.inr rfl | omega))
    refine lv_iload_n (pc := 29) hx hb dX7_next_2_29 rfl (lk hl rfl) ?_
    refine hc_S (pc := 30) hx hb hml hown hts hK hS (j_valueOf l Γ _ j (by omega)) (va_cwS 1 hts (lw_S q999 q1000 q99 q1001) rfl rfl rfl (by decide +kernel) ⟨(Nat.le_of_ble_eq_true rfl), (Nat.le_of_ble_eq_true rfl)⟩) rfl hl.1 rfl (Nat.le_of_ble_eq_true rfl) dX7_next_2_30 ⟨by first | exact Nat.le_of_ble_eq_true rfl | (dsimp only [rmd]; omega), by first | exact Nat.le_of_ble_eq_true rfl | (dsimp only [rmd]; omega)⟩ (fun v8 H8 locs8 hq8 hS => ?_)
    obtain ⟨rfl, rfl⟩ := hq8
    exact hr_a (pc := 33) hQ hx hb hr (Or.inl ⟨_, rfl⟩) (Or.inr ⟨_, rfl⟩) hlocks hS (by first | exact Nat.le_of_ble_eq_true rfl | (dsimp only [rmd]; omega)) (by first | exact Nat.le_of_ble_eq_true rfl | (dsimp only [rmd]; omega)) (⟨rfl, hpi, ho⟩) dX7_next_2_33
theorem s_it_next (l : Launch) (Γ : Cx) (H : Heap) (ρ b bs w v j : Nat) (up : Bool) (fr : Value) (hpi : pt Γ H ρ (ob 5 [.int (nI (j + 1) - 1), fr, .int (b01 up), .ref b])) (hI : SI Γ H b bs w v) (hv : v < 16) (hj : j < 4) (hg : Gz Γ ρ) (h1 : b ≠ ρ) (h2 : bs ≠ ρ) (h3 : w ≠ ρ) : Mt l Γ yX7_next (ws_ yX7_next cX7_next 1 (some (.object "java/lang/Object"))) 6 0 0 [.ref ρ] H (fun x H1 => x = some (.ref (Γ.2.2.2 (10 + (128 + j)))) ∧ pt Γ H1 ρ (ob 5 [.int (nI (fnd v up (fnx up j)) - 1), fr, .int (b01 up), .ref b]) ∧ Off (fun q => q = ρ) H H1) := by
  refine mt_of (by decide +kernel) (Nat.le_of_ble_eq_true rfl) ?_
  intro p e s m args below meth c ls Q hx hb hr hlocks hml hts hown hnm hK hS hl hQ
  refine lv_aload_n (pc := 0) hx hb dX7_next_0 rfl (lk hl rfl) ?_
  refine hc_V (pc := 1) hx hb hml hown hts hK hS (s_it_next2 l Γ H ρ b bs w v j up fr hpi hI hv hj hg h1 h2 h3) (cwV 0 hts (lw_V q945 q946 q947 q115 q948) rfl rfl rfl (by decide +kernel) ⟨(Nat.le_of_ble_eq_true rfl), (Nat.le_of_ble_eq_true rfl)⟩) (hK.recv hpi rfl) rfl hl.1 rfl (Nat.le_of_ble_eq_true rfl) dX7_next_1 ⟨by first | exact Nat.le_of_ble_eq_true rfl | (dsimp only [rmd]; omega), by first | exact Nat.le_of_ble_eq_true rfl | (dsimp only [rmd]; omega)⟩ (fun v9 H9 locs9 hq9 hS => ?_)
  obtain ⟨rfl, h4, h5⟩ := hq9
  exact hr_a (pc := 4) hQ hx hb hr (Or.inl ⟨_, rfl⟩) (Or.inr ⟨_, rfl⟩) hlocks hS (by first | exact Nat.le_of_ble_eq_true rfl | (dsimp only [rmd]; omega)) (by first | exact Nat.le_of_ble_eq_true rfl | (dsimp only [rmd]; omega)) (⟨rfl, h4, h5⟩) dX7_next_4
/-- a step is made -/
theorem s_step_init (l : Launch) (Γ : Cx) (H : Heap) (b p9 x9 y9 z9 : Nat) (hpb : pt Γ H b (ob 3 [.int (nI 0), .int (nI 0), .int (nI 0), .int (nI 0), .null, .null, .null])) (hg : Gz Γ b) (hx9 : x9 ≤ 1) (hy9 : y9 ≤ 1) (hz9 : z9 ≤ 1) : Mt l Γ yX4_init (ws_ yX4_init cX4_init 5 none) 4 4 72 [.ref b, .int (nI p9), .int (nI x9), .int (nI y9), .int (nI z9)] H (fun x H1 => x = none ∧ (∃ bs w si fa, pt Γ H1 b (ob 3 [.int (nI p9), .int (nI x9), .int (nI y9), .int (nI z9), .ref bs, .ref si, .ref fa]) ∧ BS Γ H1 bs w 0 ∧ pt Γ H1 si (ia Γ 4 (fun _ => nI 0)) ∧ pt Γ H1 fa (ia Γ 64 (fun _ => nI 0)) ∧ (Gz Γ bs ∧ Gz Γ w ∧ Gz Γ si ∧ Gz Γ fa) ∧ H.size ≤ bs ∧ bs < w ∧ w < si ∧ si < fa) ∧ Off (fun q => q = b) H H1) := by
  have fz : ∀ n, n ≤ 1 → fits .boolean (.int (nI n)) = true := fun n h => by
    rcases (show n = 0 ∨ n = 1 by omega) with e | e <;> rw [e] <;> rfl
  refine mt_of (by decide +kernel) (Nat.le_of_ble_eq_true rfl) ?_
  intro p e s m args below meth c ls Q hx hb hr hlocks hml hts hown hnm hK hS hl hQ
  have ho : Off (fun q => q = b) H H := Off.rf
  have hla := hpb.lt
  refine lv_aload_n (pc := 0) hx hb dX4_init_0 rfl (lk hl rfl) ?_
  refine W.objInit hx hb hown (hts _ q1214) (hts _ q127) (hts _ q128) rfl (by rw [hml]; exact hl.1) rfl dX4_init_1 (Nat.le_of_ble_eq_true rfl) (Nat.le_of_ble_eq_true rfl) ?_
  refine W.eq (g2 := F0 m 4 ls _) rfl ?_
  refine lv_aload_n (pc := 4) hx hb dX4_init_4 rfl (lk hl rfl) ?_
  refine hw_new (ci := 12) (pc := 5) hx hb hts in_J15 tyJ15_ok hown (hts _ q1215) (hts _ q969) (hts _ q90) hK hS rfl rfl (by first | exact Nat.le_of_ble_eq_true rfl | (dsimp only [rmd]; omega)) (by first | exact Nat.le_of_ble_eq_true rfl | (dsimp only [rmd]; omega)) dX4_init_5 (fun qn Hn eqn hpn hgn zn on hS => ?_)
  have hpb := hpb.old on
  have ho := ho.trans (Off.new zn on)
  have : b < Hn.size := hpb.lt
  have hpn : pt Γ Hn qn (ob 12 [.null, .int (nI 0), .int (nI 0)]) := hpn
  have hne1 : b ≠ qn := by omega
  refine lv_dup (pc := 8) hx hb dX4_init_8 rfl ?_
  refine hc_I (pc := 9) hx hb hml hown hts hK hS (j_bs_init l Γ Hn qn hpn hgn) (cwI 0 hts (lw_meth q1218) rfl rfl rfl (hts _ q90) (hts _ q1216) (hts _ q1217) rfl (by decide +kernel) ⟨(Nat.le_of_ble_eq_true rfl), (Nat.le_of_ble_eq_true rfl)⟩) rfl hl.1 rfl (Nat.le_of_ble_eq_true rfl) dX4_init_9 ⟨by first | exact Nat.le_of_ble_eq_true rfl | (dsimp only [rmd]; omega), by first | exact Nat.le_of_ble_eq_true rfl | (dsimp only [rmd]; omega)⟩ (fun v9 H9 locs9 hq9 hS => ?_)
  obtain ⟨rfl, hB, hgw, ho9⟩ := hq9
  have hz9' := ho9.1
  have hpb := hpb.off ho9 hne1
  have ho := ho.fresh ho9 (fun q hq e => by omega)
  obtain rfl : qn = H.size := eqn
  rw [zn] at hB hgw
  refine hw_putF (pc := 12) hx hb hts in_X4 tyX4_ok nmX4 hown hK (hpb) (hg) hS rfl 4 (Nat.le_of_ble_eq_true rfl) (hts _ q1245) (fun x h => h) rfl hnm rfl rfl (rfl) (rfl) (Nat.le_of_ble_eq_true rfl) dX4_init_12 (fun Hp1 locsp1 hpp1 zp1 op1 hS => ?_)
  have hpb : pt Γ Hp1 b (ob 3 [.int (nI 0), .int (nI 0), .int (nI 0), .int (nI 0), .ref H.size, .null, .null]) := hpp1
  have ho := ho.trans (Off.put zp1 op1 (by first | rfl | (simp; done) | exact Or.inl rfl | exact Or.inr rfl | omega))
  have hB := hB.off (Off.put (S := fun q => q = b) zp1 op1 rfl) (by omega) (by omega)
  refine lv_aload_n (pc := 15) hx hb dX4_init_15 rfl (lk hl rfl) ?_
  refine lv_iconst (v := nI 4) (pc := 16) hx hb dX4_init_16 (by decide) ?_
  refine hw_newi (N := 4) (pc := 17) hx hb hK (hts _ q182) hS (by decide) (by decide) (by first | exact Nat.le_of_ble_eq_true rfl | (dsimp only [rmd]; omega)) (by first | exact Nat.le_of_ble_eq_true rfl | (dsimp only [rmd]; omega)) dX4_init_17 (fun qn2 Hn2 eqn2 hpn2 hgn2 zn2 on2 hS => ?_)
  have hpb := hpb.old on2
  have ho := ho.trans (Off.new zn2 on2)
  have : b < Hn2.size := hpb.lt
  have hlw : H.size + 1 < qn2 := by
    obtain ⟨fw, hfw, hpw⟩ := hB.2
    rw [eqn2]
    exact hpw.lt
  have hB := hB.off (Off.new (S := fun _ => False) zn2 on2) id id
  have hne2 : b ≠ qn2 := by omega
  refine hw_putF (pc := 19) hx hb hts in_X4 tyX4_ok nmX4 hown hK (hpb) (hg) hS rfl 5 (Nat.le_of_ble_eq_true rfl) (hts _ q1248) (fun x h => h) rfl hnm rfl rfl (rfl) (rfl) (Nat.le_of_ble_eq_true rfl) dX4_init_19 (fun Hp2 locsp2 hpp2 zp2 op2 hS => ?_)
  have hpb : pt Γ Hp2 b (ob 3 [.int (nI 0), .int (nI 0), .int (nI 0), .int (nI 0), .ref H.size, .ref qn2, .null]) := hpp2
  have ho := ho.trans (Off.put zp2 op2 (by first | rfl | (simp; done) | exact Or.inl rfl | exact Or.inr rfl | omega))
  have hB := hB.off (Off.put (S := fun q => q = b) zp2 op2 rfl) (by omega) (by omega)
  have hpn2 := hpn2.ne op2 (by omega)
  refine lv_aload_n (pc := 22) hx hb dX4_init_22 rfl (lk hl rfl) ?_
  refine lv_bipush (v := nI 64) (pc := 23) hx hb dX4_init_23 (by decide) ?_
  refine hw_newi (N := 64) (pc := 25) hx hb hK (hts _ q182) hS (by decide) (by decide) (by first | exact Nat.le_of_ble_eq_true rfl | (dsimp only [rmd]; omega)) (by first | exact Nat.le_of_ble_eq_true rfl | (dsimp only [rmd]; omega)) dX4_init_25 (fun qn3 Hn3 eqn3 hpn3 hgn3 zn3 on3 hS => ?_)
  have hpb := hpb.old on3
  have ho := ho.trans (Off.new zn3 on3)
  have : b < Hn3.size := hpb.lt
  have hlt3 : qn2 < qn3 := by rw [eqn3]; exact hpn2.lt
  have hB := hB.off (Off.new (S := fun _ => False) zn3 on3) id id
  have hpn2 := hpn2.old on3
  have hne3 : b ≠ qn3 := by omega
  refine hw_putF (pc := 27) hx hb hts in_X4 tyX4_ok nmX4 hown hK (hpb) (hg) hS rfl 6 (Nat.le_of_ble_eq_true rfl) (hts _ q1250) (fun x h => h) rfl hnm rfl rfl (rfl) (rfl) (Nat.le_of_ble_eq_true rfl) dX4_init_27 (fun Hp3 locsp3 hpp3 zp3 op3 hS => ?_)
  have hpb : pt Γ Hp3 b (ob 3 [.int (nI 0), .int (nI 0), .int (nI 0), .int (nI 0), .ref H.size, .ref qn2, .ref qn3]) := hpp3
  have ho := ho.trans (Off.put zp3 op3 (by first | rfl | (simp; done) | exact Or.inl rfl | exact Or.inr rfl | omega))
  refine lv_aload_n (pc := 30) hx hb dX4_init_30 rfl (lk hl rfl) ?_
  refine lv_iload_n (pc := 31) hx hb dX4_init_31 rfl (lk hl rfl) ?_
  have hB := hB.off (Off.put (S := fun q => q = b) zp3 op3 rfl) (by omega) (by omega)
  have hpn2 := hpn2.ne op3 (by omega)
  have hpn3 := hpn3.ne op3 (by omega)
  refine hw_putF (pc := 32) hx hb hts in_X4 tyX4_ok nmX4 hown hK (hpb) (hg) hS rfl 0 (Nat.le_of_ble_eq_true rfl) (hts _ q1235) (fun x h => h) rfl hnm rfl rfl (rfl) (rfl) (Nat.le_of_ble_eq_true rfl) dX4_init_32 (fun Hp4 locsp4 hpp4 zp4 op4 hS => ?_)
  have hpb : pt Γ Hp4 b (ob 3 [.int (nI p9), .int (nI 0), .int (nI 0), .int (nI 0), .ref H.size, .ref qn2, .ref qn3]) := hpp4
  have ho := ho.trans (Off.put zp4 op4 (by first | rfl | (simp; done) | exact Or.inl rfl | exact Or.inr rfl | omega))
  refine lv_aload_n (pc := 35) hx hb dX4_init_35 rfl (lk hl rfl) ?_
  refine lv_iload_n (pc := 36) hx hb dX4_init_36 rfl (lk hl rfl) ?_
  have hB := hB.off (Off.put (S := fun q => q = b) zp4 op4 rfl) (by omega) (by omega)
  have hpn2 := hpn2.ne op4 (by omega)
  have hpn3 := hpn3.ne op4 (by omega)
  refine hw_putF (pc := 37) hx hb hts in_X4 tyX4_ok nmX4 hown hK (hpb) (hg) hS rfl 1 (Nat.le_of_ble_eq_true rfl) (hts _ q1237) (fun x h => h) rfl hnm rfl rfl (nar_z hx9) (fz _ hx9) (Nat.le_of_ble_eq_true rfl) dX4_init_37 (fun Hp5 locsp5 hpp5 zp5 op5 hS => ?_)
  have hpb : pt Γ Hp5 b (ob 3 [.int (nI p9), .int (nI x9), .int (nI 0), .int (nI 0), .ref H.size, .ref qn2, .ref qn3]) := hpp5
  have ho := ho.trans (Off.put zp5 op5 rfl)
  have hB := hB.off (Off.put (S := fun q => q = b) zp5 op5 rfl) (by omega) (by omega)
  have hpn2 := hpn2.ne op5 (by omega)
  have hpn3 := hpn3.ne op5 (by omega)
  refine lv_aload_n (pc := 40) hx hb dX4_init_40 rfl (lk hl rfl) ?_
  refine lv_iload_n (pc := 41) hx hb dX4_init_41 rfl (lk hl rfl) ?_
  refine hw_putF (pc := 42) hx hb hts in_X4 tyX4_ok nmX4 hown hK (hpb) (hg) hS rfl 2 (Nat.le_of_ble_eq_true rfl) (hts _ q1240) (fun x h => h) rfl hnm rfl rfl (nar_z hy9) (fz _ hy9) (Nat.le_of_ble_eq_true rfl) dX4_init_42 (fun Hp6 locsp6 hpp6 zp6 op6 hS => ?_)
  have hpb : pt Γ Hp6 b (ob 3 [.int (nI p9), .int (nI x9), .int (nI y9), .int (nI 0), .ref H.size, .ref qn2, .ref qn3]) := hpp6
  have ho := ho.trans (Off.put zp6 op6 rfl)
  have hB := hB.off (Off.put (S := fun q => q = b) zp6 op6 rfl) (by omega) (by omega)
  have hpn2 := hpn2.ne op6 (by omega)
  have hpn3 := hpn3.ne op6 (by omega)
  refine lv_aload_n (pc := 45) hx hb dX4_init_45 rfl (lk hl rfl) ?_
  refine lv_iload (pc := 46) hx hb dX4_init_46 (lk hl rfl) ?_
  refine hw_putF (pc := 48) hx hb hts in_X4 tyX4_ok nmX4 hown hK (hpb) (hg) hS rfl 3 (Nat.le_of_ble_eq_true rfl) (hts _ q1243) (fun x h => h) rfl hnm rfl rfl (nar_z hz9) (fz _ hz9) (Nat.le_of_ble_eq_true rfl) dX4_init_48 (fun Hp7 locsp7 hpp7 zp7 op7 hS => ?_)
  have hpb : pt Γ Hp7 b (ob 3 [.int (nI p9), .int (nI x9), .int (nI y9), .int (nI z9), .ref H.size, .ref qn2, .ref qn3]) := hpp7
  have ho := ho.trans (Off.put zp7 op7 rfl)
  have hB := hB.off (Off.put (S := fun q => q = b) zp7 op7 rfl) (by omega) (by omega)
  have hpn2 := hpn2.ne op7 (by omega)
  have hpn3 := hpn3.ne op7 (by omega)
  exact hr_v (pc := 51) hQ hx hb hr hlocks hS (by first | exact Nat.le_of_ble_eq_true rfl | (dsimp only [rmd]; omega)) (by first | exact Nat.le_of_ble_eq_true rfl | (dsimp only [rmd]; omega)) (⟨rfl, ⟨H.size, H.size + 1, qn2, qn3, hpb, hB, hpn2, hpn3, ⟨hgn, hgw, hgn2, hgn3⟩, Nat.le_refl _, Nat.lt_succ_self _, hlw, hlt3⟩, ho⟩) dX4_init_51
