/-! the reference: counts, places, moves -/
set_option maxRecDepth 100000
/-- how many of f's first n places hold what isn't naught -/
def pcnt (f : Nat → Bool) : Nat → Nat
  | 0 => 0
  | n + 1 => pcnt f n + if f n then 1 else 0
theorem pcnt_le (f : Nat → Bool) (n : Nat) : pcnt f n ≤ n := by
  induction n with
  | zero => exact Nat.le_refl _
  | succ n ih => simp only [pcnt]; split <;> omega
def psm (S : Sx) : Nat := pcnt (fun p => decide (S 2 p ≠ 0)) 20
def pum (S : Sx) : Nat := pcnt (fun c => decide (10 < S 1 c)) (S 0 0)
/-- the set of UP cores among the first n -/
def pus (S : Sx) : Nat → Nat
  | 0 => 0
  | n + 1 => if 10 < S 1 n then pus S n ||| 2 ^ n else pus S n
theorem pus_lt (S : Sx) (n : Nat) : pus S n < 2 ^ n := by
  induction n with
  | zero => exact Nat.one_pos
  | succ n ih =>
    have h2 : 2 ^ n < 2 ^ (n + 1) := Nat.pow_lt_pow_right (by decide) (by omega)
    simp only [pus]
    split
    · exact Nat.or_lt_two_pow (by omega) h2
    · omega
set_option maxHeartbeats 4000000 in
theorem m_stepMany (l : Launch) (Γ : Cx) (H : Heap) (μ : Nat → Nat) (S : Sx) (th : Int32) (hM : MW Γ H μ S th) (hw : WF S) : Mt l Γ yX3_stepMany (ws_ yX3_stepMany cX3_stepMany 3 (some .int)) 1 0 0 [.ref (μ 0)] H (Rd (nI (psm S)) H) := by
  refine mt_of (by decide +kernel) (Nat.le_of_ble_eq_true rfl) ?_
  intro p e s m args below meth c ls Q hx hb hr hlocks hml hts hown hnm hK hS hl hQ
  refine lv_iconst (v := nI 0) (pc := 0) hx hb dX3_stepMany_0 (by decide) ?_
  refine lv_istore_n (pc := 1) hx hb dX3_stepMany_1 rfl hl (Nat.le_of_ble_eq_true rfl) rfl (fun ls hl => ?_)
  refine lv_iconst (v := nI 0) (pc := 2) hx hb dX3_stepMany_2 (by decide) ?_
  refine lv_istore_n (pc := 3) hx hb dX3_stepMany_3 rfl hl (Nat.le_of_ble_eq_true rfl) rfl (fun ls hl => ?_)
  refine nat_up (P := fun t => ∀ (locs : List Loc) (ls : Array Slot), va_S (Gz Γ) s.heap H locs → lv_has ls 3 [(0, .ref (μ 0)), (1, .int (nI (pcnt (fun p => decide (S 2 p ≠ 0)) t))), (2, .int (nI t))] → W p l e (rmd 1 0 0) s m args below meth c H locs 0 0 Q (F0 m 4 ls [])) 20 (fun t ht ih locs ls hS hl => ?_) 0 (Nat.zero_le _) _ ls hS (lv_c (lk hl rfl) (lv_c (lk hl rfl) (lv_c (lk hl rfl) (lv_0 hl))))
  refine lv_iload_n (pc := 4) hx hb dX3_stepMany_4 rfl (lk hl rfl) ?_
  refine lv_bipush (v := nI 20) (pc := 5) hx hb dX3_stepMany_5 (by decide) ?_
  refine hn_ge (tgt := 28) (pc := 7) hx hb dX3_stepMany_7 (by decide) (by omega) (by omega) (fun hc => ?_) (fun hc => ?_)
  · have e : t = 20 := by omega
    subst e
    refine lv_iload_n (pc := 28) hx hb dX3_stepMany_28 rfl (lk hl rfl) ?_
    exact hr_i (pc := 29) hQ hx hb hr hlocks hS (by first | exact Nat.le_of_ble_eq_true rfl | (dsimp only [rmd]; omega)) (by first | exact Nat.le_of_ble_eq_true rfl | (dsimp only [rmd]; omega)) (⟨rfl, rfl⟩) dX3_stepMany_29
  · skip
    refine lv_aload_n (pc := 10) hx hb dX3_stepMany_10 rfl (lk hl rfl) ?_
    refine hw_get (pc := 11) hx hb hts in_X3 hown hK (hM.p0) rfl 3 (Nat.le_of_ble_eq_true rfl) (hts _ q1780) (fun x h => h) rfl dX3_stepMany_11 ?_
    refine lv_iload_n (pc := 14) hx hb dX3_stepMany_14 rfl (lk hl rfl) ?_
    refine hm_zald (k := 2) (pc := 15) hx hb hK hM (by decide) (show t < 20 from (by omega)) dX3_stepMany_15 ?_
    have := hw.b2 t
    refine hn_z_eq (tgt := 22) (pc := 16) hx hb dX3_stepMany_16 (by decide) (by omega) (fun h => ?_) (fun h => ?_)
    · refine hw_iinc (v := nI (t + 1)) (pc := 22) hx hb dX3_stepMany_22 hl (lk hl rfl) (n_inc _ 1) (Nat.le_of_ble_eq_true rfl) (fun ls hl => ?_)
      refine lv_goto (tgt := 4) (pc := 25) hx hb dX3_stepMany_25 (by decide) ?_
      have e : pcnt (fun p => decide (S 2 p ≠ 0)) (t + 1) = pcnt (fun p => decide (S 2 p ≠ 0)) t := by rw [pcnt, decide_eq_false (by omega)]; rfl
      exact ih (t + 1) (by omega) (by omega) _ ls hS (by rw [e]; exact (lv_c (lk hl rfl) (lv_c (lk hl rfl) (lv_c (lk hl rfl) (lv_0 hl)))))
    · skip
      refine hw_iinc (v := nI (pcnt (fun p => decide (S 2 p ≠ 0)) t + 1)) (pc := 19) hx hb dX3_stepMany_19 hl (lk hl rfl) (n_inc _ 1) (Nat.le_of_ble_eq_true rfl) (fun ls hl => ?_)
      refine hw_iinc (v := nI (t + 1)) (pc := 22) hx hb dX3_stepMany_22 hl (lk hl rfl) (n_inc _ 1) (Nat.le_of_ble_eq_true rfl) (fun ls hl => ?_)
      refine lv_goto (tgt := 4) (pc := 25) hx hb dX3_stepMany_25 (by decide) ?_
      have e : pcnt (fun p => decide (S 2 p ≠ 0)) (t + 1) = pcnt (fun p => decide (S 2 p ≠ 0)) t + 1 := by rw [pcnt, decide_eq_true (by omega)]; rfl
      exact ih (t + 1) (by omega) (by omega) _ ls hS (by rw [e]; exact (lv_c (lk hl rfl) (lv_c (lk hl rfl) (lv_c (lk hl rfl) (lv_0 hl)))))
set_option maxHeartbeats 4000000 in
theorem m_upMany (l : Launch) (Γ : Cx) (H : Heap) (μ : Nat → Nat) (S : Sx) (th : Int32) (hM : MW Γ H μ S th) (hw : WF S) : Mt l Γ yX3_upMany (ws_ yX3_upMany cX3_upMany 3 (some .int)) 2 0 0 [.ref (μ 0)] H (Rd (nI (pum S)) H) := by
  refine mt_of (by decide +kernel) (Nat.le_of_ble_eq_true rfl) ?_
  intro p e s m args below meth c ls Q hx hb hr hlocks hml hts hown hnm hK hS hl hQ
  have hb0 := hw.b0
  refine lv_iconst (v := nI 0) (pc := 0) hx hb dX3_upMany_0 (by decide) ?_
  refine lv_istore_n (pc := 1) hx hb dX3_upMany_1 rfl hl (Nat.le_of_ble_eq_true rfl) rfl (fun ls hl => ?_)
  refine lv_iconst (v := nI 0) (pc := 2) hx hb dX3_upMany_2 (by decide) ?_
  refine lv_istore_n (pc := 3) hx hb dX3_upMany_3 rfl hl (Nat.le_of_ble_eq_true rfl) rfl (fun ls hl => ?_)
  refine nat_up (P := fun t => ∀ (locs : List Loc) (ls : Array Slot), va_S (Gz Γ) s.heap H locs → lv_has ls 3 [(0, .ref (μ 0)), (1, .int (nI (pcnt (fun c => decide (10 < S 1 c)) t))), (2, .int (nI t))] → W p l e (rmd 2 0 0) s m args below meth c H locs 0 0 Q (F0 m 4 ls [])) (S 0 0) (fun t ht ih locs ls hS hl => ?_) 0 (Nat.zero_le _) _ ls hS (lv_c (lk hl rfl) (lv_c (lk hl rfl) (lv_c (lk hl rfl) (lv_0 hl))))
  refine lv_iload_n (pc := 4) hx hb dX3_upMany_4 rfl (lk hl rfl) ?_
  refine lv_aload_n (pc := 5) hx hb dX3_upMany_5 rfl (lk hl rfl) ?_
  refine hw_get (pc := 6) hx hb hts in_X3 hown hK (hM.p0) rfl 1 (Nat.le_of_ble_eq_true rfl) (hts _ q1778) (fun x h => h) rfl dX3_upMany_6 ?_
  refine hn_ge (tgt := 29) (pc := 9) hx hb dX3_upMany_9 (by decide) (by omega) (by omega) (fun hc => ?_) (fun hc => ?_)
  · have e : t = S 0 0 := by omega
    subst e
    refine lv_iload_n (pc := 29) hx hb dX3_upMany_29 rfl (lk hl rfl) ?_
    exact hr_i (pc := 30) hQ hx hb hr hlocks hS (by first | exact Nat.le_of_ble_eq_true rfl | (dsimp only [rmd]; omega)) (by first | exact Nat.le_of_ble_eq_true rfl | (dsimp only [rmd]; omega)) (⟨rfl, rfl⟩) dX3_upMany_30
  · skip
    refine lv_aload_n (pc := 12) hx hb dX3_upMany_12 rfl (lk hl rfl) ?_
    refine lv_iload_n (pc := 13) hx hb dX3_upMany_13 rfl (lk hl rfl) ?_
    refine hc_V (pc := 14) hx hb hml hown hts hK hS (m_isUp l Γ H μ S th t hM hw (by omega)) (cwV 1 hts (lw_V q1876 q1878 qs51 q83 q1879) rfl rfl rfl (by decide +kernel) ⟨(Nat.le_of_ble_eq_true rfl), (Nat.le_of_ble_eq_true rfl)⟩) (hK.recv hM.p0 rfl) rfl hl.1 rfl (Nat.le_of_ble_eq_true rfl) dX3_upMany_14 ⟨by first | exact Nat.le_of_ble_eq_true rfl | (dsimp only [rmd]; omega), by first | exact Nat.le_of_ble_eq_true rfl | (dsimp only [rmd]; omega)⟩ (fun v1 H1 locs1 hq1 hS => ?_)
    obtain ⟨rfl, rfl⟩ := hq1
    refine hz_eq (tgt := 23) (pc := 17) hx hb dX3_upMany_17 (by decide) (fun h => ?_) (fun h => ?_)
    · refine hw_iinc (v := nI (t + 1)) (pc := 23) hx hb dX3_upMany_23 hl (lk hl rfl) (n_inc _ 1) (Nat.le_of_ble_eq_true rfl) (fun ls hl => ?_)
      refine lv_goto (tgt := 4) (pc := 26) hx hb dX3_upMany_26 (by decide) ?_
      have e : pcnt (fun c => decide (10 < S 1 c)) (t + 1) = pcnt (fun c => decide (10 < S 1 c)) t := by rw [pcnt, h]; rfl
      exact ih (t + 1) (by omega) (by omega) _ ls hS (by rw [e]; exact (lv_c (lk hl rfl) (lv_c (lk hl rfl) (lv_c (lk hl rfl) (lv_0 hl)))))
    · skip
      refine hw_iinc (v := nI (pcnt (fun c => decide (10 < S 1 c)) t + 1)) (pc := 20) hx hb dX3_upMany_20 hl (lk hl rfl) (n_inc _ 1) (Nat.le_of_ble_eq_true rfl) (fun ls hl => ?_)
      refine hw_iinc (v := nI (t + 1)) (pc := 23) hx hb dX3_upMany_23 hl (lk hl rfl) (n_inc _ 1) (Nat.le_of_ble_eq_true rfl) (fun ls hl => ?_)
      refine lv_goto (tgt := 4) (pc := 26) hx hb dX3_upMany_26 (by decide) ?_
      have e : pcnt (fun c => decide (10 < S 1 c)) (t + 1) = pcnt (fun c => decide (10 < S 1 c)) t + 1 := by rw [pcnt, h]; rfl
      exact ih (t + 1) (by omega) (by omega) _ ls hS (by rw [e]; exact (lv_c (lk hl rfl) (lv_c (lk hl rfl) (lv_c (lk hl rfl) (lv_0 hl)))))
set_option maxHeartbeats 4000000 in
theorem m_upCores (l : Launch) (Γ : Cx) (H : Heap) (μ : Nat → Nat) (S : Sx) (th : Int32) (hM : MW Γ H μ S th) (hw : WF S) : Mt l Γ yX3_upCores (ws_ yX3_upCores cX3_upCores 3 (some .int)) 2 0 0 [.ref (μ 0)] H (MP Γ μ S (nI 0) H (some (.int (nI (pus S (S 0 0)))))) := by
  refine mt_of (by decide +kernel) (Nat.le_of_ble_eq_true rfl) ?_
  intro p e s m args below meth c ls Q hx hb hr hlocks hml hts hown hnm hK hS hl hQ
  have ho : Off (Mf μ) H H := Off.rf
  have hb0 := hw.b0
  refine lv_iconst (v := nI 0) (pc := 0) hx hb dX3_upCores_0 (by decide) ?_
  refine lv_istore_n (pc := 1) hx hb dX3_upCores_1 rfl hl (Nat.le_of_ble_eq_true rfl) rfl (fun ls hl => ?_)
  refine lv_iconst (v := nI 0) (pc := 2) hx hb dX3_upCores_2 (by decide) ?_
  refine lv_istore_n (pc := 3) hx hb dX3_upCores_3 rfl hl (Nat.le_of_ble_eq_true rfl) rfl (fun ls hl => ?_)
  refine nat_up (P := fun t => ∀ (locs : List Loc) (ls : Array Slot), va_S (Gz Γ) s.heap H locs → lv_has ls 3 [(0, .ref (μ 0)), (1, .int (nI (pus S t))), (2, .int (nI t))] → W p l e (rmd 2 0 0) s m args below meth c H locs 0 0 Q (F0 m 4 ls [])) (S 0 0) (fun t ht ih locs ls hS hl => ?_) 0 (Nat.zero_le _) _ ls hS (lv_c (lk hl rfl) (lv_c (lk hl rfl) (lv_c (lk hl rfl) (lv_0 hl))))
  have hlt := pus_lt S t
  have h28 : 2 ^ t ≤ 2 ^ 8 := Nat.pow_le_pow_right (by decide) (by omega)
  refine lv_iload_n (pc := 4) hx hb dX3_upCores_4 rfl (lk hl rfl) ?_
  refine lv_aload_n (pc := 5) hx hb dX3_upCores_5 rfl (lk hl rfl) ?_
  refine hw_get (pc := 6) hx hb hts in_X3 hown hK (hM.p0) rfl 1 (Nat.le_of_ble_eq_true rfl) (hts _ q1778) (fun x h => h) rfl dX3_upCores_6 ?_
  refine hn_ge (tgt := 32) (pc := 9) hx hb dX3_upCores_9 (by decide) (by omega) (by omega) (fun hc => ?_) (fun hc => ?_)
  · have e : t = S 0 0 := by omega
    subst e
    refine lv_aload_n (pc := 32) hx hb dX3_upCores_32 rfl (lk hl rfl) ?_
    refine lv_iload_n (pc := 33) hx hb dX3_upCores_33 rfl (lk hl rfl) ?_
    refine hc_V (pc := 34) hx hb hml hown hts hK hS (m_told l Γ H μ S th (nI (pus S (S 0 0))) hM) (cwV 1 hts (lw_V q1838 q1840 qs45 q83 q1841) rfl rfl rfl (by decide +kernel) ⟨(Nat.le_of_ble_eq_true rfl), (Nat.le_of_ble_eq_true rfl)⟩) (hK.recv hM.p0 rfl) rfl hl.1 rfl (Nat.le_of_ble_eq_true rfl) dX3_upCores_34 ⟨by first | exact Nat.le_of_ble_eq_true rfl | (dsimp only [rmd]; omega), by first | exact Nat.le_of_ble_eq_true rfl | (dsimp only [rmd]; omega)⟩ (fun v1 H1 locs1 hq1 hS => ?_)
    obtain ⟨rfl, hM, ho1⟩ := hq1
    have ho := ho.trans ho1
    exact hr_i (pc := 37) hQ hx hb hr hlocks hS (by first | exact Nat.le_of_ble_eq_true rfl | (dsimp only [rmd]; omega)) (by first | exact Nat.le_of_ble_eq_true rfl | (dsimp only [rmd]; omega)) (⟨rfl, hM, ho⟩) dX3_upCores_37
  · skip
    refine lv_aload_n (pc := 12) hx hb dX3_upCores_12 rfl (lk hl rfl) ?_
    refine lv_iload_n (pc := 13) hx hb dX3_upCores_13 rfl (lk hl rfl) ?_
    refine hc_V (pc := 14) hx hb hml hown hts hK hS (m_isUp l Γ H μ S th t hM hw (by omega)) (cwV 1 hts (lw_V q1876 q1878 qs51 q83 q1879) rfl rfl rfl (by decide +kernel) ⟨(Nat.le_of_ble_eq_true rfl), (Nat.le_of_ble_eq_true rfl)⟩) (hK.recv hM.p0 rfl) rfl hl.1 rfl (Nat.le_of_ble_eq_true rfl) dX3_upCores_14 ⟨by first | exact Nat.le_of_ble_eq_true rfl | (dsimp only [rmd]; omega), by first | exact Nat.le_of_ble_eq_true rfl | (dsimp only [rmd]; omega)⟩ (fun v2 H2 locs2 hq2 hS => ?_)
    obtain ⟨rfl, rfl⟩ := hq2
    refine hz_eq (tgt := 26) (pc := 17) hx hb dX3_upCores_17 (by decide) (fun h => ?_) (fun h => ?_)
    · refine hw_iinc (v := nI (t + 1)) (pc := 26) hx hb dX3_upCores_26 hl (lk hl rfl) (n_inc _ 1) (Nat.le_of_ble_eq_true rfl) (fun ls hl => ?_)
      refine lv_goto (tgt := 4) (pc := 29) hx hb dX3_upCores_29 (by decide) ?_
      have e : pus S (t + 1) = pus S t := by rw [pus, if_neg (of_decide_eq_false h)]
      exact ih (t + 1) (by omega) (by omega) _ ls hS (by rw [e]; exact (lv_c (lk hl rfl) (lv_c (lk hl rfl) (lv_c (lk hl rfl) (lv_0 hl)))))
    · skip
      refine lv_iload_n (pc := 20) hx hb dX3_upCores_20 rfl (lk hl rfl) ?_
      refine lv_iconst (v := nI 1) (pc := 21) hx hb dX3_upCores_21 (by decide) ?_
      refine lv_iload_n (pc := 22) hx hb dX3_upCores_22 rfl (lk hl rfl) ?_
      refine lv_ishl (pc := 23) hx hb dX3_upCores_23 ?_
      refine hw_top (congrArg Value.int (show _ = nI (1 * 2 ^ t) from n_shl (by omega) (by omega) )) ?_
      refine lv_ior (pc := 24) hx hb dX3_upCores_24 ?_
      refine hw_top (congrArg Value.int (show _ = nI ((pus S t) ||| (1 * 2 ^ t)) from n_or _ _ (by omega) (by omega))) ?_
      refine lv_istore_n (pc := 25) hx hb dX3_upCores_25 rfl hl (Nat.le_of_ble_eq_true rfl) rfl (fun ls hl => ?_)
      refine hw_iinc (v := nI (t + 1)) (pc := 26) hx hb dX3_upCores_26 hl (lk hl rfl) (n_inc _ 1) (Nat.le_of_ble_eq_true rfl) (fun ls hl => ?_)
      refine lv_goto (tgt := 4) (pc := 29) hx hb dX3_upCores_29 (by decide) ?_
      have e : pus S (t + 1) = pus S t ||| 1 * 2 ^ t := by rw [pus, if_pos (of_decide_eq_true h), Nat.one_mul]
      exact ih (t + 1) (by omega) (by omega) _ ls hS (by rw [e]; exact (lv_c (lk hl rfl) (lv_c (lk hl rfl) (lv_c (lk hl rfl) (lv_0 hl)))))
set_option maxHeartbeats 4000000 in
theorem m_hasOtherUp (l : Launch) (Γ : Cx) (H : Heap) (μ : Nat → Nat) (S : Sx) (th : Int32) (k : Nat) (hM : MW Γ H μ S th) (hw : WF S) (hk : k < 8) : Mt l Γ yX3_hasOtherUp (ws_ yX3_hasOtherUp cX3_hasOtherUp 2 (some .boolean)) 3 0 0 [.ref (μ 0), .int (nI k)] H (Rd (b01 (decide (pfu S (255 - 2 ^ k) ≠ 0))) H) := by
  refine mt_of (by decide +kernel) (Nat.le_of_ble_eq_true rfl) ?_
  intro p e s m args below meth c ls Q hx hb hr hlocks hml hts hown hnm hK hS hl hQ
  refine lv_aload_n (pc := 0) hx hb dX3_hasOtherUp_0 rfl (lk hl rfl) ?_
  refine lv_sipush (v := nI 255) (pc := 1) hx hb dX3_hasOtherUp_1 (by decide) ?_
  refine lv_iconst (v := nI 1) (pc := 4) hx hb dX3_hasOtherUp_4 (by decide) ?_
  refine lv_iload_n (pc := 5) hx hb dX3_hasOtherUp_5 rfl (lk hl rfl) ?_
  refine lv_ishl (pc := 6) hx hb dX3_hasOtherUp_6 ?_
  refine lv_iconst (v := (-1)) (pc := 7) hx hb dX3_hasOtherUp_7 (by decide) ?_
  refine lv_ixor (pc := 8) hx hb dX3_hasOtherUp_8 ?_
  refine lv_iand (pc := 9) hx hb dX3_hasOtherUp_9 ?_
  have hz : nI 255 &&& ((nI 1 <<< (nI k &&& 31)) ^^^ (-1)) = nI (255 - 2 ^ k) := by
    have key : ∀ k, k < 8 → nI 255 &&& ((nI 1 <<< (nI k &&& 31)) ^^^ (-1)) = nI (255 - 2 ^ k) := by decide +kernel
    exact key k hk
  refine hw_top (congrArg Value.int hz) ?_
  have h255 : 255 - 2 ^ k < 2 ^ 31 := Nat.lt_of_le_of_lt (Nat.sub_le _ _) (by decide)
  have hf : pfu S (255 - 2 ^ k) ≤ 9 := by
    have key : ∀ n c, pfuA S (255 - 2 ^ k) n c ≤ n + c := by
      intro n
      induction n with
      | zero => intro c; exact Nat.zero_le _
      | succ n ih => intro c; rw [pfuA]; split; omega; exact Nat.le_trans (ih (c + 1)) (by omega)
    exact Nat.le_trans (key _ _) (by have := hw.b0; omega)
  refine hc_V (pc := 10) hx hb hml hown hts hK hS (m_firstUp l Γ H μ S th (255 - 2 ^ k) hM hw (by omega)) (cwV 1 hts (lw_V q1869 q1871 qs50 q83 q1872) rfl rfl rfl (by decide +kernel) ⟨(Nat.le_of_ble_eq_true rfl), (Nat.le_of_ble_eq_true rfl)⟩) (hK.recv hM.p0 rfl) rfl hl.1 rfl (Nat.le_of_ble_eq_true rfl) dX3_hasOtherUp_10 ⟨by first | exact Nat.le_of_ble_eq_true rfl | (dsimp only [rmd]; omega), by first | exact Nat.le_of_ble_eq_true rfl | (dsimp only [rmd]; omega)⟩ (fun v1 H1 locs1 hq1 hS => ?_)
  obtain ⟨rfl, rfl⟩ := hq1
  refine lv_iconst (v := nI 0 - 1) (pc := 13) hx hb dX3_hasOtherUp_13 (by decide) ?_
  refine hm_eq (tgt := 21) (pc := 14) hx hb dX3_hasOtherUp_14 (by decide) (by omega) (by omega) (fun h => ?_) (fun h => ?_)
  · refine lv_iconst (v := nI 0) (pc := 21) hx hb dX3_hasOtherUp_21 (by decide) ?_
    exact hr_z (pc := 22) hQ hx hb hr hlocks hS (by first | exact Nat.le_of_ble_eq_true rfl | (dsimp only [rmd]; omega)) (by first | exact Nat.le_of_ble_eq_true rfl | (dsimp only [rmd]; omega)) (rfl) (⟨by rw [decide_eq_false (by omega)]; rfl, rfl⟩) dX3_hasOtherUp_22
  · skip
    refine lv_iconst (v := nI 1) (pc := 17) hx hb dX3_hasOtherUp_17 (by decide) ?_
    refine lv_goto (tgt := 22) (pc := 18) hx hb dX3_hasOtherUp_18 (by decide) ?_
    exact hr_z (pc := 22) hQ hx hb hr hlocks hS (by first | exact Nat.le_of_ble_eq_true rfl | (dsimp only [rmd]; omega)) (by first | exact Nat.le_of_ble_eq_true rfl | (dsimp only [rmd]; omega)) (rfl) (⟨by rw [decide_eq_true (by omega)]; rfl, rfl⟩) dX3_hasOtherUp_22
