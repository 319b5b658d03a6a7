/-! call: the walk -/
set_option maxRecDepth 100000
set_option maxHeartbeats 16000000
theorem c_call (l : Launch) (Γ : Cx) (H : Heap) (g : Gn) (L : Nat) (S : Sx) (k9 p9 i9 : Nat) (st : Bool) (hM : MC Γ H g L S) (hw : WC S) (hk : k9 < S 0 0) (hp9 : p9 < 20) (hs2 : S 2 p9 ≠ 0) (hi : i9 < 4) (hr9 : S 0 1 < 40000) : Mx l Γ yX1_call (ws_ yX1_call cX1_call 8 none) 6 2 (7 + 2 * (pcall S k9 p9 i9 st (cfo S) 0 3 - S 0 3)) [.ref (g 0 0), .ref (g 7 k9), .ref (g 8 p9), .int (nI i9), .ref (wy Γ st)] H (fun v H1 => v = none ∧ pfails S k9 p9 i9 st (cfo S) = false ∧ ∃ L1, CS Γ g L S H H1 L1 (pcall S k9 p9 i9 st (cfo S))) (fun E q H1 => pfails S k9 p9 i9 st (cfo S) = true ∧ XB Γ g L S H (pcall S k9 p9 i9 st (cfo S)) i9 E q H1) := by
  obtain ⟨hw, h04, h13, h64, h80, hz⟩ := hw
  have hb0 := hw.b0
  have hb3 := hw.b3 p9
  have hb4 := hw.b4 p9
  refine mx_of (by decide +kernel) (Nat.le_of_ble_eq_true rfl) ?_
  intro p e s m args below meth c ls Q hx hb hr hlocks hml hts hown hnm hK hS hl htb hQ
  -- what is written when the entry's fate f is known
  have M36 : ∀ (f : Bool) (S1 : Sx) (H' : Heap) (locs : List Loc) (ls : Array Slot), pthere S p9 st ≠ 0 → f = pfails S k9 p9 i9 st (cfo S) → S1 = pcallF S k9 p9 i9 st f → MC Γ H' g L S1 → CS Γ g L S H H' L S1 → va_S (Gz Γ) s.heap H' locs → lv_has ls 8 [(0, .ref (g 0 0)), (1, .ref (g 7 k9)), (2, .ref (g 8 p9)), (3, .int (nI i9)), (4, .ref (wy Γ st))] → W p l e (rmd 6 2 (7 + 2 * (pcall S k9 p9 i9 st (cfo S) 0 3 - S 0 3))) s m args below meth c H' locs 0 0 Q (F0 m 36 ls [.int (nI (bn f))]) := by
    intro f S1 H' locs ls hth hf hS1 hM hC hS hl
    have hv1 : LVE S S1 := hS1 ▸ pcallF_v
    have e01 : S1 0 1 = S 0 1 := by rw [hS1]; exact pcallF_f (by decide) (Or.inr (by decide))
    have e03 : S1 0 3 = S 0 3 := by rw [hS1]; exact pcallF_f (by decide) (Or.inr (by decide))
    have e1 : S1 1 = S 1 := by rw [hS1]; funext j; exact pcallF_f (by decide) (Or.inl (by decide))
    have e13 : S1 13 = S 13 := by rw [hS1]; funext j; exact pcallF_f (by decide) (Or.inl (by decide))
    have e00 := hv1.1
    have hs21 : S1 2 p9 ≠ 0 := by rw [hv1.2.1]; exact hs2
    have efu : pfu S1 255 = pfu S 255 := by
      have key : ∀ n c, pfuA S1 255 n c = pfuA S 255 n c := by
        intro n
        induction n with
        | zero => intro c; rfl
        | succ n ih => intro c; rw [pfuA, pfuA, ih, e1]
      unfold pfu
      rw [e00, key]
    have hw1 : WF S1 := by
      obtain ⟨w0, w1, w2, w3, w4, w5, w6, w7, w8, w9, w10, w12, w13⟩ := hw
      sorry
    have epc : pcall S k9 p9 i9 st (cfo S) = up2 (up2 (up2 S1 13 (S 0 1) (pcode S k9 p9 i9 st f)) 0 1 (S 0 1 + 1)) 0 3 (plist S) := by
      unfold pcall
      rw [if_neg hth, ← hf, ← hS1]
    -- what follows when the list has room
    have M103 : ∀ (w9 : Nat) (L2 N : Nat) (H2 : Heap) (cl9 sl9 : Nat) (locs : List Loc) (ls : Array Slot), w9 = (if p9 < 10 then pfu S 255 else k9 + 1) → N = plist S → cl9 ≤ 1 → sl9 ≤ 2 * (pcall S k9 p9 i9 st (cfo S) 0 3 - S 0 3) → MC Γ H2 g L2 (up2 S1 0 3 N) → CS Γ g L S H H2 L2 (up2 S1 0 3 N) → va_S (Gz Γ) s.heap H2 locs → lv_has ls 8 [(0, .ref (g 0 0)), (1, .ref (g 7 k9)), (2, .ref (g 8 p9)), (3, .int (nI i9)), (4, .ref (wy Γ st)), (5, .int (nI (bn f))), (6, .int (nI w9 - 1))] → W p l e (rmd 6 2 (7 + 2 * (pcall S k9 p9 i9 st (cfo S) 0 3 - S 0 3))) s m args below meth c H2 locs (cl9) (sl9) Q (F0 m 103 ls []) := by
      sorry
    have M58 : ∀ (w9 : Nat) (locs : List Loc) (ls : Array Slot), w9 = (if p9 < 10 then pfu S 255 else k9 + 1) → va_S (Gz Γ) s.heap H' locs → lv_has ls 8 [(0, .ref (g 0 0)), (1, .ref (g 7 k9)), (2, .ref (g 8 p9)), (3, .int (nI i9)), (4, .ref (wy Γ st)), (5, .int (nI (bn f)))] → W p l e (rmd 6 2 (7 + 2 * (pcall S k9 p9 i9 st (cfo S) 0 3 - S 0 3))) s m args below meth c H' locs 0 0 Q (F0 m 58 ls [.int (nI w9 - 1)]) := by
      sorry
    refine lv_istore (pc := 36) hx hb dX1_call_36 hl (Nat.le_of_ble_eq_true rfl) rfl (fun ls hl => ?_)
    refine lv_aload_n (pc := 38) hx hb dX1_call_38 rfl (lk hl rfl) ?_
    refine hw_getN (pc := 39) hx hb hts in_X4 hown hK (hM.p8 (show p9 < 20 from by omega) hs21) rfl 0 (Nat.le_of_ble_eq_true rfl) q1236 (fun x h => h) rfl dX1_call_39 ?_
    refine lv_bipush (v := nI 10) (pc := 42) hx hb dX1_call_42 (by decide) ?_
    refine hn_ge (tgt := 54) (pc := 44) hx hb dX1_call_44 (by decide) (by omega) (by omega) (fun h => ?_) (fun h => ?_)
    · refine lv_aload_n (pc := 54) hx hb dX1_call_54 rfl (lk hl rfl) ?_
      refine hw_getN (pc := 55) hx hb hts in_X2 hown hK (hM.p7 (show k9 < S1 0 0 from by omega)) rfl 0 (Nat.le_of_ble_eq_true rfl) q171 (fun x h => h) rfl dX1_call_55 ?_
      rw [← nI_pred k9]
      exact M58 (k9 + 1) _ ls (by rw [if_neg (by omega)]) hS (by repeat first | exact lv_0 hl | refine lv_c (lk hl rfl) ?_)
    · skip
      refine lv_aload_n (pc := 47) hx hb dX1_call_47 rfl (lk hl rfl) ?_
      refine hc_V (pc := 48) hx hb hml hown hts hK hS (c_control l Γ _ g _ S1 hM hw1) (cwV 0 hts (lw_V q1322 q1324 qs20 q70 q1325) rfl rfl rfl (by decide +kernel) ⟨(Nat.le_of_ble_eq_true rfl), (Nat.le_of_ble_eq_true rfl)⟩) (hK.recv hM.p0 rfl) rfl hl.1 rfl (Nat.le_of_ble_eq_true rfl) dX1_call_48 ⟨by first | exact Nat.le_of_ble_eq_true rfl | (dsimp only [rmd]; omega) | omega, by first | exact Nat.le_of_ble_eq_true rfl | (dsimp only [rmd]; omega) | omega⟩ (fun vco Hco locsco hqco hS => ?_)
      obtain ⟨rfl, rfl⟩ := hqco
      rw [efu]
      refine lv_goto (tgt := 58) (pc := 51) hx hb dX1_call_51 (by decide) ?_
      exact M58 (pfu S 255) _ ls (by rw [if_pos (by omega)]) hS (by repeat first | exact lv_0 hl | refine lv_c (lk hl rfl) ?_)
  have M10 : pthere S p9 st ≠ 0 → ∀ (locs : List Loc) (ls : Array Slot), va_S (Gz Γ) s.heap H locs → lv_has ls 8 [(0, .ref (g 0 0)), (1, .ref (g 7 k9)), (2, .ref (g 8 p9)), (3, .int (nI i9)), (4, .ref (wy Γ st))] → W p l e (rmd 6 2 (7 + 2 * (pcall S k9 p9 i9 st (cfo S) 0 3 - S 0 3))) s m args below meth c H locs 0 0 Q (F0 m 10 ls []) := by
    intro hth locs ls hS hl
    refine lv_aload_n (pc := 10) hx hb dX1_call_10 rfl (lk hl rfl) ?_
    refine hw_get (pc := 11) hx hb hts in_X1 hown hK (hM.p0) rfl 4 (Nat.le_of_ble_eq_true rfl) (hts _ q341) (fun x h => h) rfl dX1_call_11 ?_
    refine hn_z_ne (tgt := 35) (pc := 14) hx hb dX1_call_14 (by decide) (by omega) (fun h => ?_) (fun h => ?_)
    · refine lv_iconst (v := nI 0) (pc := 35) hx hb dX1_call_35 (by decide) ?_
      have hc : cfo S = false := decide_eq_false h
      exact M36 false S _ _ ls hth (by rw [hc, pfails_n]) rfl hM (CS.rf hM) hS (by repeat first | exact lv_0 hl | refine lv_c (lk hl rfl) ?_)
    · skip
      have hc : cfo S = true := decide_eq_true h
      have hp8 := hM.p8 hp9 hs2
      have hp12 := hM.p12 hp9 hs2
      have hg12 : Gz Γ (g 12 p9) := hM.gz (by decide) (show p9 < 20 ∧ S 2 p9 ≠ 0 from ⟨hp9, hs2⟩)
      refine lv_aload_n (pc := 17) hx hb dX1_call_17 rfl (lk hl rfl) ?_
      refine lv_aload_n (pc := 18) hx hb dX1_call_18 rfl (lk hl rfl) ?_
      refine hw_getN (pc := 19) hx hb hts in_X2 hown hK (hM.p7 (show k9 < S 0 0 from by omega)) rfl 0 (Nat.le_of_ble_eq_true rfl) q171 (fun x h => h) rfl dX1_call_19 ?_
      refine lv_iload_n (pc := 22) hx hb dX1_call_22 rfl (lk hl rfl) ?_
      refine lv_aload (pc := 23) hx hb dX1_call_23 (lk hl rfl) ?_
      refine hc_V (pc := 25) hx hb hml hown hts hK hS (s_takes l Γ _ (g 8 p9) (g 12 p9) k9 i9 st _ _ _ _ _ _ (fun j => S 7 (fjx p9 j)) hp8 hp12 hg12 (by omega) hi (fun j => hw.b7 _)) (cwV 3 hts (lw_V q1308 q1309 q1310 q89 q1311) rfl rfl rfl (by decide +kernel) ⟨(Nat.le_of_ble_eq_true rfl), (Nat.le_of_ble_eq_true rfl)⟩) (hK.recv hp8 rfl) rfl hl.1 rfl (Nat.le_of_ble_eq_true rfl) dX1_call_25 ⟨by first | exact Nat.le_of_ble_eq_true rfl | (dsimp only [rmd]; omega) | omega, by first | exact Nat.le_of_ble_eq_true rfl | (dsimp only [rmd]; omega) | omega⟩ (fun vtf Htf locstf hqtf hS => ?_)
      obtain ⟨rfl, hp12, hot⟩ := hqtf
      have hM1 := hM.take hp9 hs2 hi (c9 := k9) (f := decide (0 < S 7 (fidx k9 p9 i9 st))) rfl hot hp12
      rw [fjx_fat st hi]
      have hC1 := (CS.rf hM).put hM1 hot (fun q e => by rw [e]; exact hM.cf (t := 12) (i := p9) (by decide) ⟨hp9, hs2⟩) pcallF_v
      have ef : pfails S k9 p9 i9 st (cfo S) = decide (0 < S 7 (fidx k9 p9 i9 st)) := by
        unfold pfails
        rw [hc, decide_eq_true hth]
        rfl
      refine hz_eq (tgt := 35) (pc := 28) hx hb dX1_call_28 (by decide) (fun h2 => ?_) (fun h2 => ?_)
      · refine lv_iconst (v := nI 0) (pc := 35) hx hb dX1_call_35 (by decide) ?_
        exact M36 false _ _ _ ls hth (by rw [ef, h2]) rfl (h2 ▸ hM1) (h2 ▸ hC1) hS (by repeat first | exact lv_0 hl | refine lv_c (lk hl rfl) ?_)
      · skip
        refine lv_iconst (v := nI 1) (pc := 31) hx hb dX1_call_31 (by decide) ?_
        refine lv_goto (tgt := 36) (pc := 32) hx hb dX1_call_32 (by decide) ?_
        exact M36 true _ _ _ ls hth (by rw [ef, h2]) rfl (h2 ▸ hM1) (h2 ▸ hC1) hS (by repeat first | exact lv_0 hl | refine lv_c (lk hl rfl) ?_)
  have hp8 := hM.p8 hp9 hs2
  cases st
  · skip
    refine lv_aload (pc := 0) hx hb dX1_call_0 (lk hl rfl) ?_
    refine lv_aload_n (pc := 2) hx hb dX1_call_2 rfl (lk hl rfl) ?_
    refine hc_U (pc := 3) hx hb hml hown hts hK hS ((s_has l Γ H (g 8 p9) false _ _ _ _ _ _ _ hp8 hb3 hb4).2 rfl) (va_cwA 1 hts (lw_U q1299 q1301 q1305 q1306 q117 q1307) rfl rfl rfl (hK.2.1.1 _ q1300 rfl) (by decide +kernel) ⟨(Nat.le_of_ble_eq_true rfl), (Nat.le_of_ble_eq_true rfl)⟩) (hK.rw0 hS) rfl hl.1 rfl (Nat.le_of_ble_eq_true rfl) dX1_call_3 ⟨by first | exact Nat.le_of_ble_eq_true rfl | (dsimp only [rmd]; omega) | omega, by first | exact Nat.le_of_ble_eq_true rfl | (dsimp only [rmd]; omega) | omega⟩ (fun v9 H9 locs9 hq9 hS => ?_)
    obtain ⟨rfl, rfl⟩ := hq9
    refine hn_z_ne (tgt := 10) (pc := 6) hx hb dX1_call_6 (by decide) (by omega) (fun h => ?_) (fun h => ?_)
    · exact M10 h _ ls hS (by repeat first | exact lv_0 hl | refine lv_c (lk hl rfl) ?_)
    · skip
      have hth : pthere S p9 false = 0 := h
      have e : pcall S k9 p9 i9 false (cfo S) = S := by unfold pcall; rw [if_pos hth]
      have e2 : pfails S k9 p9 i9 false (cfo S) = false := by unfold pfails; rw [hth]; rfl
      exact xr hQ (hr_v (pc := 9) rfl hx hb hr hlocks hS (by first | exact Nat.le_of_ble_eq_true rfl | (dsimp only [rmd]; omega) | omega) (by first | exact Nat.le_of_ble_eq_true rfl | (dsimp only [rmd]; omega) | omega) (⟨rfl, e2, L, by rw [e]; exact CS.rf hM⟩) dX1_call_9)
  · skip
    refine lv_aload (pc := 0) hx hb dX1_call_0 (lk hl rfl) ?_
    refine lv_aload_n (pc := 2) hx hb dX1_call_2 rfl (lk hl rfl) ?_
    refine hc_U (pc := 3) hx hb hml hown hts hK hS ((s_has l Γ H (g 8 p9) true _ _ _ _ _ _ _ hp8 hb3 hb4).1 rfl) (va_cwA 1 hts (lw_U q1299 q1301 q1302 q1303 q116 q1304) rfl rfl rfl (hK.2.1.1 _ q1300 rfl) (by decide +kernel) ⟨(Nat.le_of_ble_eq_true rfl), (Nat.le_of_ble_eq_true rfl)⟩) (hK.rw1 hS) rfl hl.1 rfl (Nat.le_of_ble_eq_true rfl) dX1_call_3 ⟨by first | exact Nat.le_of_ble_eq_true rfl | (dsimp only [rmd]; omega) | omega, by first | exact Nat.le_of_ble_eq_true rfl | (dsimp only [rmd]; omega) | omega⟩ (fun v9 H9 locs9 hq9 hS => ?_)
    obtain ⟨rfl, rfl⟩ := hq9
    refine hn_z_ne (tgt := 10) (pc := 6) hx hb dX1_call_6 (by decide) (by omega) (fun h => ?_) (fun h => ?_)
    · exact M10 h _ ls hS (by repeat first | exact lv_0 hl | refine lv_c (lk hl rfl) ?_)
    · skip
      have hth : pthere S p9 true = 0 := h
      have e : pcall S k9 p9 i9 true (cfo S) = S := by unfold pcall; rw [if_pos hth]
      have e2 : pfails S k9 p9 i9 true (cfo S) = false := by unfold pfails; rw [hth]; rfl
      exact xr hQ (hr_v (pc := 9) rfl hx hb hr hlocks hS (by first | exact Nat.le_of_ble_eq_true rfl | (dsimp only [rmd]; omega) | omega) (by first | exact Nat.le_of_ble_eq_true rfl | (dsimp only [rmd]; omega) | omega) (⟨rfl, e2, L, by rw [e]; exact CS.rf hM⟩) dX1_call_9)
