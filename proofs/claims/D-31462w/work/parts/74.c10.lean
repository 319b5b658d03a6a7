/-! call: the walk -/
set_option maxRecDepth 100000
set_option maxHeartbeats 16000000
theorem c_call (l : Launch) (Γ : Cx) (H : Heap) (g : Gn) (L : Nat) (S : Sx) (k9 p9 i9 : Nat) (st : Bool) (hM : MC Γ H g L S) (hw : WC S) (hk : k9 < S 0 0) (hp9 : p9 < 20) (hs2 : S 2 p9 ≠ 0) (hi : i9 < 4) (hr9 : S 0 1 < 40000) : Mx l Γ yX1_call (ws_ yX1_call cX1_call 8 none) 6 2 (7 + 2 * (pcall S k9 p9 i9 st (cfo S) 0 3 - S 0 3)) [.ref (g 0 0), .ref (g 7 k9), .ref (g 8 p9), .int (nI i9), .ref (wy Γ st)] H (fun v H1 => v = none ∧ pfails S k9 p9 i9 st (cfo S) = false ∧ ∃ L1, CS Γ g L S H H1 L1 (pcall S k9 p9 i9 st (cfo S))) (fun E q H1 => pfails S k9 p9 i9 st (cfo S) = true ∧ XB Γ g L S H (pcall S k9 p9 i9 st (cfo S)) i9 E q H1) := by
  obtain ⟨hw, h04, h13, h64, h80, hz⟩ := hw
  have hb0 := hw.b0
  have hb3 := hw.b3 p9
  have hb4 := hw.b4 p9
  refine mx_of (by decide +kernel) (Nat.le_of_ble_eq_true rfl) ?_
  intro p e s m args below meth c ls Q hx hb hr hlocks hml hts hown hnm hK hS hl htb hQ
  -- what is written when the entry's fate f is known
  have M36 : ∀ (f : Bool) (S1 : Sx) (H' : Heap) (locs : List Loc) (ls : Array Slot), pthere S p9 st ≠ 0 → f = pfails S k9 p9 i9 st (cfo S) → S1 = pcallF S k9 p9 i9 st f → MC Γ H' g L S1 → CS Γ g L S H H' L S1 → va_S (Gz Γ) s.heap H' locs → lv_has ls 8 [(0, .ref (g 0 0)), (1, .ref (g 7 k9)), (2, .ref (g 8 p9)), (3, .int (nI i9)), (4, .ref (wy Γ st))] → W p l e (rmd 6 2 (7 + 2 * (pcall S k9 p9 i9 st (cfo S) 0 3 - S 0 3))) s m args below meth c H' locs 0 0 Q (F0 m 36 ls [.int (nI (bn f))]) := by
    intro f S1 H' locs ls hth hf hS1 hM hC hS hl
    have hv1 : LVE S S1 := hS1 ▸ pcallF_v
    have e01 : S1 0 1 = S 0 1 := by rw [hS1]; exact pcallF_f (by decide) (Or.inr (by decide))
    have e03 : S1 0 3 = S 0 3 := by rw [hS1]; exact pcallF_f (by decide) (Or.inr (by decide))
    have e1 : S1 1 = S 1 := by rw [hS1]; funext j; exact pcallF_f (by decide) (Or.inl (by decide))
    have e13 : S1 13 = S 13 := by rw [hS1]; funext j; exact pcallF_f (by decide) (Or.inl (by decide))
    have e00 := hv1.1
    have hs21 : S1 2 p9 ≠ 0 := by rw [hv1.2.1]; exact hs2
    obtain ⟨Sb, hSb⟩ : ∃ Sb, Sb = (if f = true then up2 S 7 (fidx k9 p9 i9 st) (S 7 (fidx k9 p9 i9 st) - 1) else S) := ⟨_, rfl⟩
    have hb7 := hw.b7 (fidx k9 p9 i9 st)
    have hwb : WF Sb := by
      rw [hSb]
      split
      · exact hw.up (by omega)
      · exact hw
    have eb : ∀ f9 j, ¬ (f9 = 0 ∧ j = 2) → Sb f9 j = S1 f9 j := by
      intro f9 j hn
      rw [hSb, hS1]
      unfold pcallF
      split
      · rw [up2_n hn]
      · rfl
    have hMb : MC Γ H' g L Sb := hM.w0 ⟨eb _ _ (by omega), by funext j; exact eb _ _ (by omega), by funext j; exact eb _ _ (by omega)⟩ (fun t i f9 j hl9 hr => eb f9 j (fun z => by
      obtain ⟨rfl, rfl⟩ := z
      unfold reads at hr
      split at hr
      all_goals first | omega | exact absurd hr (fun z => z)))
    have efb : pfu Sb 255 = pfu S 255 := by
      have key : ∀ n c, pfuA Sb 255 n c = pfuA S 255 n c := by
        intro n
        induction n with
        | zero => intro c; rfl
        | succ n ih => intro c; rw [pfuA, pfuA, ih, eb 1 c (by omega), e1]
      unfold pfu
      rw [eb 0 0 (by omega), e00, key]
    have epc : pcall S k9 p9 i9 st (cfo S) = up2 (up2 (up2 S1 13 (S 0 1) (pcode S k9 p9 i9 st f)) 0 1 (S 0 1 + 1)) 0 3 (plist S) := by
      unfold pcall
      rw [if_neg hth, ← hf, ← hS1]
    -- what follows when the list has room
    have M103 : ∀ (w9 : Nat) (L2 N : Nat) (H2 : Heap) (cl9 sl9 : Nat) (locs : List Loc) (ls : Array Slot), w9 = (if p9 < 10 then pfu S 255 else k9 + 1) → N = plist S → cl9 ≤ 1 → sl9 ≤ 2 * (pcall S k9 p9 i9 st (cfo S) 0 3 - S 0 3) → MC Γ H2 g L2 (up2 S1 0 3 N) → CS Γ g L S H H2 L2 (up2 S1 0 3 N) → va_S (Gz Γ) s.heap H2 locs → lv_has ls 8 [(0, .ref (g 0 0)), (1, .ref (g 7 k9)), (2, .ref (g 8 p9)), (3, .int (nI i9)), (4, .ref (wy Γ st)), (5, .int (nI (bn f))), (6, .int (nI w9 - 1))] → W p l e (rmd 6 2 (7 + 2 * (pcall S k9 p9 i9 st (cfo S) 0 3 - S 0 3))) s m args below meth c H2 locs (cl9) (sl9) Q (F0 m 103 ls []) := by
      sorry
    have M58 : ∀ (w9 : Nat) (locs : List Loc) (ls : Array Slot), w9 = (if p9 < 10 then pfu S 255 else k9 + 1) → va_S (Gz Γ) s.heap H' locs → lv_has ls 8 [(0, .ref (g 0 0)), (1, .ref (g 7 k9)), (2, .ref (g 8 p9)), (3, .int (nI i9)), (4, .ref (wy Γ st)), (5, .int (nI (bn f)))] → W p l e (rmd 6 2 (7 + 2 * (pcall S k9 p9 i9 st (cfo S) 0 3 - S 0 3))) s m args below meth c H' locs 0 0 Q (F0 m 58 ls [.int (nI w9 - 1)]) := by
      intro w9 locs ls hw9 hS hl
      have hp3 := hM.p3
      have hg00 : Gz Γ (g 0 0) := hM.gz (t := 0) (i := 0) (by decide) rfl
      refine lv_istore (pc := 58) hx hb dX1_call_58 hl (Nat.le_of_ble_eq_true rfl) rfl (fun ls hl => ?_)
      refine lv_aload_n (pc := 60) hx hb dX1_call_60 rfl (lk hl rfl) ?_
      refine hw_get (pc := 61) hx hb hts in_X1 hown hK (hM.p0) rfl 3 (Nat.le_of_ble_eq_true rfl) (hts _ q340) (fun x h => h) rfl dX1_call_61 ?_
      refine lv_aload_n (pc := 64) hx hb dX1_call_64 rfl (lk hl rfl) ?_
      refine hw_get (pc := 65) hx hb hts in_X1 hown hK (hM.p0) rfl 2 (Nat.le_of_ble_eq_true rfl) (hts _ q339) (fun x h => h) rfl dX1_call_65 ?_
      refine hw_ilen (pc := 68) hx hb hK (hp3) dX1_call_68 ?_
      refine hn_ne (tgt := 103) (pc := 69) hx hb dX1_call_69 (by decide) (by omega) (by omega) (fun h => ?_) (fun h => ?_)
      · have e9 : up2 S1 0 3 (S1 0 3) = S1 := by
          funext f9 j
          unfold up2
          split
          · next h9 => rw [h9.1, h9.2]
          · rfl
        have epl : S1 0 3 = plist S := by unfold plist; rw [if_neg (by omega), e03]
        exact M103 w9 L (S1 0 3) H' 0 0 _ ls hw9 epl (by omega) (by omega) (by rw [e9]; exact hM) (by rw [e9]; exact hC) hS (by repeat first | exact lv_0 hl | refine lv_c (lk hl rfl) ?_)
      · skip
        have epl : plist S = 2 * S1 0 1 := by unfold plist; rw [if_pos (by omega), e01]
        have ep03 : pcall S k9 p9 i9 st (cfo S) 0 3 = 2 * S1 0 1 := by rw [epc, up2_s, epl]
        refine lv_iconst (v := nI 2) (pc := 72) hx hb dX1_call_72 (by decide) ?_
        refine lv_aload_n (pc := 73) hx hb dX1_call_73 rfl (lk hl rfl) ?_
        refine hw_get (pc := 74) hx hb hts in_X1 hown hK (hM.p0) rfl 3 (Nat.le_of_ble_eq_true rfl) (hts _ q340) (fun x h => h) rfl dX1_call_74 ?_
        refine lv_imul (pc := 77) hx hb dX1_call_77 ?_
        refine hw_top (congrArg Value.int (show _ = nI (2 * (S1 0 1)) from pk_mul _ _)) ?_
        refine hw_newi (N := 2 * S1 0 1) (pc := 78) hx hb hK (hts _ q182) hS (rfl) (by omega) (by first | exact Nat.le_of_ble_eq_true rfl | (dsimp only [rmd]; omega) | omega) (by first | exact Nat.le_of_ble_eq_true rfl | (dsimp only [rmd]; omega) | omega) dX1_call_78 (fun qn Hn eqn hpn hgn zn on hS => ?_)
        have hp3 := hp3.old on
        have : L < Hn.size := hp3.lt
        have hMo := hM
        have hlt0 := hM.p0.lt
        have hM := hM.grow (Off.new zn on)
        refine lv_astore (pc := 80) hx hb dX1_call_80 hl (Nat.le_of_ble_eq_true rfl) rfl (fun ls hl => ?_)
        refine lv_aload_n (pc := 82) hx hb dX1_call_82 rfl (lk hl rfl) ?_
        refine hw_get (pc := 83) hx hb hts in_X1 hown hK (hM.p0) rfl 2 (Nat.le_of_ble_eq_true rfl) (hts _ q339) (fun x h => h) rfl dX1_call_83 ?_
        refine lv_iconst (v := nI 0) (pc := 86) hx hb dX1_call_86 (by decide) ?_
        refine lv_aload (pc := 87) hx hb dX1_call_87 (lk hl rfl) ?_
        refine lv_iconst (v := nI 0) (pc := 89) hx hb dX1_call_89 (by decide) ?_
        refine lv_aload_n (pc := 90) hx hb dX1_call_90 rfl (lk hl rfl) ?_
        refine hw_get (pc := 91) hx hb hts in_X1 hown hK (hM.p0) rfl 3 (Nat.le_of_ble_eq_true rfl) (hts _ q340) (fun x h => h) rfl dX1_call_91 ?_
        refine hw_copyi (pc := 94) hx hb (by rw [hml]; exact hl.1.symm) hown (hts _ q1326) (hts _ q263) (hts _ q262) (hts _ q78) hK hp3 hpn hgn hS (by omega) (by omega) (by omega) (Nat.le_of_ble_eq_true rfl) (Nat.le_of_ble_eq_true rfl) dX1_call_94 (fun Hc locsc hpc zc oc hS => ?_)
        have o1 : Off (fun r => r = g 0 0) H' Hc := (Off.new (S := fun r => r = g 0 0) zn on).fresh (P := fun r => r = qn) (Off.put zc oc rfl) (fun q hq e => by omega)
        have hp0 := (hM.p0).ne oc (show g 0 0 ≠ qn by omega)
        refine lv_aload_n (pc := 97) hx hb dX1_call_97 rfl (lk hl rfl) ?_
        refine lv_aload (pc := 98) hx hb dX1_call_98 (lk hl rfl) ?_
        refine hw_put (pc := 100) hx hb hts in_X1 tyX1_ok nmX1 hown hK (hp0) (hg00) hS rfl 2 (Nat.le_of_ble_eq_true rfl) (hts _ q339) (fun x h => h) rfl rfl (rfl) (rfl) (Nat.le_of_ble_eq_true rfl) dX1_call_100 (fun Hpl locspl hppl zpl opl hS => ?_)
        have o2 := o1.trans (Off.put zpl opl rfl)
        have hpq : pt Γ Hpl qn (ia Γ (2 * S1 0 1) (fun j => nI (S1 13 j))) := (hpc.ne opl (show qn ≠ g 0 0 by omega)).ia rfl (fun j hj => by
          by_cases hjj : j < S1 0 1
          · rw [if_pos hjj]
          · rw [if_neg hjj, e13, hz j (by omega)]; rfl)
        have hM2 := hMo.grew (N := 2 * S1 0 1) (by omega) hgn o2 hpq hppl
        have hsz := hC.2.1.1
        have hC2 : CS Γ g L S H Hpl qn (up2 S1 0 3 (2 * S1 0 1)) := ⟨hM2, hC.2.1.fresh o2 (fun q hq e => by rw [e]; exact Cg.back (Or.inl rfl) hv1 (n := H.size) (by have := e ▸ hq; exact this) (hMo.cf (t := 0) (i := 0) (by decide) rfl)), Or.inr (by omega), hv1.trans ⟨up2_n (by omega), by funext j; exact up2_n (by omega), by funext j; exact up2_n (by omega)⟩⟩
        exact M103 w9 qn (2 * S1 0 1) Hpl 1 (2 * S1 0 1) _ ls hw9 epl.symm (by omega) (by omega) hM2 hC2 hS (by repeat first | exact lv_0 hl | refine lv_c (lk hl rfl) ?_)
    refine lv_istore (pc := 36) hx hb dX1_call_36 hl (Nat.le_of_ble_eq_true rfl) rfl (fun ls hl => ?_)
    refine lv_aload_n (pc := 38) hx hb dX1_call_38 rfl (lk hl rfl) ?_
    refine hw_getN (pc := 39) hx hb hts in_X4 hown hK (hM.p8 (show p9 < 20 from by omega) hs21) rfl 0 (Nat.le_of_ble_eq_true rfl) q1236 (fun x h => h) rfl dX1_call_39 ?_
    refine lv_bipush (v := nI 10) (pc := 42) hx hb dX1_call_42 (by decide) ?_
    refine hn_ge (tgt := 54) (pc := 44) hx hb dX1_call_44 (by decide) (by omega) (by omega) (fun h => ?_) (fun h => ?_)
    · refine lv_aload_n (pc := 54) hx hb dX1_call_54 rfl (lk hl rfl) ?_
      refine hw_getN (pc := 55) hx hb hts in_X2 hown hK (hM.p7 (show k9 < S1 0 0 from by omega)) rfl 0 (Nat.le_of_ble_eq_true rfl) q171 (fun x h => h) rfl dX1_call_55 ?_
      rw [← nI_pred k9]
      exact M58 (k9 + 1) _ ls (by rw [if_neg (by omega)]) hS (by repeat first | exact lv_0 hl | refine lv_c (lk hl rfl) ?_)
    · skip
      refine lv_aload_n (pc := 47) hx hb dX1_call_47 rfl (lk hl rfl) ?_
      refine hc_V (pc := 48) hx hb hml hown hts hK hS (c_control l Γ _ g _ Sb hMb hwb) (cwV 0 hts (lw_V q1322 q1324 qs20 q70 q1325) rfl rfl rfl (by decide +kernel) ⟨(Nat.le_of_ble_eq_true rfl), (Nat.le_of_ble_eq_true rfl)⟩) (hK.recv hM.p0 rfl) rfl hl.1 rfl (Nat.le_of_ble_eq_true rfl) dX1_call_48 ⟨by first | exact Nat.le_of_ble_eq_true rfl | (dsimp only [rmd]; omega) | omega, by first | exact Nat.le_of_ble_eq_true rfl | (dsimp only [rmd]; omega) | omega⟩ (fun vco Hco locsco hqco hS => ?_)
      obtain ⟨rfl, rfl⟩ := hqco
      rw [efb]
      refine lv_goto (tgt := 58) (pc := 51) hx hb dX1_call_51 (by decide) ?_
      exact M58 (pfu S 255) _ ls (by rw [if_pos (by omega)]) hS (by repeat first | exact lv_0 hl | refine lv_c (lk hl rfl) ?_)
  have M10 : pthere S p9 st ≠ 0 → ∀ (locs : List Loc) (ls : Array Slot), va_S (Gz Γ) s.heap H locs → lv_has ls 8 [(0, .ref (g 0 0)), (1, .ref (g 7 k9)), (2, .ref (g 8 p9)), (3, .int (nI i9)), (4, .ref (wy Γ st))] → W p l e (rmd 6 2 (7 + 2 * (pcall S k9 p9 i9 st (cfo S) 0 3 - S 0 3))) s m args below meth c H locs 0 0 Q (F0 m 10 ls []) := by
    intro hth locs ls hS hl
    refine lv_aload_n (pc := 10) hx hb dX1_call_10 rfl (lk hl rfl) ?_
    refine hw_get (pc := 11) hx hb hts in_X1 hown hK (hM.p0) rfl 4 (Nat.le_of_ble_eq_true rfl) (hts _ q341) (fun x h => h) rfl dX1_call_11 ?_
    refine hn_z_ne (tgt := 35) (pc := 14) hx hb dX1_call_14 (by decide) (by omega) (fun h => ?_) (fun h => ?_)
    · refine lv_iconst (v := nI 0) (pc := 35) hx hb dX1_call_35 (by decide) ?_
      have hc : cfo S = false := decide_eq_false h
      exact M36 false S _ _ ls hth (by rw [hc, pfails_n]) rfl hM (CS.rf hM) hS (by repeat first | exact lv_0 hl | refine lv_c (lk hl rfl) ?_)
    · skip
      have hc : cfo S = true := decide_eq_true h
      have hp8 := hM.p8 hp9 hs2
      have hp12 := hM.p12 hp9 hs2
      have hg12 : Gz Γ (g 12 p9) := hM.gz (by decide) (show p9 < 20 ∧ S 2 p9 ≠ 0 from ⟨hp9, hs2⟩)
      refine lv_aload_n (pc := 17) hx hb dX1_call_17 rfl (lk hl rfl) ?_
      refine lv_aload_n (pc := 18) hx hb dX1_call_18 rfl (lk hl rfl) ?_
      refine hw_getN (pc := 19) hx hb hts in_X2 hown hK (hM.p7 (show k9 < S 0 0 from by omega)) rfl 0 (Nat.le_of_ble_eq_true rfl) q171 (fun x h => h) rfl dX1_call_19 ?_
      refine lv_iload_n (pc := 22) hx hb dX1_call_22 rfl (lk hl rfl) ?_
      refine lv_aload (pc := 23) hx hb dX1_call_23 (lk hl rfl) ?_
      refine hc_V (pc := 25) hx hb hml hown hts hK hS (s_takes l Γ _ (g 8 p9) (g 12 p9) k9 i9 st _ _ _ _ _ _ (fun j => S 7 (fjx p9 j)) hp8 hp12 hg12 (by omega) hi (fun j => hw.b7 _)) (cwV 3 hts (lw_V q1308 q1309 q1310 q89 q1311) rfl rfl rfl (by decide +kernel) ⟨(Nat.le_of_ble_eq_true rfl), (Nat.le_of_ble_eq_true rfl)⟩) (hK.recv hp8 rfl) rfl hl.1 rfl (Nat.le_of_ble_eq_true rfl) dX1_call_25 ⟨by first | exact Nat.le_of_ble_eq_true rfl | (dsimp only [rmd]; omega) | omega, by first | exact Nat.le_of_ble_eq_true rfl | (dsimp only [rmd]; omega) | omega⟩ (fun vtf Htf locstf hqtf hS => ?_)
      obtain ⟨rfl, hp12, hot⟩ := hqtf
      have hM1 := hM.take hp9 hs2 hi (c9 := k9) (f := decide (0 < S 7 (fidx k9 p9 i9 st))) rfl hot hp12
      rw [fjx_fat st hi]
      have hC1 := (CS.rf hM).put hM1 hot (fun q e => by rw [e]; exact hM.cf (t := 12) (i := p9) (by decide) ⟨hp9, hs2⟩) pcallF_v
      have ef : pfails S k9 p9 i9 st (cfo S) = decide (0 < S 7 (fidx k9 p9 i9 st)) := by
        unfold pfails
        rw [hc, decide_eq_true hth]
        rfl
      refine hz_eq (tgt := 35) (pc := 28) hx hb dX1_call_28 (by decide) (fun h2 => ?_) (fun h2 => ?_)
      · refine lv_iconst (v := nI 0) (pc := 35) hx hb dX1_call_35 (by decide) ?_
        exact M36 false _ _ _ ls hth (by rw [ef, h2]) rfl (h2 ▸ hM1) (h2 ▸ hC1) hS (by repeat first | exact lv_0 hl | refine lv_c (lk hl rfl) ?_)
      · skip
        refine lv_iconst (v := nI 1) (pc := 31) hx hb dX1_call_31 (by decide) ?_
        refine lv_goto (tgt := 36) (pc := 32) hx hb dX1_call_32 (by decide) ?_
        exact M36 true _ _ _ ls hth (by rw [ef, h2]) rfl (h2 ▸ hM1) (h2 ▸ hC1) hS (by repeat first | exact lv_0 hl | refine lv_c (lk hl rfl) ?_)
  have hp8 := hM.p8 hp9 hs2
  cases st
  · skip
    refine lv_aload (pc := 0) hx hb dX1_call_0 (lk hl rfl) ?_
    refine lv_aload_n (pc := 2) hx hb dX1_call_2 rfl (lk hl rfl) ?_
    refine hc_U (pc := 3) hx hb hml hown hts hK hS ((s_has l Γ H (g 8 p9) false _ _ _ _ _ _ _ hp8 hb3 hb4).2 rfl) (va_cwA 1 hts (lw_U q1299 q1301 q1305 q1306 q117 q1307) rfl rfl rfl (hK.2.1.1 _ q1300 rfl) (by decide +kernel) ⟨(Nat.le_of_ble_eq_true rfl), (Nat.le_of_ble_eq_true rfl)⟩) (hK.rw0 hS) rfl hl.1 rfl (Nat.le_of_ble_eq_true rfl) dX1_call_3 ⟨by first | exact Nat.le_of_ble_eq_true rfl | (dsimp only [rmd]; omega) | omega, by first | exact Nat.le_of_ble_eq_true rfl | (dsimp only [rmd]; omega) | omega⟩ (fun v9 H9 locs9 hq9 hS => ?_)
    obtain ⟨rfl, rfl⟩ := hq9
    refine hn_z_ne (tgt := 10) (pc := 6) hx hb dX1_call_6 (by decide) (by omega) (fun h => ?_) (fun h => ?_)
    · exact M10 h _ ls hS (by repeat first | exact lv_0 hl | refine lv_c (lk hl rfl) ?_)
    · skip
      have hth : pthere S p9 false = 0 := h
      have e : pcall S k9 p9 i9 false (cfo S) = S := by unfold pcall; rw [if_pos hth]
      have e2 : pfails S k9 p9 i9 false (cfo S) = false := by unfold pfails; rw [hth]; rfl
      exact xr hQ (hr_v (pc := 9) rfl hx hb hr hlocks hS (by first | exact Nat.le_of_ble_eq_true rfl | (dsimp only [rmd]; omega) | omega) (by first | exact Nat.le_of_ble_eq_true rfl | (dsimp only [rmd]; omega) | omega) (⟨rfl, e2, L, by rw [e]; exact CS.rf hM⟩) dX1_call_9)
  · skip
    refine lv_aload (pc := 0) hx hb dX1_call_0 (lk hl rfl) ?_
    refine lv_aload_n (pc := 2) hx hb dX1_call_2 rfl (lk hl rfl) ?_
    refine hc_U (pc := 3) hx hb hml hown hts hK hS ((s_has l Γ H (g 8 p9) true _ _ _ _ _ _ _ hp8 hb3 hb4).1 rfl) (va_cwA 1 hts (lw_U q1299 q1301 q1302 q1303 q116 q1304) rfl rfl rfl (hK.2.1.1 _ q1300 rfl) (by decide +kernel) ⟨(Nat.le_of_ble_eq_true rfl), (Nat.le_of_ble_eq_true rfl)⟩) (hK.rw1 hS) rfl hl.1 rfl (Nat.le_of_ble_eq_true rfl) dX1_call_3 ⟨by first | exact Nat.le_of_ble_eq_true rfl | (dsimp only [rmd]; omega) | omega, by first | exact Nat.le_of_ble_eq_true rfl | (dsimp only [rmd]; omega) | omega⟩ (fun v9 H9 locs9 hq9 hS => ?_)
    obtain ⟨rfl, rfl⟩ := hq9
    refine hn_z_ne (tgt := 10) (pc := 6) hx hb dX1_call_6 (by decide) (by omega) (fun h => ?_) (fun h => ?_)
    · exact M10 h _ ls hS (by repeat first | exact lv_0 hl | refine lv_c (lk hl rfl) ?_)
    · skip
      have hth : pthere S p9 true = 0 := h
      have e : pcall S k9 p9 i9 true (cfo S) = S := by unfold pcall; rw [if_pos hth]
      have e2 : pfails S k9 p9 i9 true (cfo S) = false := by unfold pfails; rw [hth]; rfl
      exact xr hQ (hr_v (pc := 9) rfl hx hb hr hlocks hS (by first | exact Nat.le_of_ble_eq_true rfl | (dsimp only [rmd]; omega) | omega) (by first | exact Nat.le_of_ble_eq_true rfl | (dsimp only [rmd]; omega) | omega) (⟨rfl, e2, L, by rw [e]; exact CS.rf hM⟩) dX1_call_9)
