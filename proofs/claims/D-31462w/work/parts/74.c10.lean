/-! call: the walk -/
set_option maxRecDepth 100000
set_option maxHeartbeats 16000000
theorem c_call (l : Launch) (Γ : Cx) (H : Heap) (g : Gn) (L : Nat) (S : Sx) (k9 p9 i9 : Nat) (st : Bool) (hM : MC Γ H g L S) (hw : WC S) (hk : k9 < S 0 0) (hp9 : p9 < 20) (hs2 : S 2 p9 ≠ 0) (hi : i9 < 4) (hr9 : S 0 1 < 40000) : Mx l Γ yX1_call (ws_ yX1_call cX1_call 8 none) 6 2 (7 + 2 * (pcall S k9 p9 i9 st (cfo S) 0 3 - S 0 3)) [.ref (g 0 0), .ref (g 7 k9), .ref (g 8 p9), .int (nI i9), .ref (wy Γ st)] H (fun v H1 => v = none ∧ pfails S k9 p9 i9 st (cfo S) = false ∧ ∃ L1, CS Γ g L S H H1 L1 (pcall S k9 p9 i9 st (cfo S))) (fun E q H1 => pfails S k9 p9 i9 st (cfo S) = true ∧ XB Γ g L S H (pcall S k9 p9 i9 st (cfo S)) i9 E q H1) := by
  obtain ⟨hw, h04, h13, h64, h80, hz⟩ := hw
  have hb0 := hw.b0
  have hb3 := hw.b3 p9
  have hb4 := hw.b4 p9
  refine mx_of (by decide +kernel) (Nat.le_of_ble_eq_true rfl) ?_
  intro p e s m args below meth c ls Q hx hb hr hlocks hml hts hown hnm hK hS hl htb hQ
  -- what is written when the entry's fate f is known
  have M36 : ∀ (f : Bool) (S1 : Sx) (H' : Heap) (locs : List Loc) (ls : Array Slot), pthere S p9 st ≠ 0 → f = pfails S k9 p9 i9 st (cfo S) → S1 = pcallF S k9 p9 i9 st f → MC Γ H' g L S1 → CS Γ g L S H H' L S1 → va_S (Gz Γ) s.heap H' locs → lv_has ls 8 [(0, .ref (g 0 0)), (1, .ref (g 7 k9)), (2, .ref (g 8 p9)), (3, .int (nI i9)), (4, .ref (wy Γ st))] → W p l e (rmd 6 2 (7 + 2 * (pcall S k9 p9 i9 st (cfo S) 0 3 - S 0 3))) s m args below meth c H' locs 0 0 Q (F0 m 36 ls [.int (nI (bn f))]) := by
    intro f S1 H' locs ls hth hf hS1 hM hC hS hl
    have hv1 : LVE S S1 := hS1 ▸ pcallF_v
    have e01 : S1 0 1 = S 0 1 := by rw [hS1]; exact pcallF_f (by decide) (Or.inr (by decide))
    have e03 : S1 0 3 = S 0 3 := by rw [hS1]; exact pcallF_f (by decide) (Or.inr (by decide))
    have e1 : S1 1 = S 1 := by rw [hS1]; funext j; exact pcallF_f (by decide) (Or.inl (by decide))
    have e13 : S1 13 = S 13 := by rw [hS1]; funext j; exact pcallF_f (by decide) (Or.inl (by decide))
    have e00 := hv1.1
    have hs21 : S1 2 p9 ≠ 0 := by rw [hv1.2.1]; exact hs2
    obtain ⟨Sb, hSb⟩ : ∃ Sb, Sb = (if f = true then up2 S 7 (fidx k9 p9 i9 st) (S 7 (fidx k9 p9 i9 st) - 1) else S) := ⟨_, rfl⟩
    have hb7 := hw.b7 (fidx k9 p9 i9 st)
    have hwb : WF Sb := by
      rw [hSb]
      split
      · exact hw.up (by omega)
      · exact hw
    have eb : ∀ f9 j, ¬ (f9 = 0 ∧ j = 2) → Sb f9 j = S1 f9 j := by
      intro f9 j hn
      rw [hSb, hS1]
      unfold pcallF
      split
      · rw [up2_n hn]
      · rfl
    have hMb : MC Γ H' g L Sb := hM.w0 ⟨eb _ _ (by omega), by funext j; exact eb _ _ (by omega), by funext j; exact eb _ _ (by omega)⟩ (fun t i f9 j hl9 hr => eb f9 j (fun z => by
      obtain ⟨rfl, rfl⟩ := z
      unfold reads at hr
      split at hr
      all_goals first | omega | exact absurd hr (fun z => z)))
    have efb : pfu Sb 255 = pfu S 255 := by
      have key : ∀ n c, pfuA Sb 255 n c = pfuA S 255 n c := by
        intro n
        induction n with
        | zero => intro c; rfl
        | succ n ih => intro c; rw [pfuA, pfuA, ih, eb 1 c (by omega), e1]
      unfold pfu
      rw [eb 0 0 (by omega), e00, key]
    have epc : pcall S k9 p9 i9 st (cfo S) = up2 (up2 (up2 S1 13 (S 0 1) (pcode S k9 p9 i9 st f)) 0 1 (S 0 1 + 1)) 0 3 (plist S) := by
      unfold pcall
      rw [if_neg hth, ← hf, ← hS1]
    -- what follows when the list has room
    have M103 : ∀ (w9 : Nat) (L2 N : Nat) (H2 : Heap) (cl9 sl9 : Nat) (locs : List Loc) (ls : Array Slot), w9 = (if p9 < 10 then pfu S 255 else k9 + 1) → N = plist S → cl9 ≤ 1 → sl9 ≤ 2 * (pcall S k9 p9 i9 st (cfo S) 0 3 - S 0 3) → MC Γ H2 g L2 (up2 S1 0 3 N) → CS Γ g L S H H2 L2 (up2 S1 0 3 N) → va_S (Gz Γ) s.heap H2 locs → lv_has ls 8 [(0, .ref (g 0 0)), (1, .ref (g 7 k9)), (2, .ref (g 8 p9)), (3, .int (nI i9)), (4, .ref (wy Γ st)), (5, .int (nI (bn f))), (6, .int (nI w9 - 1))] → W p l e (rmd 6 2 (7 + 2 * (pcall S k9 p9 i9 st (cfo S) 0 3 - S 0 3))) s m args below meth c H2 locs (cl9) (sl9) Q (F0 m 103 ls []) := by
      intro w9 L2 N H2 cl9 sl9 locs ls hw9 hN hcl hsl hM hC hS hl
      have hN1 : S1 0 1 < N ∧ N < 2 ^ 30 := by
        rw [hN]
        unfold plist
        split <;> omega
      obtain ⟨S2, hS2⟩ : ∃ S2, S2 = up2 S1 0 3 N := ⟨_, rfl⟩
      rw [← hS2] at hM hC
      have a01 : S2 0 1 = S1 0 1 := by rw [hS2]; exact up2_n (by omega)
      have a03 : S2 0 3 = N := by rw [hS2]; exact up2_s
      have a00 : S2 0 0 = S1 0 0 := by rw [hS2]; exact up2_n (by omega)
      have hv2 := hC.2.2.2
      have hs22 : S2 2 p9 ≠ 0 := by rw [hv2.2.1]; exact hs2
      have hw99 : w9 < 9 := by
        have := pfu_le hw 255
        rw [hw9]
        split <;> omega
      have hbn := bn_le f
      have hp3 := hM.p3
      have hgL := hM.gL
      have hg00 : Gz Γ (g 0 0) := hM.gz (t := 0) (i := 0) (by decide) rfl
      have M134 : ∀ (locs : List Loc) (ls : Array Slot), va_S (Gz Γ) s.heap H2 locs → lv_has ls 8 [(0, .ref (g 0 0)), (1, .ref (g 7 k9)), (2, .ref (g 8 p9)), (3, .int (nI i9)), (5, .int (nI (bn f))), (6, .int (nI w9 - 1))] → W p l e (rmd 6 2 (7 + 2 * (pcall S k9 p9 i9 st (cfo S) 0 3 - S 0 3))) s m args below meth c H2 locs (cl9) (sl9) Q (F0 m 134 ls [.int (nI (if st then 2 else 0)), .int (nI (bn f)), .int (nI (S2 0 1)), .ref L2]) := by
        intro locs ls hS hl
        have hs29 : (if st = true then 2 else 0) ≤ 2 := by split <;> omega
        have o1 : bn f ||| (if st = true then 2 else 0) < 2 ^ 22 := Nat.or_lt_two_pow (by omega) (by omega)
        have o2 : (bn f ||| (if st = true then 2 else 0)) ||| i9 * 2 ^ 2 < 2 ^ 22 := Nat.or_lt_two_pow o1 (by omega)
        have o3 : ((bn f ||| (if st = true then 2 else 0)) ||| i9 * 2 ^ 2) ||| w9 * 2 ^ 4 < 2 ^ 22 := Nat.or_lt_two_pow o2 (by omega)
        have o4 : (((bn f ||| (if st = true then 2 else 0)) ||| i9 * 2 ^ 2) ||| w9 * 2 ^ 4) ||| p9 * 2 ^ 8 < 2 ^ 22 := Nat.or_lt_two_pow o3 (by omega)
        refine lv_ior (pc := 134) hx hb dX1_call_134 ?_
        refine hw_top (congrArg Value.int (show _ = nI ((bn f) ||| (if st = true then 2 else 0)) from n_or _ _ (by omega) (by omega))) ?_
        refine lv_iload_n (pc := 135) hx hb dX1_call_135 rfl (lk hl rfl) ?_
        refine lv_iconst (v := nI 2) (pc := 136) hx hb dX1_call_136 (by decide) ?_
        refine lv_ishl (pc := 137) hx hb dX1_call_137 ?_
        refine hw_top (congrArg Value.int (show _ = nI (i9 * 2 ^ 2) from n_shl (by omega) (by omega) )) ?_
        refine lv_ior (pc := 138) hx hb dX1_call_138 ?_
        refine hw_top (congrArg Value.int (show _ = nI (((bn f) ||| (if st = true then 2 else 0)) ||| (i9 * 2 ^ 2)) from n_or _ _ (Nat.lt_trans o1 (by decide)) (by omega))) ?_
        refine lv_iload (pc := 139) hx hb dX1_call_139 (lk hl rfl) ?_
        refine lv_iconst (v := nI 1) (pc := 141) hx hb dX1_call_141 (by decide) ?_
        refine lv_iadd (pc := 142) hx hb dX1_call_142 ?_
        refine hw_top (congrArg Value.int (show _ = nI w9 from n_mp _)) ?_
        refine lv_iconst (v := nI 4) (pc := 143) hx hb dX1_call_143 (by decide) ?_
        refine lv_ishl (pc := 144) hx hb dX1_call_144 ?_
        refine hw_top (congrArg Value.int (show _ = nI (w9 * 2 ^ 4) from n_shl (by omega) (by omega) )) ?_
        refine lv_ior (pc := 145) hx hb dX1_call_145 ?_
        refine hw_top (congrArg Value.int (show _ = nI ((((bn f) ||| (if st = true then 2 else 0)) ||| (i9 * 2 ^ 2)) ||| (w9 * 2 ^ 4)) from n_or _ _ (Nat.lt_trans o2 (by decide)) (by omega))) ?_
        refine lv_aload_n (pc := 146) hx hb dX1_call_146 rfl (lk hl rfl) ?_
        refine hw_getN (pc := 147) hx hb hts in_X4 hown hK (hM.p8 (show p9 < 20 from by omega) hs22) rfl 0 (Nat.le_of_ble_eq_true rfl) q1236 (fun x h => h) rfl dX1_call_147 ?_
        refine lv_bipush (v := nI 8) (pc := 150) hx hb dX1_call_150 (by decide) ?_
        refine lv_ishl (pc := 152) hx hb dX1_call_152 ?_
        refine hw_top (congrArg Value.int (show _ = nI (p9 * 2 ^ 8) from n_shl (by omega) (by omega) )) ?_
        refine lv_ior (pc := 153) hx hb dX1_call_153 ?_
        refine hw_top (congrArg Value.int (show _ = nI (((((bn f) ||| (if st = true then 2 else 0)) ||| (i9 * 2 ^ 2)) ||| (w9 * 2 ^ 4)) ||| (p9 * 2 ^ 8)) from n_or _ _ (Nat.lt_trans o3 (by decide)) (by omega))) ?_
        refine lv_aload_n (pc := 154) hx hb dX1_call_154 rfl (lk hl rfl) ?_
        refine hw_getN (pc := 155) hx hb hts in_X2 hown hK (hM.p7 (show k9 < S2 0 0 from by omega)) rfl 0 (Nat.le_of_ble_eq_true rfl) q171 (fun x h => h) rfl dX1_call_155 ?_
        refine lv_bipush (v := nI 13) (pc := 158) hx hb dX1_call_158 (by decide) ?_
        refine lv_ishl (pc := 160) hx hb dX1_call_160 ?_
        refine hw_top (congrArg Value.int (show _ = nI (k9 * 2 ^ 13) from n_shl (by omega) (by omega) )) ?_
        refine lv_ior (pc := 161) hx hb dX1_call_161 ?_
        refine hw_top (congrArg Value.int (show _ = nI ((((((bn f) ||| (if st = true then 2 else 0)) ||| (i9 * 2 ^ 2)) ||| (w9 * 2 ^ 4)) ||| (p9 * 2 ^ 8)) ||| (k9 * 2 ^ 13)) from n_or _ _ (Nat.lt_trans o4 (by decide)) (by omega))) ?_
        rw [code_or k9 (by omega) p9 hp9 w9 hw99 i9 hi st f]
        have ecode : 4 * i9 + 16 * w9 + 256 * p9 + 8192 * k9 + (if st = true then 2 else 0) + (if f = true then 1 else 0) = pcode S k9 p9 i9 st f := by unfold pcode; rw [← hw9]
        rw [ecode]
        have hp0 := hM.p0
        have hnL : g 0 0 ≠ L2 := hM.neL (t := 0) (i := 0) (by decide) rfl
        refine hw_iast (pc := 162) hx hb hK (hp3) (hgL) hS (vp_in_nI (show S2 0 1 < S2 0 3 by omega) (by omega)) dX1_call_162 (fun He9 locse9 hpe9 ze9 oe9 hS => ?_)
        rw [nI_clamp (by omega)] at hpe9
        have hp0 := hp0.ne oe9 hnL
        have hoe : Off (fun r => r = g 0 0 ∨ r = L2) H2 He9 := Off.put ze9 oe9 (Or.inr rfl)
        refine lv_aload_n (pc := 163) hx hb dX1_call_163 rfl (lk hl rfl) ?_
        refine lv_dup (pc := 164) hx hb dX1_call_164 rfl ?_
        refine hw_get (pc := 165) hx hb hts in_X1 hown hK (hp0) rfl 3 (Nat.le_of_ble_eq_true rfl) (hts _ q340) (fun x h => h) rfl dX1_call_165 ?_
        refine lv_iconst (v := nI 1) (pc := 168) hx hb dX1_call_168 (by decide) ?_
        refine lv_iadd (pc := 169) hx hb dX1_call_169 ?_
        refine hw_top (congrArg Value.int (show _ = nI (S2 0 1 + 1) from nI_add _ _)) ?_
        refine hw_put (pc := 170) hx hb hts in_X1 tyX1_ok nmX1 hown hK (hp0) (hg00) hS rfl 3 (Nat.le_of_ble_eq_true rfl) (hts _ q340) (fun x h => h) rfl rfl (rfl) (rfl) (Nat.le_of_ble_eq_true rfl) dX1_call_170 (fun Hp1 locsp1 hpp1 zp1 op1 hS => ?_)
        have hp0 : pt Γ Hp1 (g 0 0) (ob 0 [.ref (g 1 0), .ref (g 2 0), .ref L2, .int (nI (S2 0 1 + 1)), .int (nI (S2 0 4)), .ref (g 4 0), .ref (g 5 0), .ref (g 6 0)]) := hpp1
        refine lv_iload (pc := 173) hx hb dX1_call_173 (lk hl rfl) ?_
        have hoe2 := hoe.trans (Off.put (S := fun r => r = g 0 0 ∨ r = L2) zp1 op1 (Or.inl rfl))
        have hM3 := hM.entry (v := pcode S k9 p9 i9 st f) (by omega) hoe2 (hpe9.ne op1 hnL.symm) hp0
        have eS : up2 (up2 S2 13 (S2 0 1) (pcode S k9 p9 i9 st f)) 0 1 (S2 0 1 + 1) = pcall S k9 p9 i9 st (cfo S) := by
          rw [epc, ← hN, a01, e01, hS2]
          funext f9 j
          unfold up2
          by_cases h1 : f9 = 0 ∧ j = 1
          · rw [if_pos h1, if_neg (by omega), if_pos h1]
          · rw [if_neg h1]
            by_cases h2 : f9 = 13 ∧ j = S 0 1
            · rw [if_pos h2, if_neg (by omega), if_neg h1, if_pos h2]
            · rw [if_neg h2]
              by_cases h3 : f9 = 0 ∧ j = 3
              · rw [if_pos h3, if_pos h3]
              · rw [if_neg h3, if_neg h3, if_neg h1, if_neg h2]
        have hv3 : LVE S2 (up2 (up2 S2 13 (S2 0 1) (pcode S k9 p9 i9 st f)) 0 1 (S2 0 1 + 1)) := ⟨by rw [up2_n (by omega), up2_n (by omega)], by funext j; rw [up2_n (by omega), up2_n (by omega)], by funext j; rw [up2_n (by omega), up2_n (by omega)]⟩
        have hC3 := hC.put hM3 hoe2 (fun q e => by
          rcases e with e | e
          · rw [e]; exact hM.cf (t := 0) (i := 0) (by decide) rfl
          · rw [e]; exact hM.cfL) hv3
        rw [eS] at hM3 hC3
        refine hn_z_eq (tgt := 187) (pc := 175) hx hb dX1_call_175 (by decide) (by omega) (fun h => ?_) (fun h => ?_)
        · have hff : f = false := by
            cases f
            · rfl
            · exact absurd h (by decide)
          exact xr hQ (hr_v (pc := 187) rfl hx hb hr hlocks hS (by first | exact Nat.le_of_ble_eq_true rfl | (dsimp only [rmd]; omega) | omega) (by first | exact Nat.le_of_ble_eq_true rfl | (dsimp only [rmd]; omega) | omega) (⟨rfl, by rw [← hf, hff], L2, hC3⟩) dX1_call_187)
        · skip
          have hff : f = true := by
            cases f
            · exact absurd rfl h
            · rfl
          refine hw_new (ci := 4) (pc := 178) hx hb hts in_X6 tyX6_ok hown (hts _ q1270) (hts _ q1327) (hts _ q112) hK hS rfl rfl (by first | exact Nat.le_of_ble_eq_true rfl | (dsimp only [rmd]; omega) | omega) (by first | exact Nat.le_of_ble_eq_true rfl | (dsimp only [rmd]; omega) | omega) dX1_call_178 (fun qn Hn eqn hpn hgn zn on hS => ?_)
          have hpn : pt Γ Hn qn (ob 4 [.null, .null, .null, .null, .null, .int (nI 0), .int (nI 0)]) := hpn
          refine lv_dup (pc := 181) hx hb dX1_call_181 rfl ?_
          refine lv_iload_n (pc := 182) hx hb dX1_call_182 rfl (lk hl rfl) ?_
          refine hc_I (pc := 183) hx hb hml hown hts hK hS (e_bad l Γ Hn qn i9 hpn hgn) (cwI 1 hts (lw_meth q1337) rfl rfl rfl (hts _ q112) (hts _ q1335) (hts _ q1336) rfl (by decide +kernel) ⟨(Nat.le_of_ble_eq_true rfl), (Nat.le_of_ble_eq_true rfl)⟩) rfl hl.1 rfl (Nat.le_of_ble_eq_true rfl) dX1_call_183 ⟨by first | exact Nat.le_of_ble_eq_true rfl | (dsimp only [rmd]; omega) | omega, by first | exact Nat.le_of_ble_eq_true rfl | (dsimp only [rmd]; omega) | omega⟩ (fun vbc Hbc locsbc hqbc hS => ?_)
          obtain ⟨rfl, hpb, hob⟩ := hqbc
          have hC4 := hC3.grow (Off.new zn on)
          have hnq : ¬ Cg g L2 (pcall S k9 p9 i9 st (cfo S)) qn := hM3.out (by omega)
          have hsz := hC3.2.1.1
          have hC5 := hC4.own hob (fun q e => by rw [e]; omega) (fun q e => by rw [e]; exact hnq)
          obtain ⟨ce, hce, hcv, hcl⟩ := hK.thrown hpb rfl
          refine vx_athrow (pc := 186) hx hb dX1_call_186 ?_
          exact xt hQ (fun x hx9 => (htb x hx9).elim) hlocks hS hce hcv hcl ⟨by rw [← hf, hff], rfl, ⟨L2, hC5⟩, hpb, hgn, by omega⟩ (by omega) (by omega)
      have M121 : ∀ (locs : List Loc) (ls : Array Slot), va_S (Gz Γ) s.heap H2 locs → lv_has ls 8 [(0, .ref (g 0 0)), (1, .ref (g 7 k9)), (2, .ref (g 8 p9)), (3, .int (nI i9)), (4, .ref (wy Γ st)), (5, .int (nI (bn f))), (6, .int (nI w9 - 1))] → W p l e (rmd 6 2 (7 + 2 * (pcall S k9 p9 i9 st (cfo S) 0 3 - S 0 3))) s m args below meth c H2 locs (cl9) (sl9) Q (F0 m 121 ls [.int (nI (bn f)), .int (nI (S2 0 1)), .ref L2]) := by
        intro locs ls hS hl
        refine lv_aload (pc := 121) hx hb dX1_call_121 (lk hl rfl) ?_
        refine va_gets (pc := 123) hx hb ((hK.w1.1 0 (by decide)).1) hS hown (hts _ q1293) (fun x h => h) dX1_call_123 ?_
        by_cases hst : st = true
        · refine lv_acmp_ne (tgt := 133) (pc := 126) (rx := some (wy Γ st)) (ry := some (wy Γ true)) hx hb dX1_call_126 (by decide) (fun q => absurd (by rw [hst]) q) (fun _ => ?_)
          refine lv_iconst (v := nI (if st = true then 2 else 0)) (pc := 129) hx hb dX1_call_129 (by rw [if_pos hst]; decide) ?_
          refine lv_goto (tgt := 134) (pc := 130) hx hb dX1_call_130 (by decide) ?_
          exact M134 _ ls hS (by repeat first | exact lv_0 hl | refine lv_c (lk hl rfl) ?_)
        · have hst : st = false := by simpa using hst
          refine lv_acmp_ne (tgt := 133) (pc := 126) (rx := some (wy Γ st)) (ry := some (wy Γ true)) hx hb dX1_call_126 (by decide) (fun _ => ?_) (fun q => absurd (Option.some.inj q) (by rw [hst]; exact fun e9 => hK.wne e9.symm))
          refine lv_iconst (v := nI (if st = true then 2 else 0)) (pc := 133) hx hb dX1_call_133 (by rw [hst]; decide) ?_
          exact M134 _ ls hS (by repeat first | exact lv_0 hl | refine lv_c (lk hl rfl) ?_)
      refine lv_aload_n (pc := 103) hx hb dX1_call_103 rfl (lk hl rfl) ?_
      refine hw_get (pc := 104) hx hb hts in_X1 hown hK (hM.p0) rfl 2 (Nat.le_of_ble_eq_true rfl) (hts _ q339) (fun x h => h) rfl dX1_call_104 ?_
      refine lv_aload_n (pc := 107) hx hb dX1_call_107 rfl (lk hl rfl) ?_
      refine hw_get (pc := 108) hx hb hts in_X1 hown hK (hM.p0) rfl 3 (Nat.le_of_ble_eq_true rfl) (hts _ q340) (fun x h => h) rfl dX1_call_108 ?_
      refine lv_iload (pc := 111) hx hb dX1_call_111 (lk hl rfl) ?_
      refine hn_z_eq (tgt := 120) (pc := 113) hx hb dX1_call_113 (by decide) (by omega) (fun h => ?_) (fun h => ?_)
      · refine lv_iconst (v := nI 0) (pc := 120) hx hb dX1_call_120 (by decide) ?_
        refine hw_top (congrArg Value.int (show nI 0 = nI (bn f) by rw [h])) ?_
        exact M121 _ ls hS (by repeat first | exact lv_0 hl | refine lv_c (lk hl rfl) ?_)
      · skip
        refine lv_iconst (v := nI 1) (pc := 116) hx hb dX1_call_116 (by decide) ?_
        refine lv_goto (tgt := 121) (pc := 117) hx hb dX1_call_117 (by decide) ?_
        refine hw_top (congrArg Value.int (show nI 1 = nI (bn f) by rw [show bn f = 1 by omega])) ?_
        exact M121 _ ls hS (by repeat first | exact lv_0 hl | refine lv_c (lk hl rfl) ?_)
    have M58 : ∀ (w9 : Nat) (locs : List Loc) (ls : Array Slot), w9 = (if p9 < 10 then pfu S 255 else k9 + 1) → va_S (Gz Γ) s.heap H' locs → lv_has ls 8 [(0, .ref (g 0 0)), (1, .ref (g 7 k9)), (2, .ref (g 8 p9)), (3, .int (nI i9)), (4, .ref (wy Γ st)), (5, .int (nI (bn f)))] → W p l e (rmd 6 2 (7 + 2 * (pcall S k9 p9 i9 st (cfo S) 0 3 - S 0 3))) s m args below meth c H' locs 0 0 Q (F0 m 58 ls [.int (nI w9 - 1)]) := by
      intro w9 locs ls hw9 hS hl
      have hp3 := hM.p3
      have hg00 : Gz Γ (g 0 0) := hM.gz (t := 0) (i := 0) (by decide) rfl
      refine lv_istore (pc := 58) hx hb dX1_call_58 hl (Nat.le_of_ble_eq_true rfl) rfl (fun ls hl => ?_)
      refine lv_aload_n (pc := 60) hx hb dX1_call_60 rfl (lk hl rfl) ?_
      refine hw_get (pc := 61) hx hb hts in_X1 hown hK (hM.p0) rfl 3 (Nat.le_of_ble_eq_true rfl) (hts _ q340) (fun x h => h) rfl dX1_call_61 ?_
      refine lv_aload_n (pc := 64) hx hb dX1_call_64 rfl (lk hl rfl) ?_
      refine hw_get (pc := 65) hx hb hts in_X1 hown hK (hM.p0) rfl 2 (Nat.le_of_ble_eq_true rfl) (hts _ q339) (fun x h => h) rfl dX1_call_65 ?_
      refine hw_ilen (pc := 68) hx hb hK (hp3) dX1_call_68 ?_
      refine hn_ne (tgt := 103) (pc := 69) hx hb dX1_call_69 (by decide) (by omega) (by omega) (fun h => ?_) (fun h => ?_)
      · have e9 : up2 S1 0 3 (S1 0 3) = S1 := by
          funext f9 j
          unfold up2
          split
          · next h9 => rw [h9.1, h9.2]
          · rfl
        have epl : S1 0 3 = plist S := by unfold plist; rw [if_neg (by omega), e03]
        exact M103 w9 L (S1 0 3) H' 0 0 _ ls hw9 epl (by omega) (by omega) (by rw [e9]; exact hM) (by rw [e9]; exact hC) hS (by repeat first | exact lv_0 hl | refine lv_c (lk hl rfl) ?_)
      · skip
        have epl : plist S = 2 * S1 0 1 := by unfold plist; rw [if_pos (by omega), e01]
        have ep03 : pcall S k9 p9 i9 st (cfo S) 0 3 = 2 * S1 0 1 := by rw [epc, up2_s, epl]
        refine lv_iconst (v := nI 2) (pc := 72) hx hb dX1_call_72 (by decide) ?_
        refine lv_aload_n (pc := 73) hx hb dX1_call_73 rfl (lk hl rfl) ?_
        refine hw_get (pc := 74) hx hb hts in_X1 hown hK (hM.p0) rfl 3 (Nat.le_of_ble_eq_true rfl) (hts _ q340) (fun x h => h) rfl dX1_call_74 ?_
        refine lv_imul (pc := 77) hx hb dX1_call_77 ?_
        refine hw_top (congrArg Value.int (show _ = nI (2 * (S1 0 1)) from pk_mul _ _)) ?_
        refine hw_newi (N := 2 * S1 0 1) (pc := 78) hx hb hK (hts _ q182) hS (rfl) (by omega) (by first | exact Nat.le_of_ble_eq_true rfl | (dsimp only [rmd]; omega) | omega) (by first | exact Nat.le_of_ble_eq_true rfl | (dsimp only [rmd]; omega) | omega) dX1_call_78 (fun qn Hn eqn hpn hgn zn on hS => ?_)
        have hp3 := hp3.old on
        have : L < Hn.size := hp3.lt
        have hMo := hM
        have hlt0 := hM.p0.lt
        have hM := hM.grow (Off.new zn on)
        refine lv_astore (pc := 80) hx hb dX1_call_80 hl (Nat.le_of_ble_eq_true rfl) rfl (fun ls hl => ?_)
        refine lv_aload_n (pc := 82) hx hb dX1_call_82 rfl (lk hl rfl) ?_
        refine hw_get (pc := 83) hx hb hts in_X1 hown hK (hM.p0) rfl 2 (Nat.le_of_ble_eq_true rfl) (hts _ q339) (fun x h => h) rfl dX1_call_83 ?_
        refine lv_iconst (v := nI 0) (pc := 86) hx hb dX1_call_86 (by decide) ?_
        refine lv_aload (pc := 87) hx hb dX1_call_87 (lk hl rfl) ?_
        refine lv_iconst (v := nI 0) (pc := 89) hx hb dX1_call_89 (by decide) ?_
        refine lv_aload_n (pc := 90) hx hb dX1_call_90 rfl (lk hl rfl) ?_
        refine hw_get (pc := 91) hx hb hts in_X1 hown hK (hM.p0) rfl 3 (Nat.le_of_ble_eq_true rfl) (hts _ q340) (fun x h => h) rfl dX1_call_91 ?_
        refine hw_copyi (pc := 94) hx hb (by rw [hml]; exact hl.1.symm) hown (hts _ q1326) (hts _ q263) (hts _ q262) (hts _ q78) hK hp3 hpn hgn hS (by omega) (by omega) (by omega) (Nat.le_of_ble_eq_true rfl) (Nat.le_of_ble_eq_true rfl) dX1_call_94 (fun Hc locsc hpc zc oc hS => ?_)
        have o1 : Off (fun r => r = g 0 0) H' Hc := (Off.new (S := fun r => r = g 0 0) zn on).fresh (P := fun r => r = qn) (Off.put zc oc rfl) (fun q hq e => by omega)
        have hp0 := (hM.p0).ne oc (show g 0 0 ≠ qn by omega)
        refine lv_aload_n (pc := 97) hx hb dX1_call_97 rfl (lk hl rfl) ?_
        refine lv_aload (pc := 98) hx hb dX1_call_98 (lk hl rfl) ?_
        refine hw_put (pc := 100) hx hb hts in_X1 tyX1_ok nmX1 hown hK (hp0) (hg00) hS rfl 2 (Nat.le_of_ble_eq_true rfl) (hts _ q339) (fun x h => h) rfl rfl (rfl) (rfl) (Nat.le_of_ble_eq_true rfl) dX1_call_100 (fun Hpl locspl hppl zpl opl hS => ?_)
        have o2 := o1.trans (Off.put zpl opl rfl)
        have hpq : pt Γ Hpl qn (ia Γ (2 * S1 0 1) (fun j => nI (S1 13 j))) := (hpc.ne opl (show qn ≠ g 0 0 by omega)).ia rfl (fun j hj => by
          by_cases hjj : j < S1 0 1
          · rw [if_pos hjj]
          · rw [if_neg hjj, e13, hz j (by omega)]; rfl)
        have hM2 := hMo.grew (N := 2 * S1 0 1) (by omega) hgn o2 hpq hppl
        have hsz := hC.2.1.1
        have hC2 : CS Γ g L S H Hpl qn (up2 S1 0 3 (2 * S1 0 1)) := ⟨hM2, hC.2.1.fresh o2 (fun q hq e => by rw [e]; exact Cg.back (Or.inl rfl) hv1 (n := H.size) (by have := e ▸ hq; exact this) (hMo.cf (t := 0) (i := 0) (by decide) rfl)), Or.inr (by omega), hv1.trans ⟨up2_n (by omega), by funext j; exact up2_n (by omega), by funext j; exact up2_n (by omega)⟩⟩
        exact M103 w9 qn (2 * S1 0 1) Hpl (0 + 1) (0 + 2 * S1 0 1) _ ls hw9 epl.symm (by omega) (by omega) hM2 hC2 hS (by repeat first | exact lv_0 hl | refine lv_c (lk hl rfl) ?_)
    refine lv_istore (pc := 36) hx hb dX1_call_36 hl (Nat.le_of_ble_eq_true rfl) rfl (fun ls hl => ?_)
    refine lv_aload_n (pc := 38) hx hb dX1_call_38 rfl (lk hl rfl) ?_
    refine hw_getN (pc := 39) hx hb hts in_X4 hown hK (hM.p8 (show p9 < 20 from by omega) hs21) rfl 0 (Nat.le_of_ble_eq_true rfl) q1236 (fun x h => h) rfl dX1_call_39 ?_
    refine lv_bipush (v := nI 10) (pc := 42) hx hb dX1_call_42 (by decide) ?_
    refine hn_ge (tgt := 54) (pc := 44) hx hb dX1_call_44 (by decide) (by omega) (by omega) (fun h => ?_) (fun h => ?_)
    · refine lv_aload_n (pc := 54) hx hb dX1_call_54 rfl (lk hl rfl) ?_
      refine hw_getN (pc := 55) hx hb hts in_X2 hown hK (hM.p7 (show k9 < S1 0 0 from by omega)) rfl 0 (Nat.le_of_ble_eq_true rfl) q171 (fun x h => h) rfl dX1_call_55 ?_
      rw [← nI_pred k9]
      exact M58 (k9 + 1) _ ls (by rw [if_neg (by omega)]) hS (by repeat first | exact lv_0 hl | refine lv_c (lk hl rfl) ?_)
    · skip
      refine lv_aload_n (pc := 47) hx hb dX1_call_47 rfl (lk hl rfl) ?_
      refine hc_V (pc := 48) hx hb hml hown hts hK hS (c_control l Γ _ g _ Sb hMb hwb) (cwV 0 hts (lw_V q1322 q1324 qs20 q70 q1325) rfl rfl rfl (by decide +kernel) ⟨(Nat.le_of_ble_eq_true rfl), (Nat.le_of_ble_eq_true rfl)⟩) (hK.recv hM.p0 rfl) rfl hl.1 rfl (Nat.le_of_ble_eq_true rfl) dX1_call_48 ⟨by first | exact Nat.le_of_ble_eq_true rfl | (dsimp only [rmd]; omega) | omega, by first | exact Nat.le_of_ble_eq_true rfl | (dsimp only [rmd]; omega) | omega⟩ (fun vco Hco locsco hqco hS => ?_)
      obtain ⟨rfl, rfl⟩ := hqco
      rw [efb]
      refine lv_goto (tgt := 58) (pc := 51) hx hb dX1_call_51 (by decide) ?_
      exact M58 (pfu S 255) _ ls (by rw [if_pos (by omega)]) hS (by repeat first | exact lv_0 hl | refine lv_c (lk hl rfl) ?_)
  have M10 : pthere S p9 st ≠ 0 → ∀ (locs : List Loc) (ls : Array Slot), va_S (Gz Γ) s.heap H locs → lv_has ls 8 [(0, .ref (g 0 0)), (1, .ref (g 7 k9)), (2, .ref (g 8 p9)), (3, .int (nI i9)), (4, .ref (wy Γ st))] → W p l e (rmd 6 2 (7 + 2 * (pcall S k9 p9 i9 st (cfo S) 0 3 - S 0 3))) s m args below meth c H locs 0 0 Q (F0 m 10 ls []) := by
    intro hth locs ls hS hl
    refine lv_aload_n (pc := 10) hx hb dX1_call_10 rfl (lk hl rfl) ?_
    refine hw_get (pc := 11) hx hb hts in_X1 hown hK (hM.p0) rfl 4 (Nat.le_of_ble_eq_true rfl) (hts _ q341) (fun x h => h) rfl dX1_call_11 ?_
    refine hn_z_ne (tgt := 35) (pc := 14) hx hb dX1_call_14 (by decide) (by omega) (fun h => ?_) (fun h => ?_)
    · refine lv_iconst (v := nI 0) (pc := 35) hx hb dX1_call_35 (by decide) ?_
      have hc : cfo S = false := decide_eq_false h
      exact M36 false S _ _ ls hth (by rw [hc, pfails_n]) rfl hM (CS.rf hM) hS (by repeat first | exact lv_0 hl | refine lv_c (lk hl rfl) ?_)
    · skip
      have hc : cfo S = true := decide_eq_true h
      have hp8 := hM.p8 hp9 hs2
      have hp12 := hM.p12 hp9 hs2
      have hg12 : Gz Γ (g 12 p9) := hM.gz (by decide) (show p9 < 20 ∧ S 2 p9 ≠ 0 from ⟨hp9, hs2⟩)
      refine lv_aload_n (pc := 17) hx hb dX1_call_17 rfl (lk hl rfl) ?_
      refine lv_aload_n (pc := 18) hx hb dX1_call_18 rfl (lk hl rfl) ?_
      refine hw_getN (pc := 19) hx hb hts in_X2 hown hK (hM.p7 (show k9 < S 0 0 from by omega)) rfl 0 (Nat.le_of_ble_eq_true rfl) q171 (fun x h => h) rfl dX1_call_19 ?_
      refine lv_iload_n (pc := 22) hx hb dX1_call_22 rfl (lk hl rfl) ?_
      refine lv_aload (pc := 23) hx hb dX1_call_23 (lk hl rfl) ?_
      refine hc_V (pc := 25) hx hb hml hown hts hK hS (s_takes l Γ _ (g 8 p9) (g 12 p9) k9 i9 st _ _ _ _ _ _ (fun j => S 7 (fjx p9 j)) hp8 hp12 hg12 (by omega) hi (fun j => hw.b7 _)) (cwV 3 hts (lw_V q1308 q1309 q1310 q89 q1311) rfl rfl rfl (by decide +kernel) ⟨(Nat.le_of_ble_eq_true rfl), (Nat.le_of_ble_eq_true rfl)⟩) (hK.recv hp8 rfl) rfl hl.1 rfl (Nat.le_of_ble_eq_true rfl) dX1_call_25 ⟨by first | exact Nat.le_of_ble_eq_true rfl | (dsimp only [rmd]; omega) | omega, by first | exact Nat.le_of_ble_eq_true rfl | (dsimp only [rmd]; omega) | omega⟩ (fun vtf Htf locstf hqtf hS => ?_)
      obtain ⟨rfl, hp12, hot⟩ := hqtf
      have hM1 := hM.take hp9 hs2 hi (c9 := k9) (f := decide (0 < S 7 (fidx k9 p9 i9 st))) rfl hot hp12
      rw [fjx_fat st hi]
      have hC1 := (CS.rf hM).put hM1 hot (fun q e => by rw [e]; exact hM.cf (t := 12) (i := p9) (by decide) ⟨hp9, hs2⟩) pcallF_v
      have ef : pfails S k9 p9 i9 st (cfo S) = decide (0 < S 7 (fidx k9 p9 i9 st)) := by
        unfold pfails
        rw [hc, decide_eq_true hth]
        rfl
      refine hz_eq (tgt := 35) (pc := 28) hx hb dX1_call_28 (by decide) (fun h2 => ?_) (fun h2 => ?_)
      · refine lv_iconst (v := nI 0) (pc := 35) hx hb dX1_call_35 (by decide) ?_
        exact M36 false _ _ _ ls hth (by rw [ef, h2]) rfl (h2 ▸ hM1) (h2 ▸ hC1) hS (by repeat first | exact lv_0 hl | refine lv_c (lk hl rfl) ?_)
      · skip
        refine lv_iconst (v := nI 1) (pc := 31) hx hb dX1_call_31 (by decide) ?_
        refine lv_goto (tgt := 36) (pc := 32) hx hb dX1_call_32 (by decide) ?_
        exact M36 true _ _ _ ls hth (by rw [ef, h2]) rfl (h2 ▸ hM1) (h2 ▸ hC1) hS (by repeat first | exact lv_0 hl | refine lv_c (lk hl rfl) ?_)
  have hp8 := hM.p8 hp9 hs2
  cases st
  · skip
    refine lv_aload (pc := 0) hx hb dX1_call_0 (lk hl rfl) ?_
    refine lv_aload_n (pc := 2) hx hb dX1_call_2 rfl (lk hl rfl) ?_
    refine hc_U (pc := 3) hx hb hml hown hts hK hS ((s_has l Γ H (g 8 p9) false _ _ _ _ _ _ _ hp8 hb3 hb4).2 rfl) (va_cwA 1 hts (lw_U q1299 q1301 q1305 q1306 q117 q1307) rfl rfl rfl (hK.2.1.1 _ q1300 rfl) (by decide +kernel) ⟨(Nat.le_of_ble_eq_true rfl), (Nat.le_of_ble_eq_true rfl)⟩) (hK.rw0 hS) rfl hl.1 rfl (Nat.le_of_ble_eq_true rfl) dX1_call_3 ⟨by first | exact Nat.le_of_ble_eq_true rfl | (dsimp only [rmd]; omega) | omega, by first | exact Nat.le_of_ble_eq_true rfl | (dsimp only [rmd]; omega) | omega⟩ (fun v9 H9 locs9 hq9 hS => ?_)
    obtain ⟨rfl, rfl⟩ := hq9
    refine hn_z_ne (tgt := 10) (pc := 6) hx hb dX1_call_6 (by decide) (by omega) (fun h => ?_) (fun h => ?_)
    · exact M10 h _ ls hS (by repeat first | exact lv_0 hl | refine lv_c (lk hl rfl) ?_)
    · skip
      have hth : pthere S p9 false = 0 := h
      have e : pcall S k9 p9 i9 false (cfo S) = S := by unfold pcall; rw [if_pos hth]
      have e2 : pfails S k9 p9 i9 false (cfo S) = false := by unfold pfails; rw [hth]; rfl
      exact xr hQ (hr_v (pc := 9) rfl hx hb hr hlocks hS (by first | exact Nat.le_of_ble_eq_true rfl | (dsimp only [rmd]; omega) | omega) (by first | exact Nat.le_of_ble_eq_true rfl | (dsimp only [rmd]; omega) | omega) (⟨rfl, e2, L, by rw [e]; exact CS.rf hM⟩) dX1_call_9)
  · skip
    refine lv_aload (pc := 0) hx hb dX1_call_0 (lk hl rfl) ?_
    refine lv_aload_n (pc := 2) hx hb dX1_call_2 rfl (lk hl rfl) ?_
    refine hc_U (pc := 3) hx hb hml hown hts hK hS ((s_has l Γ H (g 8 p9) true _ _ _ _ _ _ _ hp8 hb3 hb4).1 rfl) (va_cwA 1 hts (lw_U q1299 q1301 q1302 q1303 q116 q1304) rfl rfl rfl (hK.2.1.1 _ q1300 rfl) (by decide +kernel) ⟨(Nat.le_of_ble_eq_true rfl), (Nat.le_of_ble_eq_true rfl)⟩) (hK.rw1 hS) rfl hl.1 rfl (Nat.le_of_ble_eq_true rfl) dX1_call_3 ⟨by first | exact Nat.le_of_ble_eq_true rfl | (dsimp only [rmd]; omega) | omega, by first | exact Nat.le_of_ble_eq_true rfl | (dsimp only [rmd]; omega) | omega⟩ (fun v9 H9 locs9 hq9 hS => ?_)
    obtain ⟨rfl, rfl⟩ := hq9
    refine hn_z_ne (tgt := 10) (pc := 6) hx hb dX1_call_6 (by decide) (by omega) (fun h => ?_) (fun h => ?_)
    · exact M10 h _ ls hS (by repeat first | exact lv_0 hl | refine lv_c (lk hl rfl) ?_)
    · skip
      have hth : pthere S p9 true = 0 := h
      have e : pcall S k9 p9 i9 true (cfo S) = S := by unfold pcall; rw [if_pos hth]
      have e2 : pfails S k9 p9 i9 true (cfo S) = false := by unfold pfails; rw [hth]; rfl
      exact xr hQ (hr_v (pc := 9) rfl hx hb hr hlocks hS (by first | exact Nat.le_of_ble_eq_true rfl | (dsimp only [rmd]; omega) | omega) (by first | exact Nat.le_of_ble_eq_true rfl | (dsimp only [rmd]; omega) | omega) (⟨rfl, e2, L, by rw [e]; exact CS.rf hM⟩) dX1_call_9)
