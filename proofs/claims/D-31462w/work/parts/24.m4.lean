/-! the reference: what comes, calls, starts and stops -/
set_option maxRecDepth 100000
def pcmI (c : Nat) : Nat → Nat → Sx → Sx
  | 0, _, S => S
  | n + 1, t, S => pcmI c n (t + 1) (if S 12 t ≠ 0 ∧ (S 9 (16 + t)).testBit c = true then up2 (up2 (up2 S 10 (16 + t) (c + 1)) 12 t 0) 11 (16 + t) (S 11 (16 + t) + 1) else S)
def pcmD (c : Nat) : Nat → Nat → Sx → Sx
  | 0, _, S => S
  | n + 1, t, S => pcmD c n (t + 1) (if S 10 t = 0 ∧ (S 9 t).testBit c = true then up2 (pplace S t) 11 t (S 11 t + 1) else S)
def pcomes (S : Sx) (c : Nat) : Sx := pcmD c (S 8 0) 0 (pcmI c (S 8 1) 0 S)
theorem pcmI_8 (c : Nat) : ∀ n t S j, pcmI c n t S 8 j = S 8 j := by
  intro n
  induction n with
  | zero => intro t S j; rfl
  | succ n ih =>
    intro t S j
    rw [pcmI, ih]
    split
    · rw [up2_f (by decide), up2_f (by decide), up2_f (by decide)]
    · rfl
theorem wf_pcmI (c : Nat) (hc : c < 8) : ∀ n t S, WF S → WF (pcmI c n t S) := by
  intro n
  induction n with
  | zero => intro t S h; exact h
  | succ n ih =>
    intro t S h
    rw [pcmI]
    refine ih _ _ ?_
    split
    · exact ((h.up (by omega)).up (by omega)).up (by omega)
    · exact h
theorem wf_pcmD (c : Nat) : ∀ n t S, WF S → WF (pcmD c n t S) := by
  intro n
  induction n with
  | zero => intro t S h; exact h
  | succ n ih =>
    intro t S h
    rw [pcmD]
    refine ih _ _ ?_
    split
    · exact (wf_pplace h t).up (by omega)
    · exact h
theorem wf_pcomes {S : Sx} (h : WF S) {c : Nat} (hc : c < 8) : WF (pcomes S c) := wf_pcmD c _ _ _ (wf_pcmI c hc _ _ _ h)
set_option maxHeartbeats 8000000 in
theorem m_comes (l : Launch) (Γ : Cx) (H : Heap) (μ : Nat → Nat) (S : Sx) (th : Int32) (k : Nat) (hM : MW Γ H μ S th) (hw : WF S) (hk : k < 8) : Mt l Γ yX3_comes (ws_ yX3_comes cX3_comes 3 none) 5 0 0 [.ref (μ 0), .int (nI k)] H (MP Γ μ (pcomes S k) th H none) := by
  refine mt_of (by decide +kernel) (Nat.le_of_ble_eq_true rfl) ?_
  intro p e s m args below meth c ls Q hx hb hr hlocks hml hts hown hnm hK hS hl hQ
  have ho : Off (Mf μ) H H := Off.rf
  have hb8 := hw.b8
  have L2 : ∀ (t : Nat) (S1 : Sx) (H' : Heap) (locs : List Loc) (ls : Array Slot), t ≤ S1 8 0 → MW Γ H' μ S1 th → WF S1 → Off (Mf μ) H H' → va_S (Gz Γ) s.heap H' locs → lv_has ls 3 [(0, .ref (μ 0)), (1, .int (nI k)), (2, .int (nI t))] → pcmD k (S1 8 0 - t) t S1 = pcomes S k → W p l e (rmd 5 0 0) s m args below meth c H' locs 0 0 Q (F0 m 78 ls []) := by
    intro t S1 H' locs ls ht
    generalize hn : S1 8 0 - t = n
    induction n generalizing t S1 H' locs ls with
    | zero =>
      intro hM hw ho hS hl he
      have hb8 := hw.b8
      refine lv_iload_n (pc := 78) hx hb dX3_comes_78 rfl (lk hl rfl) ?_
      refine lv_aload_n (pc := 79) hx hb dX3_comes_79 rfl (lk hl rfl) ?_
      refine hw_get (pc := 80) hx hb hts in_X3 hown hK (hM.p0) rfl 9 (Nat.le_of_ble_eq_true rfl) (hts _ q1786) (fun x h => h) rfl dX3_comes_80 ?_
      refine lv_iconst (v := nI 0) (pc := 83) hx hb dX3_comes_83 (by decide) ?_
      refine hm_iald (k := 8) (pc := 84) hx hb hK hM (by decide) (show 0 < 3 from (by omega)) dX3_comes_84 ?_
      refine hn_ge (tgt := 144) (pc := 85) hx hb dX3_comes_85 (by decide) (by omega) (by omega) (fun _ => ?_) (fun hn => absurd hn (by omega))
      rw [pcmD] at he
      exact hr_v (pc := 144) hQ hx hb hr hlocks hS (by first | exact Nat.le_of_ble_eq_true rfl | (dsimp only [rmd]; omega)) (by first | exact Nat.le_of_ble_eq_true rfl | (dsimp only [rmd]; omega)) (⟨rfl, hM.eq he, ho⟩) dX3_comes_144
    | succ n ih =>
      intro hM hw ho hS hl he
      have hb8 := hw.b8
      have hbt := hw.b10 t
      have hb9 := hw.b9 t
      rw [pcmD] at he
      refine lv_iload_n (pc := 78) hx hb dX3_comes_78 rfl (lk hl rfl) ?_
      refine lv_aload_n (pc := 79) hx hb dX3_comes_79 rfl (lk hl rfl) ?_
      refine hw_get (pc := 80) hx hb hts in_X3 hown hK (hM.p0) rfl 9 (Nat.le_of_ble_eq_true rfl) (hts _ q1786) (fun x h => h) rfl dX3_comes_80 ?_
      refine lv_iconst (v := nI 0) (pc := 83) hx hb dX3_comes_83 (by decide) ?_
      refine hm_iald (k := 8) (pc := 84) hx hb hK hM (by decide) (show 0 < 3 from (by omega)) dX3_comes_84 ?_
      refine hn_ge (tgt := 144) (pc := 85) hx hb dX3_comes_85 (by decide) (by omega) (by omega) (fun hn => absurd hn (by omega)) (fun _ => ?_)
      refine lv_aload_n (pc := 88) hx hb dX3_comes_88 rfl (lk hl rfl) ?_
      refine hw_get (pc := 89) hx hb hts in_X3 hown hK (hM.p0) rfl 11 (Nat.le_of_ble_eq_true rfl) (hts _ q1788) (fun x h => h) rfl dX3_comes_89 ?_
      refine lv_iconst (v := nI 0) (pc := 92) hx hb dX3_comes_92 (by decide) ?_
      refine lv_iload_n (pc := 93) hx hb dX3_comes_93 rfl (lk hl rfl) ?_
      refine hc_S (pc := 94) hx hb hml hown hts hK hS (m_at l Γ H' 0 t (t) (by omega)) (va_cwS 2 hts (lw_S q1935 q1936 q83 q1937) rfl rfl rfl (by decide +kernel) ⟨(Nat.le_of_ble_eq_true rfl), (Nat.le_of_ble_eq_true rfl)⟩) rfl hl.1 rfl (Nat.le_of_ble_eq_true rfl) dX3_comes_94 ⟨by first | exact Nat.le_of_ble_eq_true rfl | (dsimp only [rmd]; omega), by first | exact Nat.le_of_ble_eq_true rfl | (dsimp only [rmd]; omega)⟩ (fun v1 H1 locs1 hq1 hS => ?_)
      obtain ⟨rfl, rfl⟩ := hq1
      refine hm_mald (pc := 97) hx hb hK hM (show t < 48 from (by omega)) dX3_comes_97 ?_
      refine lv_iconst (v := nI 0 - 1) (pc := 98) hx hb dX3_comes_98 (by decide) ?_
      refine hm_ne (tgt := 138) (pc := 99) hx hb dX3_comes_99 (by decide) (by omega) (by omega) (fun h1 => ?_) (fun h1 => ?_)
      · refine hw_iinc (v := nI (t + 1)) (pc := 138) hx hb dX3_comes_138 hl (lk hl rfl) (n_inc _ 1) (Nat.le_of_ble_eq_true rfl) (fun ls hl => ?_)
        refine lv_goto (tgt := 78) (pc := 141) hx hb dX3_comes_141 (by decide) ?_
        rw [if_neg (fun q => h1 q.1)] at he
        exact ih (t + 1) S1 _ _ _ (by omega) (by omega) hM hw ho hS (lv_c (lk hl rfl) (lv_c (lk hl rfl) (lv_c (lk hl rfl) (lv_0 hl)))) he
      · skip
        refine lv_aload_n (pc := 102) hx hb dX3_comes_102 rfl (lk hl rfl) ?_
        refine hw_get (pc := 103) hx hb hts in_X3 hown hK (hM.p0) rfl 10 (Nat.le_of_ble_eq_true rfl) (hts _ q1787) (fun x h => h) rfl dX3_comes_103 ?_
        refine lv_iconst (v := nI 0) (pc := 106) hx hb dX3_comes_106 (by decide) ?_
        refine lv_iload_n (pc := 107) hx hb dX3_comes_107 rfl (lk hl rfl) ?_
        refine hc_S (pc := 108) hx hb hml hown hts hK hS (m_at l Γ H' 0 t (t) (by omega)) (va_cwS 2 hts (lw_S q1935 q1936 q83 q1937) rfl rfl rfl (by decide +kernel) ⟨(Nat.le_of_ble_eq_true rfl), (Nat.le_of_ble_eq_true rfl)⟩) rfl hl.1 rfl (Nat.le_of_ble_eq_true rfl) dX3_comes_108 ⟨by first | exact Nat.le_of_ble_eq_true rfl | (dsimp only [rmd]; omega), by first | exact Nat.le_of_ble_eq_true rfl | (dsimp only [rmd]; omega)⟩ (fun v2 H2 locs2 hq2 hS => ?_)
        obtain ⟨rfl, rfl⟩ := hq2
        refine hm_iald (k := 9) (pc := 111) hx hb hK hM (by decide) (show t < 48 from (by omega)) dX3_comes_111 ?_
        refine lv_iload_n (pc := 112) hx hb dX3_comes_112 rfl (lk hl rfl) ?_
        refine hc_S (pc := 113) hx hb hml hown hts hK hS (m_has l Γ H' (S1 9 t) k (by omega) (by omega)) (va_cwS 2 hts (lw_S q1873 q1874 q83 q1875) rfl rfl rfl (by decide +kernel) ⟨(Nat.le_of_ble_eq_true rfl), (Nat.le_of_ble_eq_true rfl)⟩) rfl hl.1 rfl (Nat.le_of_ble_eq_true rfl) dX3_comes_113 ⟨by first | exact Nat.le_of_ble_eq_true rfl | (dsimp only [rmd]; omega), by first | exact Nat.le_of_ble_eq_true rfl | (dsimp only [rmd]; omega)⟩ (fun v3 H3 locs3 hq3 hS => ?_)
        obtain ⟨rfl, rfl⟩ := hq3
        refine hz_eq (tgt := 138) (pc := 116) hx hb dX3_comes_116 (by decide) (fun h2 => ?_) (fun h2 => ?_)
        · refine hw_iinc (v := nI (t + 1)) (pc := 138) hx hb dX3_comes_138 hl (lk hl rfl) (n_inc _ 1) (Nat.le_of_ble_eq_true rfl) (fun ls hl => ?_)
          refine lv_goto (tgt := 78) (pc := 141) hx hb dX3_comes_141 (by decide) ?_
          rw [if_neg (by rw [h2]; simp)] at he
          exact ih (t + 1) S1 _ _ _ (by omega) (by omega) hM hw ho hS (lv_c (lk hl rfl) (lv_c (lk hl rfl) (lv_c (lk hl rfl) (lv_0 hl)))) he
        · skip
          rw [if_pos ⟨h1, h2⟩] at he
          refine lv_aload_n (pc := 119) hx hb dX3_comes_119 rfl (lk hl rfl) ?_
          refine lv_iload_n (pc := 120) hx hb dX3_comes_120 rfl (lk hl rfl) ?_
          refine hc_V (pc := 121) hx hb hml hown hts hK hS (m_placesThread l Γ H' μ S1 th t hM hw (by omega)) (cwV 1 hts (lw_V q1938 q1940 qs60 q83 q1941) rfl rfl rfl (by decide +kernel) ⟨(Nat.le_of_ble_eq_true rfl), (Nat.le_of_ble_eq_true rfl)⟩) (hK.recv hM.p0 rfl) rfl hl.1 rfl (Nat.le_of_ble_eq_true rfl) dX3_comes_121 ⟨by first | exact Nat.le_of_ble_eq_true rfl | (dsimp only [rmd]; omega), by first | exact Nat.le_of_ble_eq_true rfl | (dsimp only [rmd]; omega)⟩ (fun v4 H4 locs4 hq4 hS => ?_)
          obtain ⟨rfl, hM, ho4⟩ := hq4
          have ho := ho.trans ho4
          have hw := wf_pplace hw t
          refine lv_aload_n (pc := 124) hx hb dX3_comes_124 rfl (lk hl rfl) ?_
          refine hw_get (pc := 125) hx hb hts in_X3 hown hK (hM.p0) rfl 12 (Nat.le_of_ble_eq_true rfl) (hts _ q1789) (fun x h => h) rfl dX3_comes_125 ?_
          refine lv_iconst (v := nI 0) (pc := 128) hx hb dX3_comes_128 (by decide) ?_
          refine lv_iload_n (pc := 129) hx hb dX3_comes_129 rfl (lk hl rfl) ?_
          refine hc_S (pc := 130) hx hb hml hown hts hK hS (m_at l Γ H4 0 t (t) (by omega)) (va_cwS 2 hts (lw_S q1935 q1936 q83 q1937) rfl rfl rfl (by decide +kernel) ⟨(Nat.le_of_ble_eq_true rfl), (Nat.le_of_ble_eq_true rfl)⟩) rfl hl.1 rfl (Nat.le_of_ble_eq_true rfl) dX3_comes_130 ⟨by first | exact Nat.le_of_ble_eq_true rfl | (dsimp only [rmd]; omega), by first | exact Nat.le_of_ble_eq_true rfl | (dsimp only [rmd]; omega)⟩ (fun v5 H5 locs5 hq5 hS => ?_)
          obtain ⟨rfl, rfl⟩ := hq5
          refine lv_dup2_11 (pc := 133) hx hb dX3_comes_133 rfl rfl ?_
          refine hm_iald (k := 11) (pc := 134) hx hb hK hM (by decide) (show t < 48 from (by omega)) dX3_comes_134 ?_
          rw [pplace_f (by decide)]
          refine lv_iconst (v := nI 1) (pc := 135) hx hb dX3_comes_135 (by decide) ?_
          refine lv_iadd (pc := 136) hx hb dX3_comes_136 ?_
          refine hw_top (congrArg Value.int (show _ = nI (S1 11 t + 1) from nI_add _ _)) ?_
          refine hm_iast (k := 11) (pc := 137) hx hb hK hM (by decide) (show t < 48 from (by omega)) hS dX3_comes_137 (fun H6 locs6 hM ho6 hS => ?_)
          have ho := ho.trans ho6
          refine hw_iinc (v := nI (t + 1)) (pc := 138) hx hb dX3_comes_138 hl (lk hl rfl) (n_inc _ 1) (Nat.le_of_ble_eq_true rfl) (fun ls hl => ?_)
          refine lv_goto (tgt := 78) (pc := 141) hx hb dX3_comes_141 (by decide) ?_
          have e8 : up2 (pplace S1 t) 11 t (S1 11 t + 1) 8 0 = S1 8 0 := by rw [up2_f (by decide), pplace_f (by decide)]
          exact ih (t + 1) _ _ _ _ (by omega) (by omega) hM (hw.up (by omega)) ho hS (lv_c (lk hl rfl) (lv_c (lk hl rfl) (lv_c (lk hl rfl) (lv_0 hl)))) he
  have L1 : ∀ (t : Nat) (S1 : Sx) (H' : Heap) (locs : List Loc) (ls : Array Slot), t ≤ S1 8 1 → MW Γ H' μ S1 th → WF S1 → Off (Mf μ) H H' → va_S (Gz Γ) s.heap H' locs → lv_has ls 3 [(0, .ref (μ 0)), (1, .int (nI k)), (2, .int (nI t))] → pcmD k (S1 8 0) 0 (pcmI k (S1 8 1 - t) t S1) = pcomes S k → W p l e (rmd 5 0 0) s m args below meth c H' locs 0 0 Q (F0 m 2 ls []) := by
    intro t S1 H' locs ls ht
    generalize hn : S1 8 1 - t = n
    induction n generalizing t S1 H' locs ls with
    | zero =>
      intro hM hw ho hS hl he
      have hb8 := hw.b8
      refine lv_iload_n (pc := 2) hx hb dX3_comes_2 rfl (lk hl rfl) ?_
      refine lv_aload_n (pc := 3) hx hb dX3_comes_3 rfl (lk hl rfl) ?_
      refine hw_get (pc := 4) hx hb hts in_X3 hown hK (hM.p0) rfl 9 (Nat.le_of_ble_eq_true rfl) (hts _ q1786) (fun x h => h) rfl dX3_comes_4 ?_
      refine lv_iconst (v := nI 1) (pc := 7) hx hb dX3_comes_7 (by decide) ?_
      refine hm_iald (k := 8) (pc := 8) hx hb hK hM (by decide) (show 1 < 3 from (by omega)) dX3_comes_8 ?_
      refine hn_ge (tgt := 76) (pc := 9) hx hb dX3_comes_9 (by decide) (by omega) (by omega) (fun _ => ?_) (fun hn => absurd hn (by omega))
      rw [pcmI] at he
      refine lv_iconst (v := nI 0) (pc := 76) hx hb dX3_comes_76 (by decide) ?_
      refine lv_istore_n (pc := 77) hx hb dX3_comes_77 rfl hl (Nat.le_of_ble_eq_true rfl) rfl (fun ls hl => ?_)
      exact L2 0 S1 _ _ _ (Nat.zero_le _) hM hw ho hS (lv_c (lk hl rfl) (lv_c (lk hl rfl) (lv_c (lk hl rfl) (lv_0 hl)))) he
    | succ n ih =>
      intro hM hw ho hS hl he
      have hb8 := hw.b8
      have hb12 := hw.b12 t
      have hb9 := hw.b9 (16 + t)
      rw [pcmI] at he
      refine lv_iload_n (pc := 2) hx hb dX3_comes_2 rfl (lk hl rfl) ?_
      refine lv_aload_n (pc := 3) hx hb dX3_comes_3 rfl (lk hl rfl) ?_
      refine hw_get (pc := 4) hx hb hts in_X3 hown hK (hM.p0) rfl 9 (Nat.le_of_ble_eq_true rfl) (hts _ q1786) (fun x h => h) rfl dX3_comes_4 ?_
      refine lv_iconst (v := nI 1) (pc := 7) hx hb dX3_comes_7 (by decide) ?_
      refine hm_iald (k := 8) (pc := 8) hx hb hK hM (by decide) (show 1 < 3 from (by omega)) dX3_comes_8 ?_
      refine hn_ge (tgt := 76) (pc := 9) hx hb dX3_comes_9 (by decide) (by omega) (by omega) (fun hn => absurd hn (by omega)) (fun _ => ?_)
      refine lv_aload_n (pc := 12) hx hb dX3_comes_12 rfl (lk hl rfl) ?_
      refine hw_get (pc := 13) hx hb hts in_X3 hown hK (hM.p0) rfl 13 (Nat.le_of_ble_eq_true rfl) (hts _ q1790) (fun x h => h) rfl dX3_comes_13 ?_
      refine lv_iload_n (pc := 16) hx hb dX3_comes_16 rfl (lk hl rfl) ?_
      refine hm_zald (k := 12) (pc := 17) hx hb hK hM (by decide) (show t < 16 from (by omega)) dX3_comes_17 ?_
      refine hn_z_eq (tgt := 70) (pc := 18) hx hb dX3_comes_18 (by decide) (by omega) (fun h1 => ?_) (fun h1 => ?_)
      · refine hw_iinc (v := nI (t + 1)) (pc := 70) hx hb dX3_comes_70 hl (lk hl rfl) (n_inc _ 1) (Nat.le_of_ble_eq_true rfl) (fun ls hl => ?_)
        refine lv_goto (tgt := 2) (pc := 73) hx hb dX3_comes_73 (by decide) ?_
        rw [if_neg (fun q => q.1 h1)] at he
        exact ih (t + 1) S1 _ _ _ (by omega) (by omega) hM hw ho hS (lv_c (lk hl rfl) (lv_c (lk hl rfl) (lv_c (lk hl rfl) (lv_0 hl)))) he
      · skip
        refine lv_aload_n (pc := 21) hx hb dX3_comes_21 rfl (lk hl rfl) ?_
        refine hw_get (pc := 22) hx hb hts in_X3 hown hK (hM.p0) rfl 10 (Nat.le_of_ble_eq_true rfl) (hts _ q1787) (fun x h => h) rfl dX3_comes_22 ?_
        refine lv_iconst (v := nI 1) (pc := 25) hx hb dX3_comes_25 (by decide) ?_
        refine lv_iload_n (pc := 26) hx hb dX3_comes_26 rfl (lk hl rfl) ?_
        refine hc_S (pc := 27) hx hb hml hown hts hK hS (m_at l Γ H' 1 t (16 + t) (by omega)) (va_cwS 2 hts (lw_S q1935 q1936 q83 q1937) rfl rfl rfl (by decide +kernel) ⟨(Nat.le_of_ble_eq_true rfl), (Nat.le_of_ble_eq_true rfl)⟩) rfl hl.1 rfl (Nat.le_of_ble_eq_true rfl) dX3_comes_27 ⟨by first | exact Nat.le_of_ble_eq_true rfl | (dsimp only [rmd]; omega), by first | exact Nat.le_of_ble_eq_true rfl | (dsimp only [rmd]; omega)⟩ (fun v1 H1 locs1 hq1 hS => ?_)
        obtain ⟨rfl, rfl⟩ := hq1
        refine hm_iald (k := 9) (pc := 30) hx hb hK hM (by decide) (show 16 + t < 48 from (by omega)) dX3_comes_30 ?_
        refine lv_iload_n (pc := 31) hx hb dX3_comes_31 rfl (lk hl rfl) ?_
        refine hc_S (pc := 32) hx hb hml hown hts hK hS (m_has l Γ H' (S1 9 (16 + t)) k (by omega) (by omega)) (va_cwS 2 hts (lw_S q1873 q1874 q83 q1875) rfl rfl rfl (by decide +kernel) ⟨(Nat.le_of_ble_eq_true rfl), (Nat.le_of_ble_eq_true rfl)⟩) rfl hl.1 rfl (Nat.le_of_ble_eq_true rfl) dX3_comes_32 ⟨by first | exact Nat.le_of_ble_eq_true rfl | (dsimp only [rmd]; omega), by first | exact Nat.le_of_ble_eq_true rfl | (dsimp only [rmd]; omega)⟩ (fun v2 H2 locs2 hq2 hS => ?_)
        obtain ⟨rfl, rfl⟩ := hq2
        refine hz_eq (tgt := 70) (pc := 35) hx hb dX3_comes_35 (by decide) (fun h2 => ?_) (fun h2 => ?_)
        · refine hw_iinc (v := nI (t + 1)) (pc := 70) hx hb dX3_comes_70 hl (lk hl rfl) (n_inc _ 1) (Nat.le_of_ble_eq_true rfl) (fun ls hl => ?_)
          refine lv_goto (tgt := 2) (pc := 73) hx hb dX3_comes_73 (by decide) ?_
          rw [if_neg (by rw [h2]; simp)] at he
          exact ih (t + 1) S1 _ _ _ (by omega) (by omega) hM hw ho hS (lv_c (lk hl rfl) (lv_c (lk hl rfl) (lv_c (lk hl rfl) (lv_0 hl)))) he
        · skip
          rw [if_pos ⟨h1, h2⟩] at he
          refine lv_aload_n (pc := 38) hx hb dX3_comes_38 rfl (lk hl rfl) ?_
          refine hw_get (pc := 39) hx hb hts in_X3 hown hK (hM.p0) rfl 11 (Nat.le_of_ble_eq_true rfl) (hts _ q1788) (fun x h => h) rfl dX3_comes_39 ?_
          refine lv_iconst (v := nI 1) (pc := 42) hx hb dX3_comes_42 (by decide) ?_
          refine lv_iload_n (pc := 43) hx hb dX3_comes_43 rfl (lk hl rfl) ?_
          refine hc_S (pc := 44) hx hb hml hown hts hK hS (m_at l Γ H' 1 t (16 + t) (by omega)) (va_cwS 2 hts (lw_S q1935 q1936 q83 q1937) rfl rfl rfl (by decide +kernel) ⟨(Nat.le_of_ble_eq_true rfl), (Nat.le_of_ble_eq_true rfl)⟩) rfl hl.1 rfl (Nat.le_of_ble_eq_true rfl) dX3_comes_44 ⟨by first | exact Nat.le_of_ble_eq_true rfl | (dsimp only [rmd]; omega), by first | exact Nat.le_of_ble_eq_true rfl | (dsimp only [rmd]; omega)⟩ (fun v3 H3 locs3 hq3 hS => ?_)
          obtain ⟨rfl, rfl⟩ := hq3
          refine lv_iload_n (pc := 47) hx hb dX3_comes_47 rfl (lk hl rfl) ?_
          refine hw_top (congrArg Value.int (nI_pred k).symm) ?_
          refine hm_mast (pc := 48) hx hb hK hM (show 16 + t < 48 from (by omega)) hS dX3_comes_48 (fun H4 locs4 hM ho4 hS => ?_)
          have ho := ho.trans ho4
          refine lv_aload_n (pc := 49) hx hb dX3_comes_49 rfl (lk hl rfl) ?_
          refine hw_get (pc := 50) hx hb hts in_X3 hown hK (hM.p0) rfl 13 (Nat.le_of_ble_eq_true rfl) (hts _ q1790) (fun x h => h) rfl dX3_comes_50 ?_
          refine lv_iload_n (pc := 53) hx hb dX3_comes_53 rfl (lk hl rfl) ?_
          refine lv_iconst (v := nI 0) (pc := 54) hx hb dX3_comes_54 (by decide) ?_
          refine hm_zast (k := 12) (pc := 55) hx hb hK hM (by decide) (show t < 16 from (by omega)) (show 0 ≤ 1 from by omega) hS dX3_comes_55 (fun H5 locs5 hM ho5 hS => ?_)
          have ho := ho.trans ho5
          refine lv_aload_n (pc := 56) hx hb dX3_comes_56 rfl (lk hl rfl) ?_
          refine hw_get (pc := 57) hx hb hts in_X3 hown hK (hM.p0) rfl 12 (Nat.le_of_ble_eq_true rfl) (hts _ q1789) (fun x h => h) rfl dX3_comes_57 ?_
          refine lv_iconst (v := nI 1) (pc := 60) hx hb dX3_comes_60 (by decide) ?_
          refine lv_iload_n (pc := 61) hx hb dX3_comes_61 rfl (lk hl rfl) ?_
          refine hc_S (pc := 62) hx hb hml hown hts hK hS (m_at l Γ H5 1 t (16 + t) (by omega)) (va_cwS 2 hts (lw_S q1935 q1936 q83 q1937) rfl rfl rfl (by decide +kernel) ⟨(Nat.le_of_ble_eq_true rfl), (Nat.le_of_ble_eq_true rfl)⟩) rfl hl.1 rfl (Nat.le_of_ble_eq_true rfl) dX3_comes_62 ⟨by first | exact Nat.le_of_ble_eq_true rfl | (dsimp only [rmd]; omega), by first | exact Nat.le_of_ble_eq_true rfl | (dsimp only [rmd]; omega)⟩ (fun v6 H6 locs6 hq6 hS => ?_)
          obtain ⟨rfl, rfl⟩ := hq6
          refine lv_dup2_11 (pc := 65) hx hb dX3_comes_65 rfl rfl ?_
          refine hm_iald (k := 11) (pc := 66) hx hb hK hM (by decide) (show 16 + t < 48 from (by omega)) dX3_comes_66 ?_
          rw [up2_f (by decide), up2_f (by decide)]
          refine lv_iconst (v := nI 1) (pc := 67) hx hb dX3_comes_67 (by decide) ?_
          refine lv_iadd (pc := 68) hx hb dX3_comes_68 ?_
          refine hw_top (congrArg Value.int (show _ = nI (S1 11 (16 + t) + 1) from nI_add _ _)) ?_
          refine hm_iast (k := 11) (pc := 69) hx hb hK hM (by decide) (show 16 + t < 48 from (by omega)) hS dX3_comes_69 (fun H7 locs7 hM ho7 hS => ?_)
          have ho := ho.trans ho7
          refine hw_iinc (v := nI (t + 1)) (pc := 70) hx hb dX3_comes_70 hl (lk hl rfl) (n_inc _ 1) (Nat.le_of_ble_eq_true rfl) (fun ls hl => ?_)
          refine lv_goto (tgt := 2) (pc := 73) hx hb dX3_comes_73 (by decide) ?_
          have e8 : ∀ j, up2 (up2 (up2 S1 10 (16 + t) (k + 1)) 12 t 0) 11 (16 + t) (S1 11 (16 + t) + 1) 8 j = S1 8 j := fun j => by rw [up2_f (by decide), up2_f (by decide), up2_f (by decide)]
          exact ih (t + 1) _ _ _ _ (by rw [e8]; omega) (by rw [e8]; omega) hM (((hw.up (by omega)).up (by omega)).up (by omega)) ho hS (lv_c (lk hl rfl) (lv_c (lk hl rfl) (lv_c (lk hl rfl) (lv_0 hl)))) (by rw [e8]; exact he)
  refine lv_iconst (v := nI 0) (pc := 0) hx hb dX3_comes_0 (by decide) ?_
  refine lv_istore_n (pc := 1) hx hb dX3_comes_1 rfl hl (Nat.le_of_ble_eq_true rfl) rfl (fun ls hl => ?_)
  refine L1 0 S _ _ _ (Nat.zero_le _) hM hw ho hS (lv_c (lk hl rfl) (lv_c (lk hl rfl) (lv_c (lk hl rfl) (lv_0 hl)))) ?_
  rw [pcomes, Nat.sub_zero]
/-- a call: is there one, does it fail, its code, what it leaves (0 3: the length of the system's list) -/
def pthere (S : Sx) (p : Nat) (st : Bool) : Nat := if st then S 3 p else S 4 p
def pfails (S : Sx) (c p i : Nat) (st cf : Bool) : Bool := decide (pthere S p st ≠ 0) && (cf && decide (0 < S 7 (fidx c p i st)))
def pcode (S : Sx) (c p i : Nat) (st f : Bool) : Nat := 4 * i + 16 * (if p < 10 then pfu S 255 else c + 1) + 256 * p + 8192 * c + (if st then 2 else 0) + (if f then 1 else 0)
def plist (S : Sx) : Nat := if S 0 1 = S 0 3 then 2 * S 0 1 else S 0 3
def pcallF (S : Sx) (c p i : Nat) (st f : Bool) : Sx := if f then up2 (up2 S 7 (fidx c p i st) (S 7 (fidx c p i st) - 1)) 0 2 (S 0 2 + 1) else S
def pcall (S : Sx) (c p i : Nat) (st cf : Bool) : Sx := if pthere S p st = 0 then S else up2 (up2 (up2 (pcallF S c p i st (pfails S c p i st cf)) 13 (S 0 1) (pcode S c p i st (pfails S c p i st cf))) 0 1 (S 0 1 + 1)) 0 3 (plist S)
theorem MW.gh {Γ : Cx} {H : Heap} {μ : Nat → Nat} {S : Sx} {th : Int32} {i v : Nat} (h : MW Γ H μ S th) (hi : 3 ≤ i) : MW Γ H μ (up2 S 0 i v) th := by
  refine ⟨fun k hk => ⟨?_, (h.1 k hk).2⟩, h.2⟩
  by_cases e : k = 0
  · subst e
    have q : mcell Γ μ (up2 S 0 i v) th 0 = mcell Γ μ S th 0 := by
      simp only [mcell, up2_i (show 0 ≠ i by omega), up2_i (show 1 ≠ i by omega), up2_i (show 2 ≠ i by omega)]
    rw [q]
    exact (h.1 0 hk).1
  · rw [mc_off0 (S := S) (th := th) (fun f hf => up2_row hf) k hk e]
    exact (h.1 k hk).1
theorem fidx_lt {c p i : Nat} (st : Bool) (hc : c < 8) (hp : p < 20) (hi : i < 4) : fidx c p i st < 1280 := by
  unfold fidx
  split <;> omega
set_option maxHeartbeats 8000000 in
theorem m_calls (l : Launch) (Γ : Cx) (H : Heap) (μ : Nat → Nat) (S : Sx) (th : Int32) (k p9 i : Nat) (st cf : Bool) (hM : MW Γ H μ S th) (hw : WF S) (hk : k < 8) (hp : p9 < 20) (hi : i < 4) : Mt l Γ yX3_calls (ws_ yX3_calls cX3_calls 11 (some .boolean)) 4 0 0 [.ref (μ 0), .int (nI k), .int (nI p9), .int (nI i), .int (b01 st), .int (b01 cf)] H (MP Γ μ (pcall S k p9 i st cf) th H (some (.int (b01 (!pfails S k p9 i st cf))))) := by
  refine mt_of (by decide +kernel) (Nat.le_of_ble_eq_true rfl) ?_
  intro p e s m args below meth c ls Q hx hb hr hlocks hml hts hown hnm hK hS hl hQ
  have ho : Off (Mf μ) H H := Off.rf
  have hf5 := pfu_le hw 255
  have hfx := fidx_lt st hk hp hi
  have hb7 := hw.b7 (fidx k p9 i st)
  have hb01 := hw.b01
  have hb3 := hw.b3 p9
  have hb4 := hw.b4 p9
  -- from 137: the entry
  have L4 : ∀ (S1 : Sx) (f : Bool) (j7 j9 : Value) (H' : Heap) (locs : List Loc) (ls : Array Slot), S1 = pcallF S k p9 i st f → pfails S k p9 i st cf = f → pthere S p9 st ≠ 0 → MW Γ H' μ S1 th → Off (Mf μ) H H' → va_S (Gz Γ) s.heap H' locs → lv_has ls 11 [(0, .ref (μ 0)), (8, .int (nI (pcode S k p9 i st f))), (10, .int (b01 f))] → W p l e (rmd 4 0 0) s m args below meth c H' locs 0 0 Q (F0 m 137 ls []) := by
    intro S1 f j7 j9 H' locs ls e1 ef et hM ho hS hl
    have e01 : S1 0 1 = S 0 1 := by
      rw [e1, pcallF]
      split
      · rw [up2_i (by decide), up2_f (by decide)]
      · rfl
    refine lv_aload_n (pc := 137) hx hb dX3_calls_137 rfl (lk hl rfl) ?_
    refine hw_get (pc := 138) hx hb hts in_X3 hown hK (hM.p0) rfl 16 (Nat.le_of_ble_eq_true rfl) (hts _ q1793) (fun x h => h) rfl dX3_calls_138 ?_
    refine lv_aload_n (pc := 141) hx hb dX3_calls_141 rfl (lk hl rfl) ?_
    refine hw_get (pc := 142) hx hb hts in_X3 hown hK (hM.p0) rfl 14 (Nat.le_of_ble_eq_true rfl) (hts _ q1791) (fun x h => h) rfl dX3_calls_142 ?_
    rw [e01]
    refine lv_iload (pc := 145) hx hb dX3_calls_145 (lk hl rfl) ?_
    refine hm_iast (k := 13) (pc := 147) hx hb hK hM (by decide) (show S 0 1 < 100000 from (by omega)) hS dX3_calls_147 (fun H1 locs1 hM ho1 hS => ?_)
    have ho := ho.trans ho1
    refine lv_aload_n (pc := 148) hx hb dX3_calls_148 rfl (lk hl rfl) ?_
    refine lv_dup (pc := 149) hx hb dX3_calls_149 rfl ?_
    refine hw_get (pc := 150) hx hb hts in_X3 hown hK (hM.p0) rfl 14 (Nat.le_of_ble_eq_true rfl) (hts _ q1791) (fun x h => h) rfl dX3_calls_150 ?_
    rw [up2_f (by decide), e01]
    refine lv_iconst (v := nI 1) (pc := 153) hx hb dX3_calls_153 (by decide) ?_
    refine lv_iadd (pc := 154) hx hb dX3_calls_154 ?_
    refine hw_top (congrArg Value.int (show _ = nI (S 0 1 + 1) from nI_add _ _)) ?_
    refine hw_put (pc := 155) hx hb hts in_X3 tyX3_ok nmX3 hown hK (hM.p0) (hM.g (by decide)) hS rfl 14 (Nat.le_of_ble_eq_true rfl) (hts _ q1791) (fun x h => h) rfl rfl (rfl) (rfl) (Nat.le_of_ble_eq_true rfl) dX3_calls_155 (fun H2 locs2 hp2 z2 o2 hS => ?_)
    have hM := hM.sc (i := 1) (v := S 0 1 + 1) hp2 o2
    have ho := ho.trans (Off.put (S := Mf μ) z2 o2 ⟨0, by decide, rfl⟩)
    refine lv_iload (pc := 158) hx hb dX3_calls_158 (lk hl rfl) ?_
    have hE := (hM.gh (i := 3) (v := plist S) (Nat.le_refl _)).eq (show _ = pcall S k p9 i st cf by rw [pcall, if_neg et, ef, e1])
    refine hz_ne (tgt := 167) (pc := 160) hx hb dX3_calls_160 (by decide) (fun hf => ?_) (fun hf => ?_)
    · refine lv_iconst (v := nI 0) (pc := 167) hx hb dX3_calls_167 (by decide) ?_
      exact hr_z (pc := 168) hQ hx hb hr hlocks hS (by first | exact Nat.le_of_ble_eq_true rfl | (dsimp only [rmd]; omega)) (by first | exact Nat.le_of_ble_eq_true rfl | (dsimp only [rmd]; omega)) (rfl) (⟨by rw [ef, hf]; rfl, hE, ho⟩) dX3_calls_168
    · skip
      refine lv_iconst (v := nI 1) (pc := 163) hx hb dX3_calls_163 (by decide) ?_
      refine lv_goto (tgt := 168) (pc := 164) hx hb dX3_calls_164 (by decide) ?_
      exact hr_z (pc := 168) hQ hx hb hr hlocks hS (by first | exact Nat.le_of_ble_eq_true rfl | (dsimp only [rmd]; omega)) (by first | exact Nat.le_of_ble_eq_true rfl | (dsimp only [rmd]; omega)) (rfl) (⟨by rw [ef, hf]; rfl, hE, ho⟩) dX3_calls_168
  -- from 68: the code stands
  have L3 : ∀ (v : Nat) (locs : List Loc) (ls : Array Slot), pthere S p9 st ≠ 0 → v + (if st then 2 else 0) = pcode S k p9 i st false → va_S (Gz Γ) s.heap H locs → lv_has ls 11 [(0, .ref (μ 0)), (1, .int (nI k)), (2, .int (nI p9)), (3, .int (nI i)), (4, .int (b01 st)), (5, .int (b01 cf)), (8, .int (nI v))] → W p l e (rmd 4 0 0) s m args below meth c H locs 0 0 Q (F0 m 68 ls []) := by
    intro v locs ls et ev hS hl
    have L3b : ∀ (locs : List Loc) (ls : Array Slot), va_S (Gz Γ) s.heap H locs → lv_has ls 11 [(0, .ref (μ 0)), (1, .int (nI k)), (2, .int (nI p9)), (3, .int (nI i)), (4, .int (b01 st)), (5, .int (b01 cf)), (8, .int (nI (pcode S k p9 i st false)))] → W p l e (rmd 4 0 0) s m args below meth c H locs 0 0 Q (F0 m 76 ls []) := by
      intro locs ls hS hl
      refine lv_iload_n (pc := 76) hx hb dX3_calls_76 rfl (lk hl rfl) ?_
      refine lv_iload_n (pc := 77) hx hb dX3_calls_77 rfl (lk hl rfl) ?_
      refine lv_iload_n (pc := 78) hx hb dX3_calls_78 rfl (lk hl rfl) ?_
      refine lv_iload (pc := 79) hx hb dX3_calls_79 (lk hl rfl) ?_
      refine hc_S (pc := 81) hx hb hml hown hts hK hS (m_failureAt l Γ H k p9 i st) (va_cwS 4 hts (lw_S q1880 q1881 q83 q1882) rfl rfl rfl (by decide +kernel) ⟨(Nat.le_of_ble_eq_true rfl), (Nat.le_of_ble_eq_true rfl)⟩) rfl hl.1 rfl (Nat.le_of_ble_eq_true rfl) dX3_calls_81 ⟨by first | exact Nat.le_of_ble_eq_true rfl | (dsimp only [rmd]; omega), by first | exact Nat.le_of_ble_eq_true rfl | (dsimp only [rmd]; omega)⟩ (fun v1 H1 locs1 hq1 hS => ?_)
      obtain ⟨rfl, rfl⟩ := hq1
      refine lv_istore (pc := 84) hx hb dX3_calls_84 hl (Nat.le_of_ble_eq_true rfl) rfl (fun ls hl => ?_)
      have nofail : pfails S k p9 i st cf = false → ∀ (locs : List Loc) (ls : Array Slot), va_S (Gz Γ) s.heap H locs → lv_has ls 11 [(0, .ref (μ 0)), (1, .int (nI k)), (2, .int (nI p9)), (3, .int (nI i)), (4, .int (b01 st)), (5, .int (b01 cf)), (8, .int (nI (pcode S k p9 i st false))), (9, .int (nI (fidx k p9 i st)))] → W p l e (rmd 4 0 0) s m args below meth c H locs 0 0 Q (F0 m 105 ls []) := by
        intro ef locs ls hS hl
        refine lv_iconst (v := nI 0) (pc := 105) hx hb dX3_calls_105 (by decide) ?_
        refine hw_top (v' := .int (b01 false)) rfl ?_
        refine lv_istore (pc := 106) hx hb dX3_calls_106 hl (Nat.le_of_ble_eq_true rfl) rfl (fun ls hl => ?_)
        refine lv_iload (pc := 108) hx hb dX3_calls_108 (lk hl rfl) ?_
        refine hz_eq (tgt := 137) (pc := 110) hx hb dX3_calls_110 (by decide) (fun _ => ?_) (fun hn => absurd hn (by simp))
        exact L4 S false .null .null H _ ls rfl ef et hM ho hS (lv_c (lk hl rfl) (lv_c (lk hl rfl) (lv_c (lk hl rfl) (lv_0 hl))))
      refine lv_iload (pc := 86) hx hb dX3_calls_86 (lk hl rfl) ?_
      refine hz_eq (tgt := 105) (pc := 88) hx hb dX3_calls_88 (by decide) (fun h1 => ?_) (fun h1 => ?_)
      · exact nofail (by rw [pfails, h1]; simp) _ ls hS (lv_c (lk hl rfl) (lv_c (lk hl rfl) (lv_c (lk hl rfl) (lv_c (lk hl rfl) (lv_c (lk hl rfl) (lv_c (lk hl rfl) (lv_c (lk hl rfl) (lv_c (lk hl rfl) (lv_0 hl)))))))))
      · skip
        refine lv_aload_n (pc := 91) hx hb dX3_calls_91 rfl (lk hl rfl) ?_
        refine hw_get (pc := 92) hx hb hts in_X3 hown hK (hM.p0) rfl 8 (Nat.le_of_ble_eq_true rfl) (hts _ q1785) (fun x h => h) rfl dX3_calls_92 ?_
        refine lv_iload (pc := 95) hx hb dX3_calls_95 (lk hl rfl) ?_
        refine hm_iald (k := 7) (pc := 97) hx hb hK hM (by decide) (show fidx k p9 i st < 1280 from (by omega)) dX3_calls_97 ?_
        have := hw.b7 (fidx k p9 i st)
        refine hn_z_le (tgt := 105) (pc := 98) hx hb dX3_calls_98 (by decide) (by omega) (fun h2 => ?_) (fun h2 => ?_)
        · exact nofail (by rw [pfails, h2]; simp) _ ls hS (lv_c (lk hl rfl) (lv_c (lk hl rfl) (lv_c (lk hl rfl) (lv_c (lk hl rfl) (lv_c (lk hl rfl) (lv_c (lk hl rfl) (lv_c (lk hl rfl) (lv_c (lk hl rfl) (lv_0 hl)))))))))
        · skip
          have ef : pfails S k p9 i st cf = true := by rw [pfails, h1, decide_eq_true et, decide_eq_true h2]; rfl
          refine lv_iconst (v := nI 1) (pc := 101) hx hb dX3_calls_101 (by decide) ?_
          refine lv_goto (tgt := 106) (pc := 102) hx hb dX3_calls_102 (by decide) ?_
          refine hw_top (v' := .int (b01 true)) rfl ?_
          refine lv_istore (pc := 106) hx hb dX3_calls_106 hl (Nat.le_of_ble_eq_true rfl) rfl (fun ls hl => ?_)
          refine lv_iload (pc := 108) hx hb dX3_calls_108 (lk hl rfl) ?_
          refine hz_eq (tgt := 137) (pc := 110) hx hb dX3_calls_110 (by decide) (fun hn => absurd hn (by simp)) (fun _ => ?_)
          refine lv_aload_n (pc := 113) hx hb dX3_calls_113 rfl (lk hl rfl) ?_
          refine hw_get (pc := 114) hx hb hts in_X3 hown hK (hM.p0) rfl 8 (Nat.le_of_ble_eq_true rfl) (hts _ q1785) (fun x h => h) rfl dX3_calls_114 ?_
          refine lv_iload (pc := 117) hx hb dX3_calls_117 (lk hl rfl) ?_
          refine lv_dup2_11 (pc := 119) hx hb dX3_calls_119 rfl rfl ?_
          refine hm_iald (k := 7) (pc := 120) hx hb hK hM (by decide) (show fidx k p9 i st < 1280 from (by omega)) dX3_calls_120 ?_
          have := hw.b7 (fidx k p9 i st)
          refine lv_iconst (v := nI 1) (pc := 121) hx hb dX3_calls_121 (by decide) ?_
          refine lv_isub (pc := 122) hx hb dX3_calls_122 ?_
          refine hw_top (congrArg Value.int (show _ = nI (S 7 (fidx k p9 i st) - 1) from n_sub (by omega))) ?_
          refine hm_iast (k := 7) (pc := 123) hx hb hK hM (by decide) (show fidx k p9 i st < 1280 from (by omega)) hS dX3_calls_123 (fun H2 locs2 hM ho2 hS => ?_)
          have ho := ho.trans ho2
          refine lv_aload_n (pc := 124) hx hb dX3_calls_124 rfl (lk hl rfl) ?_
          refine lv_dup (pc := 125) hx hb dX3_calls_125 rfl ?_
          refine hw_get (pc := 126) hx hb hts in_X3 hown hK (hM.p0) rfl 15 (Nat.le_of_ble_eq_true rfl) (hts _ q1792) (fun x h => h) rfl dX3_calls_126 ?_
          rw [up2_f (by decide)]
          refine lv_iconst (v := nI 1) (pc := 129) hx hb dX3_calls_129 (by decide) ?_
          refine lv_iadd (pc := 130) hx hb dX3_calls_130 ?_
          refine hw_top (congrArg Value.int (show _ = nI (S 0 2 + 1) from nI_add _ _)) ?_
          refine hw_put (pc := 131) hx hb hts in_X3 tyX3_ok nmX3 hown hK (hM.p0) (hM.g (by decide)) hS rfl 15 (Nat.le_of_ble_eq_true rfl) (hts _ q1792) (fun x h => h) rfl rfl (rfl) (rfl) (Nat.le_of_ble_eq_true rfl) dX3_calls_131 (fun H3 locs3 hp3 z3 o3 hS => ?_)
          have hM := hM.sc (i := 2) (v := S 0 2 + 1) hp3 o3
          have ho := ho.trans (Off.put (S := Mf μ) z3 o3 ⟨0, by decide, rfl⟩)
          refine hw_iinc (v := nI (pcode S k p9 i st false + 1)) (pc := 134) hx hb dX3_calls_134 hl (lk hl rfl) (n_inc _ 1) (Nat.le_of_ble_eq_true rfl) (fun ls hl => ?_)
          have ec : pcode S k p9 i st false + 1 = pcode S k p9 i st true := by simp [pcode]
          refine L4 _ true .null .null _ _ ls ?_ ef et hM ho hS (by rw [← ec]; exact lv_c (lk hl rfl) (lv_c (lk hl rfl) (lv_c (lk hl rfl) (lv_0 hl))))
          rw [pcallF, if_pos rfl]
    refine lv_iload (pc := 68) hx hb dX3_calls_68 (lk hl rfl) ?_
    refine hz_eq (tgt := 76) (pc := 70) hx hb dX3_calls_70 (by decide) (fun h => ?_) (fun h => ?_)
    · rw [h] at ev
      simp only [Bool.false_eq_true, if_false, Nat.add_zero] at ev
      refine L3b _ ls hS ?_
      rw [h, ← ev]
      rw [h] at hl
      exact (lv_c (lk hl rfl) (lv_c (lk hl rfl) (lv_c (lk hl rfl) (lv_c (lk hl rfl) (lv_c (lk hl rfl) (lv_c (lk hl rfl) (lv_c (lk hl rfl) (lv_0 hl))))))))
    · skip
      rw [h] at ev
      simp only [if_true] at ev
      refine hw_iinc (v := nI (v + 2)) (pc := 73) hx hb dX3_calls_73 hl (lk hl rfl) (n_inc _ 2) (Nat.le_of_ble_eq_true rfl) (fun ls hl => ?_)
      refine L3b _ ls hS ?_
      rw [h, ← ev]
      rw [h] at hl
      exact (lv_c (lk hl rfl) (lv_c (lk hl rfl) (lv_c (lk hl rfl) (lv_c (lk hl rfl) (lv_c (lk hl rfl) (lv_c (lk hl rfl) (lv_c (lk hl rfl) (lv_0 hl))))))))
  -- from 28: there is a call
  have L2 : ∀ (locs : List Loc) (ls : Array Slot), pthere S p9 st ≠ 0 → va_S (Gz Γ) s.heap H locs → lv_has ls 11 [(0, .ref (μ 0)), (1, .int (nI k)), (2, .int (nI p9)), (3, .int (nI i)), (4, .int (b01 st)), (5, .int (b01 cf))] → W p l e (rmd 4 0 0) s m args below meth c H locs 0 0 Q (F0 m 28 ls []) := by
    intro locs ls et hS hl
    refine lv_iload_n (pc := 28) hx hb dX3_calls_28 rfl (lk hl rfl) ?_
    refine lv_istore (pc := 29) hx hb dX3_calls_29 hl (Nat.le_of_ble_eq_true rfl) rfl (fun ls hl => ?_)
    refine lv_iload_n (pc := 31) hx hb dX3_calls_31 rfl (lk hl rfl) ?_
    refine lv_bipush (v := nI 10) (pc := 32) hx hb dX3_calls_32 (by decide) ?_
    refine hn_ge (tgt := 43) (pc := 34) hx hb dX3_calls_34 (by decide) (by omega) (by omega) (fun h => ?_) (fun h => ?_)
    · refine lv_iconst (v := nI 4) (pc := 43) hx hb dX3_calls_43 (by decide) ?_
      refine lv_iload_n (pc := 44) hx hb dX3_calls_44 rfl (lk hl rfl) ?_
      refine lv_imul (pc := 45) hx hb dX3_calls_45 ?_
      refine hw_top (congrArg Value.int (show _ = nI (4 * i) from pk_mul _ _)) ?_
      refine lv_bipush (v := nI 16) (pc := 46) hx hb dX3_calls_46 (by decide) ?_
      refine lv_iload (pc := 48) hx hb dX3_calls_48 (lk hl rfl) ?_
      refine lv_iconst (v := nI 1) (pc := 50) hx hb dX3_calls_50 (by decide) ?_
      refine lv_iadd (pc := 51) hx hb dX3_calls_51 ?_
      refine hw_top (congrArg Value.int (show _ = nI (k + 1) from nI_add _ _)) ?_
      refine lv_imul (pc := 52) hx hb dX3_calls_52 ?_
      refine hw_top (congrArg Value.int (show _ = nI (16 * (k + 1)) from pk_mul _ _)) ?_
      refine lv_iadd (pc := 53) hx hb dX3_calls_53 ?_
      refine hw_top (congrArg Value.int (show _ = nI (4 * i + 16 * (k + 1)) from nI_add _ _)) ?_
      refine lv_sipush (v := nI 256) (pc := 54) hx hb dX3_calls_54 (by decide) ?_
      refine lv_iload_n (pc := 57) hx hb dX3_calls_57 rfl (lk hl rfl) ?_
      refine lv_imul (pc := 58) hx hb dX3_calls_58 ?_
      refine hw_top (congrArg Value.int (show _ = nI (256 * p9) from pk_mul _ _)) ?_
      refine lv_iadd (pc := 59) hx hb dX3_calls_59 ?_
      refine hw_top (congrArg Value.int (show _ = nI (4 * i + 16 * (k + 1) + 256 * p9) from nI_add _ _)) ?_
      refine lv_sipush (v := nI 8192) (pc := 60) hx hb dX3_calls_60 (by decide) ?_
      refine lv_iload_n (pc := 63) hx hb dX3_calls_63 rfl (lk hl rfl) ?_
      refine lv_imul (pc := 64) hx hb dX3_calls_64 ?_
      refine hw_top (congrArg Value.int (show _ = nI (8192 * k) from pk_mul _ _)) ?_
      refine lv_iadd (pc := 65) hx hb dX3_calls_65 ?_
      refine hw_top (congrArg Value.int (show _ = nI (4 * i + 16 * (k + 1) + 256 * p9 + 8192 * k) from nI_add _ _)) ?_
      refine lv_istore (pc := 66) hx hb dX3_calls_66 hl (Nat.le_of_ble_eq_true rfl) rfl (fun ls hl => ?_)
      exact L3 (4 * i + 16 * (k + 1) + 256 * p9 + 8192 * k) _ ls et (by rw [pcode, if_neg (show ¬ p9 < 10 by omega)]; simp) hS (by repeat first | exact lv_0 hl | refine lv_c (lk hl rfl) ?_)
    · skip
      refine lv_aload_n (pc := 37) hx hb dX3_calls_37 rfl (lk hl rfl) ?_
      refine hc_V (pc := 38) hx hb hml hown hts hK hS (m_control l Γ H μ S th hM hw) (cwV 0 hts (lw_V q1865 q1867 qs49 q83 q1868) rfl rfl rfl (by decide +kernel) ⟨(Nat.le_of_ble_eq_true rfl), (Nat.le_of_ble_eq_true rfl)⟩) (hK.recv hM.p0 rfl) rfl hl.1 rfl (Nat.le_of_ble_eq_true rfl) dX3_calls_38 ⟨by first | exact Nat.le_of_ble_eq_true rfl | (dsimp only [rmd]; omega), by first | exact Nat.le_of_ble_eq_true rfl | (dsimp only [rmd]; omega)⟩ (fun v1 H1 locs1 hq1 hS => ?_)
      obtain ⟨rfl, rfl⟩ := hq1
      refine lv_istore (pc := 41) hx hb dX3_calls_41 hl (Nat.le_of_ble_eq_true rfl) rfl (fun ls hl => ?_)
      refine lv_iconst (v := nI 4) (pc := 43) hx hb dX3_calls_43 (by decide) ?_
      refine lv_iload_n (pc := 44) hx hb dX3_calls_44 rfl (lk hl rfl) ?_
      refine lv_imul (pc := 45) hx hb dX3_calls_45 ?_
      refine hw_top (congrArg Value.int (show _ = nI (4 * i) from pk_mul _ _)) ?_
      refine lv_bipush (v := nI 16) (pc := 46) hx hb dX3_calls_46 (by decide) ?_
      refine lv_iload (pc := 48) hx hb dX3_calls_48 (lk hl rfl) ?_
      refine lv_iconst (v := nI 1) (pc := 50) hx hb dX3_calls_50 (by decide) ?_
      refine lv_iadd (pc := 51) hx hb dX3_calls_51 ?_
      refine hw_top (congrArg Value.int (show _ = nI (pfu S 255) from n_mp _)) ?_
      refine lv_imul (pc := 52) hx hb dX3_calls_52 ?_
      refine hw_top (congrArg Value.int (show _ = nI (16 * (pfu S 255)) from pk_mul _ _)) ?_
      refine lv_iadd (pc := 53) hx hb dX3_calls_53 ?_
      refine hw_top (congrArg Value.int (show _ = nI (4 * i + 16 * (pfu S 255)) from nI_add _ _)) ?_
      refine lv_sipush (v := nI 256) (pc := 54) hx hb dX3_calls_54 (by decide) ?_
      refine lv_iload_n (pc := 57) hx hb dX3_calls_57 rfl (lk hl rfl) ?_
      refine lv_imul (pc := 58) hx hb dX3_calls_58 ?_
      refine hw_top (congrArg Value.int (show _ = nI (256 * p9) from pk_mul _ _)) ?_
      refine lv_iadd (pc := 59) hx hb dX3_calls_59 ?_
      refine hw_top (congrArg Value.int (show _ = nI (4 * i + 16 * (pfu S 255) + 256 * p9) from nI_add _ _)) ?_
      refine lv_sipush (v := nI 8192) (pc := 60) hx hb dX3_calls_60 (by decide) ?_
      refine lv_iload_n (pc := 63) hx hb dX3_calls_63 rfl (lk hl rfl) ?_
      refine lv_imul (pc := 64) hx hb dX3_calls_64 ?_
      refine hw_top (congrArg Value.int (show _ = nI (8192 * k) from pk_mul _ _)) ?_
      refine lv_iadd (pc := 65) hx hb dX3_calls_65 ?_
      refine hw_top (congrArg Value.int (show _ = nI (4 * i + 16 * (pfu S 255) + 256 * p9 + 8192 * k) from nI_add _ _)) ?_
      refine lv_istore (pc := 66) hx hb dX3_calls_66 hl (Nat.le_of_ble_eq_true rfl) rfl (fun ls hl => ?_)
      exact L3 (4 * i + 16 * pfu S 255 + 256 * p9 + 8192 * k) _ ls et (by rw [pcode, if_pos h]; simp) hS (by repeat first | exact lv_0 hl | refine lv_c (lk hl rfl) ?_)
  refine lv_aload_n (pc := 0) hx hb dX3_calls_0 rfl (lk hl rfl) ?_
  refine hw_get (pc := 1) hx hb hts in_X3 hown hK (hM.p0) rfl 5 (Nat.le_of_ble_eq_true rfl) (hts _ q1782) (fun x h => h) rfl dX3_calls_1 ?_
  refine lv_iload_n (pc := 4) hx hb dX3_calls_4 rfl (lk hl rfl) ?_
  refine hm_zald (k := 4) (pc := 5) hx hb hK hM (by decide) (show p9 < 20 from (by omega)) dX3_calls_5 ?_
  have := hw.b4 p9
  refine lv_istore (pc := 6) hx hb dX3_calls_6 hl (Nat.le_of_ble_eq_true rfl) rfl (fun ls hl => ?_)
  refine lv_iload (pc := 8) hx hb dX3_calls_8 (lk hl rfl) ?_
  have fin : ∀ (locs : List Loc) (ls : Array Slot), va_S (Gz Γ) s.heap H locs → lv_has ls 11 [(0, .ref (μ 0)), (1, .int (nI k)), (2, .int (nI p9)), (3, .int (nI i)), (4, .int (b01 st)), (5, .int (b01 cf)), (6, .int (nI (pthere S p9 st)))] → W p l e (rmd 4 0 0) s m args below meth c H locs 0 0 Q (F0 m 21 ls []) := by
    intro locs ls hS hl
    have hpt : pthere S p9 st ≤ 1 := by unfold pthere; split <;> omega
    refine lv_iload (pc := 21) hx hb dX3_calls_21 (lk hl rfl) ?_
    refine hn_z_ne (tgt := 28) (pc := 23) hx hb dX3_calls_23 (by decide) (by omega) (fun h => ?_) (fun h => ?_)
    · exact L2 _ ls h hS (lv_c (lk hl rfl) (lv_c (lk hl rfl) (lv_c (lk hl rfl) (lv_c (lk hl rfl) (lv_c (lk hl rfl) (lv_c (lk hl rfl) (lv_0 hl)))))))
    · skip
      refine lv_iconst (v := nI 1) (pc := 26) hx hb dX3_calls_26 (by decide) ?_
      exact hr_z (pc := 27) hQ hx hb hr hlocks hS (by first | exact Nat.le_of_ble_eq_true rfl | (dsimp only [rmd]; omega)) (by first | exact Nat.le_of_ble_eq_true rfl | (dsimp only [rmd]; omega)) (rfl) (⟨by rw [pfails, h]; rfl, hM.eq (by rw [pcall, if_pos h]), ho⟩) dX3_calls_27
  refine hz_eq (tgt := 21) (pc := 10) hx hb dX3_calls_10 (by decide) (fun h => ?_) (fun h => ?_)
  · exact fin _ ls hS (by rw [h, show pthere S p9 false = S 4 p9 from rfl]; rw [h] at hl; exact (lv_c (lk hl rfl) (lv_c (lk hl rfl) (lv_c (lk hl rfl) (lv_c (lk hl rfl) (lv_c (lk hl rfl) (lv_c (lk hl rfl) (lv_c (lk hl rfl) (lv_0 hl)))))))))
  · skip
    refine lv_aload_n (pc := 13) hx hb dX3_calls_13 rfl (lk hl rfl) ?_
    refine hw_get (pc := 14) hx hb hts in_X3 hown hK (hM.p0) rfl 4 (Nat.le_of_ble_eq_true rfl) (hts _ q1781) (fun x h => h) rfl dX3_calls_14 ?_
    refine lv_iload_n (pc := 17) hx hb dX3_calls_17 rfl (lk hl rfl) ?_
    refine hm_zald (k := 3) (pc := 18) hx hb hK hM (by decide) (show p9 < 20 from (by omega)) dX3_calls_18 ?_
    have := hw.b3 p9
    refine lv_istore (pc := 19) hx hb dX3_calls_19 hl (Nat.le_of_ble_eq_true rfl) rfl (fun ls hl => ?_)
    exact fin _ ls hS (by rw [h, show pthere S p9 true = S 3 p9 from rfl]; rw [h] at hl; exact (lv_c (lk hl rfl) (lv_c (lk hl rfl) (lv_c (lk hl rfl) (lv_c (lk hl rfl) (lv_c (lk hl rfl) (lv_c (lk hl rfl) (lv_c (lk hl rfl) (lv_0 hl)))))))))
