/-! the reference: placing, calling, all that writes; told by functions of the pure state -/
set_option maxRecDepth 100000
theorem MW.eq {Γ : Cx} {H : Heap} {μ : Nat → Nat} {S S' : Sx} {th : Int32} (h : MW Γ H μ S th) (e : S = S') : MW Γ H μ S' th := e ▸ h
/-- a thread's place -/
def pplA (S : Sx) (a : Nat) : Nat → Nat → Nat → Nat
  | 0, _, b => b
  | n + 1, c, b => pplA S a n (c + 1) (if a.testBit c = true ∧ 10 < S 1 c then (if b = 0 then c + 1 else if plo S (c + 1) (S 8 0) < plo S b (S 8 0) then c + 1 else b) else b)
def ppl (S : Sx) (a : Nat) : Nat := pplA S a (S 0 0) 0 0
def pplace (S : Sx) (t : Nat) : Sx := up2 (up2 S 10 t 0) 10 t (ppl (up2 S 10 t 0) (S 9 t))
theorem WF.up {S : Sx} (hw : WF S) {f i v : Nat} (h : (f = 1 ∧ v ≤ 20) ∨ (f = 2 ∧ v ≤ 1) ∨ (f = 3 ∧ v ≤ 1) ∨ (f = 4 ∧ v ≤ 1) ∨ (f = 5 ∧ v ≤ 1) ∨ (f = 6 ∧ v < 16) ∨ (f = 7 ∧ v ≤ 9) ∨ (f = 9 ∧ v < 256) ∨ (f = 10 ∧ v ≤ 8) ∨ f = 11 ∨ (f = 12 ∧ v ≤ 1) ∨ 13 ≤ f) : WF (up2 S f i v) := by
  obtain ⟨w0, w1, w2, w3, w4, w5, w6, w7, w8, w9, w10, w12, w13, w14⟩ := hw
  have g : ∀ f' i', up2 S f i v f' i' = if f' = f ∧ i' = i then v else S f' i' := fun _ _ => rfl
  refine ⟨?_, fun k => ?_, fun k => ?_, fun k => ?_, fun k => ?_, fun k => ?_, fun k => ?_, fun k => ?_, ?_, fun k => ?_, fun k => ?_, fun k => ?_, ?_, ?_⟩
  · rw [g, if_neg (by omega)]; exact w0
  · have := w1 k; rw [g]; split <;> omega
  · have := w2 k; rw [g]; split <;> omega
  · have := w3 k; rw [g]; split <;> omega
  · have := w4 k; rw [g]; split <;> omega
  · have := w5 k; rw [g]; split <;> omega
  · have := w6 k; rw [g]; split <;> omega
  · have := w7 k; rw [g]; split <;> omega
  · rw [g, g, g, if_neg (by omega), if_neg (by omega), if_neg (by omega)]; exact w8
  · have := w9 k; rw [g]; split <;> omega
  · have := w10 k; rw [g]; split <;> omega
  · have := w12 k; rw [g]; split <;> omega
  · rw [g, if_neg (by omega)]; exact w13
  · rw [g, g, if_neg (by omega), if_neg (by omega)]; exact w14
theorem pfuA_le (S : Sx) (a : Nat) : ∀ n c, pfuA S a n c ≤ n + c := by
  intro n
  induction n with
  | zero => intro c; exact Nat.zero_le _
  | succ n ih =>
    intro c
    rw [pfuA]
    split
    · omega
    · exact Nat.le_trans (ih (c + 1)) (by omega)
theorem pfu_le {S : Sx} (hw : WF S) (a : Nat) : pfu S a ≤ 8 := Nat.le_trans (pfuA_le S a _ _) (by have := hw.b0; omega)
theorem pplA_le (S : Sx) (a : Nat) : ∀ n c b, b ≤ n + c → pplA S a n c b ≤ n + c := by
  intro n
  induction n with
  | zero => intro c b h; exact h
  | succ n ih =>
    intro c b h
    rw [pplA]
    refine Nat.le_trans (ih (c + 1) _ ?_) (by omega)
    split
    · split
      · omega
      · split <;> omega
    · omega
theorem ppl_le {S : Sx} (hw : WF S) (a : Nat) : ppl S a ≤ 8 := Nat.le_trans (pplA_le S a _ _ _ (Nat.zero_le _)) (by have := hw.b0; omega)
set_option maxHeartbeats 4000000 in
theorem m_placesThread (l : Launch) (Γ : Cx) (H : Heap) (μ : Nat → Nat) (S : Sx) (th : Int32) (t : Nat) (hM : MW Γ H μ S th) (hw : WF S) (ht : t < 16) : Mt l Γ yX3_placesThread (ws_ yX3_placesThread cX3_placesThread 4 none) 3 0 0 [.ref (μ 0), .int (nI t)] H (MP Γ μ (pplace S t) th H none) := by
  refine mt_of (by decide +kernel) (Nat.le_of_ble_eq_true rfl) ?_
  intro p e s m args below meth c ls Q hx hb hr hlocks hml hts hown hnm hK hS hl hQ
  have ho : Off (Mf μ) H H := Off.rf
  refine lv_aload_n (pc := 0) hx hb dX3_placesThread_0 rfl (lk hl rfl) ?_
  refine hw_get (pc := 1) hx hb hts in_X3 hown hK (hM.p0) rfl 11 (Nat.le_of_ble_eq_true rfl) (hts _ q1788) (fun x h => h) rfl dX3_placesThread_1 ?_
  refine lv_iconst (v := nI 0) (pc := 4) hx hb dX3_placesThread_4 (by decide) ?_
  refine lv_iload_n (pc := 5) hx hb dX3_placesThread_5 rfl (lk hl rfl) ?_
  refine hc_S (pc := 6) hx hb hml hown hts hK hS (m_at l Γ H 0 t (t) (by omega)) (va_cwS 2 hts (lw_S q1935 q1936 q83 q1937) rfl rfl rfl (by decide +kernel) ⟨(Nat.le_of_ble_eq_true rfl), (Nat.le_of_ble_eq_true rfl)⟩) rfl hl.1 rfl (Nat.le_of_ble_eq_true rfl) dX3_placesThread_6 ⟨by first | exact Nat.le_of_ble_eq_true rfl | (dsimp only [rmd]; omega), by first | exact Nat.le_of_ble_eq_true rfl | (dsimp only [rmd]; omega)⟩ (fun v1 H1 locs1 hq1 hS => ?_)
  obtain ⟨rfl, rfl⟩ := hq1
  refine lv_iconst (v := nI 0 - 1) (pc := 9) hx hb dX3_placesThread_9 (by decide) ?_
  refine hm_mast (pc := 10) hx hb hK hM (show t < 48 from (by omega)) hS dX3_placesThread_10 (fun H2 locs2 hM ho2 hS => ?_)
  have ho := ho.trans ho2
  have hw1 : WF (up2 S 10 t 0) := hw.up (by omega)
  have e9 : (up2 S 10 t 0) 9 t = S 9 t := up2_f (by decide)
  rw [pplace, ← e9] at hQ
  generalize up2 S 10 t 0 = S1 at hM hw1 hQ
  generalize H2 = H' at hM hS ho
  rename_i H2
  have hw := hw1
  have hb0 := hw1.b0
  have hb9 := hw1.b9 t
  refine lv_iconst (v := nI 0 - 1) (pc := 11) hx hb dX3_placesThread_11 (by decide) ?_
  refine lv_istore_n (pc := 12) hx hb dX3_placesThread_12 rfl hl (Nat.le_of_ble_eq_true rfl) rfl (fun ls hl => ?_)
  refine lv_iconst (v := nI 0) (pc := 13) hx hb dX3_placesThread_13 (by decide) ?_
  refine lv_istore_n (pc := 14) hx hb dX3_placesThread_14 rfl hl (Nat.le_of_ble_eq_true rfl) rfl (fun ls hl => ?_)
  refine nat_up (P := fun c9 => ∀ (b : Nat) (locs : List Loc) (ls : Array Slot), va_S (Gz Γ) s.heap H' locs → lv_has ls 4 [(0, .ref (μ 0)), (1, .int (nI t)), (2, .int (nI b - 1)), (3, .int (nI c9))] → b ≤ c9 → pplA S1 (S1 9 t) (S1 0 0 - c9) c9 b = ppl S1 (S1 9 t) → W p l e (rmd 3 0 0) s m args below meth c H' locs 0 0 Q (F0 m 15 ls [])) (S1 0 0) (fun c9 hc9 ih b locs ls hS hl hbc he => ?_) 0 (Nat.zero_le _) 0 _ ls hS (lv_c (lk hl rfl) (lv_c (lk hl rfl) (lv_c (lk hl rfl) (lv_c (lk hl rfl) (lv_0 hl))))) (Nat.le_refl _) rfl
  refine lv_iload_n (pc := 15) hx hb dX3_placesThread_15 rfl (lk hl rfl) ?_
  refine lv_aload_n (pc := 16) hx hb dX3_placesThread_16 rfl (lk hl rfl) ?_
  refine hw_get (pc := 17) hx hb hts in_X3 hown hK (hM.p0) rfl 1 (Nat.le_of_ble_eq_true rfl) (hts _ q1778) (fun x h => h) rfl dX3_placesThread_17 ?_
  refine hn_ge (tgt := 79) (pc := 20) hx hb dX3_placesThread_20 (by decide) (by omega) (by omega) (fun hc => ?_) (fun hc => ?_)
  · have e : c9 = S1 0 0 := by omega
    subst e
    refine lv_aload_n (pc := 79) hx hb dX3_placesThread_79 rfl (lk hl rfl) ?_
    refine hw_get (pc := 80) hx hb hts in_X3 hown hK (hM.p0) rfl 11 (Nat.le_of_ble_eq_true rfl) (hts _ q1788) (fun x h => h) rfl dX3_placesThread_80 ?_
    refine lv_iconst (v := nI 0) (pc := 83) hx hb dX3_placesThread_83 (by decide) ?_
    refine lv_iload_n (pc := 84) hx hb dX3_placesThread_84 rfl (lk hl rfl) ?_
    refine hc_S (pc := 85) hx hb hml hown hts hK hS (m_at l Γ H' 0 t (t) (by omega)) (va_cwS 2 hts (lw_S q1935 q1936 q83 q1937) rfl rfl rfl (by decide +kernel) ⟨(Nat.le_of_ble_eq_true rfl), (Nat.le_of_ble_eq_true rfl)⟩) rfl hl.1 rfl (Nat.le_of_ble_eq_true rfl) dX3_placesThread_85 ⟨by first | exact Nat.le_of_ble_eq_true rfl | (dsimp only [rmd]; omega), by first | exact Nat.le_of_ble_eq_true rfl | (dsimp only [rmd]; omega)⟩ (fun v3 H3 locs3 hq3 hS => ?_)
    obtain ⟨rfl, rfl⟩ := hq3
    refine lv_iload_n (pc := 88) hx hb dX3_placesThread_88 rfl (lk hl rfl) ?_
    refine hm_mast (pc := 89) hx hb hK hM (show t < 48 from (by omega)) hS dX3_placesThread_89 (fun H4 locs4 hM ho4 hS => ?_)
    have ho := ho.trans ho4
    rw [Nat.sub_self, pplA] at he
    subst he
    exact hr_v (pc := 90) hQ hx hb hr hlocks hS (by first | exact Nat.le_of_ble_eq_true rfl | (dsimp only [rmd]; omega)) (by first | exact Nat.le_of_ble_eq_true rfl | (dsimp only [rmd]; omega)) (⟨rfl, hM, ho⟩) dX3_placesThread_90
  · skip
    have e4 : S1 0 0 - c9 = (S1 0 0 - (c9 + 1)) + 1 := by omega
    rw [e4, pplA] at he
    have next : ∀ (b' : Nat) (locs : List Loc) (ls : Array Slot), va_S (Gz Γ) s.heap H' locs → lv_has ls 4 [(0, .ref (μ 0)), (1, .int (nI t)), (2, .int (nI b' - 1)), (3, .int (nI c9))] → b' ≤ c9 + 1 → pplA S1 (S1 9 t) (S1 0 0 - (c9 + 1)) (c9 + 1) b' = ppl S1 (S1 9 t) → W p l e (rmd 3 0 0) s m args below meth c H' locs 0 0 Q (F0 m 73 ls []) := by
      intro b' locs ls hS hl hb' he'
      refine hw_iinc (v := nI (c9 + 1)) (pc := 73) hx hb dX3_placesThread_73 hl (lk hl rfl) (n_inc _ 1) (Nat.le_of_ble_eq_true rfl) (fun ls hl => ?_)
      refine lv_goto (tgt := 15) (pc := 76) hx hb dX3_placesThread_76 (by decide) ?_
      exact ih (c9 + 1) (by omega) (by omega) b' _ ls hS (lv_c (lk hl rfl) (lv_c (lk hl rfl) (lv_c (lk hl rfl) (lv_c (lk hl rfl) (lv_0 hl))))) hb' he'
    refine lv_aload_n (pc := 23) hx hb dX3_placesThread_23 rfl (lk hl rfl) ?_
    refine hw_get (pc := 24) hx hb hts in_X3 hown hK (hM.p0) rfl 10 (Nat.le_of_ble_eq_true rfl) (hts _ q1787) (fun x h => h) rfl dX3_placesThread_24 ?_
    refine lv_iconst (v := nI 0) (pc := 27) hx hb dX3_placesThread_27 (by decide) ?_
    refine lv_iload_n (pc := 28) hx hb dX3_placesThread_28 rfl (lk hl rfl) ?_
    refine hc_S (pc := 29) hx hb hml hown hts hK hS (m_at l Γ H' 0 t (t) (by omega)) (va_cwS 2 hts (lw_S q1935 q1936 q83 q1937) rfl rfl rfl (by decide +kernel) ⟨(Nat.le_of_ble_eq_true rfl), (Nat.le_of_ble_eq_true rfl)⟩) rfl hl.1 rfl (Nat.le_of_ble_eq_true rfl) dX3_placesThread_29 ⟨by first | exact Nat.le_of_ble_eq_true rfl | (dsimp only [rmd]; omega), by first | exact Nat.le_of_ble_eq_true rfl | (dsimp only [rmd]; omega)⟩ (fun v5 H5 locs5 hq5 hS => ?_)
    obtain ⟨rfl, rfl⟩ := hq5
    refine hm_iald (k := 9) (pc := 32) hx hb hK hM (by decide) (show t < 48 from (by omega)) dX3_placesThread_32 ?_
    refine lv_iload_n (pc := 33) hx hb dX3_placesThread_33 rfl (lk hl rfl) ?_
    refine hc_S (pc := 34) hx hb hml hown hts hK hS (m_has l Γ H' (S1 9 t) c9 (by omega) (by omega)) (va_cwS 2 hts (lw_S q1873 q1874 q83 q1875) rfl rfl rfl (by decide +kernel) ⟨(Nat.le_of_ble_eq_true rfl), (Nat.le_of_ble_eq_true rfl)⟩) rfl hl.1 rfl (Nat.le_of_ble_eq_true rfl) dX3_placesThread_34 ⟨by first | exact Nat.le_of_ble_eq_true rfl | (dsimp only [rmd]; omega), by first | exact Nat.le_of_ble_eq_true rfl | (dsimp only [rmd]; omega)⟩ (fun v6 H6 locs6 hq6 hS => ?_)
    obtain ⟨rfl, rfl⟩ := hq6
    refine hz_eq (tgt := 73) (pc := 37) hx hb dX3_placesThread_37 (by decide) (fun h1 => ?_) (fun h1 => ?_)
    · rw [if_neg (by rw [h1]; simp)] at he
      exact next b _ ls hS (lv_c (lk hl rfl) (lv_c (lk hl rfl) (lv_c (lk hl rfl) (lv_c (lk hl rfl) (lv_0 hl))))) (by omega) he
    · skip
      refine lv_aload_n (pc := 40) hx hb dX3_placesThread_40 rfl (lk hl rfl) ?_
      refine lv_iload_n (pc := 41) hx hb dX3_placesThread_41 rfl (lk hl rfl) ?_
      refine hc_V (pc := 42) hx hb hml hown hts hK hS (m_isUp l Γ H' μ S1 th c9 hM hw (by omega)) (cwV 1 hts (lw_V q1876 q1878 qs51 q83 q1879) rfl rfl rfl (by decide +kernel) ⟨(Nat.le_of_ble_eq_true rfl), (Nat.le_of_ble_eq_true rfl)⟩) (hK.recv hM.p0 rfl) rfl hl.1 rfl (Nat.le_of_ble_eq_true rfl) dX3_placesThread_42 ⟨by first | exact Nat.le_of_ble_eq_true rfl | (dsimp only [rmd]; omega), by first | exact Nat.le_of_ble_eq_true rfl | (dsimp only [rmd]; omega)⟩ (fun v7 H7 locs7 hq7 hS => ?_)
      obtain ⟨rfl, rfl⟩ := hq7
      refine hz_eq (tgt := 73) (pc := 45) hx hb dX3_placesThread_45 (by decide) (fun h2 => ?_) (fun h2 => ?_)
      · have h2 := of_decide_eq_false h2
        rw [if_neg (fun q => h2 q.2)] at he
        exact next b _ ls hS (lv_c (lk hl rfl) (lv_c (lk hl rfl) (lv_c (lk hl rfl) (lv_c (lk hl rfl) (lv_0 hl))))) (by omega) he
      · skip
        have h2 := of_decide_eq_true h2
        rw [if_pos ⟨h1, h2⟩] at he
        refine lv_iload_n (pc := 48) hx hb dX3_placesThread_48 rfl (lk hl rfl) ?_
        refine lv_iconst (v := nI 0 - 1) (pc := 49) hx hb dX3_placesThread_49 (by decide) ?_
        refine hm_ne (tgt := 58) (pc := 50) hx hb dX3_placesThread_50 (by decide) (by omega) (by omega) (fun h3 => ?_) (fun h3 => ?_)
        · rw [if_neg h3] at he
          have e1 : nI c9 = nI (c9 + 1) - 1 := (nI_pred c9).symm
          have q1 := plo_le S1 (c9 + 1) (S1 8 0)
          have q2 := plo_le S1 b (S1 8 0)
          have hb8 := hw1.b8
          refine lv_aload_n (pc := 58) hx hb dX3_placesThread_58 rfl (lk hl rfl) ?_
          refine lv_iload_n (pc := 59) hx hb dX3_placesThread_59 rfl (lk hl rfl) ?_
          refine hw_top (congrArg Value.int e1) ?_
          refine hc_V (pc := 60) hx hb hml hown hts hK hS (m_loadOf l Γ H' μ S1 th (c9 + 1) hM hw (by omega)) (cwV 1 hts (lw_V q1942 q1944 qs61 q83 q1945) rfl rfl rfl (by decide +kernel) ⟨(Nat.le_of_ble_eq_true rfl), (Nat.le_of_ble_eq_true rfl)⟩) (hK.recv hM.p0 rfl) rfl hl.1 rfl (Nat.le_of_ble_eq_true rfl) dX3_placesThread_60 ⟨by first | exact Nat.le_of_ble_eq_true rfl | (dsimp only [rmd]; omega), by first | exact Nat.le_of_ble_eq_true rfl | (dsimp only [rmd]; omega)⟩ (fun v8 H8 locs8 hq8 hS => ?_)
          obtain ⟨rfl, rfl⟩ := hq8
          refine lv_aload_n (pc := 63) hx hb dX3_placesThread_63 rfl (lk hl rfl) ?_
          refine lv_iload_n (pc := 64) hx hb dX3_placesThread_64 rfl (lk hl rfl) ?_
          refine hc_V (pc := 65) hx hb hml hown hts hK hS (m_loadOf l Γ H' μ S1 th b hM hw (by omega)) (cwV 1 hts (lw_V q1942 q1944 qs61 q83 q1945) rfl rfl rfl (by decide +kernel) ⟨(Nat.le_of_ble_eq_true rfl), (Nat.le_of_ble_eq_true rfl)⟩) (hK.recv hM.p0 rfl) rfl hl.1 rfl (Nat.le_of_ble_eq_true rfl) dX3_placesThread_65 ⟨by first | exact Nat.le_of_ble_eq_true rfl | (dsimp only [rmd]; omega), by first | exact Nat.le_of_ble_eq_true rfl | (dsimp only [rmd]; omega)⟩ (fun v9 H9 locs9 hq9 hS => ?_)
          obtain ⟨rfl, rfl⟩ := hq9
          refine hn_ge (tgt := 73) (pc := 68) hx hb dX3_placesThread_68 (by decide) (by omega) (by omega) (fun h4 => ?_) (fun h4 => ?_)
          · rw [if_neg (by omega)] at he
            exact next b _ ls hS (lv_c (lk hl rfl) (lv_c (lk hl rfl) (lv_c (lk hl rfl) (lv_c (lk hl rfl) (lv_0 hl))))) (by omega) he
          · skip
            rw [if_pos h4] at he
            refine lv_iload_n (pc := 71) hx hb dX3_placesThread_71 rfl (lk hl rfl) ?_
            refine hw_top (congrArg Value.int e1) ?_
            refine lv_istore_n (pc := 72) hx hb dX3_placesThread_72 rfl hl (Nat.le_of_ble_eq_true rfl) rfl (fun ls hl => ?_)
            exact next (c9 + 1) _ ls hS (lv_c (lk hl rfl) (lv_c (lk hl rfl) (lv_c (lk hl rfl) (lv_c (lk hl rfl) (lv_0 hl))))) (by omega) he
        · skip
          rw [if_pos h3] at he
          refine lv_iload_n (pc := 53) hx hb dX3_placesThread_53 rfl (lk hl rfl) ?_
          refine hw_top (congrArg Value.int (nI_pred c9).symm) ?_
          refine lv_istore_n (pc := 54) hx hb dX3_placesThread_54 rfl hl (Nat.le_of_ble_eq_true rfl) rfl (fun ls hl => ?_)
          refine lv_goto (tgt := 73) (pc := 55) hx hb dX3_placesThread_55 (by decide) ?_
          exact next (c9 + 1) _ ls hS (lv_c (lk hl rfl) (lv_c (lk hl rfl) (lv_c (lk hl rfl) (lv_c (lk hl rfl) (lv_0 hl))))) (by omega) he
def pint (S : Sx) (i : Nat) : Sx := up2 (up2 S 12 i (if pfu S (S 9 (16 + i)) = 0 then 1 else 0)) 10 (16 + i) (if pfu S (S 9 (16 + i)) = 0 then pfu S 255 else pfu S (S 9 (16 + i)))
theorem pfuA_up {S : Sx} {f i v : Nat} (h : 2 ≤ f) (a : Nat) : ∀ n c, pfuA (up2 S f i v) a n c = pfuA S a n c := by
  intro n
  induction n with
  | zero => intro c; rfl
  | succ n ih => intro c; rw [pfuA, pfuA, ih, up2_f (by omega)]
theorem pfu_up {S : Sx} {f i v : Nat} (h : 2 ≤ f) (a : Nat) : pfu (up2 S f i v) a = pfu S a := by
  rw [pfu, pfu, pfuA_up h, up2_f (by omega)]
theorem wf_pint {S : Sx} (hw : WF S) (i : Nat) : WF (pint S i) := by
  unfold pint
  refine (hw.up ?_).up ?_
  · refine Or.inr (Or.inr (Or.inr (Or.inr (Or.inr (Or.inr (Or.inr (Or.inr (Or.inr (Or.inr (Or.inl ⟨rfl, ?_⟩))))))))))
    split <;> omega
  · refine Or.inr (Or.inr (Or.inr (Or.inr (Or.inr (Or.inr (Or.inr (Or.inr (Or.inl ⟨rfl, ?_⟩))))))))
    split <;> exact pfu_le hw _
theorem wf_pplace {S : Sx} (hw : WF S) (t : Nat) : WF (pplace S t) := by
  have h1 : WF (up2 S 10 t 0) := hw.up (by omega)
  exact h1.up (Or.inr (Or.inr (Or.inr (Or.inr (Or.inr (Or.inr (Or.inr (Or.inr (Or.inl ⟨rfl, ppl_le h1 _⟩)))))))))
set_option maxHeartbeats 4000000 in
theorem m_placesInterrupt (l : Launch) (Γ : Cx) (H : Heap) (μ : Nat → Nat) (S : Sx) (th : Int32) (i : Nat) (hM : MW Γ H μ S th) (hw : WF S) (hi : i < 12) : Mt l Γ yX3_placesInterrupt (ws_ yX3_placesInterrupt cX3_placesInterrupt 3 none) 4 0 0 [.ref (μ 0), .int (nI i)] H (MP Γ μ (pint S i) th H none) := by
  refine mt_of (by decide +kernel) (Nat.le_of_ble_eq_true rfl) ?_
  intro p e s m args below meth c ls Q hx hb hr hlocks hml hts hown hnm hK hS hl hQ
  have ho : Off (Mf μ) H H := Off.rf
  have hf9 := pfu_le hw (S 9 (16 + i))
  have hf5 := pfu_le hw 255
  have hb9 := hw.b9 (16 + i)
  refine lv_aload_n (pc := 0) hx hb dX3_placesInterrupt_0 rfl (lk hl rfl) ?_
  refine lv_aload_n (pc := 1) hx hb dX3_placesInterrupt_1 rfl (lk hl rfl) ?_
  refine hw_get (pc := 2) hx hb hts in_X3 hown hK (hM.p0) rfl 10 (Nat.le_of_ble_eq_true rfl) (hts _ q1787) (fun x h => h) rfl dX3_placesInterrupt_2 ?_
  refine lv_iconst (v := nI 1) (pc := 5) hx hb dX3_placesInterrupt_5 (by decide) ?_
  refine lv_iload_n (pc := 6) hx hb dX3_placesInterrupt_6 rfl (lk hl rfl) ?_
  refine hc_S (pc := 7) hx hb hml hown hts hK hS (m_at l Γ H 1 i (16 + i) (by omega)) (va_cwS 2 hts (lw_S q1935 q1936 q83 q1937) rfl rfl rfl (by decide +kernel) ⟨(Nat.le_of_ble_eq_true rfl), (Nat.le_of_ble_eq_true rfl)⟩) rfl hl.1 rfl (Nat.le_of_ble_eq_true rfl) dX3_placesInterrupt_7 ⟨by first | exact Nat.le_of_ble_eq_true rfl | (dsimp only [rmd]; omega), by first | exact Nat.le_of_ble_eq_true rfl | (dsimp only [rmd]; omega)⟩ (fun v1 H1 locs1 hq1 hS => ?_)
  obtain ⟨rfl, rfl⟩ := hq1
  refine hm_iald (k := 9) (pc := 10) hx hb hK hM (by decide) (show 16 + i < 48 from (by omega)) dX3_placesInterrupt_10 ?_
  have := hw.b9 (16 + i)
  refine hc_V (pc := 11) hx hb hml hown hts hK hS (m_firstUp l Γ H μ S th (S 9 (16 + i)) hM hw (by omega)) (cwV 1 hts (lw_V q1869 q1871 qs50 q83 q1872) rfl rfl rfl (by decide +kernel) ⟨(Nat.le_of_ble_eq_true rfl), (Nat.le_of_ble_eq_true rfl)⟩) (hK.recv hM.p0 rfl) rfl hl.1 rfl (Nat.le_of_ble_eq_true rfl) dX3_placesInterrupt_11 ⟨by first | exact Nat.le_of_ble_eq_true rfl | (dsimp only [rmd]; omega), by first | exact Nat.le_of_ble_eq_true rfl | (dsimp only [rmd]; omega)⟩ (fun v2 H2 locs2 hq2 hS => ?_)
  obtain ⟨rfl, rfl⟩ := hq2
  refine lv_istore_n (pc := 14) hx hb dX3_placesInterrupt_14 rfl hl (Nat.le_of_ble_eq_true rfl) rfl (fun ls hl => ?_)
  refine lv_aload_n (pc := 15) hx hb dX3_placesInterrupt_15 rfl (lk hl rfl) ?_
  refine hw_get (pc := 16) hx hb hts in_X3 hown hK (hM.p0) rfl 13 (Nat.le_of_ble_eq_true rfl) (hts _ q1790) (fun x h => h) rfl dX3_placesInterrupt_16 ?_
  refine lv_iload_n (pc := 19) hx hb dX3_placesInterrupt_19 rfl (lk hl rfl) ?_
  refine lv_iload_n (pc := 20) hx hb dX3_placesInterrupt_20 rfl (lk hl rfl) ?_
  refine lv_iconst (v := nI 0 - 1) (pc := 21) hx hb dX3_placesInterrupt_21 (by decide) ?_
  refine hm_ne (tgt := 29) (pc := 22) hx hb dX3_placesInterrupt_22 (by decide) (by omega) (by omega) (fun h1 => ?_) (fun h1 => ?_)
  · refine lv_iconst (v := nI 0) (pc := 29) hx hb dX3_placesInterrupt_29 (by decide) ?_
    refine hm_zast (k := 12) (pc := 30) hx hb hK hM (by decide) (show i < 16 from (by omega)) (show 0 ≤ 1 from by omega) hS dX3_placesInterrupt_30 (fun H3 locs3 hM ho3 hS => ?_)
    have ho := ho.trans ho3
    have hw1 : WF (up2 S 12 i 0) := hw.up (by omega)
    refine lv_aload_n (pc := 31) hx hb dX3_placesInterrupt_31 rfl (lk hl rfl) ?_
    refine hw_get (pc := 32) hx hb hts in_X3 hown hK (hM.p0) rfl 13 (Nat.le_of_ble_eq_true rfl) (hts _ q1790) (fun x h => h) rfl dX3_placesInterrupt_32 ?_
    refine lv_iload_n (pc := 35) hx hb dX3_placesInterrupt_35 rfl (lk hl rfl) ?_
    refine hm_zald (k := 12) (pc := 36) hx hb hK hM (by decide) (show i < 16 from (by omega)) dX3_placesInterrupt_36 ?_
    rw [up2_s]
    refine hn_z_eq (tgt := 45) (pc := 37) hx hb dX3_placesInterrupt_37 (by decide) (by omega) (fun _ => ?_) (fun hn => absurd hn (fun q => q rfl))
    refine lv_aload_n (pc := 45) hx hb dX3_placesInterrupt_45 rfl (lk hl rfl) ?_
    refine hw_get (pc := 46) hx hb hts in_X3 hown hK (hM.p0) rfl 11 (Nat.le_of_ble_eq_true rfl) (hts _ q1788) (fun x h => h) rfl dX3_placesInterrupt_46 ?_
    refine lv_iconst (v := nI 1) (pc := 49) hx hb dX3_placesInterrupt_49 (by decide) ?_
    refine lv_iload_n (pc := 50) hx hb dX3_placesInterrupt_50 rfl (lk hl rfl) ?_
    refine hc_S (pc := 51) hx hb hml hown hts hK hS (m_at l Γ H3 1 i (16 + i) (by omega)) (va_cwS 2 hts (lw_S q1935 q1936 q83 q1937) rfl rfl rfl (by decide +kernel) ⟨(Nat.le_of_ble_eq_true rfl), (Nat.le_of_ble_eq_true rfl)⟩) rfl hl.1 rfl (Nat.le_of_ble_eq_true rfl) dX3_placesInterrupt_51 ⟨by first | exact Nat.le_of_ble_eq_true rfl | (dsimp only [rmd]; omega), by first | exact Nat.le_of_ble_eq_true rfl | (dsimp only [rmd]; omega)⟩ (fun v4 H4 locs4 hq4 hS => ?_)
    obtain ⟨rfl, rfl⟩ := hq4
    refine lv_iload_n (pc := 54) hx hb dX3_placesInterrupt_54 rfl (lk hl rfl) ?_
    refine hm_mast (pc := 55) hx hb hK hM (show 16 + i < 48 from (by omega)) hS dX3_placesInterrupt_55 (fun H5 locs5 hM ho5 hS => ?_)
    have ho := ho.trans ho5
    rw [pint, if_neg h1, if_neg h1] at hQ
    exact hr_v (pc := 56) hQ hx hb hr hlocks hS (by first | exact Nat.le_of_ble_eq_true rfl | (dsimp only [rmd]; omega)) (by first | exact Nat.le_of_ble_eq_true rfl | (dsimp only [rmd]; omega)) (⟨rfl, hM, ho⟩) dX3_placesInterrupt_56
  · skip
    refine lv_iconst (v := nI 1) (pc := 25) hx hb dX3_placesInterrupt_25 (by decide) ?_
    refine lv_goto (tgt := 30) (pc := 26) hx hb dX3_placesInterrupt_26 (by decide) ?_
    refine hm_zast (k := 12) (pc := 30) hx hb hK hM (by decide) (show i < 16 from (by omega)) (show 1 ≤ 1 from by omega) hS dX3_placesInterrupt_30 (fun H6 locs6 hM ho6 hS => ?_)
    have ho := ho.trans ho6
    have hw := (show WF (up2 S 12 i 1) from hw.up (by omega))
    refine lv_aload_n (pc := 31) hx hb dX3_placesInterrupt_31 rfl (lk hl rfl) ?_
    refine hw_get (pc := 32) hx hb hts in_X3 hown hK (hM.p0) rfl 13 (Nat.le_of_ble_eq_true rfl) (hts _ q1790) (fun x h => h) rfl dX3_placesInterrupt_32 ?_
    refine lv_iload_n (pc := 35) hx hb dX3_placesInterrupt_35 rfl (lk hl rfl) ?_
    refine hm_zald (k := 12) (pc := 36) hx hb hK hM (by decide) (show i < 16 from (by omega)) dX3_placesInterrupt_36 ?_
    rw [up2_s]
    refine hn_z_eq (tgt := 45) (pc := 37) hx hb dX3_placesInterrupt_37 (by decide) (by omega) (fun hn => absurd hn (by decide)) (fun _ => ?_)
    refine lv_aload_n (pc := 40) hx hb dX3_placesInterrupt_40 rfl (lk hl rfl) ?_
    refine hc_V (pc := 41) hx hb hml hown hts hK hS (m_control l Γ H6 μ (up2 S 12 i 1) th hM hw) (cwV 0 hts (lw_V q1865 q1867 qs49 q83 q1868) rfl rfl rfl (by decide +kernel) ⟨(Nat.le_of_ble_eq_true rfl), (Nat.le_of_ble_eq_true rfl)⟩) (hK.recv hM.p0 rfl) rfl hl.1 rfl (Nat.le_of_ble_eq_true rfl) dX3_placesInterrupt_41 ⟨by first | exact Nat.le_of_ble_eq_true rfl | (dsimp only [rmd]; omega), by first | exact Nat.le_of_ble_eq_true rfl | (dsimp only [rmd]; omega)⟩ (fun v7 H7 locs7 hq7 hS => ?_)
    obtain ⟨rfl, rfl⟩ := hq7
    rw [pfu_up (S := S) (f := 12) (i := i) (v := 1) (by decide)]
    refine lv_istore_n (pc := 44) hx hb dX3_placesInterrupt_44 rfl hl (Nat.le_of_ble_eq_true rfl) rfl (fun ls hl => ?_)
    refine lv_aload_n (pc := 45) hx hb dX3_placesInterrupt_45 rfl (lk hl rfl) ?_
    refine hw_get (pc := 46) hx hb hts in_X3 hown hK (hM.p0) rfl 11 (Nat.le_of_ble_eq_true rfl) (hts _ q1788) (fun x h => h) rfl dX3_placesInterrupt_46 ?_
    refine lv_iconst (v := nI 1) (pc := 49) hx hb dX3_placesInterrupt_49 (by decide) ?_
    refine lv_iload_n (pc := 50) hx hb dX3_placesInterrupt_50 rfl (lk hl rfl) ?_
    refine hc_S (pc := 51) hx hb hml hown hts hK hS (m_at l Γ H6 1 i (16 + i) (by omega)) (va_cwS 2 hts (lw_S q1935 q1936 q83 q1937) rfl rfl rfl (by decide +kernel) ⟨(Nat.le_of_ble_eq_true rfl), (Nat.le_of_ble_eq_true rfl)⟩) rfl hl.1 rfl (Nat.le_of_ble_eq_true rfl) dX3_placesInterrupt_51 ⟨by first | exact Nat.le_of_ble_eq_true rfl | (dsimp only [rmd]; omega), by first | exact Nat.le_of_ble_eq_true rfl | (dsimp only [rmd]; omega)⟩ (fun v8 H8 locs8 hq8 hS => ?_)
    obtain ⟨rfl, rfl⟩ := hq8
    refine lv_iload_n (pc := 54) hx hb dX3_placesInterrupt_54 rfl (lk hl rfl) ?_
    refine hm_mast (pc := 55) hx hb hK hM (show 16 + i < 48 from (by omega)) hS dX3_placesInterrupt_55 (fun H9 locs9 hM ho9 hS => ?_)
    have ho := ho.trans ho9
    rw [pint, if_pos h1, if_pos h1] at hQ
    exact hr_v (pc := 56) hQ hx hb hr hlocks hS (by first | exact Nat.le_of_ble_eq_true rfl | (dsimp only [rmd]; omega)) (by first | exact Nat.le_of_ble_eq_true rfl | (dsimp only [rmd]; omega)) (⟨rfl, hM, ho⟩) dX3_placesInterrupt_56
/-- what lived on core c goes elsewhere -/
def plvT (c : Nat) : Nat → Nat → Sx → Sx
  | 0, _, S => S
  | n + 1, t, S => plvT c n (t + 1) (if S 10 (32 + t) = c + 1 then up2 (up2 S 10 (32 + t) (pfu S 255)) 11 (32 + t) (S 11 (32 + t) + 1) else S)
def plvI (c : Nat) : Nat → Nat → Sx → Sx
  | 0, _, S => S
  | n + 1, t, S => plvI c n (t + 1) (if S 10 (16 + t) = c + 1 then up2 (pint S t) 11 (16 + t) (S 11 (16 + t) + 1) else S)
def plvD (c : Nat) : Nat → Nat → Sx → Sx
  | 0, _, S => S
  | n + 1, t, S => plvD c n (t + 1) (if S 10 t = c + 1 then up2 (pplace S t) 11 t (S 11 t + 1) else S)
def pleaves (S : Sx) (c : Nat) : Sx := plvD c (S 8 0) 0 (plvI c (S 8 1) 0 (plvT c (S 8 2) 0 S))
theorem pint_f {S : Sx} {i f j : Nat} (h : f ≠ 10) (h2 : f ≠ 12) : pint S i f j = S f j := by rw [pint, up2_f h, up2_f h2]
theorem pplace_f {S : Sx} {i f j : Nat} (h : f ≠ 10) : pplace S i f j = S f j := by rw [pplace, up2_f h, up2_f h]
theorem plvT_8 (c : Nat) : ∀ n t S j, plvT c n t S 8 j = S 8 j := by
  intro n
  induction n with
  | zero => intro t S j; rfl
  | succ n ih =>
    intro t S j
    rw [plvT, ih]
    split
    · rw [up2_f (by decide), up2_f (by decide)]
    · rfl
theorem plvI_8 (c : Nat) : ∀ n t S j, plvI c n t S 8 j = S 8 j := by
  intro n
  induction n with
  | zero => intro t S j; rfl
  | succ n ih =>
    intro t S j
    rw [plvI, ih]
    split
    · rw [up2_f (by decide), pint_f (by decide) (by decide)]
    · rfl
theorem plvT_wf (c : Nat) : ∀ n t S, WF S → WF (plvT c n t S) := by
  intro n
  induction n with
  | zero => intro t S h; exact h
  | succ n ih =>
    intro t S h
    rw [plvT]
    refine ih _ _ ?_
    split
    · have := pfu_le h 255
      exact (h.up (by omega)).up (by omega)
    · exact h
theorem plvI_wf (c : Nat) : ∀ n t S, WF S → WF (plvI c n t S) := by
  intro n
  induction n with
  | zero => intro t S h; exact h
  | succ n ih =>
    intro t S h
    rw [plvI]
    refine ih _ _ ?_
    split
    · exact (wf_pint h t).up (by omega)
    · exact h
theorem plvD_wf (c : Nat) : ∀ n t S, WF S → WF (plvD c n t S) := by
  intro n
  induction n with
  | zero => intro t S h; exact h
  | succ n ih =>
    intro t S h
    rw [plvD]
    refine ih _ _ ?_
    split
    · exact (wf_pplace h t).up (by omega)
    · exact h
theorem wf_pleaves {S : Sx} (h : WF S) (c : Nat) : WF (pleaves S c) := plvD_wf c _ _ _ (plvI_wf c _ _ _ (plvT_wf c _ _ _ h))
set_option maxHeartbeats 8000000 in
theorem m_leaves (l : Launch) (Γ : Cx) (H : Heap) (μ : Nat → Nat) (S : Sx) (th : Int32) (k : Nat) (hM : MW Γ H μ S th) (hw : WF S) (hk : k < 8) : Mt l Γ yX3_leaves (ws_ yX3_leaves cX3_leaves 3 none) 5 0 0 [.ref (μ 0), .int (nI k)] H (MP Γ μ (pleaves S k) th H none) := by
  refine mt_of (by decide +kernel) (Nat.le_of_ble_eq_true rfl) ?_
  intro p e s m args below meth c ls Q hx hb hr hlocks hml hts hown hnm hK hS hl hQ
  have ho : Off (Mf μ) H H := Off.rf
  have ek : nI k = nI (k + 1) - 1 := (nI_pred k).symm
  have hb8 := hw.b8
  rw [ek] at hl
  -- threads
  have L3 : ∀ (t : Nat) (S1 : Sx) (H' : Heap) (locs : List Loc) (ls : Array Slot), t ≤ S1 8 0 → MW Γ H' μ S1 th → WF S1 → Off (Mf μ) H H' → va_S (Gz Γ) s.heap H' locs → lv_has ls 3 [(0, .ref (μ 0)), (1, .int (nI (k + 1) - 1)), (2, .int (nI t))] → plvD k (S1 8 0 - t) t S1 = pleaves S k → W p l e (rmd 5 0 0) s m args below meth c H' locs 0 0 Q (F0 m 113 ls []) := by
    intro t S1 H' locs ls ht
    generalize hn : S1 8 0 - t = n
    induction n generalizing t S1 H' locs ls with
    | zero =>
      intro hM hw ho hS hl he
      have hb8 := hw.b8
      refine lv_iload_n (pc := 113) hx hb dX3_leaves_113 rfl (lk hl rfl) ?_
      refine lv_aload_n (pc := 114) hx hb dX3_leaves_114 rfl (lk hl rfl) ?_
      refine hw_get (pc := 115) hx hb hts in_X3 hown hK (hM.p0) rfl 9 (Nat.le_of_ble_eq_true rfl) (hts _ q1786) (fun x h => h) rfl dX3_leaves_115 ?_
      refine lv_iconst (v := nI 0) (pc := 118) hx hb dX3_leaves_118 (by decide) ?_
      refine hm_iald (k := 8) (pc := 119) hx hb hK hM (by decide) (show 0 < 3 from (by omega)) dX3_leaves_119 ?_
      refine hn_ge (tgt := 162) (pc := 120) hx hb dX3_leaves_120 (by decide) (by omega) (by omega) (fun _ => ?_) (fun hn => absurd hn (by omega))
      rw [plvD] at he
      exact hr_v (pc := 162) hQ hx hb hr hlocks hS (by first | exact Nat.le_of_ble_eq_true rfl | (dsimp only [rmd]; omega)) (by first | exact Nat.le_of_ble_eq_true rfl | (dsimp only [rmd]; omega)) (⟨rfl, hM.eq he, ho⟩) dX3_leaves_162
    | succ n ih =>
      intro hM hw ho hS hl he
      have hb8 := hw.b8
      have hbt := hw.b10 t
      rw [plvD] at he
      refine lv_iload_n (pc := 113) hx hb dX3_leaves_113 rfl (lk hl rfl) ?_
      refine lv_aload_n (pc := 114) hx hb dX3_leaves_114 rfl (lk hl rfl) ?_
      refine hw_get (pc := 115) hx hb hts in_X3 hown hK (hM.p0) rfl 9 (Nat.le_of_ble_eq_true rfl) (hts _ q1786) (fun x h => h) rfl dX3_leaves_115 ?_
      refine lv_iconst (v := nI 0) (pc := 118) hx hb dX3_leaves_118 (by decide) ?_
      refine hm_iald (k := 8) (pc := 119) hx hb hK hM (by decide) (show 0 < 3 from (by omega)) dX3_leaves_119 ?_
      refine hn_ge (tgt := 162) (pc := 120) hx hb dX3_leaves_120 (by decide) (by omega) (by omega) (fun hn => absurd hn (by omega)) (fun _ => ?_)
      refine lv_aload_n (pc := 123) hx hb dX3_leaves_123 rfl (lk hl rfl) ?_
      refine hw_get (pc := 124) hx hb hts in_X3 hown hK (hM.p0) rfl 11 (Nat.le_of_ble_eq_true rfl) (hts _ q1788) (fun x h => h) rfl dX3_leaves_124 ?_
      refine lv_iconst (v := nI 0) (pc := 127) hx hb dX3_leaves_127 (by decide) ?_
      refine lv_iload_n (pc := 128) hx hb dX3_leaves_128 rfl (lk hl rfl) ?_
      refine hc_S (pc := 129) hx hb hml hown hts hK hS (m_at l Γ H' 0 t (t) (by omega)) (va_cwS 2 hts (lw_S q1935 q1936 q83 q1937) rfl rfl rfl (by decide +kernel) ⟨(Nat.le_of_ble_eq_true rfl), (Nat.le_of_ble_eq_true rfl)⟩) rfl hl.1 rfl (Nat.le_of_ble_eq_true rfl) dX3_leaves_129 ⟨by first | exact Nat.le_of_ble_eq_true rfl | (dsimp only [rmd]; omega), by first | exact Nat.le_of_ble_eq_true rfl | (dsimp only [rmd]; omega)⟩ (fun v1 H1 locs1 hq1 hS => ?_)
      obtain ⟨rfl, rfl⟩ := hq1
      refine hm_mald (pc := 132) hx hb hK hM (show t < 48 from (by omega)) dX3_leaves_132 ?_
      refine lv_iload_n (pc := 133) hx hb dX3_leaves_133 rfl (lk hl rfl) ?_
      refine hm_ne (tgt := 156) (pc := 134) hx hb dX3_leaves_134 (by decide) (by omega) (by omega) (fun h1 => ?_) (fun h1 => ?_)
      · refine hw_iinc (v := nI (t + 1)) (pc := 156) hx hb dX3_leaves_156 hl (lk hl rfl) (n_inc _ 1) (Nat.le_of_ble_eq_true rfl) (fun ls hl => ?_)
        refine lv_goto (tgt := 113) (pc := 159) hx hb dX3_leaves_159 (by decide) ?_
        rw [if_neg h1] at he
        exact ih (t + 1) S1 _ _ _ (by omega) (by omega) hM hw ho hS (lv_c (lk hl rfl) (lv_c (lk hl rfl) (lv_c (lk hl rfl) (lv_0 hl)))) he
      · skip
        rw [if_pos h1] at he
        refine lv_aload_n (pc := 137) hx hb dX3_leaves_137 rfl (lk hl rfl) ?_
        refine lv_iload_n (pc := 138) hx hb dX3_leaves_138 rfl (lk hl rfl) ?_
        refine hc_V (pc := 139) hx hb hml hown hts hK hS (m_placesThread l Γ H' μ S1 th t hM hw (by omega)) (cwV 1 hts (lw_V q1938 q1940 qs60 q83 q1941) rfl rfl rfl (by decide +kernel) ⟨(Nat.le_of_ble_eq_true rfl), (Nat.le_of_ble_eq_true rfl)⟩) (hK.recv hM.p0 rfl) rfl hl.1 rfl (Nat.le_of_ble_eq_true rfl) dX3_leaves_139 ⟨by first | exact Nat.le_of_ble_eq_true rfl | (dsimp only [rmd]; omega), by first | exact Nat.le_of_ble_eq_true rfl | (dsimp only [rmd]; omega)⟩ (fun v2 H2 locs2 hq2 hS => ?_)
        obtain ⟨rfl, hM, ho2⟩ := hq2
        have ho := ho.trans ho2
        have hw := wf_pplace hw t
        refine lv_aload_n (pc := 142) hx hb dX3_leaves_142 rfl (lk hl rfl) ?_
        refine hw_get (pc := 143) hx hb hts in_X3 hown hK (hM.p0) rfl 12 (Nat.le_of_ble_eq_true rfl) (hts _ q1789) (fun x h => h) rfl dX3_leaves_143 ?_
        refine lv_iconst (v := nI 0) (pc := 146) hx hb dX3_leaves_146 (by decide) ?_
        refine lv_iload_n (pc := 147) hx hb dX3_leaves_147 rfl (lk hl rfl) ?_
        refine hc_S (pc := 148) hx hb hml hown hts hK hS (m_at l Γ H2 0 t (t) (by omega)) (va_cwS 2 hts (lw_S q1935 q1936 q83 q1937) rfl rfl rfl (by decide +kernel) ⟨(Nat.le_of_ble_eq_true rfl), (Nat.le_of_ble_eq_true rfl)⟩) rfl hl.1 rfl (Nat.le_of_ble_eq_true rfl) dX3_leaves_148 ⟨by first | exact Nat.le_of_ble_eq_true rfl | (dsimp only [rmd]; omega), by first | exact Nat.le_of_ble_eq_true rfl | (dsimp only [rmd]; omega)⟩ (fun v3 H3 locs3 hq3 hS => ?_)
        obtain ⟨rfl, rfl⟩ := hq3
        refine lv_dup2_11 (pc := 151) hx hb dX3_leaves_151 rfl rfl ?_
        refine hm_iald (k := 11) (pc := 152) hx hb hK hM (by decide) (show t < 48 from (by omega)) dX3_leaves_152 ?_
        rw [pplace_f (by decide)]
        refine lv_iconst (v := nI 1) (pc := 153) hx hb dX3_leaves_153 (by decide) ?_
        refine lv_iadd (pc := 154) hx hb dX3_leaves_154 ?_
        refine hw_top (congrArg Value.int (show _ = nI (S1 11 t + 1) from nI_add _ _)) ?_
        refine hm_iast (k := 11) (pc := 155) hx hb hK hM (by decide) (show t < 48 from (by omega)) hS dX3_leaves_155 (fun H4 locs4 hM ho4 hS => ?_)
        have ho := ho.trans ho4
        refine hw_iinc (v := nI (t + 1)) (pc := 156) hx hb dX3_leaves_156 hl (lk hl rfl) (n_inc _ 1) (Nat.le_of_ble_eq_true rfl) (fun ls hl => ?_)
        refine lv_goto (tgt := 113) (pc := 159) hx hb dX3_leaves_159 (by decide) ?_
        have e8 : up2 (pplace S1 t) 11 t (S1 11 t + 1) 8 0 = S1 8 0 := by rw [up2_f (by decide), pplace_f (by decide)]
        exact ih (t + 1) _ _ _ _ (by omega) (by omega) hM (hw.up (by omega)) ho hS (lv_c (lk hl rfl) (lv_c (lk hl rfl) (lv_c (lk hl rfl) (lv_0 hl)))) he
  -- interrupts
  have L2 : ∀ (t : Nat) (S1 : Sx) (H' : Heap) (locs : List Loc) (ls : Array Slot), t ≤ S1 8 1 → MW Γ H' μ S1 th → WF S1 → Off (Mf μ) H H' → va_S (Gz Γ) s.heap H' locs → lv_has ls 3 [(0, .ref (μ 0)), (1, .int (nI (k + 1) - 1)), (2, .int (nI t))] → plvD k (S1 8 0) 0 (plvI k (S1 8 1 - t) t S1) = pleaves S k → W p l e (rmd 5 0 0) s m args below meth c H' locs 0 0 Q (F0 m 62 ls []) := by
    intro t S1 H' locs ls ht
    generalize hn : S1 8 1 - t = n
    induction n generalizing t S1 H' locs ls with
    | zero =>
      intro hM hw ho hS hl he
      have hb8 := hw.b8
      refine lv_iload_n (pc := 62) hx hb dX3_leaves_62 rfl (lk hl rfl) ?_
      refine lv_aload_n (pc := 63) hx hb dX3_leaves_63 rfl (lk hl rfl) ?_
      refine hw_get (pc := 64) hx hb hts in_X3 hown hK (hM.p0) rfl 9 (Nat.le_of_ble_eq_true rfl) (hts _ q1786) (fun x h => h) rfl dX3_leaves_64 ?_
      refine lv_iconst (v := nI 1) (pc := 67) hx hb dX3_leaves_67 (by decide) ?_
      refine hm_iald (k := 8) (pc := 68) hx hb hK hM (by decide) (show 1 < 3 from (by omega)) dX3_leaves_68 ?_
      refine hn_ge (tgt := 111) (pc := 69) hx hb dX3_leaves_69 (by decide) (by omega) (by omega) (fun _ => ?_) (fun hn => absurd hn (by omega))
      rw [plvI] at he
      refine lv_iconst (v := nI 0) (pc := 111) hx hb dX3_leaves_111 (by decide) ?_
      refine lv_istore_n (pc := 112) hx hb dX3_leaves_112 rfl hl (Nat.le_of_ble_eq_true rfl) rfl (fun ls hl => ?_)
      exact L3 0 S1 _ _ _ (Nat.zero_le _) hM hw ho hS (lv_c (lk hl rfl) (lv_c (lk hl rfl) (lv_c (lk hl rfl) (lv_0 hl)))) he
    | succ n ih =>
      intro hM hw ho hS hl he
      have hb8 := hw.b8
      have hbt := hw.b10 (16 + t)
      rw [plvI] at he
      refine lv_iload_n (pc := 62) hx hb dX3_leaves_62 rfl (lk hl rfl) ?_
      refine lv_aload_n (pc := 63) hx hb dX3_leaves_63 rfl (lk hl rfl) ?_
      refine hw_get (pc := 64) hx hb hts in_X3 hown hK (hM.p0) rfl 9 (Nat.le_of_ble_eq_true rfl) (hts _ q1786) (fun x h => h) rfl dX3_leaves_64 ?_
      refine lv_iconst (v := nI 1) (pc := 67) hx hb dX3_leaves_67 (by decide) ?_
      refine hm_iald (k := 8) (pc := 68) hx hb hK hM (by decide) (show 1 < 3 from (by omega)) dX3_leaves_68 ?_
      refine hn_ge (tgt := 111) (pc := 69) hx hb dX3_leaves_69 (by decide) (by omega) (by omega) (fun hn => absurd hn (by omega)) (fun _ => ?_)
      refine lv_aload_n (pc := 72) hx hb dX3_leaves_72 rfl (lk hl rfl) ?_
      refine hw_get (pc := 73) hx hb hts in_X3 hown hK (hM.p0) rfl 11 (Nat.le_of_ble_eq_true rfl) (hts _ q1788) (fun x h => h) rfl dX3_leaves_73 ?_
      refine lv_iconst (v := nI 1) (pc := 76) hx hb dX3_leaves_76 (by decide) ?_
      refine lv_iload_n (pc := 77) hx hb dX3_leaves_77 rfl (lk hl rfl) ?_
      refine hc_S (pc := 78) hx hb hml hown hts hK hS (m_at l Γ H' 1 t (16 + t) (by omega)) (va_cwS 2 hts (lw_S q1935 q1936 q83 q1937) rfl rfl rfl (by decide +kernel) ⟨(Nat.le_of_ble_eq_true rfl), (Nat.le_of_ble_eq_true rfl)⟩) rfl hl.1 rfl (Nat.le_of_ble_eq_true rfl) dX3_leaves_78 ⟨by first | exact Nat.le_of_ble_eq_true rfl | (dsimp only [rmd]; omega), by first | exact Nat.le_of_ble_eq_true rfl | (dsimp only [rmd]; omega)⟩ (fun v1 H1 locs1 hq1 hS => ?_)
      obtain ⟨rfl, rfl⟩ := hq1
      refine hm_mald (pc := 81) hx hb hK hM (show 16 + t < 48 from (by omega)) dX3_leaves_81 ?_
      refine lv_iload_n (pc := 82) hx hb dX3_leaves_82 rfl (lk hl rfl) ?_
      refine hm_ne (tgt := 105) (pc := 83) hx hb dX3_leaves_83 (by decide) (by omega) (by omega) (fun h1 => ?_) (fun h1 => ?_)
      · refine hw_iinc (v := nI (t + 1)) (pc := 105) hx hb dX3_leaves_105 hl (lk hl rfl) (n_inc _ 1) (Nat.le_of_ble_eq_true rfl) (fun ls hl => ?_)
        refine lv_goto (tgt := 62) (pc := 108) hx hb dX3_leaves_108 (by decide) ?_
        rw [if_neg h1] at he
        exact ih (t + 1) S1 _ _ _ (by omega) (by omega) hM hw ho hS (lv_c (lk hl rfl) (lv_c (lk hl rfl) (lv_c (lk hl rfl) (lv_0 hl)))) he
      · skip
        rw [if_pos h1] at he
        refine lv_aload_n (pc := 86) hx hb dX3_leaves_86 rfl (lk hl rfl) ?_
        refine lv_iload_n (pc := 87) hx hb dX3_leaves_87 rfl (lk hl rfl) ?_
        refine hc_V (pc := 88) hx hb hml hown hts hK hS (m_placesInterrupt l Γ H' μ S1 th t hM hw (by omega)) (cwV 1 hts (lw_V q1962 q1964 qs66 q83 q1965) rfl rfl rfl (by decide +kernel) ⟨(Nat.le_of_ble_eq_true rfl), (Nat.le_of_ble_eq_true rfl)⟩) (hK.recv hM.p0 rfl) rfl hl.1 rfl (Nat.le_of_ble_eq_true rfl) dX3_leaves_88 ⟨by first | exact Nat.le_of_ble_eq_true rfl | (dsimp only [rmd]; omega), by first | exact Nat.le_of_ble_eq_true rfl | (dsimp only [rmd]; omega)⟩ (fun v2 H2 locs2 hq2 hS => ?_)
        obtain ⟨rfl, hM, ho2⟩ := hq2
        have ho := ho.trans ho2
        have hw := wf_pint hw t
        refine lv_aload_n (pc := 91) hx hb dX3_leaves_91 rfl (lk hl rfl) ?_
        refine hw_get (pc := 92) hx hb hts in_X3 hown hK (hM.p0) rfl 12 (Nat.le_of_ble_eq_true rfl) (hts _ q1789) (fun x h => h) rfl dX3_leaves_92 ?_
        refine lv_iconst (v := nI 1) (pc := 95) hx hb dX3_leaves_95 (by decide) ?_
        refine lv_iload_n (pc := 96) hx hb dX3_leaves_96 rfl (lk hl rfl) ?_
        refine hc_S (pc := 97) hx hb hml hown hts hK hS (m_at l Γ H2 1 t (16 + t) (by omega)) (va_cwS 2 hts (lw_S q1935 q1936 q83 q1937) rfl rfl rfl (by decide +kernel) ⟨(Nat.le_of_ble_eq_true rfl), (Nat.le_of_ble_eq_true rfl)⟩) rfl hl.1 rfl (Nat.le_of_ble_eq_true rfl) dX3_leaves_97 ⟨by first | exact Nat.le_of_ble_eq_true rfl | (dsimp only [rmd]; omega), by first | exact Nat.le_of_ble_eq_true rfl | (dsimp only [rmd]; omega)⟩ (fun v3 H3 locs3 hq3 hS => ?_)
        obtain ⟨rfl, rfl⟩ := hq3
        refine lv_dup2_11 (pc := 100) hx hb dX3_leaves_100 rfl rfl ?_
        refine hm_iald (k := 11) (pc := 101) hx hb hK hM (by decide) (show 16 + t < 48 from (by omega)) dX3_leaves_101 ?_
        rw [pint_f (by decide) (by decide)]
        refine lv_iconst (v := nI 1) (pc := 102) hx hb dX3_leaves_102 (by decide) ?_
        refine lv_iadd (pc := 103) hx hb dX3_leaves_103 ?_
        refine hw_top (congrArg Value.int (show _ = nI (S1 11 (16 + t) + 1) from nI_add _ _)) ?_
        refine hm_iast (k := 11) (pc := 104) hx hb hK hM (by decide) (show 16 + t < 48 from (by omega)) hS dX3_leaves_104 (fun H4 locs4 hM ho4 hS => ?_)
        have ho := ho.trans ho4
        refine hw_iinc (v := nI (t + 1)) (pc := 105) hx hb dX3_leaves_105 hl (lk hl rfl) (n_inc _ 1) (Nat.le_of_ble_eq_true rfl) (fun ls hl => ?_)
        refine lv_goto (tgt := 62) (pc := 108) hx hb dX3_leaves_108 (by decide) ?_
        have e8 : ∀ j, up2 (pint S1 t) 11 (16 + t) (S1 11 (16 + t) + 1) 8 j = S1 8 j := fun j => by rw [up2_f (by decide), pint_f (by decide) (by decide)]
        exact ih (t + 1) _ _ _ _ (by rw [e8]; omega) (by rw [e8]; omega) hM (hw.up (by omega)) ho hS (lv_c (lk hl rfl) (lv_c (lk hl rfl) (lv_c (lk hl rfl) (lv_0 hl)))) (by rw [e8]; exact he)
  -- timers
  have L1 : ∀ (t : Nat) (S1 : Sx) (H' : Heap) (locs : List Loc) (ls : Array Slot), t ≤ S1 8 2 → MW Γ H' μ S1 th → WF S1 → Off (Mf μ) H H' → va_S (Gz Γ) s.heap H' locs → lv_has ls 3 [(0, .ref (μ 0)), (1, .int (nI (k + 1) - 1)), (2, .int (nI t))] → plvD k (S1 8 0) 0 (plvI k (S1 8 1) 0 (plvT k (S1 8 2 - t) t S1)) = pleaves S k → W p l e (rmd 5 0 0) s m args below meth c H' locs 0 0 Q (F0 m 2 ls []) := by
    intro t S1 H' locs ls ht
    generalize hn : S1 8 2 - t = n
    induction n generalizing t S1 H' locs ls with
    | zero =>
      intro hM hw ho hS hl he
      have hb8 := hw.b8
      refine lv_iload_n (pc := 2) hx hb dX3_leaves_2 rfl (lk hl rfl) ?_
      refine lv_aload_n (pc := 3) hx hb dX3_leaves_3 rfl (lk hl rfl) ?_
      refine hw_get (pc := 4) hx hb hts in_X3 hown hK (hM.p0) rfl 9 (Nat.le_of_ble_eq_true rfl) (hts _ q1786) (fun x h => h) rfl dX3_leaves_4 ?_
      refine lv_iconst (v := nI 2) (pc := 7) hx hb dX3_leaves_7 (by decide) ?_
      refine hm_iald (k := 8) (pc := 8) hx hb hK hM (by decide) (show 2 < 3 from (by omega)) dX3_leaves_8 ?_
      refine hn_ge (tgt := 60) (pc := 9) hx hb dX3_leaves_9 (by decide) (by omega) (by omega) (fun _ => ?_) (fun hn => absurd hn (by omega))
      rw [plvT] at he
      refine lv_iconst (v := nI 0) (pc := 60) hx hb dX3_leaves_60 (by decide) ?_
      refine lv_istore_n (pc := 61) hx hb dX3_leaves_61 rfl hl (Nat.le_of_ble_eq_true rfl) rfl (fun ls hl => ?_)
      exact L2 0 S1 _ _ _ (Nat.zero_le _) hM hw ho hS (lv_c (lk hl rfl) (lv_c (lk hl rfl) (lv_c (lk hl rfl) (lv_0 hl)))) he
    | succ n ih =>
      intro hM hw ho hS hl he
      have hb8 := hw.b8
      have hbt := hw.b10 (32 + t)
      rw [plvT] at he
      refine lv_iload_n (pc := 2) hx hb dX3_leaves_2 rfl (lk hl rfl) ?_
      refine lv_aload_n (pc := 3) hx hb dX3_leaves_3 rfl (lk hl rfl) ?_
      refine hw_get (pc := 4) hx hb hts in_X3 hown hK (hM.p0) rfl 9 (Nat.le_of_ble_eq_true rfl) (hts _ q1786) (fun x h => h) rfl dX3_leaves_4 ?_
      refine lv_iconst (v := nI 2) (pc := 7) hx hb dX3_leaves_7 (by decide) ?_
      refine hm_iald (k := 8) (pc := 8) hx hb hK hM (by decide) (show 2 < 3 from (by omega)) dX3_leaves_8 ?_
      refine hn_ge (tgt := 60) (pc := 9) hx hb dX3_leaves_9 (by decide) (by omega) (by omega) (fun hn => absurd hn (by omega)) (fun _ => ?_)
      refine lv_aload_n (pc := 12) hx hb dX3_leaves_12 rfl (lk hl rfl) ?_
      refine hw_get (pc := 13) hx hb hts in_X3 hown hK (hM.p0) rfl 11 (Nat.le_of_ble_eq_true rfl) (hts _ q1788) (fun x h => h) rfl dX3_leaves_13 ?_
      refine lv_iconst (v := nI 2) (pc := 16) hx hb dX3_leaves_16 (by decide) ?_
      refine lv_iload_n (pc := 17) hx hb dX3_leaves_17 rfl (lk hl rfl) ?_
      refine hc_S (pc := 18) hx hb hml hown hts hK hS (m_at l Γ H' 2 t (32 + t) (by omega)) (va_cwS 2 hts (lw_S q1935 q1936 q83 q1937) rfl rfl rfl (by decide +kernel) ⟨(Nat.le_of_ble_eq_true rfl), (Nat.le_of_ble_eq_true rfl)⟩) rfl hl.1 rfl (Nat.le_of_ble_eq_true rfl) dX3_leaves_18 ⟨by first | exact Nat.le_of_ble_eq_true rfl | (dsimp only [rmd]; omega), by first | exact Nat.le_of_ble_eq_true rfl | (dsimp only [rmd]; omega)⟩ (fun v1 H1 locs1 hq1 hS => ?_)
      obtain ⟨rfl, rfl⟩ := hq1
      refine hm_mald (pc := 21) hx hb hK hM (show 32 + t < 48 from (by omega)) dX3_leaves_21 ?_
      refine lv_iload_n (pc := 22) hx hb dX3_leaves_22 rfl (lk hl rfl) ?_
      refine hm_ne (tgt := 54) (pc := 23) hx hb dX3_leaves_23 (by decide) (by omega) (by omega) (fun h1 => ?_) (fun h1 => ?_)
      · refine hw_iinc (v := nI (t + 1)) (pc := 54) hx hb dX3_leaves_54 hl (lk hl rfl) (n_inc _ 1) (Nat.le_of_ble_eq_true rfl) (fun ls hl => ?_)
        refine lv_goto (tgt := 2) (pc := 57) hx hb dX3_leaves_57 (by decide) ?_
        rw [if_neg h1] at he
        exact ih (t + 1) S1 _ _ _ (by omega) (by omega) hM hw ho hS (lv_c (lk hl rfl) (lv_c (lk hl rfl) (lv_c (lk hl rfl) (lv_0 hl)))) he
      · skip
        rw [if_pos h1] at he
        have hf5 := pfu_le hw 255
        refine lv_aload_n (pc := 26) hx hb dX3_leaves_26 rfl (lk hl rfl) ?_
        refine hw_get (pc := 27) hx hb hts in_X3 hown hK (hM.p0) rfl 11 (Nat.le_of_ble_eq_true rfl) (hts _ q1788) (fun x h => h) rfl dX3_leaves_27 ?_
        refine lv_iconst (v := nI 2) (pc := 30) hx hb dX3_leaves_30 (by decide) ?_
        refine lv_iload_n (pc := 31) hx hb dX3_leaves_31 rfl (lk hl rfl) ?_
        refine hc_S (pc := 32) hx hb hml hown hts hK hS (m_at l Γ H' 2 t (32 + t) (by omega)) (va_cwS 2 hts (lw_S q1935 q1936 q83 q1937) rfl rfl rfl (by decide +kernel) ⟨(Nat.le_of_ble_eq_true rfl), (Nat.le_of_ble_eq_true rfl)⟩) rfl hl.1 rfl (Nat.le_of_ble_eq_true rfl) dX3_leaves_32 ⟨by first | exact Nat.le_of_ble_eq_true rfl | (dsimp only [rmd]; omega), by first | exact Nat.le_of_ble_eq_true rfl | (dsimp only [rmd]; omega)⟩ (fun v2 H2 locs2 hq2 hS => ?_)
        obtain ⟨rfl, rfl⟩ := hq2
        refine lv_aload_n (pc := 35) hx hb dX3_leaves_35 rfl (lk hl rfl) ?_
        refine hc_V (pc := 36) hx hb hml hown hts hK hS (m_control l Γ H' μ S1 th hM hw) (cwV 0 hts (lw_V q1865 q1867 qs49 q83 q1868) rfl rfl rfl (by decide +kernel) ⟨(Nat.le_of_ble_eq_true rfl), (Nat.le_of_ble_eq_true rfl)⟩) (hK.recv hM.p0 rfl) rfl hl.1 rfl (Nat.le_of_ble_eq_true rfl) dX3_leaves_36 ⟨by first | exact Nat.le_of_ble_eq_true rfl | (dsimp only [rmd]; omega), by first | exact Nat.le_of_ble_eq_true rfl | (dsimp only [rmd]; omega)⟩ (fun v3 H3 locs3 hq3 hS => ?_)
        obtain ⟨rfl, rfl⟩ := hq3
        refine hm_mast (pc := 39) hx hb hK hM (show 32 + t < 48 from (by omega)) hS dX3_leaves_39 (fun H4 locs4 hM ho4 hS => ?_)
        have ho := ho.trans ho4
        have hw := (show WF (up2 S1 10 (32 + t) (pfu S1 255)) from hw.up (by omega))
        refine lv_aload_n (pc := 40) hx hb dX3_leaves_40 rfl (lk hl rfl) ?_
        refine hw_get (pc := 41) hx hb hts in_X3 hown hK (hM.p0) rfl 12 (Nat.le_of_ble_eq_true rfl) (hts _ q1789) (fun x h => h) rfl dX3_leaves_41 ?_
        refine lv_iconst (v := nI 2) (pc := 44) hx hb dX3_leaves_44 (by decide) ?_
        refine lv_iload_n (pc := 45) hx hb dX3_leaves_45 rfl (lk hl rfl) ?_
        refine hc_S (pc := 46) hx hb hml hown hts hK hS (m_at l Γ H4 2 t (32 + t) (by omega)) (va_cwS 2 hts (lw_S q1935 q1936 q83 q1937) rfl rfl rfl (by decide +kernel) ⟨(Nat.le_of_ble_eq_true rfl), (Nat.le_of_ble_eq_true rfl)⟩) rfl hl.1 rfl (Nat.le_of_ble_eq_true rfl) dX3_leaves_46 ⟨by first | exact Nat.le_of_ble_eq_true rfl | (dsimp only [rmd]; omega), by first | exact Nat.le_of_ble_eq_true rfl | (dsimp only [rmd]; omega)⟩ (fun v5 H5 locs5 hq5 hS => ?_)
        obtain ⟨rfl, rfl⟩ := hq5
        refine lv_dup2_11 (pc := 49) hx hb dX3_leaves_49 rfl rfl ?_
        refine hm_iald (k := 11) (pc := 50) hx hb hK hM (by decide) (show 32 + t < 48 from (by omega)) dX3_leaves_50 ?_
        rw [up2_f (by decide)]
        refine lv_iconst (v := nI 1) (pc := 51) hx hb dX3_leaves_51 (by decide) ?_
        refine lv_iadd (pc := 52) hx hb dX3_leaves_52 ?_
        refine hw_top (congrArg Value.int (show _ = nI (S1 11 (32 + t) + 1) from nI_add _ _)) ?_
        refine hm_iast (k := 11) (pc := 53) hx hb hK hM (by decide) (show 32 + t < 48 from (by omega)) hS dX3_leaves_53 (fun H6 locs6 hM ho6 hS => ?_)
        have ho := ho.trans ho6
        refine hw_iinc (v := nI (t + 1)) (pc := 54) hx hb dX3_leaves_54 hl (lk hl rfl) (n_inc _ 1) (Nat.le_of_ble_eq_true rfl) (fun ls hl => ?_)
        refine lv_goto (tgt := 2) (pc := 57) hx hb dX3_leaves_57 (by decide) ?_
        have e8 : ∀ j, up2 (up2 S1 10 (32 + t) (pfu S1 255)) 11 (32 + t) (S1 11 (32 + t) + 1) 8 j = S1 8 j := fun j => by rw [up2_f (by decide), up2_f (by decide)]
        exact ih (t + 1) _ _ _ _ (by rw [e8]; omega) (by rw [e8]; omega) hM (hw.up (by omega)) ho hS (lv_c (lk hl rfl) (lv_c (lk hl rfl) (lv_c (lk hl rfl) (lv_0 hl)))) (by rw [e8, e8]; exact he)
  refine lv_iconst (v := nI 0) (pc := 0) hx hb dX3_leaves_0 (by decide) ?_
  refine lv_istore_n (pc := 1) hx hb dX3_leaves_1 rfl hl (Nat.le_of_ble_eq_true rfl) rfl (fun ls hl => ?_)
  refine L1 0 S _ _ _ (Nat.zero_le _) hM hw ho hS (lv_c (lk hl rfl) (lv_c (lk hl rfl) (lv_c (lk hl rfl) (lv_0 hl)))) ?_
  rw [pleaves, Nat.sub_zero]
