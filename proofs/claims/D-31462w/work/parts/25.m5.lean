/-! the reference: starts and stops of all instances, on all cores; up and down by one -/
set_option maxRecDepth 100000
theorem pcallF_f {S : Sx} {c p i : Nat} {st f : Bool} {g j : Nat} (h7 : g ≠ 7) (h0 : g ≠ 0 ∨ j ≠ 2) : pcallF S c p i st f g j = S g j := by
  unfold pcallF
  split
  · rcases h0 with h0 | h0
    · rw [up2_f h0, up2_f h7]
    · rw [up2_i h0, up2_f h7]
  · rfl
theorem pcall_f {S : Sx} {c p i : Nat} {st cf : Bool} {f j : Nat} (h7 : f ≠ 7) (h13 : f ≠ 13) (h0 : f ≠ 0 ∨ (j ≠ 1 ∧ j ≠ 2 ∧ j ≠ 3)) : pcall S c p i st cf f j = S f j := by
  unfold pcall
  split
  · rfl
  · rcases h0 with h0 | h0
    · rw [up2_f h0, up2_f h0, up2_f h13, pcallF_f h7 (Or.inl h0)]
    · rw [up2_i h0.2.2, up2_i h0.1, up2_f h13, pcallF_f h7 (Or.inr h0.2.1)]
theorem pcall_row {S : Sx} {c p i : Nat} {st cf : Bool} {f : Nat} (h7 : f ≠ 7) (h13 : f ≠ 13) (h0 : f ≠ 0) : pcall S c p i st cf f = S f := by
  funext j
  exact pcall_f h7 h13 (Or.inl h0)
theorem pcall_01 {S : Sx} {c p i : Nat} {st cf : Bool} : S 0 1 ≤ pcall S c p i st cf 0 1 ∧ pcall S c p i st cf 0 1 ≤ S 0 1 + 1 := by
  unfold pcall
  split
  · omega
  · rw [up2_i (by decide), up2_s]; omega
theorem pcallF_02 {S : Sx} {c p i : Nat} {st f : Bool} : pcallF S c p i st f 0 2 ≤ S 0 2 + 1 := by
  unfold pcallF
  split
  · rw [up2_s]; exact Nat.le_refl _
  · omega
theorem pcall_02 {S : Sx} {c p i : Nat} {st cf : Bool} (h : S 0 2 ≤ S 0 1) : pcall S c p i st cf 0 2 ≤ pcall S c p i st cf 0 1 := by
  have q := pcallF_02 (S := S) (c := c) (p := p) (i := i) (st := st) (f := pfails S c p i st cf)
  unfold pcall
  split
  · exact h
  · rw [up2_i (by decide), up2_i (by decide), up2_f (by decide), up2_i (show (1 : Nat) ≠ 3 by decide), up2_s]; omega
theorem wf_pcall {S : Sx} (hw : WF S) {c p i : Nat} {st cf : Bool} (hr : S 0 1 < 40000) : WF (pcall S c p i st cf) := by
  have q1 := pcall_01 (S := S) (c := c) (p := p) (i := i) (st := st) (cf := cf)
  have q2 := pcall_02 (S := S) (c := c) (p := p) (i := i) (st := st) (cf := cf) hw.b01.2
  obtain ⟨w0, w1, w2, w3, w4, w5, w6, w7, w8, w9, w10, w12, w13, w14⟩ := hw
  have g : ∀ f j, f ≠ 7 → f ≠ 13 → f ≠ 0 → pcall S c p i st cf f j = S f j := fun f j a b d => pcall_f a b (Or.inl d)
  refine ⟨?_, fun k => ?_, fun k => ?_, fun k => ?_, fun k => ?_, fun k => ?_, fun k => ?_, fun k => ?_, ?_, fun k => ?_, fun k => ?_, fun k => ?_, by omega, q2⟩
  · rw [pcall_f (by decide) (by decide) (Or.inr (by decide))]; exact w0
  · rw [g 1 k (by decide) (by decide) (by decide)]; exact w1 k
  · rw [g 2 k (by decide) (by decide) (by decide)]; exact w2 k
  · rw [g 3 k (by decide) (by decide) (by decide)]; exact w3 k
  · rw [g 4 k (by decide) (by decide) (by decide)]; exact w4 k
  · rw [g 5 k (by decide) (by decide) (by decide)]; exact w5 k
  · rw [g 6 k (by decide) (by decide) (by decide)]; exact w6 k
  · have h1 := w7 k
    have h2 := w7 (fidx c p i st)
    unfold pcall
    split
    · exact h1
    · rw [up2_f (by decide), up2_f (by decide), up2_f (by decide)]
      unfold pcallF
      split
      · rw [up2_f (by decide)]
        show (if 7 = 7 ∧ k = fidx c p i st then _ else _) ≤ 9
        split <;> omega
      · exact h1
  · rw [g 8 0 (by decide) (by decide) (by decide), g 8 1 (by decide) (by decide) (by decide), g 8 2 (by decide) (by decide) (by decide)]; exact w8
  · rw [g 9 k (by decide) (by decide) (by decide)]; exact w9 k
  · rw [g 10 k (by decide) (by decide) (by decide)]; exact w10 k
  · rw [g 12 k (by decide) (by decide) (by decide)]; exact w12 k
/-- what calls leave as it was -/
def Kp (S S' : Sx) (n : Nat) : Prop := (∀ f j, f ≠ 7 → f ≠ 13 → (f ≠ 0 ∨ (j ≠ 1 ∧ j ≠ 2 ∧ j ≠ 3)) → S' f j = S f j) ∧ (WF S → S 0 1 + n ≤ 40000 → WF S') ∧ S 0 1 ≤ S' 0 1 ∧ S' 0 1 ≤ S 0 1 + n
theorem Kp.rf (S : Sx) : Kp S S 0 := ⟨fun _ _ _ _ _ => rfl, fun h _ => h, Nat.le_refl _, Nat.le_refl _⟩
theorem Kp.trans {S S1 S2 : Sx} {n k : Nat} (h : Kp S S1 n) (h2 : Kp S1 S2 k) : Kp S S2 (n + k) :=
  ⟨fun f j a b d => (h2.1 f j a b d).trans (h.1 f j a b d), fun hw hr => h2.2.1 (h.2.1 hw (by omega)) (by have := h.2.2.2; omega), Nat.le_trans h.2.2.1 h2.2.2.1, by have := h.2.2.2; have := h2.2.2.2; omega⟩
theorem Kp.mono {S S1 : Sx} {n k : Nat} (h : Kp S S1 n) (hk : n ≤ k) : Kp S S1 k := ⟨h.1, fun hw hr => h.2.1 hw (by omega), h.2.2.1, by have := h.2.2.2; omega⟩
theorem Kp.call (S : Sx) (c p i : Nat) (st cf : Bool) : Kp S (pcall S c p i st cf) 1 := ⟨fun f j a b d => pcall_f a b d, fun hw hr => wf_pcall hw (by omega), pcall_01.1, pcall_01.2⟩
theorem Kp.row {S S1 : Sx} {n : Nat} (h : Kp S S1 n) {f : Nat} (h7 : f ≠ 7) (h13 : f ≠ 13) (h0 : f ≠ 0) : S1 f = S f := by
  funext j
  exact h.1 f j h7 h13 (Or.inl h0)
def psU (c p : Nat) : Nat → Sx → Sx
  | 0, S => S
  | k + 1, S => psU c p k (if (S 6 p).testBit k = true then pcall S c p k false false else S)
def psA (c p : Nat) (cf : Bool) : Nat → Nat → Sx → Sx × Bool
  | 0, _, S => (S, true)
  | n + 1, i, S => if (S 6 p).testBit i = true then (if pfails S c p i true cf = true then (psU c p i (pcall S c p i true cf), false) else psA c p cf n (i + 1) (pcall S c p i true cf)) else psA c p cf n (i + 1) S
def ptU (c p : Nat) : Nat → Nat → Sx → Sx
  | 0, _, S => S
  | n + 1, k, S => ptU c p n (k + 1) (if (S 6 p).testBit k = true then pcall S c p k true false else S)
def ptA (c p : Nat) (cf : Bool) : Nat → Sx → Sx × Bool
  | 0, S => (S, true)
  | a + 1, S => if (S 6 p).testBit a = true then (if pfails S c p a false cf = true then (ptU c p (4 - (a + 1)) (a + 1) (pcall S c p a false cf), false) else ptA c p cf a (pcall S c p a false cf)) else ptA c p cf a S
theorem kp_psU (c p : Nat) : ∀ k S, Kp S (psU c p k S) k := by
  intro k
  induction k with
  | zero => intro S; exact Kp.rf S
  | succ k ih =>
    intro S
    rw [psU]
    split
    · exact ((Kp.call S c p k false false).trans (ih _)).mono (by omega)
    · exact (ih S).mono (by omega)
theorem kp_psA (c p : Nat) (cf : Bool) : ∀ n i S, Kp S (psA c p cf n i S).1 (2 * n + i) := by
  intro n
  induction n with
  | zero => intro i S; exact (Kp.rf S).mono (by omega)
  | succ n ih =>
    intro i S
    rw [psA]
    split
    · split
      · exact ((Kp.call S c p i true cf).trans (kp_psU c p i _)).mono (by omega)
      · exact ((Kp.call S c p i true cf).trans (ih (i + 1) _)).mono (by omega)
    · exact (ih (i + 1) S).mono (by omega)
theorem kp_ptU (c p : Nat) : ∀ n k S, Kp S (ptU c p n k S) n := by
  intro n
  induction n with
  | zero => intro k S; exact Kp.rf S
  | succ n ih =>
    intro k S
    rw [ptU]
    split
    · exact ((Kp.call S c p k true false).trans (ih _ _)).mono (by omega)
    · exact (ih _ S).mono (by omega)
theorem kp_ptA (c p : Nat) (cf : Bool) : ∀ a S, Kp S (ptA c p cf a S).1 (a + 4) := by
  intro a
  induction a with
  | zero => intro S; exact (Kp.rf S).mono (by omega)
  | succ a ih =>
    intro S
    rw [ptA]
    split
    · split
      · exact ((Kp.call S c p a false cf).trans (kp_ptU c p _ _ _)).mono (by omega)
      · exact ((Kp.call S c p a false cf).trans (ih _)).mono (by omega)
    · exact (ih S).mono (by omega)
set_option maxHeartbeats 8000000 in
theorem m_startsAll (l : Launch) (Γ : Cx) (H : Heap) (μ : Nat → Nat) (S : Sx) (th : Int32) (k p9 : Nat) (cf : Bool) (hM : MW Γ H μ S th) (hw : WF S) (hk : k < 8) (hp : p9 < 20) (hr9 : S 0 1 + 8 ≤ 40000) : Mt l Γ yX3_startsAll (ws_ yX3_startsAll cX3_startsAll 7 (some .boolean)) 5 0 0 [.ref (μ 0), .int (nI k), .int (nI p9), .int (b01 cf)] H (MP Γ μ (psA k p9 cf 4 0 S).1 th H (some (.int (b01 (psA k p9 cf 4 0 S).2)))) := by
  refine mt_of (by decide +kernel) (Nat.le_of_ble_eq_true rfl) ?_
  intro p e s m args below meth c ls Q hx hb hr hlocks hml hts hown hnm hK hS hl hQ
  have ho : Off (Mf μ) H H := Off.rf
  have L2 : ∀ (u : Nat) (S1 : Sx) (H' : Heap) (locs : List Loc) (ls : Array Slot), u ≤ 4 → MW Γ H' μ S1 th → WF S1 → S1 0 1 + u ≤ 40000 → Off (Mf μ) H H' → va_S (Gz Γ) s.heap H' locs → lv_has ls 7 [(0, .ref (μ 0)), (1, .int (nI k)), (2, .int (nI p9)), (5, .int (nI u - 1))] → psU k p9 u S1 = (psA k p9 cf 4 0 S).1 → (psA k p9 cf 4 0 S).2 = false → W p l e (rmd 5 0 0) s m args below meth c H' locs 0 0 Q (F0 m 42 ls []) := by
    intro u
    induction u with
    | zero =>
      intro S1 H' locs ls _ hM hw hr1 ho hS hl he hf
      refine lv_iload (pc := 42) hx hb dX3_startsAll_42 (lk hl rfl) ?_
      refine hm_z_lt (tgt := 79) (pc := 44) hx hb dX3_startsAll_44 (by decide) (by omega) (fun _ => ?_) (fun hn => absurd hn (by omega))
      refine lv_iconst (v := nI 0) (pc := 79) hx hb dX3_startsAll_79 (by decide) ?_
      rw [psU] at he
      exact hr_z (pc := 80) hQ hx hb hr hlocks hS (by first | exact Nat.le_of_ble_eq_true rfl | (dsimp only [rmd]; omega)) (by first | exact Nat.le_of_ble_eq_true rfl | (dsimp only [rmd]; omega)) (rfl) (⟨by rw [hf]; rfl, hM.eq he, ho⟩) dX3_startsAll_80
    | succ u ih =>
      intro S1 H' locs ls hu hM hw hr1 ho hS hl he hf
      have hb6 := hw.b6 p9
      rw [psU] at he
      rw [nI_pred] at hl
      refine lv_iload (pc := 42) hx hb dX3_startsAll_42 (lk hl rfl) ?_
      refine lv_if_lt (tgt := 79) (pc := 44) hx hb dX3_startsAll_44 (by decide) (fun q => absurd q (nI_pos (by omega))) (fun _ => ?_)
      refine lv_aload_n (pc := 47) hx hb dX3_startsAll_47 rfl (lk hl rfl) ?_
      refine hw_get (pc := 48) hx hb hts in_X3 hown hK (hM.p0) rfl 7 (Nat.le_of_ble_eq_true rfl) (hts _ q1784) (fun x h => h) rfl dX3_startsAll_48 ?_
      refine lv_iload_n (pc := 51) hx hb dX3_startsAll_51 rfl (lk hl rfl) ?_
      refine hm_iald (k := 6) (pc := 52) hx hb hK hM (by decide) (show p9 < 20 from (by omega)) dX3_startsAll_52 ?_
      refine lv_iload (pc := 53) hx hb dX3_startsAll_53 (lk hl rfl) ?_
      refine hc_S (pc := 55) hx hb hml hown hts hK hS (m_has l Γ H' (S1 6 p9) u (by omega) (by omega)) (va_cwS 2 hts (lw_S q1873 q1874 q83 q1875) rfl rfl rfl (by decide +kernel) ⟨(Nat.le_of_ble_eq_true rfl), (Nat.le_of_ble_eq_true rfl)⟩) rfl hl.1 rfl (Nat.le_of_ble_eq_true rfl) dX3_startsAll_55 ⟨by first | exact Nat.le_of_ble_eq_true rfl | (dsimp only [rmd]; omega), by first | exact Nat.le_of_ble_eq_true rfl | (dsimp only [rmd]; omega)⟩ (fun v1 H1 locs1 hq1 hS => ?_)
      obtain ⟨rfl, rfl⟩ := hq1
      refine hz_eq (tgt := 73) (pc := 58) hx hb dX3_startsAll_58 (by decide) (fun h1 => ?_) (fun h1 => ?_)
      · refine hw_iinc (v := nI u - 1) (pc := 73) hx hb dX3_startsAll_73 hl (lk hl rfl) (n_dec _) (Nat.le_of_ble_eq_true rfl) (fun ls hl => ?_)
        refine lv_goto (tgt := 42) (pc := 76) hx hb dX3_startsAll_76 (by decide) ?_
        rw [if_neg (by rw [h1]; simp)] at he
        exact ih S1 _ _ _ (by omega) hM hw (by omega) ho hS (lv_c (lk hl rfl) (lv_c (lk hl rfl) (lv_c (lk hl rfl) (lv_c (lk hl rfl) (lv_0 hl))))) he hf
      · skip
        rw [if_pos h1] at he
        refine lv_aload_n (pc := 61) hx hb dX3_startsAll_61 rfl (lk hl rfl) ?_
        refine lv_iload_n (pc := 62) hx hb dX3_startsAll_62 rfl (lk hl rfl) ?_
        refine lv_iload_n (pc := 63) hx hb dX3_startsAll_63 rfl (lk hl rfl) ?_
        refine lv_iload (pc := 64) hx hb dX3_startsAll_64 (lk hl rfl) ?_
        refine lv_iconst (v := b01 false) (pc := 66) hx hb dX3_startsAll_66 (by decide) ?_
        refine lv_iconst (v := b01 false) (pc := 67) hx hb dX3_startsAll_67 (by decide) ?_
        refine hc_V (pc := 68) hx hb hml hown hts hK hS (m_calls l Γ H' μ S1 th k p9 u false false hM hw (by omega) (by omega) (by omega)) (cwV 5 hts (lw_V q1861 q1863 qs48 q83 q1864) rfl rfl rfl (by decide +kernel) ⟨(Nat.le_of_ble_eq_true rfl), (Nat.le_of_ble_eq_true rfl)⟩) (hK.recv hM.p0 rfl) rfl hl.1 rfl (Nat.le_of_ble_eq_true rfl) dX3_startsAll_68 ⟨by first | exact Nat.le_of_ble_eq_true rfl | (dsimp only [rmd]; omega), by first | exact Nat.le_of_ble_eq_true rfl | (dsimp only [rmd]; omega)⟩ (fun v2 H2 locs2 hq2 hS => ?_)
        obtain ⟨rfl, hM, ho2⟩ := hq2
        have ho := ho.trans ho2
        refine lv_istore (pc := 71) hx hb dX3_startsAll_71 hl (Nat.le_of_ble_eq_true rfl) rfl (fun ls hl => ?_)
        refine hw_iinc (v := nI u - 1) (pc := 73) hx hb dX3_startsAll_73 hl (lk hl rfl) (n_dec _) (Nat.le_of_ble_eq_true rfl) (fun ls hl => ?_)
        refine lv_goto (tgt := 42) (pc := 76) hx hb dX3_startsAll_76 (by decide) ?_
        have q := Kp.call S1 k p9 u false false
        exact ih _ _ _ _ (by omega) hM (q.2.1 hw (by omega)) (by have := q.2.2.2; omega) ho hS (by repeat first | exact lv_0 hl | refine lv_c (lk hl rfl) ?_) he hf
  have L1 : ∀ (n i : Nat) (S1 : Sx) (H' : Heap) (locs : List Loc) (ls : Array Slot), i + n = 4 → MW Γ H' μ S1 th → WF S1 → S1 0 1 + 2 * n + i ≤ 40000 → Off (Mf μ) H H' → va_S (Gz Γ) s.heap H' locs → lv_has ls 7 [(0, .ref (μ 0)), (1, .int (nI k)), (2, .int (nI p9)), (3, .int (b01 cf)), (4, .int (nI i))] → psA k p9 cf n i S1 = psA k p9 cf 4 0 S → W p l e (rmd 5 0 0) s m args below meth c H' locs 0 0 Q (F0 m 3 ls []) := by
    intro n
    induction n with
    | zero =>
      intro i S1 H' locs ls hi hM hw hr1 ho hS hl he
      refine lv_iload (pc := 3) hx hb dX3_startsAll_3 (lk hl rfl) ?_
      refine lv_iconst (v := nI 4) (pc := 5) hx hb dX3_startsAll_5 (by decide) ?_
      refine hn_ge (tgt := 87) (pc := 6) hx hb dX3_startsAll_6 (by decide) (by omega) (by omega) (fun _ => ?_) (fun hn => absurd hn (by omega))
      refine lv_iconst (v := nI 1) (pc := 87) hx hb dX3_startsAll_87 (by decide) ?_
      rw [psA] at he
      exact hr_z (pc := 88) hQ hx hb hr hlocks hS (by first | exact Nat.le_of_ble_eq_true rfl | (dsimp only [rmd]; omega)) (by first | exact Nat.le_of_ble_eq_true rfl | (dsimp only [rmd]; omega)) (rfl) (⟨by rw [← he]; rfl, hM.eq (by rw [← he]), ho⟩) dX3_startsAll_88
    | succ n ih =>
      intro i S1 H' locs ls hi hM hw hr1 ho hS hl he
      have hb6 := hw.b6 p9
      rw [psA] at he
      refine lv_iload (pc := 3) hx hb dX3_startsAll_3 (lk hl rfl) ?_
      refine lv_iconst (v := nI 4) (pc := 5) hx hb dX3_startsAll_5 (by decide) ?_
      refine hn_ge (tgt := 87) (pc := 6) hx hb dX3_startsAll_6 (by decide) (by omega) (by omega) (fun hn => absurd hn (by omega)) (fun _ => ?_)
      refine lv_aload_n (pc := 9) hx hb dX3_startsAll_9 rfl (lk hl rfl) ?_
      refine hw_get (pc := 10) hx hb hts in_X3 hown hK (hM.p0) rfl 7 (Nat.le_of_ble_eq_true rfl) (hts _ q1784) (fun x h => h) rfl dX3_startsAll_10 ?_
      refine lv_iload_n (pc := 13) hx hb dX3_startsAll_13 rfl (lk hl rfl) ?_
      refine hm_iald (k := 6) (pc := 14) hx hb hK hM (by decide) (show p9 < 20 from (by omega)) dX3_startsAll_14 ?_
      refine lv_iload (pc := 15) hx hb dX3_startsAll_15 (lk hl rfl) ?_
      refine hc_S (pc := 17) hx hb hml hown hts hK hS (m_has l Γ H' (S1 6 p9) i (by omega) (by omega)) (va_cwS 2 hts (lw_S q1873 q1874 q83 q1875) rfl rfl rfl (by decide +kernel) ⟨(Nat.le_of_ble_eq_true rfl), (Nat.le_of_ble_eq_true rfl)⟩) rfl hl.1 rfl (Nat.le_of_ble_eq_true rfl) dX3_startsAll_17 ⟨by first | exact Nat.le_of_ble_eq_true rfl | (dsimp only [rmd]; omega), by first | exact Nat.le_of_ble_eq_true rfl | (dsimp only [rmd]; omega)⟩ (fun v1 H1 locs1 hq1 hS => ?_)
      obtain ⟨rfl, rfl⟩ := hq1
      refine hz_eq (tgt := 81) (pc := 20) hx hb dX3_startsAll_20 (by decide) (fun h1 => ?_) (fun h1 => ?_)
      · refine hw_iinc (v := nI (i + 1)) (pc := 81) hx hb dX3_startsAll_81 hl (lk hl rfl) (n_inc _ 1) (Nat.le_of_ble_eq_true rfl) (fun ls hl => ?_)
        refine lv_goto (tgt := 3) (pc := 84) hx hb dX3_startsAll_84 (by decide) ?_
        rw [if_neg (by rw [h1]; simp)] at he
        exact ih (i + 1) S1 _ _ _ (by omega) hM hw (by omega) ho hS (lv_c (lk hl rfl) (lv_c (lk hl rfl) (lv_c (lk hl rfl) (lv_c (lk hl rfl) (lv_c (lk hl rfl) (lv_0 hl)))))) he
      · skip
        rw [if_pos h1] at he
        refine lv_aload_n (pc := 23) hx hb dX3_startsAll_23 rfl (lk hl rfl) ?_
        refine lv_iload_n (pc := 24) hx hb dX3_startsAll_24 rfl (lk hl rfl) ?_
        refine lv_iload_n (pc := 25) hx hb dX3_startsAll_25 rfl (lk hl rfl) ?_
        refine lv_iload (pc := 26) hx hb dX3_startsAll_26 (lk hl rfl) ?_
        refine lv_iconst (v := b01 true) (pc := 28) hx hb dX3_startsAll_28 (by decide) ?_
        refine lv_iload_n (pc := 29) hx hb dX3_startsAll_29 rfl (lk hl rfl) ?_
        refine hc_V (pc := 30) hx hb hml hown hts hK hS (m_calls l Γ H' μ S1 th k p9 i true cf hM hw (by omega) (by omega) (by omega)) (cwV 5 hts (lw_V q1861 q1863 qs48 q83 q1864) rfl rfl rfl (by decide +kernel) ⟨(Nat.le_of_ble_eq_true rfl), (Nat.le_of_ble_eq_true rfl)⟩) (hK.recv hM.p0 rfl) rfl hl.1 rfl (Nat.le_of_ble_eq_true rfl) dX3_startsAll_30 ⟨by first | exact Nat.le_of_ble_eq_true rfl | (dsimp only [rmd]; omega), by first | exact Nat.le_of_ble_eq_true rfl | (dsimp only [rmd]; omega)⟩ (fun v2 H2 locs2 hq2 hS => ?_)
        obtain ⟨rfl, hM, ho2⟩ := hq2
        have ho := ho.trans ho2
        have q := Kp.call S1 k p9 i true cf
        have hw := q.2.1 hw (by omega)
        have hq9 := q.2.2.2
        refine hz_ne (tgt := 81) (pc := 33) hx hb dX3_startsAll_33 (by decide) (fun h2 => ?_) (fun h2 => ?_)
        · refine hw_iinc (v := nI (i + 1)) (pc := 81) hx hb dX3_startsAll_81 hl (lk hl rfl) (n_inc _ 1) (Nat.le_of_ble_eq_true rfl) (fun ls hl => ?_)
          refine lv_goto (tgt := 3) (pc := 84) hx hb dX3_startsAll_84 (by decide) ?_
          have h2 : pfails S1 k p9 i true cf = false := by simpa using h2
          rw [if_neg (by rw [h2]; simp)] at he
          exact ih (i + 1) _ _ _ _ (by omega) hM hw (by omega) ho hS (lv_c (lk hl rfl) (lv_c (lk hl rfl) (lv_c (lk hl rfl) (lv_c (lk hl rfl) (lv_c (lk hl rfl) (lv_0 hl)))))) he
        · skip
          have h2 : pfails S1 k p9 i true cf = true := by simpa using h2
          rw [if_pos h2] at he
          refine lv_iload (pc := 36) hx hb dX3_startsAll_36 (lk hl rfl) ?_
          refine lv_iconst (v := nI 1) (pc := 38) hx hb dX3_startsAll_38 (by decide) ?_
          refine lv_isub (pc := 39) hx hb dX3_startsAll_39 ?_
          refine hw_top (congrArg Value.int (show _ = nI i - 1 from n_1 _)) ?_
          refine lv_istore (pc := 40) hx hb dX3_startsAll_40 hl (Nat.le_of_ble_eq_true rfl) rfl (fun ls hl => ?_)
          exact L2 i _ _ _ _ (by omega) hM hw (by omega) ho hS (by repeat first | exact lv_0 hl | refine lv_c (lk hl rfl) ?_) (by rw [← he]) (by rw [← he])
  refine lv_iconst (v := nI 0) (pc := 0) hx hb dX3_startsAll_0 (by decide) ?_
  refine lv_istore (pc := 1) hx hb dX3_startsAll_1 hl (Nat.le_of_ble_eq_true rfl) rfl (fun ls hl => ?_)
  exact L1 4 0 S _ _ _ rfl hM hw (by omega) ho hS (lv_c (lk hl rfl) (lv_c (lk hl rfl) (lv_c (lk hl rfl) (lv_c (lk hl rfl) (lv_c (lk hl rfl) (lv_0 hl)))))) rfl
set_option maxHeartbeats 8000000 in
theorem m_stopsAll (l : Launch) (Γ : Cx) (H : Heap) (μ : Nat → Nat) (S : Sx) (th : Int32) (k p9 : Nat) (cf : Bool) (hM : MW Γ H μ S th) (hw : WF S) (hk : k < 8) (hp : p9 < 20) (hr9 : S 0 1 + 8 ≤ 40000) : Mt l Γ yX3_stopsAll (ws_ yX3_stopsAll cX3_stopsAll 7 (some .boolean)) 5 0 0 [.ref (μ 0), .int (nI k), .int (nI p9), .int (b01 cf)] H (MP Γ μ (ptA k p9 cf 4 S).1 th H (some (.int (b01 (ptA k p9 cf 4 S).2)))) := by
  refine mt_of (by decide +kernel) (Nat.le_of_ble_eq_true rfl) ?_
  intro p e s m args below meth c ls Q hx hb hr hlocks hml hts hown hnm hK hS hl hQ
  have ho : Off (Mf μ) H H := Off.rf
  have L2 : ∀ (n u : Nat) (S1 : Sx) (H' : Heap) (locs : List Loc) (ls : Array Slot), u + n = 4 → MW Γ H' μ S1 th → WF S1 → S1 0 1 + n ≤ 40000 → Off (Mf μ) H H' → va_S (Gz Γ) s.heap H' locs → lv_has ls 7 [(0, .ref (μ 0)), (1, .int (nI k)), (2, .int (nI p9)), (5, .int (nI u))] → ptU k p9 n u S1 = (ptA k p9 cf 4 S).1 → (ptA k p9 cf 4 S).2 = false → W p l e (rmd 5 0 0) s m args below meth c H' locs 0 0 Q (F0 m 41 ls []) := by
    intro n
    induction n with
    | zero =>
      intro u S1 H' locs ls hu hM hw hr1 ho hS hl he hf
      refine lv_iload (pc := 41) hx hb dX3_stopsAll_41 (lk hl rfl) ?_
      refine lv_iconst (v := nI 4) (pc := 43) hx hb dX3_stopsAll_43 (by decide) ?_
      refine hn_ge (tgt := 79) (pc := 44) hx hb dX3_stopsAll_44 (by decide) (by omega) (by omega) (fun _ => ?_) (fun hn => absurd hn (by omega))
      refine lv_iconst (v := nI 0) (pc := 79) hx hb dX3_stopsAll_79 (by decide) ?_
      rw [ptU] at he
      exact hr_z (pc := 80) hQ hx hb hr hlocks hS (by first | exact Nat.le_of_ble_eq_true rfl | (dsimp only [rmd]; omega)) (by first | exact Nat.le_of_ble_eq_true rfl | (dsimp only [rmd]; omega)) (rfl) (⟨by rw [hf]; rfl, hM.eq he, ho⟩) dX3_stopsAll_80
    | succ n ih =>
      intro u S1 H' locs ls hu hM hw hr1 ho hS hl he hf
      have hb6 := hw.b6 p9
      rw [ptU] at he
      refine lv_iload (pc := 41) hx hb dX3_stopsAll_41 (lk hl rfl) ?_
      refine lv_iconst (v := nI 4) (pc := 43) hx hb dX3_stopsAll_43 (by decide) ?_
      refine hn_ge (tgt := 79) (pc := 44) hx hb dX3_stopsAll_44 (by decide) (by omega) (by omega) (fun hn => absurd hn (by omega)) (fun _ => ?_)
      refine lv_aload_n (pc := 47) hx hb dX3_stopsAll_47 rfl (lk hl rfl) ?_
      refine hw_get (pc := 48) hx hb hts in_X3 hown hK (hM.p0) rfl 7 (Nat.le_of_ble_eq_true rfl) (hts _ q1784) (fun x h => h) rfl dX3_stopsAll_48 ?_
      refine lv_iload_n (pc := 51) hx hb dX3_stopsAll_51 rfl (lk hl rfl) ?_
      refine hm_iald (k := 6) (pc := 52) hx hb hK hM (by decide) (show p9 < 20 from (by omega)) dX3_stopsAll_52 ?_
      refine lv_iload (pc := 53) hx hb dX3_stopsAll_53 (lk hl rfl) ?_
      refine hc_S (pc := 55) hx hb hml hown hts hK hS (m_has l Γ H' (S1 6 p9) u (by omega) (by omega)) (va_cwS 2 hts (lw_S q1873 q1874 q83 q1875) rfl rfl rfl (by decide +kernel) ⟨(Nat.le_of_ble_eq_true rfl), (Nat.le_of_ble_eq_true rfl)⟩) rfl hl.1 rfl (Nat.le_of_ble_eq_true rfl) dX3_stopsAll_55 ⟨by first | exact Nat.le_of_ble_eq_true rfl | (dsimp only [rmd]; omega), by first | exact Nat.le_of_ble_eq_true rfl | (dsimp only [rmd]; omega)⟩ (fun v1 H1 locs1 hq1 hS => ?_)
      obtain ⟨rfl, rfl⟩ := hq1
      refine hz_eq (tgt := 73) (pc := 58) hx hb dX3_stopsAll_58 (by decide) (fun h1 => ?_) (fun h1 => ?_)
      · refine hw_iinc (v := nI (u + 1)) (pc := 73) hx hb dX3_stopsAll_73 hl (lk hl rfl) (n_inc _ 1) (Nat.le_of_ble_eq_true rfl) (fun ls hl => ?_)
        refine lv_goto (tgt := 41) (pc := 76) hx hb dX3_stopsAll_76 (by decide) ?_
        rw [if_neg (by rw [h1]; simp)] at he
        exact ih (u + 1) S1 _ _ _ (by omega) hM hw (by omega) ho hS (lv_c (lk hl rfl) (lv_c (lk hl rfl) (lv_c (lk hl rfl) (lv_c (lk hl rfl) (lv_0 hl))))) he hf
      · skip
        rw [if_pos h1] at he
        refine lv_aload_n (pc := 61) hx hb dX3_stopsAll_61 rfl (lk hl rfl) ?_
        refine lv_iload_n (pc := 62) hx hb dX3_stopsAll_62 rfl (lk hl rfl) ?_
        refine lv_iload_n (pc := 63) hx hb dX3_stopsAll_63 rfl (lk hl rfl) ?_
        refine lv_iload (pc := 64) hx hb dX3_stopsAll_64 (lk hl rfl) ?_
        refine lv_iconst (v := b01 true) (pc := 66) hx hb dX3_stopsAll_66 (by decide) ?_
        refine lv_iconst (v := b01 false) (pc := 67) hx hb dX3_stopsAll_67 (by decide) ?_
        refine hc_V (pc := 68) hx hb hml hown hts hK hS (m_calls l Γ H' μ S1 th k p9 u true false hM hw (by omega) (by omega) (by omega)) (cwV 5 hts (lw_V q1861 q1863 qs48 q83 q1864) rfl rfl rfl (by decide +kernel) ⟨(Nat.le_of_ble_eq_true rfl), (Nat.le_of_ble_eq_true rfl)⟩) (hK.recv hM.p0 rfl) rfl hl.1 rfl (Nat.le_of_ble_eq_true rfl) dX3_stopsAll_68 ⟨by first | exact Nat.le_of_ble_eq_true rfl | (dsimp only [rmd]; omega), by first | exact Nat.le_of_ble_eq_true rfl | (dsimp only [rmd]; omega)⟩ (fun v2 H2 locs2 hq2 hS => ?_)
        obtain ⟨rfl, hM, ho2⟩ := hq2
        have ho := ho.trans ho2
        refine lv_istore (pc := 71) hx hb dX3_stopsAll_71 hl (Nat.le_of_ble_eq_true rfl) rfl (fun ls hl => ?_)
        refine hw_iinc (v := nI (u + 1)) (pc := 73) hx hb dX3_stopsAll_73 hl (lk hl rfl) (n_inc _ 1) (Nat.le_of_ble_eq_true rfl) (fun ls hl => ?_)
        refine lv_goto (tgt := 41) (pc := 76) hx hb dX3_stopsAll_76 (by decide) ?_
        have q := Kp.call S1 k p9 u true false
        exact ih (u + 1) _ _ _ _ (by omega) hM (q.2.1 hw (by omega)) (by have := q.2.2.2; omega) ho hS (by repeat first | exact lv_0 hl | refine lv_c (lk hl rfl) ?_) he hf
  have L1 : ∀ (a : Nat) (S1 : Sx) (H' : Heap) (locs : List Loc) (ls : Array Slot), a ≤ 4 → MW Γ H' μ S1 th → WF S1 → S1 0 1 + a + 4 ≤ 40000 → Off (Mf μ) H H' → va_S (Gz Γ) s.heap H' locs → lv_has ls 7 [(0, .ref (μ 0)), (1, .int (nI k)), (2, .int (nI p9)), (3, .int (b01 cf)), (4, .int (nI a - 1))] → ptA k p9 cf a S1 = ptA k p9 cf 4 S → W p l e (rmd 5 0 0) s m args below meth c H' locs 0 0 Q (F0 m 3 ls []) := by
    intro a
    induction a with
    | zero =>
      intro S1 H' locs ls hi hM hw hr1 ho hS hl he
      refine lv_iload (pc := 3) hx hb dX3_stopsAll_3 (lk hl rfl) ?_
      refine hm_z_lt (tgt := 87) (pc := 5) hx hb dX3_stopsAll_5 (by decide) (by omega) (fun _ => ?_) (fun hn => absurd hn (by omega))
      refine lv_iconst (v := nI 1) (pc := 87) hx hb dX3_stopsAll_87 (by decide) ?_
      rw [ptA] at he
      exact hr_z (pc := 88) hQ hx hb hr hlocks hS (by first | exact Nat.le_of_ble_eq_true rfl | (dsimp only [rmd]; omega)) (by first | exact Nat.le_of_ble_eq_true rfl | (dsimp only [rmd]; omega)) (rfl) (⟨by rw [← he]; rfl, hM.eq (by rw [← he]), ho⟩) dX3_stopsAll_88
    | succ a ih =>
      intro S1 H' locs ls hi hM hw hr1 ho hS hl he
      have hb6 := hw.b6 p9
      rw [ptA] at he
      rw [nI_pred] at hl
      refine lv_iload (pc := 3) hx hb dX3_stopsAll_3 (lk hl rfl) ?_
      refine lv_if_lt (tgt := 87) (pc := 5) hx hb dX3_stopsAll_5 (by decide) (fun q => absurd q (nI_pos (by omega))) (fun _ => ?_)
      refine lv_aload_n (pc := 8) hx hb dX3_stopsAll_8 rfl (lk hl rfl) ?_
      refine hw_get (pc := 9) hx hb hts in_X3 hown hK (hM.p0) rfl 7 (Nat.le_of_ble_eq_true rfl) (hts _ q1784) (fun x h => h) rfl dX3_stopsAll_9 ?_
      refine lv_iload_n (pc := 12) hx hb dX3_stopsAll_12 rfl (lk hl rfl) ?_
      refine hm_iald (k := 6) (pc := 13) hx hb hK hM (by decide) (show p9 < 20 from (by omega)) dX3_stopsAll_13 ?_
      refine lv_iload (pc := 14) hx hb dX3_stopsAll_14 (lk hl rfl) ?_
      refine hc_S (pc := 16) hx hb hml hown hts hK hS (m_has l Γ H' (S1 6 p9) a (by omega) (by omega)) (va_cwS 2 hts (lw_S q1873 q1874 q83 q1875) rfl rfl rfl (by decide +kernel) ⟨(Nat.le_of_ble_eq_true rfl), (Nat.le_of_ble_eq_true rfl)⟩) rfl hl.1 rfl (Nat.le_of_ble_eq_true rfl) dX3_stopsAll_16 ⟨by first | exact Nat.le_of_ble_eq_true rfl | (dsimp only [rmd]; omega), by first | exact Nat.le_of_ble_eq_true rfl | (dsimp only [rmd]; omega)⟩ (fun v1 H1 locs1 hq1 hS => ?_)
      obtain ⟨rfl, rfl⟩ := hq1
      refine hz_eq (tgt := 81) (pc := 19) hx hb dX3_stopsAll_19 (by decide) (fun h1 => ?_) (fun h1 => ?_)
      · refine hw_iinc (v := nI a - 1) (pc := 81) hx hb dX3_stopsAll_81 hl (lk hl rfl) (n_dec _) (Nat.le_of_ble_eq_true rfl) (fun ls hl => ?_)
        refine lv_goto (tgt := 3) (pc := 84) hx hb dX3_stopsAll_84 (by decide) ?_
        rw [if_neg (by rw [h1]; simp)] at he
        exact ih S1 _ _ _ (by omega) hM hw (by omega) ho hS (lv_c (lk hl rfl) (lv_c (lk hl rfl) (lv_c (lk hl rfl) (lv_c (lk hl rfl) (lv_c (lk hl rfl) (lv_0 hl)))))) he
      · skip
        rw [if_pos h1] at he
        refine lv_aload_n (pc := 22) hx hb dX3_stopsAll_22 rfl (lk hl rfl) ?_
        refine lv_iload_n (pc := 23) hx hb dX3_stopsAll_23 rfl (lk hl rfl) ?_
        refine lv_iload_n (pc := 24) hx hb dX3_stopsAll_24 rfl (lk hl rfl) ?_
        refine lv_iload (pc := 25) hx hb dX3_stopsAll_25 (lk hl rfl) ?_
        refine lv_iconst (v := b01 false) (pc := 27) hx hb dX3_stopsAll_27 (by decide) ?_
        refine lv_iload_n (pc := 28) hx hb dX3_stopsAll_28 rfl (lk hl rfl) ?_
        refine hc_V (pc := 29) hx hb hml hown hts hK hS (m_calls l Γ H' μ S1 th k p9 a false cf hM hw (by omega) (by omega) (by omega)) (cwV 5 hts (lw_V q1861 q1863 qs48 q83 q1864) rfl rfl rfl (by decide +kernel) ⟨(Nat.le_of_ble_eq_true rfl), (Nat.le_of_ble_eq_true rfl)⟩) (hK.recv hM.p0 rfl) rfl hl.1 rfl (Nat.le_of_ble_eq_true rfl) dX3_stopsAll_29 ⟨by first | exact Nat.le_of_ble_eq_true rfl | (dsimp only [rmd]; omega), by first | exact Nat.le_of_ble_eq_true rfl | (dsimp only [rmd]; omega)⟩ (fun v2 H2 locs2 hq2 hS => ?_)
        obtain ⟨rfl, hM, ho2⟩ := hq2
        have ho := ho.trans ho2
        have q := Kp.call S1 k p9 a false cf
        have hw := q.2.1 hw (by omega)
        have hq9 := q.2.2.2
        refine hz_ne (tgt := 81) (pc := 32) hx hb dX3_stopsAll_32 (by decide) (fun h2 => ?_) (fun h2 => ?_)
        · refine hw_iinc (v := nI a - 1) (pc := 81) hx hb dX3_stopsAll_81 hl (lk hl rfl) (n_dec _) (Nat.le_of_ble_eq_true rfl) (fun ls hl => ?_)
          refine lv_goto (tgt := 3) (pc := 84) hx hb dX3_stopsAll_84 (by decide) ?_
          have h2 : pfails S1 k p9 a false cf = false := by simpa using h2
          rw [if_neg (by rw [h2]; simp)] at he
          exact ih _ _ _ _ (by omega) hM hw (by omega) ho hS (lv_c (lk hl rfl) (lv_c (lk hl rfl) (lv_c (lk hl rfl) (lv_c (lk hl rfl) (lv_c (lk hl rfl) (lv_0 hl)))))) he
        · skip
          have h2 : pfails S1 k p9 a false cf = true := by simpa using h2
          rw [if_pos h2] at he
          refine lv_iload (pc := 35) hx hb dX3_stopsAll_35 (lk hl rfl) ?_
          refine lv_iconst (v := nI 1) (pc := 37) hx hb dX3_stopsAll_37 (by decide) ?_
          refine lv_iadd (pc := 38) hx hb dX3_stopsAll_38 ?_
          refine hw_top (congrArg Value.int (show _ = nI (a + 1) from nI_add _ _)) ?_
          refine lv_istore (pc := 39) hx hb dX3_stopsAll_39 hl (Nat.le_of_ble_eq_true rfl) rfl (fun ls hl => ?_)
          exact L2 (4 - (a + 1)) (a + 1) _ _ _ _ (by omega) hM hw (by omega) ho hS (by repeat first | exact lv_0 hl | refine lv_c (lk hl rfl) ?_) (by rw [← he]) (by rw [← he])
  refine lv_iconst (v := nI 4 - 1) (pc := 0) hx hb dX3_stopsAll_0 (by decide) ?_
  refine lv_istore (pc := 1) hx hb dX3_stopsAll_1 hl (Nat.le_of_ble_eq_true rfl) rfl (fun ls hl => ?_)
  exact L1 4 S _ _ _ (Nat.le_refl _) hM hw (by omega) ho hS (lv_c (lk hl rfl) (lv_c (lk hl rfl) (lv_c (lk hl rfl) (lv_c (lk hl rfl) (lv_c (lk hl rfl) (lv_0 hl)))))) rfl
