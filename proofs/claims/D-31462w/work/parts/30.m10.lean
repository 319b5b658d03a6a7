/-! up, down -/
set_option maxRecDepth 100000
def pup (c : Nat) (cf : Bool) : Nat → Sx → Sx × Bool
  | 0, S => (S, true)
  | n + 1, S => if (pgu S c cf).2 = true then pup c cf n (pgu S c cf).1 else ((pgu S c cf).1, false)
def pdn (c : Nat) (cf : Bool) : Nat → Sx → Sx × Bool
  | 0, S => (S, true)
  | n + 1, S => if (pgd S c cf).2 = true then pdn c cf n (pgd S c cf).1 else ((pgd S c cf).1, false)
theorem i_in2 {x : Int32} {lo hi : Nat} (hh : hi < 2 ^ 31) (hl : lo < 2 ^ 31) (h1 : ¬ x < nI lo) (h2 : ¬ nI hi < x) : ∃ j, lo ≤ j ∧ j ≤ hi ∧ x = nI j := by
  have h3 : ¬ x < 0 := by
    intro q
    apply h1
    rw [Int32.lt_iff_toInt_lt, nI_toInt (by omega)]
    rw [Int32.lt_iff_toInt_lt, Int32.toInt_zero] at q
    omega
  obtain ⟨j, hj, rfl⟩ := nI_of h3
  exact ⟨j, by have := (not_congr (nI_ltI hj hl)).mp h1; omega, by have := (not_congr (nI_ltI hh hj)).mp h2; omega, rfl⟩
theorem pfails_n {S : Sx} {c p i : Nat} {st : Bool} : pfails S c p i st false = false := by simp [pfails]
theorem psA_n (c p : Nat) : ∀ n i S, (psA c p false n i S).2 = true := by
  intro n
  induction n with
  | zero => intro i S; rfl
  | succ n ih =>
    intro i S
    rw [psA, pfails_n]
    split
    · exact ih _ _
    · exact ih _ _
theorem ptA_n (c p : Nat) : ∀ n S, (ptA c p false n S).2 = true := by
  intro n
  induction n with
  | zero => intro S; rfl
  | succ n ih =>
    intro S
    rw [ptA, pfails_n]
    split
    · exact ih _
    · exact ih _
/-- what a pass does to the levels and to the count of cores -/
theorem pgu_1 {S : Sx} {c : Nat} {cf : Bool} : (pgu S c cf).1 1 c = (if (pgu S c cf).2 = true then S 1 c + 1 else S 1 c) ∧ (∀ j, j ≠ c → (pgu S c cf).1 1 j = S 1 j) ∧ (pgu S c cf).1 0 0 = S 0 0 := by
  have q := kp_psA c (S 1 c) cf 4 0 S
  have r1 := q.row (f := 1) (by decide) (by decide) (by decide)
  have r0 := q.1 0 0 (by decide) (by decide) (Or.inr (by decide))
  unfold pgu
  split
  · next h =>
    refine ⟨?_, fun j hj => ?_, ?_⟩
    · rw [if_pos rfl]
      show pcomes _ c 1 c = _
      rw [pcomes_0 c _ (by decide) (by decide) (by decide), up2_s, h]
    · show pcomes _ c 1 j = _
      rw [pcomes_0 c _ (by decide) (by decide) (by decide), up2_i hj]
    · show pcomes _ c 0 0 = _
      rw [pcomes_0 c _ (by decide) (by decide) (by decide), up2_f (by decide)]
  · split
    · refine ⟨?_, fun j hj => ?_, ?_⟩
      · rw [if_pos rfl]
        show up2 _ 1 c _ 1 c = _
        rw [up2_s]
      · show up2 _ 1 c _ 1 j = _
        rw [up2_i hj, r1]
      · show up2 (psA c (S 1 c) cf 4 0 S).1 1 c (S 1 c + 1) 0 0 = _
        rw [up2_f (by decide), r0]
    · refine ⟨?_, fun j hj => ?_, ?_⟩
      · rw [if_neg (by simp)]
        show (psA c (S 1 c) cf 4 0 S).1 1 c = _
        rw [r1]
      · show (psA c (S 1 c) cf 4 0 S).1 1 j = _
        rw [r1]
      · exact r0
theorem pgd_1 {S : Sx} {c : Nat} {cf : Bool} (hc : 0 < S 1 c) : (pgd S c cf).1 1 c = (if (pgd S c cf).2 = true then S 1 c - 1 else S 1 c) ∧ (∀ j, j ≠ c → (pgd S c cf).1 1 j = S 1 j) ∧ (pgd S c cf).1 0 0 = S 0 0 := by
  have q := kp_ptA c (S 1 c - 1) cf 4 S
  have r1 := q.row (f := 1) (by decide) (by decide) (by decide)
  have r0 := q.1 0 0 (by decide) (by decide) (Or.inr (by decide))
  unfold pgd
  split
  · next h =>
    split
    · exact ⟨by rw [if_neg (by simp)], fun j hj => rfl, rfl⟩
    · refine ⟨?_, fun j hj => ?_, ?_⟩
      · rw [if_pos rfl]
        show pleaves _ c 1 c = _
        rw [pleaves_0 c _ (by decide) (by decide) (by decide), up2_s, h]
      · show pleaves _ c 1 j = _
        rw [pleaves_0 c _ (by decide) (by decide) (by decide), up2_i hj]
      · show pleaves _ c 0 0 = _
        rw [pleaves_0 c _ (by decide) (by decide) (by decide), up2_f (by decide)]
  · split
    · refine ⟨?_, fun j hj => ?_, ?_⟩
      · rw [if_pos rfl]
        show up2 _ 1 c _ 1 c = _
        rw [up2_s]
      · show up2 _ 1 c _ 1 j = _
        rw [up2_i hj, r1]
      · show up2 (ptA c (S 1 c - 1) cf 4 S).1 1 c (S 1 c - 1) 0 0 = _
        rw [up2_f (by decide), r0]
    · refine ⟨?_, fun j hj => ?_, ?_⟩
      · rw [if_neg (by simp)]
        show (ptA c (S 1 c - 1) cf 4 S).1 1 c = _
        rw [r1]
      · show (ptA c (S 1 c - 1) cf 4 S).1 1 j = _
        rw [r1]
      · exact r0
theorem pgu_n {S : Sx} {c : Nat} : (pgu S c false).2 = true := by
  unfold pgu
  split
  · rfl
  · rw [if_pos (psA_n _ _ _ _ _)]
/-- another core is UP -/
def othUp (S : Sx) (c : Nat) : Prop := ∃ j, j < S 0 0 ∧ j ≠ c ∧ 10 < S 1 j
theorem pfuA_pos (S : Sx) (m : Nat) : ∀ n c, (∃ j, c ≤ j ∧ j < c + n ∧ m.testBit j = true ∧ 10 < S 1 j) → pfuA S m n c ≠ 0 := by
  intro n
  induction n with
  | zero => intro c ⟨j, h1, h2, _⟩; omega
  | succ n ih =>
    intro c ⟨j, h1, h2, h3, h4⟩
    rw [pfuA]
    split
    · omega
    · next hn =>
      refine ih (c + 1) ⟨j, ?_, by omega, h3, h4⟩
      rcases Nat.lt_or_ge c j with h | h
      · exact h
      · exact absurd (show m.testBit c = true ∧ 10 < S 1 c from by rw [show c = j by omega]; exact ⟨h3, h4⟩) hn
theorem othUp_fu {S : Sx} (hw : WF S) {c : Nat} (hc : c < 8) (h : othUp S c) : pfu S (255 - 2 ^ c) ≠ 0 := by
  obtain ⟨j, h1, h2, h3⟩ := h
  have key : ∀ c, c < 8 → ∀ j, j < 8 → j ≠ c → (255 - 2 ^ c).testBit j = true := by decide +kernel
  exact pfuA_pos S _ _ _ ⟨j, by omega, by omega, key c hc j (by have := hw.b0; omega) h2, h3⟩
theorem pgd_n {S : Sx} {c : Nat} (h : S 1 c = 11 → pfu S (255 - 2 ^ c) ≠ 0) : (pgd S c false).2 = true := by
  unfold pgd
  split
  · next e => rw [if_neg (h e)]
  · rw [if_pos (ptA_n _ _ _ _)]
def pupB (S : Sx) (c y : Nat) : Sx := if (pup c true (y - S 1 c) S).2 = true then (pup c true (y - S 1 c) S).1 else (pdn c false ((pup c true (y - S 1 c) S).1 1 c - S 1 c) (pup c true (y - S 1 c) S).1).1
def pdnB (S : Sx) (c y : Nat) : Sx := if (pdn c true (S 1 c - y) S).2 = true then (pdn c true (S 1 c - y) S).1 else (pup c false (S 1 c - (pdn c true (S 1 c - y) S).1 1 c) (pdn c true (S 1 c - y) S).1).1
def oUp (S : Sx) (x y : Int32) : Ox := if isC S x = true then (if inI y (nI (S 1 (tn x) + 1)) (nI 20) = true then (pupB S (tn x) (tn y), 0, nI (pupB S (tn x) (tn y) 1 (tn x))) else (S, 2, nI 0)) else (S, 1, nI 0)
def oDown (S : Sx) (x y : Int32) : Ox := if isC S x = true then (if inI y (nI 0) (nI (S 1 (tn x)) - 1) = true then (pdnB S (tn x) (tn y), 0, nI (pdnB S (tn x) (tn y) 1 (tn x))) else (S, 2, nI 0)) else (S, 1, nI 0)
set_option maxHeartbeats 8000000 in
theorem m_up (l : Launch) (Γ : Cx) (H : Heap) (μ : Nat → Nat) (S : Sx) (th : Int32) (x y : Int32) (hM : MW Γ H μ S th) (hw : WF S) (hr9 : S 0 1 + 320 ≤ 40000) (hu9 : ∃ j, j < S 0 0 ∧ 10 < S 1 j) : Mt l Γ yX3_up (ws_ yX3_up cX3_up 6 (some .int)) 7 0 0 [.ref (μ 0), .int x, .int y] H (MO Γ μ H (oUp S x y)) := by
  refine mt_of (by decide +kernel) (Nat.le_of_ble_eq_true rfl) ?_
  intro p e s m args below meth c ls Q hx hb hr hlocks hml hts hown hnm hK hS hl hQ
  have ho : Off (Mf μ) H H := Off.rf
  have hb0 := hw.b0
  refine lv_aload_n (pc := 0) hx hb dX3_up_0 rfl (lk hl rfl) ?_
  refine lv_iload_n (pc := 1) hx hb dX3_up_1 rfl (lk hl rfl) ?_
  refine hc_V (pc := 2) hx hb hml hown hts hK hS (m_isCore l Γ H μ S th x hM) (cwV 1 hts (lw_V q1915 q1917 qs56 q83 q1918) rfl rfl rfl (by decide +kernel) ⟨(Nat.le_of_ble_eq_true rfl), (Nat.le_of_ble_eq_true rfl)⟩) (hK.recv hM.p0 rfl) rfl hl.1 rfl (Nat.le_of_ble_eq_true rfl) dX3_up_2 ⟨by first | exact Nat.le_of_ble_eq_true rfl | (dsimp only [rmd]; omega), by first | exact Nat.le_of_ble_eq_true rfl | (dsimp only [rmd]; omega)⟩ (fun v1 H1 locs1 hq1 hS => ?_)
  obtain ⟨rfl, rfl⟩ := hq1
  refine hz_ne (tgt := 14) (pc := 5) hx hb dX3_up_5 (by decide) (fun h1 => ?_) (fun h1 => ?_)
  · rw [oUp, if_pos (show isC S x = true from h1)] at hQ
    obtain ⟨k, hk, rfl⟩ := isCore_iff hw h1
    rw [tn_nI (by omega)] at hQ
    have hb1 := hw.b1 k
    refine lv_iload_n (pc := 14) hx hb dX3_up_14 rfl (lk hl rfl) ?_
    refine lv_aload_n (pc := 15) hx hb dX3_up_15 rfl (lk hl rfl) ?_
    refine hw_get (pc := 16) hx hb hts in_X3 hown hK (hM.p0) rfl 2 (Nat.le_of_ble_eq_true rfl) (hts _ q1779) (fun x h => h) rfl dX3_up_16 ?_
    refine lv_iload_n (pc := 19) hx hb dX3_up_19 rfl (lk hl rfl) ?_
    refine hm_iald (k := 1) (pc := 20) hx hb hK hM (by decide) (show k < 8 from (by omega)) dX3_up_20 ?_
    have := hw.b1 k
    refine lv_iconst (v := nI 1) (pc := 21) hx hb dX3_up_21 (by decide) ?_
    refine lv_iadd (pc := 22) hx hb dX3_up_22 ?_
    refine hw_top (congrArg Value.int (show _ = nI (S 1 k + 1) from nI_add _ _)) ?_
    refine lv_bipush (v := nI 20) (pc := 23) hx hb dX3_up_23 (by decide) ?_
    refine hc_S (pc := 25) hx hb hml hown hts hK hS (m_in l Γ H y (nI (S 1 k + 1)) (nI 20)) (va_cwS 3 hts (lw_S q1854 q1855 q83 q1856) rfl rfl rfl (by decide +kernel) ⟨(Nat.le_of_ble_eq_true rfl), (Nat.le_of_ble_eq_true rfl)⟩) rfl hl.1 rfl (Nat.le_of_ble_eq_true rfl) dX3_up_25 ⟨by first | exact Nat.le_of_ble_eq_true rfl | (dsimp only [rmd]; omega), by first | exact Nat.le_of_ble_eq_true rfl | (dsimp only [rmd]; omega)⟩ (fun v2 H2 locs2 hq2 hS => ?_)
    obtain ⟨rfl, rfl⟩ := hq2
    refine hz_ne (tgt := 37) (pc := 28) hx hb dX3_up_28 (by decide) (fun h2 => ?_) (fun h2 => ?_)
    · rw [if_pos (show inI y (nI (S 1 k + 1)) (nI 20) = true from h2)] at hQ
      obtain ⟨y9, hy1, hy2, rfl⟩ := i_in2 (by decide) (by omega) (of_decide_eq_true h2).1 (of_decide_eq_true h2).2
      rw [tn_nI (by omega)] at hQ
      refine lv_aload_n (pc := 37) hx hb dX3_up_37 rfl (lk hl rfl) ?_
      refine hw_get (pc := 38) hx hb hts in_X3 hown hK (hM.p0) rfl 2 (Nat.le_of_ble_eq_true rfl) (hts _ q1779) (fun x h => h) rfl dX3_up_38 ?_
      refine lv_iload_n (pc := 41) hx hb dX3_up_41 rfl (lk hl rfl) ?_
      refine hm_iald (k := 1) (pc := 42) hx hb hK hM (by decide) (show k < 8 from (by omega)) dX3_up_42 ?_
      have := hw.b1 k
      refine lv_istore_n (pc := 43) hx hb dX3_up_43 rfl hl (Nat.le_of_ble_eq_true rfl) rfl (fun ls hl => ?_)
      obtain ⟨F, hF⟩ : ∃ F, F = pupB S k y9 := ⟨_, rfl⟩
      rw [← hF] at hQ
      have fin : ∀ (H' : Heap) (locs : List Loc) (ls : Array Slot), MW Γ H' μ F th → WF F → Off (Mf μ) H H' → va_S (Gz Γ) s.heap H' locs → lv_has ls 6 [(0, .ref (μ 0)), (1, .int (nI k))] → W p l e (rmd 7 0 0) s m args below meth c H' locs 0 0 Q (F0 m 99 ls []) := by
        intro H' locs ls hM hw ho hS hl
        refine lv_aload_n (pc := 99) hx hb dX3_up_99 rfl (lk hl rfl) ?_
        refine lv_aload_n (pc := 100) hx hb dX3_up_100 rfl (lk hl rfl) ?_
        refine hw_get (pc := 101) hx hb hts in_X3 hown hK (hM.p0) rfl 2 (Nat.le_of_ble_eq_true rfl) (hts _ q1779) (fun x h => h) rfl dX3_up_101 ?_
        refine lv_iload_n (pc := 104) hx hb dX3_up_104 rfl (lk hl rfl) ?_
        refine hm_iald (k := 1) (pc := 105) hx hb hK hM (by decide) (show k < 8 from (by omega)) dX3_up_105 ?_
        refine hc_V (pc := 106) hx hb hml hown hts hK hS (m_told l Γ H' μ F th (nI (F 1 k)) hM) (cwV 1 hts (lw_V q1838 q1840 qs45 q83 q1841) rfl rfl rfl (by decide +kernel) ⟨(Nat.le_of_ble_eq_true rfl), (Nat.le_of_ble_eq_true rfl)⟩) (hK.recv hM.p0 rfl) rfl hl.1 rfl (Nat.le_of_ble_eq_true rfl) dX3_up_106 ⟨by first | exact Nat.le_of_ble_eq_true rfl | (dsimp only [rmd]; omega), by first | exact Nat.le_of_ble_eq_true rfl | (dsimp only [rmd]; omega)⟩ (fun v3 H3 locs3 hq3 hS => ?_)
        obtain ⟨rfl, hM, ho3⟩ := hq3
        have ho := ho.trans ho3
        exact hr_i (pc := 109) hQ hx hb hr hlocks hS (by first | exact Nat.le_of_ble_eq_true rfl | (dsimp only [rmd]; omega)) (by first | exact Nat.le_of_ble_eq_true rfl | (dsimp only [rmd]; omega)) (⟨rfl, hM, ho⟩) dX3_up_109
      have L2 : ∀ (d : Nat) (S1 : Sx) (H' : Heap) (locs : List Loc) (ls : Array Slot), S1 1 k = S 1 k + d → (S 1 k ≤ 10 → othUp S1 k) → MW Γ H' μ S1 th → WF S1 → S1 0 1 + 8 * d ≤ 40000 → Off (Mf μ) H H' → va_S (Gz Γ) s.heap H' locs → lv_has ls 6 [(0, .ref (μ 0)), (1, .int (nI k)), (2, .int (nI y9)), (3, .int (nI (S 1 k))), (4, .int (b01 false))] → (pdn k false d S1).1 = F → W p l e (rmd 7 0 0) s m args below meth c H' locs 0 0 Q (F0 m 73 ls []) := by
        intro d
        induction d with
        | zero =>
          intro S1 H' locs ls hlv hot hM hw hr1 ho hS hl he
          rw [pdn] at he
          refine lv_iload (pc := 73) hx hb dX3_up_73 (lk hl rfl) ?_
          refine hz_ne (tgt := 99) (pc := 75) hx hb dX3_up_75 (by decide) (fun hn => absurd hn (by simp)) (fun _ => ?_)
          refine lv_aload_n (pc := 78) hx hb dX3_up_78 rfl (lk hl rfl) ?_
          refine hw_get (pc := 79) hx hb hts in_X3 hown hK (hM.p0) rfl 2 (Nat.le_of_ble_eq_true rfl) (hts _ q1779) (fun x h => h) rfl dX3_up_79 ?_
          refine lv_iload_n (pc := 82) hx hb dX3_up_82 rfl (lk hl rfl) ?_
          refine hm_iald (k := 1) (pc := 83) hx hb hK hM (by decide) (show k < 8 from (by omega)) dX3_up_83 ?_
          refine lv_iload_n (pc := 84) hx hb dX3_up_84 rfl (lk hl rfl) ?_
          refine hn_le (tgt := 99) (pc := 85) hx hb dX3_up_85 (by decide) (by omega) (by omega) (fun _ => ?_) (fun hn => absurd hn (by omega))
          exact fin _ _ _ (hM.eq he) (he ▸ hw) ho hS (by repeat first | exact lv_0 hl | refine lv_c (lk hl rfl) ?_)
        | succ d ih =>
          intro S1 H' locs ls hlv hot hM hw hr1 ho hS hl he
          have hb1 := hw.b1 k
          have hgood : (pgd S1 k false).2 = true := pgd_n (fun e => othUp_fu hw (by omega) (hot (by omega)))
          rw [pdn, if_pos hgood] at he
          refine lv_iload (pc := 73) hx hb dX3_up_73 (lk hl rfl) ?_
          refine hz_ne (tgt := 99) (pc := 75) hx hb dX3_up_75 (by decide) (fun hn => absurd hn (by simp)) (fun _ => ?_)
          refine lv_aload_n (pc := 78) hx hb dX3_up_78 rfl (lk hl rfl) ?_
          refine hw_get (pc := 79) hx hb hts in_X3 hown hK (hM.p0) rfl 2 (Nat.le_of_ble_eq_true rfl) (hts _ q1779) (fun x h => h) rfl dX3_up_79 ?_
          refine lv_iload_n (pc := 82) hx hb dX3_up_82 rfl (lk hl rfl) ?_
          refine hm_iald (k := 1) (pc := 83) hx hb hK hM (by decide) (show k < 8 from (by omega)) dX3_up_83 ?_
          refine lv_iload_n (pc := 84) hx hb dX3_up_84 rfl (lk hl rfl) ?_
          refine hn_le (tgt := 99) (pc := 85) hx hb dX3_up_85 (by decide) (by omega) (by omega) (fun hn => absurd hn (by omega)) (fun _ => ?_)
          refine lv_aload_n (pc := 88) hx hb dX3_up_88 rfl (lk hl rfl) ?_
          refine lv_iload_n (pc := 89) hx hb dX3_up_89 rfl (lk hl rfl) ?_
          refine lv_iconst (v := b01 false) (pc := 90) hx hb dX3_up_90 (by decide) ?_
          have q := pgd_wf (c := k) (cf := false) hw (by omega)
          have q1 := pgd_1 (cf := false) (show 0 < S1 1 k by omega)
          refine hc_V (pc := 91) hx hb hml hown hts hK hS (m_goesDown l Γ H' μ S1 th k false hM hw (by omega) (by omega) (by omega)) (cwV 2 hts (lw_V q1946 q1948 qs62 q83 q1949) rfl rfl rfl (by decide +kernel) ⟨(Nat.le_of_ble_eq_true rfl), (Nat.le_of_ble_eq_true rfl)⟩) (hK.recv hM.p0 rfl) rfl hl.1 rfl (Nat.le_of_ble_eq_true rfl) dX3_up_91 ⟨by first | exact Nat.le_of_ble_eq_true rfl | (dsimp only [rmd]; omega), by first | exact Nat.le_of_ble_eq_true rfl | (dsimp only [rmd]; omega)⟩ (fun v4 H4 locs4 hq4 hS => ?_)
          obtain ⟨rfl, hM, ho4⟩ := hq4
          have ho := ho.trans ho4
          refine lv_istore (pc := 94) hx hb dX3_up_94 hl (Nat.le_of_ble_eq_true rfl) rfl (fun ls hl => ?_)
          refine lv_goto (tgt := 73) (pc := 96) hx hb dX3_up_96 (by decide) ?_
          exact ih _ _ _ _ (by rw [q1.1, if_pos hgood]; omega) (fun h => by
            obtain ⟨j, a, b, c⟩ := hot h
            exact ⟨j, by rw [q1.2.2]; exact a, b, by rw [q1.2.1 j b]; exact c⟩) hM q.1 (by omega) ho hS (by repeat first | exact lv_0 hl | refine lv_c (lk hl rfl) ?_) he
      have L1 : ∀ (n : Nat) (S1 : Sx) (H' : Heap) (locs : List Loc) (ls : Array Slot), S1 1 k + n = y9 → S 1 k ≤ S1 1 k → (S 1 k ≤ 10 → othUp S1 k) → MW Γ H' μ S1 th → WF S1 → S1 0 1 + 8 * n + 160 ≤ 40000 → Off (Mf μ) H H' → va_S (Gz Γ) s.heap H' locs → lv_has ls 6 [(0, .ref (μ 0)), (1, .int (nI k)), (2, .int (nI y9)), (3, .int (nI (S 1 k))), (4, .int (b01 true))] → pup k true n S1 = pup k true (y9 - S 1 k) S → W p l e (rmd 7 0 0) s m args below meth c H' locs 0 0 Q (F0 m 47 ls []) := by
        intro n
        induction n with
        | zero =>
          intro S1 H' locs ls hlv hle hot hM hw hr1 ho hS hl he
          rw [pup] at he
          refine lv_iload (pc := 47) hx hb dX3_up_47 (lk hl rfl) ?_
          refine hz_eq (tgt := 73) (pc := 49) hx hb dX3_up_49 (by decide) (fun hn => absurd hn (by simp)) (fun _ => ?_)
          refine lv_aload_n (pc := 52) hx hb dX3_up_52 rfl (lk hl rfl) ?_
          refine hw_get (pc := 53) hx hb hts in_X3 hown hK (hM.p0) rfl 2 (Nat.le_of_ble_eq_true rfl) (hts _ q1779) (fun x h => h) rfl dX3_up_53 ?_
          refine lv_iload_n (pc := 56) hx hb dX3_up_56 rfl (lk hl rfl) ?_
          refine hm_iald (k := 1) (pc := 57) hx hb hK hM (by decide) (show k < 8 from (by omega)) dX3_up_57 ?_
          refine lv_iload_n (pc := 58) hx hb dX3_up_58 rfl (lk hl rfl) ?_
          refine hn_ge (tgt := 73) (pc := 59) hx hb dX3_up_59 (by decide) (by omega) (by omega) (fun _ => ?_) (fun hn => absurd hn (by omega))
          refine lv_iload (pc := 73) hx hb dX3_up_73 (lk hl rfl) ?_
          refine hz_ne (tgt := 99) (pc := 75) hx hb dX3_up_75 (by decide) (fun _ => ?_) (fun hn => absurd hn (by simp))
          have e : S1 = F := by rw [hF, pupB, ← he]; rfl
          exact fin _ _ _ (hM.eq e) (e ▸ hw) ho hS (by repeat first | exact lv_0 hl | refine lv_c (lk hl rfl) ?_)
        | succ n ih =>
          intro S1 H' locs ls hlv hle hot hM hw hr1 ho hS hl he
          have hb1 := hw.b1 k
          rw [pup] at he
          refine lv_iload (pc := 47) hx hb dX3_up_47 (lk hl rfl) ?_
          refine hz_eq (tgt := 73) (pc := 49) hx hb dX3_up_49 (by decide) (fun hn => absurd hn (by simp)) (fun _ => ?_)
          refine lv_aload_n (pc := 52) hx hb dX3_up_52 rfl (lk hl rfl) ?_
          refine hw_get (pc := 53) hx hb hts in_X3 hown hK (hM.p0) rfl 2 (Nat.le_of_ble_eq_true rfl) (hts _ q1779) (fun x h => h) rfl dX3_up_53 ?_
          refine lv_iload_n (pc := 56) hx hb dX3_up_56 rfl (lk hl rfl) ?_
          refine hm_iald (k := 1) (pc := 57) hx hb hK hM (by decide) (show k < 8 from (by omega)) dX3_up_57 ?_
          refine lv_iload_n (pc := 58) hx hb dX3_up_58 rfl (lk hl rfl) ?_
          refine hn_ge (tgt := 73) (pc := 59) hx hb dX3_up_59 (by decide) (by omega) (by omega) (fun hn => absurd hn (by omega)) (fun _ => ?_)
          refine lv_aload_n (pc := 62) hx hb dX3_up_62 rfl (lk hl rfl) ?_
          refine lv_iload_n (pc := 63) hx hb dX3_up_63 rfl (lk hl rfl) ?_
          refine lv_iconst (v := b01 true) (pc := 64) hx hb dX3_up_64 (by decide) ?_
          have q := pgu_wf (c := k) (cf := true) hw (by omega) (by omega) (by omega)
          have q1 := @pgu_1 S1 k true
          refine hc_V (pc := 65) hx hb hml hown hts hK hS (m_goesUp l Γ H' μ S1 th k true hM hw (by omega) (by omega) (by omega)) (cwV 2 hts (lw_V q1923 q1925 qs57 q83 q1926) rfl rfl rfl (by decide +kernel) ⟨(Nat.le_of_ble_eq_true rfl), (Nat.le_of_ble_eq_true rfl)⟩) (hK.recv hM.p0 rfl) rfl hl.1 rfl (Nat.le_of_ble_eq_true rfl) dX3_up_65 ⟨by first | exact Nat.le_of_ble_eq_true rfl | (dsimp only [rmd]; omega), by first | exact Nat.le_of_ble_eq_true rfl | (dsimp only [rmd]; omega)⟩ (fun v5 H5 locs5 hq5 hS => ?_)
          obtain ⟨rfl, hM, ho5⟩ := hq5
          have ho := ho.trans ho5
          refine lv_istore (pc := 68) hx hb dX3_up_68 hl (Nat.le_of_ble_eq_true rfl) rfl (fun ls hl => ?_)
          refine lv_goto (tgt := 47) (pc := 70) hx hb dX3_up_70 (by decide) ?_
          have hot' : S 1 k ≤ 10 → othUp (pgu S1 k true).1 k := fun h => by
            obtain ⟨j, a, b, c⟩ := hot h
            exact ⟨j, by rw [q1.2.2]; exact a, b, by rw [q1.2.1 j b]; exact c⟩
          have hb9 := q.1.b1 k
          by_cases hg : (pgu S1 k true).2 = true
          · rw [if_pos hg] at he
            exact ih _ _ _ _ (by rw [q1.1, if_pos hg]; omega) (by rw [q1.1, if_pos hg]; omega) hot' hM q.1 (by omega) ho hS (by rw [← hg]; exact (by repeat first | exact lv_0 hl | refine lv_c (lk hl rfl) ?_)) he
          · rw [if_neg hg] at he
            have hg : (pgu S1 k true).2 = false := by simpa using hg
            have e1 := q1.1
            rw [if_neg (by rw [hg]; simp)] at e1
            rw [hg] at hl
            refine lv_iload (pc := 47) hx hb dX3_up_47 (lk hl rfl) ?_
            refine hz_eq (tgt := 73) (pc := 49) hx hb dX3_up_49 (by decide) (fun _ => ?_) (fun hn => absurd hn (by simp))
            exact L2 (S1 1 k - S 1 k) _ _ _ _ (by omega) hot' hM q.1 (by omega) ho hS (by repeat first | exact lv_0 hl | refine lv_c (lk hl rfl) ?_) (by rw [hF, pupB, ← he, if_neg (by simp)]; show _ = (pdn k false ((pgu S1 k true).1 1 k - S 1 k) _).1; rw [e1])
      refine lv_iconst (v := b01 true) (pc := 44) hx hb dX3_up_44 (by decide) ?_
      refine lv_istore (pc := 45) hx hb dX3_up_45 hl (Nat.le_of_ble_eq_true rfl) rfl (fun ls hl => ?_)
      exact L1 (y9 - S 1 k) S _ _ _ (by omega) (by omega) (fun h => by
        obtain ⟨j, a, b⟩ := hu9
        exact ⟨j, a, fun e => by rw [e] at b; omega, b⟩) hM hw (by omega) ho hS (lv_c (lk hl rfl) (lv_c (lk hl rfl) (lv_c (lk hl rfl) (lv_c (lk hl rfl) (lv_c (lk hl rfl) (lv_0 hl)))))) rfl
    · skip
      rw [if_neg (show ¬ inI y (nI (S 1 k + 1)) (nI 20) = true by show ¬ decide _ = true; rw [h2]; simp)] at hQ
      refine lv_aload_n (pc := 31) hx hb dX3_up_31 rfl (lk hl rfl) ?_
      refine lv_iconst (v := nI 2) (pc := 32) hx hb dX3_up_32 (by decide) ?_
      refine hc_V (pc := 33) hx hb hml hown hts hK hS (m_refuse l Γ H μ S th (nI 2) hM) (cwV 1 hts (lw_V q1846 q1848 qs46 q83 q1849) rfl rfl rfl (by decide +kernel) ⟨(Nat.le_of_ble_eq_true rfl), (Nat.le_of_ble_eq_true rfl)⟩) (hK.recv hM.p0 rfl) rfl hl.1 rfl (Nat.le_of_ble_eq_true rfl) dX3_up_33 ⟨by first | exact Nat.le_of_ble_eq_true rfl | (dsimp only [rmd]; omega), by first | exact Nat.le_of_ble_eq_true rfl | (dsimp only [rmd]; omega)⟩ (fun v6 H6 locs6 hq6 hS => ?_)
      obtain ⟨rfl, hM, ho6⟩ := hq6
      have ho := ho.trans ho6
      exact hr_i (pc := 36) hQ hx hb hr hlocks hS (by first | exact Nat.le_of_ble_eq_true rfl | (dsimp only [rmd]; omega)) (by first | exact Nat.le_of_ble_eq_true rfl | (dsimp only [rmd]; omega)) (⟨rfl, hM, ho⟩) dX3_up_36
  · skip
    rw [oUp, if_neg (show ¬ isC S x = true by show ¬ decide _ = true; rw [h1]; simp)] at hQ
    refine lv_aload_n (pc := 8) hx hb dX3_up_8 rfl (lk hl rfl) ?_
    refine lv_iconst (v := nI 1) (pc := 9) hx hb dX3_up_9 (by decide) ?_
    refine hc_V (pc := 10) hx hb hml hown hts hK hS (m_refuse l Γ H μ S th (nI 1) hM) (cwV 1 hts (lw_V q1846 q1848 qs46 q83 q1849) rfl rfl rfl (by decide +kernel) ⟨(Nat.le_of_ble_eq_true rfl), (Nat.le_of_ble_eq_true rfl)⟩) (hK.recv hM.p0 rfl) rfl hl.1 rfl (Nat.le_of_ble_eq_true rfl) dX3_up_10 ⟨by first | exact Nat.le_of_ble_eq_true rfl | (dsimp only [rmd]; omega), by first | exact Nat.le_of_ble_eq_true rfl | (dsimp only [rmd]; omega)⟩ (fun v7 H7 locs7 hq7 hS => ?_)
    obtain ⟨rfl, hM, ho7⟩ := hq7
    have ho := ho.trans ho7
    exact hr_i (pc := 13) hQ hx hb hr hlocks hS (by first | exact Nat.le_of_ble_eq_true rfl | (dsimp only [rmd]; omega)) (by first | exact Nat.le_of_ble_eq_true rfl | (dsimp only [rmd]; omega)) (⟨rfl, hM, ho⟩) dX3_up_13
set_option maxHeartbeats 8000000 in
theorem m_down (l : Launch) (Γ : Cx) (H : Heap) (μ : Nat → Nat) (S : Sx) (th : Int32) (x y : Int32) (hM : MW Γ H μ S th) (hw : WF S) (hr9 : S 0 1 + 320 ≤ 40000) : Mt l Γ yX3_down (ws_ yX3_down cX3_down 6 (some .int)) 7 0 0 [.ref (μ 0), .int x, .int y] H (MO Γ μ H (oDown S x y)) := by
  refine mt_of (by decide +kernel) (Nat.le_of_ble_eq_true rfl) ?_
  intro p e s m args below meth c ls Q hx hb hr hlocks hml hts hown hnm hK hS hl hQ
  have ho : Off (Mf μ) H H := Off.rf
  have hb0 := hw.b0
  refine lv_aload_n (pc := 0) hx hb dX3_down_0 rfl (lk hl rfl) ?_
  refine lv_iload_n (pc := 1) hx hb dX3_down_1 rfl (lk hl rfl) ?_
  refine hc_V (pc := 2) hx hb hml hown hts hK hS (m_isCore l Γ H μ S th x hM) (cwV 1 hts (lw_V q1915 q1917 qs56 q83 q1918) rfl rfl rfl (by decide +kernel) ⟨(Nat.le_of_ble_eq_true rfl), (Nat.le_of_ble_eq_true rfl)⟩) (hK.recv hM.p0 rfl) rfl hl.1 rfl (Nat.le_of_ble_eq_true rfl) dX3_down_2 ⟨by first | exact Nat.le_of_ble_eq_true rfl | (dsimp only [rmd]; omega), by first | exact Nat.le_of_ble_eq_true rfl | (dsimp only [rmd]; omega)⟩ (fun v1 H1 locs1 hq1 hS => ?_)
  obtain ⟨rfl, rfl⟩ := hq1
  refine hz_ne (tgt := 14) (pc := 5) hx hb dX3_down_5 (by decide) (fun h1 => ?_) (fun h1 => ?_)
  · rw [oDown, if_pos (show isC S x = true from h1)] at hQ
    obtain ⟨k, hk, rfl⟩ := isCore_iff hw h1
    rw [tn_nI (by omega)] at hQ
    have hb1 := hw.b1 k
    refine lv_iload_n (pc := 14) hx hb dX3_down_14 rfl (lk hl rfl) ?_
    refine lv_iconst (v := nI 0) (pc := 15) hx hb dX3_down_15 (by decide) ?_
    refine lv_aload_n (pc := 16) hx hb dX3_down_16 rfl (lk hl rfl) ?_
    refine hw_get (pc := 17) hx hb hts in_X3 hown hK (hM.p0) rfl 2 (Nat.le_of_ble_eq_true rfl) (hts _ q1779) (fun x h => h) rfl dX3_down_17 ?_
    refine lv_iload_n (pc := 20) hx hb dX3_down_20 rfl (lk hl rfl) ?_
    refine hm_iald (k := 1) (pc := 21) hx hb hK hM (by decide) (show k < 8 from (by omega)) dX3_down_21 ?_
    have := hw.b1 k
    refine lv_iconst (v := nI 1) (pc := 22) hx hb dX3_down_22 (by decide) ?_
    refine lv_isub (pc := 23) hx hb dX3_down_23 ?_
    refine hw_top (congrArg Value.int (show _ = nI (S 1 k) - 1 from n_1 _)) ?_
    refine hc_S (pc := 24) hx hb hml hown hts hK hS (m_in l Γ H y (nI 0) (nI (S 1 k) - 1)) (va_cwS 3 hts (lw_S q1854 q1855 q83 q1856) rfl rfl rfl (by decide +kernel) ⟨(Nat.le_of_ble_eq_true rfl), (Nat.le_of_ble_eq_true rfl)⟩) rfl hl.1 rfl (Nat.le_of_ble_eq_true rfl) dX3_down_24 ⟨by first | exact Nat.le_of_ble_eq_true rfl | (dsimp only [rmd]; omega), by first | exact Nat.le_of_ble_eq_true rfl | (dsimp only [rmd]; omega)⟩ (fun v2 H2 locs2 hq2 hS => ?_)
    obtain ⟨rfl, rfl⟩ := hq2
    refine hz_ne (tgt := 36) (pc := 27) hx hb dX3_down_27 (by decide) (fun h2 => ?_) (fun h2 => ?_)
    · rw [if_pos (show inI y (nI 0) (nI (S 1 k) - 1) = true from h2)] at hQ
      obtain ⟨y9, hy2, rfl⟩ := ix_iff (by omega) (show inI y (nI 0) (nI (S 1 k) - 1) = true from h2)
      rw [tn_nI (by omega)] at hQ
      refine lv_aload_n (pc := 36) hx hb dX3_down_36 rfl (lk hl rfl) ?_
      refine hw_get (pc := 37) hx hb hts in_X3 hown hK (hM.p0) rfl 2 (Nat.le_of_ble_eq_true rfl) (hts _ q1779) (fun x h => h) rfl dX3_down_37 ?_
      refine lv_iload_n (pc := 40) hx hb dX3_down_40 rfl (lk hl rfl) ?_
      refine hm_iald (k := 1) (pc := 41) hx hb hK hM (by decide) (show k < 8 from (by omega)) dX3_down_41 ?_
      have := hw.b1 k
      refine lv_istore_n (pc := 42) hx hb dX3_down_42 rfl hl (Nat.le_of_ble_eq_true rfl) rfl (fun ls hl => ?_)
      obtain ⟨F, hF⟩ : ∃ F, F = pdnB S k y9 := ⟨_, rfl⟩
      rw [← hF] at hQ
      have fin : ∀ (H' : Heap) (locs : List Loc) (ls : Array Slot), MW Γ H' μ F th → WF F → Off (Mf μ) H H' → va_S (Gz Γ) s.heap H' locs → lv_has ls 6 [(0, .ref (μ 0)), (1, .int (nI k))] → W p l e (rmd 7 0 0) s m args below meth c H' locs 0 0 Q (F0 m 98 ls []) := by
        intro H' locs ls hM hw ho hS hl
        refine lv_aload_n (pc := 98) hx hb dX3_down_98 rfl (lk hl rfl) ?_
        refine lv_aload_n (pc := 99) hx hb dX3_down_99 rfl (lk hl rfl) ?_
        refine hw_get (pc := 100) hx hb hts in_X3 hown hK (hM.p0) rfl 2 (Nat.le_of_ble_eq_true rfl) (hts _ q1779) (fun x h => h) rfl dX3_down_100 ?_
        refine lv_iload_n (pc := 103) hx hb dX3_down_103 rfl (lk hl rfl) ?_
        refine hm_iald (k := 1) (pc := 104) hx hb hK hM (by decide) (show k < 8 from (by omega)) dX3_down_104 ?_
        refine hc_V (pc := 105) hx hb hml hown hts hK hS (m_told l Γ H' μ F th (nI (F 1 k)) hM) (cwV 1 hts (lw_V q1838 q1840 qs45 q83 q1841) rfl rfl rfl (by decide +kernel) ⟨(Nat.le_of_ble_eq_true rfl), (Nat.le_of_ble_eq_true rfl)⟩) (hK.recv hM.p0 rfl) rfl hl.1 rfl (Nat.le_of_ble_eq_true rfl) dX3_down_105 ⟨by first | exact Nat.le_of_ble_eq_true rfl | (dsimp only [rmd]; omega), by first | exact Nat.le_of_ble_eq_true rfl | (dsimp only [rmd]; omega)⟩ (fun v3 H3 locs3 hq3 hS => ?_)
        obtain ⟨rfl, hM, ho3⟩ := hq3
        have ho := ho.trans ho3
        exact hr_i (pc := 108) hQ hx hb hr hlocks hS (by first | exact Nat.le_of_ble_eq_true rfl | (dsimp only [rmd]; omega)) (by first | exact Nat.le_of_ble_eq_true rfl | (dsimp only [rmd]; omega)) (⟨rfl, hM, ho⟩) dX3_down_108
      have L2 : ∀ (d : Nat) (S1 : Sx) (H' : Heap) (locs : List Loc) (ls : Array Slot), S1 1 k + d = S 1 k → MW Γ H' μ S1 th → WF S1 → S1 0 1 + 8 * d ≤ 40000 → Off (Mf μ) H H' → va_S (Gz Γ) s.heap H' locs → lv_has ls 6 [(0, .ref (μ 0)), (1, .int (nI k)), (2, .int (nI y9)), (3, .int (nI (S 1 k))), (4, .int (b01 false))] → (pup k false d S1).1 = F → W p l e (rmd 7 0 0) s m args below meth c H' locs 0 0 Q (F0 m 72 ls []) := by
        intro d
        induction d with
        | zero =>
          intro S1 H' locs ls hlv hM hw hr1 ho hS hl he
          rw [pup] at he
          refine lv_iload (pc := 72) hx hb dX3_down_72 (lk hl rfl) ?_
          refine hz_ne (tgt := 98) (pc := 74) hx hb dX3_down_74 (by decide) (fun hn => absurd hn (by simp)) (fun _ => ?_)
          refine lv_aload_n (pc := 77) hx hb dX3_down_77 rfl (lk hl rfl) ?_
          refine hw_get (pc := 78) hx hb hts in_X3 hown hK (hM.p0) rfl 2 (Nat.le_of_ble_eq_true rfl) (hts _ q1779) (fun x h => h) rfl dX3_down_78 ?_
          refine lv_iload_n (pc := 81) hx hb dX3_down_81 rfl (lk hl rfl) ?_
          refine hm_iald (k := 1) (pc := 82) hx hb hK hM (by decide) (show k < 8 from (by omega)) dX3_down_82 ?_
          refine lv_iload_n (pc := 83) hx hb dX3_down_83 rfl (lk hl rfl) ?_
          refine hn_ge (tgt := 98) (pc := 84) hx hb dX3_down_84 (by decide) (by omega) (by omega) (fun _ => ?_) (fun hn => absurd hn (by omega))
          exact fin _ _ _ (hM.eq he) (he ▸ hw) ho hS (by repeat first | exact lv_0 hl | refine lv_c (lk hl rfl) ?_)
        | succ d ih =>
          intro S1 H' locs ls hlv hM hw hr1 ho hS hl he
          have hgood : (pgu S1 k false).2 = true := pgu_n
          rw [pup, if_pos hgood] at he
          refine lv_iload (pc := 72) hx hb dX3_down_72 (lk hl rfl) ?_
          refine hz_ne (tgt := 98) (pc := 74) hx hb dX3_down_74 (by decide) (fun hn => absurd hn (by simp)) (fun _ => ?_)
          refine lv_aload_n (pc := 77) hx hb dX3_down_77 rfl (lk hl rfl) ?_
          refine hw_get (pc := 78) hx hb hts in_X3 hown hK (hM.p0) rfl 2 (Nat.le_of_ble_eq_true rfl) (hts _ q1779) (fun x h => h) rfl dX3_down_78 ?_
          refine lv_iload_n (pc := 81) hx hb dX3_down_81 rfl (lk hl rfl) ?_
          refine hm_iald (k := 1) (pc := 82) hx hb hK hM (by decide) (show k < 8 from (by omega)) dX3_down_82 ?_
          refine lv_iload_n (pc := 83) hx hb dX3_down_83 rfl (lk hl rfl) ?_
          refine hn_ge (tgt := 98) (pc := 84) hx hb dX3_down_84 (by decide) (by omega) (by omega) (fun hn => absurd hn (by omega)) (fun _ => ?_)
          refine lv_aload_n (pc := 87) hx hb dX3_down_87 rfl (lk hl rfl) ?_
          refine lv_iload_n (pc := 88) hx hb dX3_down_88 rfl (lk hl rfl) ?_
          refine lv_iconst (v := b01 false) (pc := 89) hx hb dX3_down_89 (by decide) ?_
          have q := pgu_wf (c := k) (cf := false) hw (by omega) (by omega) (by omega)
          have q1 := @pgu_1 S1 k false
          refine hc_V (pc := 90) hx hb hml hown hts hK hS (m_goesUp l Γ H' μ S1 th k false hM hw (by omega) (by omega) (by omega)) (cwV 2 hts (lw_V q1923 q1925 qs57 q83 q1926) rfl rfl rfl (by decide +kernel) ⟨(Nat.le_of_ble_eq_true rfl), (Nat.le_of_ble_eq_true rfl)⟩) (hK.recv hM.p0 rfl) rfl hl.1 rfl (Nat.le_of_ble_eq_true rfl) dX3_down_90 ⟨by first | exact Nat.le_of_ble_eq_true rfl | (dsimp only [rmd]; omega), by first | exact Nat.le_of_ble_eq_true rfl | (dsimp only [rmd]; omega)⟩ (fun v4 H4 locs4 hq4 hS => ?_)
          obtain ⟨rfl, hM, ho4⟩ := hq4
          have ho := ho.trans ho4
          refine lv_istore (pc := 93) hx hb dX3_down_93 hl (Nat.le_of_ble_eq_true rfl) rfl (fun ls hl => ?_)
          refine lv_goto (tgt := 72) (pc := 95) hx hb dX3_down_95 (by decide) ?_
          exact ih _ _ _ _ (by rw [q1.1, if_pos hgood]; omega) hM q.1 (by omega) ho hS (by repeat first | exact lv_0 hl | refine lv_c (lk hl rfl) ?_) he
      have L1 : ∀ (n : Nat) (S1 : Sx) (H' : Heap) (locs : List Loc) (ls : Array Slot), S1 1 k = y9 + n → S1 1 k ≤ S 1 k → MW Γ H' μ S1 th → WF S1 → S1 0 1 + 8 * n + 160 ≤ 40000 → Off (Mf μ) H H' → va_S (Gz Γ) s.heap H' locs → lv_has ls 6 [(0, .ref (μ 0)), (1, .int (nI k)), (2, .int (nI y9)), (3, .int (nI (S 1 k))), (4, .int (b01 true))] → pdn k true n S1 = pdn k true (S 1 k - y9) S → W p l e (rmd 7 0 0) s m args below meth c H' locs 0 0 Q (F0 m 46 ls []) := by
        intro n
        induction n with
        | zero =>
          intro S1 H' locs ls hlv hle hM hw hr1 ho hS hl he
          rw [pdn] at he
          refine lv_iload (pc := 46) hx hb dX3_down_46 (lk hl rfl) ?_
          refine hz_eq (tgt := 72) (pc := 48) hx hb dX3_down_48 (by decide) (fun hn => absurd hn (by simp)) (fun _ => ?_)
          refine lv_aload_n (pc := 51) hx hb dX3_down_51 rfl (lk hl rfl) ?_
          refine hw_get (pc := 52) hx hb hts in_X3 hown hK (hM.p0) rfl 2 (Nat.le_of_ble_eq_true rfl) (hts _ q1779) (fun x h => h) rfl dX3_down_52 ?_
          refine lv_iload_n (pc := 55) hx hb dX3_down_55 rfl (lk hl rfl) ?_
          refine hm_iald (k := 1) (pc := 56) hx hb hK hM (by decide) (show k < 8 from (by omega)) dX3_down_56 ?_
          refine lv_iload_n (pc := 57) hx hb dX3_down_57 rfl (lk hl rfl) ?_
          refine hn_le (tgt := 72) (pc := 58) hx hb dX3_down_58 (by decide) (by omega) (by omega) (fun _ => ?_) (fun hn => absurd hn (by omega))
          refine lv_iload (pc := 72) hx hb dX3_down_72 (lk hl rfl) ?_
          refine hz_ne (tgt := 98) (pc := 74) hx hb dX3_down_74 (by decide) (fun _ => ?_) (fun hn => absurd hn (by simp))
          have e : S1 = F := by rw [hF, pdnB, ← he]; rfl
          exact fin _ _ _ (hM.eq e) (e ▸ hw) ho hS (by repeat first | exact lv_0 hl | refine lv_c (lk hl rfl) ?_)
        | succ n ih =>
          intro S1 H' locs ls hlv hle hM hw hr1 ho hS hl he
          have hb1 := hw.b1 k
          rw [pdn] at he
          refine lv_iload (pc := 46) hx hb dX3_down_46 (lk hl rfl) ?_
          refine hz_eq (tgt := 72) (pc := 48) hx hb dX3_down_48 (by decide) (fun hn => absurd hn (by simp)) (fun _ => ?_)
          refine lv_aload_n (pc := 51) hx hb dX3_down_51 rfl (lk hl rfl) ?_
          refine hw_get (pc := 52) hx hb hts in_X3 hown hK (hM.p0) rfl 2 (Nat.le_of_ble_eq_true rfl) (hts _ q1779) (fun x h => h) rfl dX3_down_52 ?_
          refine lv_iload_n (pc := 55) hx hb dX3_down_55 rfl (lk hl rfl) ?_
          refine hm_iald (k := 1) (pc := 56) hx hb hK hM (by decide) (show k < 8 from (by omega)) dX3_down_56 ?_
          refine lv_iload_n (pc := 57) hx hb dX3_down_57 rfl (lk hl rfl) ?_
          refine hn_le (tgt := 72) (pc := 58) hx hb dX3_down_58 (by decide) (by omega) (by omega) (fun hn => absurd hn (by omega)) (fun _ => ?_)
          refine lv_aload_n (pc := 61) hx hb dX3_down_61 rfl (lk hl rfl) ?_
          refine lv_iload_n (pc := 62) hx hb dX3_down_62 rfl (lk hl rfl) ?_
          refine lv_iconst (v := b01 true) (pc := 63) hx hb dX3_down_63 (by decide) ?_
          have q := pgd_wf (c := k) (cf := true) hw (by omega)
          have q1 := pgd_1 (S := S1) (c := k) (cf := true) (by omega)
          refine hc_V (pc := 64) hx hb hml hown hts hK hS (m_goesDown l Γ H' μ S1 th k true hM hw (by omega) (by omega) (by omega)) (cwV 2 hts (lw_V q1946 q1948 qs62 q83 q1949) rfl rfl rfl (by decide +kernel) ⟨(Nat.le_of_ble_eq_true rfl), (Nat.le_of_ble_eq_true rfl)⟩) (hK.recv hM.p0 rfl) rfl hl.1 rfl (Nat.le_of_ble_eq_true rfl) dX3_down_64 ⟨by first | exact Nat.le_of_ble_eq_true rfl | (dsimp only [rmd]; omega), by first | exact Nat.le_of_ble_eq_true rfl | (dsimp only [rmd]; omega)⟩ (fun v5 H5 locs5 hq5 hS => ?_)
          obtain ⟨rfl, hM, ho5⟩ := hq5
          have ho := ho.trans ho5
          refine lv_istore (pc := 67) hx hb dX3_down_67 hl (Nat.le_of_ble_eq_true rfl) rfl (fun ls hl => ?_)
          refine lv_goto (tgt := 46) (pc := 69) hx hb dX3_down_69 (by decide) ?_
          have hb9 := q.1.b1 k
          by_cases hg : (pgd S1 k true).2 = true
          · rw [if_pos hg] at he
            exact ih _ _ _ _ (by rw [q1.1, if_pos hg]; omega) (by rw [q1.1, if_pos hg]; omega) hM q.1 (by omega) ho hS (by rw [← hg]; exact (by repeat first | exact lv_0 hl | refine lv_c (lk hl rfl) ?_)) he
          · rw [if_neg hg] at he
            have hg : (pgd S1 k true).2 = false := by simpa using hg
            have e1 := q1.1
            rw [if_neg (by rw [hg]; simp)] at e1
            rw [hg] at hl
            refine lv_iload (pc := 46) hx hb dX3_down_46 (lk hl rfl) ?_
            refine hz_eq (tgt := 72) (pc := 48) hx hb dX3_down_48 (by decide) (fun _ => ?_) (fun hn => absurd hn (by simp))
            exact L2 (S 1 k - S1 1 k) _ _ _ _ (by omega) hM q.1 (by omega) ho hS (by repeat first | exact lv_0 hl | refine lv_c (lk hl rfl) ?_) (by rw [hF, pdnB, ← he, if_neg (by simp)]; show _ = (pup k false (S 1 k - (pgd S1 k true).1 1 k) _).1; rw [e1])
      refine lv_iconst (v := b01 true) (pc := 43) hx hb dX3_down_43 (by decide) ?_
      refine lv_istore (pc := 44) hx hb dX3_down_44 hl (Nat.le_of_ble_eq_true rfl) rfl (fun ls hl => ?_)
      exact L1 (S 1 k - y9) S _ _ _ (by omega) (by omega) hM hw (by omega) ho hS (lv_c (lk hl rfl) (lv_c (lk hl rfl) (lv_c (lk hl rfl) (lv_c (lk hl rfl) (lv_c (lk hl rfl) (lv_0 hl)))))) rfl
    · skip
      rw [if_neg (show ¬ inI y (nI 0) (nI (S 1 k) - 1) = true by show ¬ decide _ = true; rw [h2]; simp)] at hQ
      refine lv_aload_n (pc := 30) hx hb dX3_down_30 rfl (lk hl rfl) ?_
      refine lv_iconst (v := nI 2) (pc := 31) hx hb dX3_down_31 (by decide) ?_
      refine hc_V (pc := 32) hx hb hml hown hts hK hS (m_refuse l Γ H μ S th (nI 2) hM) (cwV 1 hts (lw_V q1846 q1848 qs46 q83 q1849) rfl rfl rfl (by decide +kernel) ⟨(Nat.le_of_ble_eq_true rfl), (Nat.le_of_ble_eq_true rfl)⟩) (hK.recv hM.p0 rfl) rfl hl.1 rfl (Nat.le_of_ble_eq_true rfl) dX3_down_32 ⟨by first | exact Nat.le_of_ble_eq_true rfl | (dsimp only [rmd]; omega), by first | exact Nat.le_of_ble_eq_true rfl | (dsimp only [rmd]; omega)⟩ (fun v6 H6 locs6 hq6 hS => ?_)
      obtain ⟨rfl, hM, ho6⟩ := hq6
      have ho := ho.trans ho6
      exact hr_i (pc := 35) hQ hx hb hr hlocks hS (by first | exact Nat.le_of_ble_eq_true rfl | (dsimp only [rmd]; omega)) (by first | exact Nat.le_of_ble_eq_true rfl | (dsimp only [rmd]; omega)) (⟨rfl, hM, ho⟩) dX3_down_35
  · skip
    rw [oDown, if_neg (show ¬ isC S x = true by show ¬ decide _ = true; rw [h1]; simp)] at hQ
    refine lv_aload_n (pc := 8) hx hb dX3_down_8 rfl (lk hl rfl) ?_
    refine lv_iconst (v := nI 1) (pc := 9) hx hb dX3_down_9 (by decide) ?_
    refine hc_V (pc := 10) hx hb hml hown hts hK hS (m_refuse l Γ H μ S th (nI 1) hM) (cwV 1 hts (lw_V q1846 q1848 qs46 q83 q1849) rfl rfl rfl (by decide +kernel) ⟨(Nat.le_of_ble_eq_true rfl), (Nat.le_of_ble_eq_true rfl)⟩) (hK.recv hM.p0 rfl) rfl hl.1 rfl (Nat.le_of_ble_eq_true rfl) dX3_down_10 ⟨by first | exact Nat.le_of_ble_eq_true rfl | (dsimp only [rmd]; omega), by first | exact Nat.le_of_ble_eq_true rfl | (dsimp only [rmd]; omega)⟩ (fun v7 H7 locs7 hq7 hS => ?_)
    obtain ⟨rfl, hM, ho7⟩ := hq7
    have ho := ho.trans ho7
    exact hr_i (pc := 13) hQ hx hb hr hlocks hS (by first | exact Nat.le_of_ble_eq_true rfl | (dsimp only [rmd]; omega)) (by first | exact Nat.le_of_ble_eq_true rfl | (dsimp only [rmd]; omega)) (⟨rfl, hM, ho⟩) dX3_down_13
