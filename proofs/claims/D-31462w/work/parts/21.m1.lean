/-! the reference's small methods -/
set_option maxRecDepth 100000
theorem nat_up {P : Nat → Prop} (N : Nat) (step : ∀ c, c ≤ N → (∀ c', c < c' → c' ≤ N → P c') → P c) : ∀ c, c ≤ N → P c := by
  have key : ∀ k c, c ≤ N → N - c = k → P c := by
    intro k
    induction k using Nat.strongRecOn with
    | ind k ih =>
      intro c hc hk
      exact step c hc (fun c' h1 h2 => ih (N - c') (by omega) c' h2 rfl)
  exact fun c hc => key _ c hc rfl
theorem nat_dn {P : Nat → Prop} (step : ∀ c, (∀ c', c' < c → P c') → P c) : ∀ c, P c := fun c => Nat.strongRecOn c (fun c ih => step c (fun c' h => ih c' h))
/-- the first UP core of a set, by its number and 1; none: 0 -/
def pfuA (S : Sx) (m : Nat) : Nat → Nat → Nat
  | 0, _ => 0
  | n + 1, c => if m.testBit c = true ∧ 10 < S 1 c then c + 1 else pfuA S m n (c + 1)
def pfu (S : Sx) (m : Nat) : Nat := pfuA S m (S 0 0) 0
def plo (S : Sx) (v : Nat) : Nat → Nat
  | 0 => 0
  | n + 1 => plo S v n + if S 10 n = v then 1 else 0
set_option maxHeartbeats 4000000 in
theorem m_at (l : Launch) (Γ : Cx) (H : Heap) (k t r9 : Nat) (h : 16 * k + t = r9) : Mt l Γ yX3_at (ws_ yX3_at cX3_at 2 (some .int)) 1 0 0 [.int (nI k), .int (nI t)] H (Rd (nI r9) H) := by
  refine mt_of (by decide +kernel) (Nat.le_of_ble_eq_true rfl) ?_
  intro p e s m args below meth c ls Q hx hb hr hlocks hml hts hown hnm hK hS hl hQ
  refine lv_bipush (v := nI 16) (pc := 0) hx hb dX3_at_0 (by decide) ?_
  refine lv_iload_n (pc := 2) hx hb dX3_at_2 rfl (lk hl rfl) ?_
  refine lv_imul (pc := 3) hx hb dX3_at_3 ?_
  refine hw_top (congrArg Value.int (show _ = nI (16 * k) from pk_mul _ _)) ?_
  refine lv_iload_n (pc := 4) hx hb dX3_at_4 rfl (lk hl rfl) ?_
  refine lv_iadd (pc := 5) hx hb dX3_at_5 ?_
  refine hw_top (congrArg Value.int (show _ = nI (16 * k + t) from nI_add _ _)) ?_
  exact hr_i (pc := 6) hQ hx hb hr hlocks hS (by first | exact Nat.le_of_ble_eq_true rfl | (dsimp only [rmd]; omega)) (by first | exact Nat.le_of_ble_eq_true rfl | (dsimp only [rmd]; omega)) (⟨by rw [h], rfl⟩) dX3_at_6
set_option maxHeartbeats 4000000 in
theorem m_has (l : Launch) (Γ : Cx) (H : Heap) (a c9 : Nat) (ha : a < 2 ^ 31) (hc9 : c9 < 32) : Mt l Γ yX3_has (ws_ yX3_has cX3_has 2 (some .boolean)) 1 0 0 [.int (nI a), .int (nI c9)] H (Rd (b01 (a.testBit c9)) H) := by
  refine mt_of (by decide +kernel) (Nat.le_of_ble_eq_true rfl) ?_
  intro p e s m args below meth c ls Q hx hb hr hlocks hml hts hown hnm hK hS hl hQ
  refine lv_iload_n (pc := 0) hx hb dX3_has_0 rfl (lk hl rfl) ?_
  refine lv_iload_n (pc := 1) hx hb dX3_has_1 rfl (lk hl rfl) ?_
  refine lv_ishr (pc := 2) hx hb dX3_has_2 ?_
  refine hw_top (congrArg Value.int (show _ = nI (a / 2 ^ c9) from n_shr (by omega) (by omega))) ?_
  refine lv_iconst (v := nI 1) (pc := 3) hx hb dX3_has_3 (by decide) ?_
  refine lv_iand (pc := 4) hx hb dX3_has_4 ?_
  refine hw_top (congrArg Value.int (n_and1 (a := a / 2 ^ c9) (Nat.lt_of_le_of_lt (Nat.div_le_self _ _) (by omega)))) ?_
  have h2 : a / 2 ^ c9 % 2 < 2 := Nat.mod_lt _ (by decide)
  refine lv_iconst (v := nI 1) (pc := 5) hx hb dX3_has_5 (by decide) ?_
  refine hn_ne (tgt := 13) (pc := 6) hx hb dX3_has_6 (by decide) (by omega) (by omega) (fun hc => ?_) (fun hc => ?_)
  · refine lv_iconst (v := nI 0) (pc := 13) hx hb dX3_has_13 (by decide) ?_
    exact hr_z (pc := 14) hQ hx hb hr hlocks hS (by first | exact Nat.le_of_ble_eq_true rfl | (dsimp only [rmd]; omega)) (by first | exact Nat.le_of_ble_eq_true rfl | (dsimp only [rmd]; omega)) (rfl) (⟨by rw [tb, decide_eq_false (by omega)]; rfl, rfl⟩) dX3_has_14
  · skip
    refine lv_iconst (v := nI 1) (pc := 9) hx hb dX3_has_9 (by decide) ?_
    refine lv_goto (tgt := 14) (pc := 10) hx hb dX3_has_10 (by decide) ?_
    exact hr_z (pc := 14) hQ hx hb hr hlocks hS (by first | exact Nat.le_of_ble_eq_true rfl | (dsimp only [rmd]; omega)) (by first | exact Nat.le_of_ble_eq_true rfl | (dsimp only [rmd]; omega)) (rfl) (⟨by rw [tb, decide_eq_true (by omega)]; rfl, rfl⟩) dX3_has_14
set_option maxHeartbeats 4000000 in
theorem m_isUp (l : Launch) (Γ : Cx) (H : Heap) (μ : Nat → Nat) (S : Sx) (th : Int32) (c9 : Nat) (hM : MW Γ H μ S th) (hw : WF S) (hc : c9 < 8) : Mt l Γ yX3_isUp (ws_ yX3_isUp cX3_isUp 2 (some .boolean)) 1 0 0 [.ref (μ 0), .int (nI c9)] H (Rd (b01 (decide (10 < S 1 c9))) H) := by
  refine mt_of (by decide +kernel) (Nat.le_of_ble_eq_true rfl) ?_
  intro p e s m args below meth c ls Q hx hb hr hlocks hml hts hown hnm hK hS hl hQ
  refine lv_aload_n (pc := 0) hx hb dX3_isUp_0 rfl (lk hl rfl) ?_
  refine hw_get (pc := 1) hx hb hts in_X3 hown hK (hM.p0) rfl 2 (Nat.le_of_ble_eq_true rfl) (hts _ q1779) (fun x h => h) rfl dX3_isUp_1 ?_
  refine lv_iload_n (pc := 4) hx hb dX3_isUp_4 rfl (lk hl rfl) ?_
  refine hm_iald (k := 1) (pc := 5) hx hb hK hM (by decide) (show c9 < 8 from (by omega)) dX3_isUp_5 ?_
  have := hw.b1 c9
  refine lv_bipush (v := nI 10) (pc := 6) hx hb dX3_isUp_6 (by decide) ?_
  refine hn_le (tgt := 15) (pc := 8) hx hb dX3_isUp_8 (by decide) (by omega) (by omega) (fun hc => ?_) (fun hc => ?_)
  · refine lv_iconst (v := nI 0) (pc := 15) hx hb dX3_isUp_15 (by decide) ?_
    exact hr_z (pc := 16) hQ hx hb hr hlocks hS (by first | exact Nat.le_of_ble_eq_true rfl | (dsimp only [rmd]; omega)) (by first | exact Nat.le_of_ble_eq_true rfl | (dsimp only [rmd]; omega)) (rfl) (⟨by rw [decide_eq_false (by omega)]; rfl, rfl⟩) dX3_isUp_16
  · skip
    refine lv_iconst (v := nI 1) (pc := 11) hx hb dX3_isUp_11 (by decide) ?_
    refine lv_goto (tgt := 16) (pc := 12) hx hb dX3_isUp_12 (by decide) ?_
    exact hr_z (pc := 16) hQ hx hb hr hlocks hS (by first | exact Nat.le_of_ble_eq_true rfl | (dsimp only [rmd]; omega)) (by first | exact Nat.le_of_ble_eq_true rfl | (dsimp only [rmd]; omega)) (rfl) (⟨by rw [decide_eq_true (by omega)]; rfl, rfl⟩) dX3_isUp_16
set_option maxHeartbeats 4000000 in
theorem m_firstUp (l : Launch) (Γ : Cx) (H : Heap) (μ : Nat → Nat) (S : Sx) (th : Int32) (a : Nat) (hM : MW Γ H μ S th) (hw : WF S) (ha : a < 2 ^ 31) : Mt l Γ yX3_firstUp (ws_ yX3_firstUp cX3_firstUp 3 (some .int)) 2 0 0 [.ref (μ 0), .int (nI a)] H (Rd (nI (pfu S a) - 1) H) := by
  refine mt_of (by decide +kernel) (Nat.le_of_ble_eq_true rfl) ?_
  intro p e s m args below meth c ls Q hx hb hr hlocks hml hts hown hnm hK hS hl hQ
  have hb0 := hw.b0
  refine lv_iconst (v := nI 0) (pc := 0) hx hb dX3_firstUp_0 (by decide) ?_
  refine lv_istore_n (pc := 1) hx hb dX3_firstUp_1 rfl hl (Nat.le_of_ble_eq_true rfl) rfl (fun ls hl => ?_)
  refine nat_up (P := fun c9 => ∀ (locs : List Loc) (ls : Array Slot), va_S (Gz Γ) s.heap H locs → lv_has ls 3 [(0, .ref (μ 0)), (1, .int (nI a)), (2, .int (nI c9))] → pfuA S a (S 0 0 - c9) c9 = pfu S a → W p l e (rmd 2 0 0) s m args below meth c H locs 0 0 Q (F0 m 2 ls [])) (S 0 0) (fun c9 hc9 ih locs ls hS hl he => ?_) 0 (Nat.zero_le _) _ ls hS (lv_c (lk hl rfl) (lv_c (lk hl rfl) (lv_c (lk hl rfl) (lv_0 hl)))) rfl
  refine lv_iload_n (pc := 2) hx hb dX3_firstUp_2 rfl (lk hl rfl) ?_
  refine lv_aload_n (pc := 3) hx hb dX3_firstUp_3 rfl (lk hl rfl) ?_
  refine hw_get (pc := 4) hx hb hts in_X3 hown hK (hM.p0) rfl 1 (Nat.le_of_ble_eq_true rfl) (hts _ q1778) (fun x h => h) rfl dX3_firstUp_4 ?_
  refine hn_ge (tgt := 34) (pc := 7) hx hb dX3_firstUp_7 (by decide) (by omega) (by omega) (fun hc => ?_) (fun hc => ?_)
  · have e : c9 = S 0 0 := by omega
    subst e
    refine lv_iconst (v := nI 0 - 1) (pc := 34) hx hb dX3_firstUp_34 (by decide) ?_
    exact hr_i (pc := 35) hQ hx hb hr hlocks hS (by first | exact Nat.le_of_ble_eq_true rfl | (dsimp only [rmd]; omega)) (by first | exact Nat.le_of_ble_eq_true rfl | (dsimp only [rmd]; omega)) (⟨by rw [← he, Nat.sub_self]; rfl, rfl⟩) dX3_firstUp_35
  · skip
    have e : S 0 0 - c9 = (S 0 0 - (c9 + 1)) + 1 := by omega
    rw [e, pfuA] at he
    refine lv_iload_n (pc := 10) hx hb dX3_firstUp_10 rfl (lk hl rfl) ?_
    refine lv_iload_n (pc := 11) hx hb dX3_firstUp_11 rfl (lk hl rfl) ?_
    refine hc_S (pc := 12) hx hb hml hown hts hK hS (m_has l Γ H a c9 (by omega) (by omega)) (va_cwS 2 hts (lw_S q1873 q1874 q83 q1875) rfl rfl rfl (by decide +kernel) ⟨(Nat.le_of_ble_eq_true rfl), (Nat.le_of_ble_eq_true rfl)⟩) rfl hl.1 rfl (Nat.le_of_ble_eq_true rfl) dX3_firstUp_12 ⟨by first | exact Nat.le_of_ble_eq_true rfl | (dsimp only [rmd]; omega), by first | exact Nat.le_of_ble_eq_true rfl | (dsimp only [rmd]; omega)⟩ (fun v1 H1 locs1 hq1 hS => ?_)
    obtain ⟨rfl, rfl⟩ := hq1
    refine hz_eq (tgt := 28) (pc := 15) hx hb dX3_firstUp_15 (by decide) (fun h1 => ?_) (fun h1 => ?_)
    · refine hw_iinc (v := nI (c9 + 1)) (pc := 28) hx hb dX3_firstUp_28 hl (lk hl rfl) (n_inc _ 1) (Nat.le_of_ble_eq_true rfl) (fun ls hl => ?_)
      refine lv_goto (tgt := 2) (pc := 31) hx hb dX3_firstUp_31 (by decide) ?_
      exact ih (c9 + 1) (by omega) (by omega) _ ls hS (lv_c (lk hl rfl) (lv_c (lk hl rfl) (lv_c (lk hl rfl) (lv_0 hl)))) (by rw [if_neg (by rw [h1]; simp)] at he; exact he)
    · skip
      refine lv_aload_n (pc := 18) hx hb dX3_firstUp_18 rfl (lk hl rfl) ?_
      refine lv_iload_n (pc := 19) hx hb dX3_firstUp_19 rfl (lk hl rfl) ?_
      refine hc_V (pc := 20) hx hb hml hown hts hK hS (m_isUp l Γ H μ S th c9 hM hw (by omega)) (cwV 1 hts (lw_V q1876 q1878 qs51 q83 q1879) rfl rfl rfl (by decide +kernel) ⟨(Nat.le_of_ble_eq_true rfl), (Nat.le_of_ble_eq_true rfl)⟩) (hK.recv hM.p0 rfl) rfl hl.1 rfl (Nat.le_of_ble_eq_true rfl) dX3_firstUp_20 ⟨by first | exact Nat.le_of_ble_eq_true rfl | (dsimp only [rmd]; omega), by first | exact Nat.le_of_ble_eq_true rfl | (dsimp only [rmd]; omega)⟩ (fun v2 H2 locs2 hq2 hS => ?_)
      obtain ⟨rfl, rfl⟩ := hq2
      refine hz_eq (tgt := 28) (pc := 23) hx hb dX3_firstUp_23 (by decide) (fun h2 => ?_) (fun h2 => ?_)
      · refine hw_iinc (v := nI (c9 + 1)) (pc := 28) hx hb dX3_firstUp_28 hl (lk hl rfl) (n_inc _ 1) (Nat.le_of_ble_eq_true rfl) (fun ls hl => ?_)
        refine lv_goto (tgt := 2) (pc := 31) hx hb dX3_firstUp_31 (by decide) ?_
        have h2 := of_decide_eq_false h2
        exact ih (c9 + 1) (by omega) (by omega) _ ls hS (lv_c (lk hl rfl) (lv_c (lk hl rfl) (lv_c (lk hl rfl) (lv_0 hl)))) (by rw [if_neg (fun q => h2 q.2)] at he; exact he)
      · skip
        have h2 := of_decide_eq_true h2
        refine lv_iload_n (pc := 26) hx hb dX3_firstUp_26 rfl (lk hl rfl) ?_
        exact hr_i (pc := 27) hQ hx hb hr hlocks hS (by first | exact Nat.le_of_ble_eq_true rfl | (dsimp only [rmd]; omega)) (by first | exact Nat.le_of_ble_eq_true rfl | (dsimp only [rmd]; omega)) (⟨by rw [← he, if_pos ⟨h1, h2⟩, nI_pred], rfl⟩) dX3_firstUp_27
set_option maxHeartbeats 4000000 in
theorem m_in (l : Launch) (Γ : Cx) (H : Heap) (x lo hi : Int32) : Mt l Γ yX3_in (ws_ yX3_in cX3_in 3 (some .boolean)) 1 0 0 [.int x, .int lo, .int hi] H (Rd (b01 (decide (¬ x < lo ∧ ¬ hi < x))) H) := by
  refine mt_of (by decide +kernel) (Nat.le_of_ble_eq_true rfl) ?_
  intro p e s m args below meth c ls Q hx hb hr hlocks hml hts hown hnm hK hS hl hQ
  refine lv_iload_n (pc := 0) hx hb dX3_in_0 rfl (lk hl rfl) ?_
  refine lv_iload_n (pc := 1) hx hb dX3_in_1 rfl (lk hl rfl) ?_
  refine lv_icmp_lt (tgt := 14) (pc := 2) hx hb dX3_in_2 (by decide) (fun h1 => ?_) (fun h1 => ?_)
  · refine lv_iconst (v := nI 0) (pc := 14) hx hb dX3_in_14 (by decide) ?_
    exact hr_z (pc := 15) hQ hx hb hr hlocks hS (by first | exact Nat.le_of_ble_eq_true rfl | (dsimp only [rmd]; omega)) (by first | exact Nat.le_of_ble_eq_true rfl | (dsimp only [rmd]; omega)) (rfl) (⟨by rw [decide_eq_false (fun q => q.1 h1)]; rfl, rfl⟩) dX3_in_15
  · skip
    refine lv_iload_n (pc := 5) hx hb dX3_in_5 rfl (lk hl rfl) ?_
    refine lv_iload_n (pc := 6) hx hb dX3_in_6 rfl (lk hl rfl) ?_
    refine lv_icmp_gt (tgt := 14) (pc := 7) hx hb dX3_in_7 (by decide) (fun h2 => ?_) (fun h2 => ?_)
    · refine lv_iconst (v := nI 0) (pc := 14) hx hb dX3_in_14 (by decide) ?_
      exact hr_z (pc := 15) hQ hx hb hr hlocks hS (by first | exact Nat.le_of_ble_eq_true rfl | (dsimp only [rmd]; omega)) (by first | exact Nat.le_of_ble_eq_true rfl | (dsimp only [rmd]; omega)) (rfl) (⟨by rw [decide_eq_false (fun q => q.2 h2)]; rfl, rfl⟩) dX3_in_15
    · skip
      refine lv_iconst (v := nI 1) (pc := 10) hx hb dX3_in_10 (by decide) ?_
      refine lv_goto (tgt := 15) (pc := 11) hx hb dX3_in_11 (by decide) ?_
      exact hr_z (pc := 15) hQ hx hb hr hlocks hS (by first | exact Nat.le_of_ble_eq_true rfl | (dsimp only [rmd]; omega)) (by first | exact Nat.le_of_ble_eq_true rfl | (dsimp only [rmd]; omega)) (rfl) (⟨by rw [decide_eq_true ⟨h1, h2⟩]; rfl, rfl⟩) dX3_in_15
set_option maxHeartbeats 4000000 in
theorem m_isCore (l : Launch) (Γ : Cx) (H : Heap) (μ : Nat → Nat) (S : Sx) (th : Int32) (x : Int32) (hM : MW Γ H μ S th) : Mt l Γ yX3_isCore (ws_ yX3_isCore cX3_isCore 2 (some .boolean)) 2 0 0 [.ref (μ 0), .int x] H (Rd (b01 (decide (¬ x < nI 0 ∧ ¬ nI (S 0 0) - 1 < x))) H) := by
  refine mt_of (by decide +kernel) (Nat.le_of_ble_eq_true rfl) ?_
  intro p e s m args below meth c ls Q hx hb hr hlocks hml hts hown hnm hK hS hl hQ
  refine lv_iload_n (pc := 0) hx hb dX3_isCore_0 rfl (lk hl rfl) ?_
  refine lv_iconst (v := nI 0) (pc := 1) hx hb dX3_isCore_1 (by decide) ?_
  refine lv_aload_n (pc := 2) hx hb dX3_isCore_2 rfl (lk hl rfl) ?_
  refine hw_get (pc := 3) hx hb hts in_X3 hown hK (hM.p0) rfl 1 (Nat.le_of_ble_eq_true rfl) (hts _ q1778) (fun x h => h) rfl dX3_isCore_3 ?_
  refine lv_iconst (v := nI 1) (pc := 6) hx hb dX3_isCore_6 (by decide) ?_
  refine lv_isub (pc := 7) hx hb dX3_isCore_7 ?_
  refine hw_top (congrArg Value.int (show _ = nI (S 0 0) - 1 from n_1 _)) ?_
  refine hc_S (pc := 8) hx hb hml hown hts hK hS (m_in l Γ H x (nI 0) (nI (S 0 0) - 1)) (va_cwS 3 hts (lw_S q1854 q1855 q83 q1856) rfl rfl rfl (by decide +kernel) ⟨(Nat.le_of_ble_eq_true rfl), (Nat.le_of_ble_eq_true rfl)⟩) rfl hl.1 rfl (Nat.le_of_ble_eq_true rfl) dX3_isCore_8 ⟨by first | exact Nat.le_of_ble_eq_true rfl | (dsimp only [rmd]; omega), by first | exact Nat.le_of_ble_eq_true rfl | (dsimp only [rmd]; omega)⟩ (fun v1 H1 locs1 hq1 hS => ?_)
  obtain ⟨rfl, rfl⟩ := hq1
  exact hr_z (pc := 11) hQ hx hb hr hlocks hS (by first | exact Nat.le_of_ble_eq_true rfl | (dsimp only [rmd]; omega)) (by first | exact Nat.le_of_ble_eq_true rfl | (dsimp only [rmd]; omega)) (b01_z _) (⟨rfl, rfl⟩) dX3_isCore_11
theorem isCore_iff {S : Sx} (hw : WF S) {x : Int32} (h : decide (¬ x < nI 0 ∧ ¬ nI (S 0 0) - 1 < x) = true) : ∃ k, k < S 0 0 ∧ x = nI k := by
  have h1 := of_decide_eq_true h
  have hb := hw.b0
  rw [n_m hb.1] at h1
  obtain ⟨j, -, h2, h3⟩ := i_in (lo := 0) (by omega) (Nat.zero_le _) h1.1 h1.2
  exact ⟨j, by omega, h3⟩
set_option maxHeartbeats 4000000 in
theorem m_isKind (l : Launch) (Γ : Cx) (H : Heap) (x : Int32) : Mt l Γ yX3_isKind (ws_ yX3_isKind cX3_isKind 1 (some .boolean)) 2 0 0 [.int x] H (Rd (b01 (decide (¬ x < nI 0 ∧ ¬ nI 2 < x))) H) := by
  refine mt_of (by decide +kernel) (Nat.le_of_ble_eq_true rfl) ?_
  intro p e s m args below meth c ls Q hx hb hr hlocks hml hts hown hnm hK hS hl hQ
  refine lv_iload_n (pc := 0) hx hb dX3_isKind_0 rfl (lk hl rfl) ?_
  refine lv_iconst (v := nI 0) (pc := 1) hx hb dX3_isKind_1 (by decide) ?_
  refine lv_iconst (v := nI 2) (pc := 2) hx hb dX3_isKind_2 (by decide) ?_
  refine hc_S (pc := 3) hx hb hml hown hts hK hS (m_in l Γ H x (nI 0) (nI 2)) (va_cwS 3 hts (lw_S q1854 q1855 q83 q1856) rfl rfl rfl (by decide +kernel) ⟨(Nat.le_of_ble_eq_true rfl), (Nat.le_of_ble_eq_true rfl)⟩) rfl hl.1 rfl (Nat.le_of_ble_eq_true rfl) dX3_isKind_3 ⟨by first | exact Nat.le_of_ble_eq_true rfl | (dsimp only [rmd]; omega), by first | exact Nat.le_of_ble_eq_true rfl | (dsimp only [rmd]; omega)⟩ (fun v1 H1 locs1 hq1 hS => ?_)
  obtain ⟨rfl, rfl⟩ := hq1
  exact hr_z (pc := 6) hQ hx hb hr hlocks hS (by first | exact Nat.le_of_ble_eq_true rfl | (dsimp only [rmd]; omega)) (by first | exact Nat.le_of_ble_eq_true rfl | (dsimp only [rmd]; omega)) (b01_z _) (⟨rfl, rfl⟩) dX3_isKind_6
set_option maxHeartbeats 4000000 in
theorem m_isStepAt (l : Launch) (Γ : Cx) (H : Heap) (μ : Nat → Nat) (S : Sx) (th : Int32) (x : Int32) (hM : MW Γ H μ S th) (hw : WF S) : Mt l Γ yX3_isStepAt (ws_ yX3_isStepAt cX3_isStepAt 2 (some .boolean)) 2 0 0 [.ref (μ 0), .int x] H (fun v H1 => ∃ b, v = some (.int (b01 b)) ∧ H = H1 ∧ (b = true → ∃ k, k < 20 ∧ x = nI k ∧ S 2 k = 1) ∧ (b = false → ∀ k, k < 20 → x = nI k → S 2 k = 0)) := by
  refine mt_of (by decide +kernel) (Nat.le_of_ble_eq_true rfl) ?_
  intro p e s m args below meth c ls Q hx hb hr hlocks hml hts hown hnm hK hS hl hQ
  refine lv_iload_n (pc := 0) hx hb dX3_isStepAt_0 rfl (lk hl rfl) ?_
  refine lv_iconst (v := nI 0) (pc := 1) hx hb dX3_isStepAt_1 (by decide) ?_
  refine lv_bipush (v := nI 19) (pc := 2) hx hb dX3_isStepAt_2 (by decide) ?_
  refine hc_S (pc := 4) hx hb hml hown hts hK hS (m_in l Γ H x (nI 0) (nI 19)) (va_cwS 3 hts (lw_S q1854 q1855 q83 q1856) rfl rfl rfl (by decide +kernel) ⟨(Nat.le_of_ble_eq_true rfl), (Nat.le_of_ble_eq_true rfl)⟩) rfl hl.1 rfl (Nat.le_of_ble_eq_true rfl) dX3_isStepAt_4 ⟨by first | exact Nat.le_of_ble_eq_true rfl | (dsimp only [rmd]; omega), by first | exact Nat.le_of_ble_eq_true rfl | (dsimp only [rmd]; omega)⟩ (fun v1 H1 locs1 hq1 hS => ?_)
  obtain ⟨rfl, rfl⟩ := hq1
  refine hz_ne (tgt := 12) (pc := 7) hx hb dX3_isStepAt_7 (by decide) (fun h1 => ?_) (fun h1 => ?_)
  · obtain ⟨k, -, hk, rfl⟩ := i_in (lo := 0) (by decide) (by decide) (of_decide_eq_true h1).1 (of_decide_eq_true h1).2
    refine lv_aload_n (pc := 12) hx hb dX3_isStepAt_12 rfl (lk hl rfl) ?_
    refine hw_get (pc := 13) hx hb hts in_X3 hown hK (hM.p0) rfl 3 (Nat.le_of_ble_eq_true rfl) (hts _ q1780) (fun x h => h) rfl dX3_isStepAt_13 ?_
    refine lv_iload_n (pc := 16) hx hb dX3_isStepAt_16 rfl (lk hl rfl) ?_
    refine hm_zald (k := 2) (pc := 17) hx hb hK hM (by decide) (show k < 20 from (by omega)) dX3_isStepAt_17 ?_
    have := hw.b2 k
    have h2 := hw.b2 k
    rcases (show S 2 k = 0 ∨ S 2 k = 1 by omega) with e9 | e9
    · rw [e9]
      exact hr_z (pc := 18) hQ hx hb hr hlocks hS (by first | exact Nat.le_of_ble_eq_true rfl | (dsimp only [rmd]; omega)) (by first | exact Nat.le_of_ble_eq_true rfl | (dsimp only [rmd]; omega)) (rfl) (⟨false, rfl, rfl, fun q => absurd q (by decide), fun _ j hj ej => by rw [← (nI_eq (by omega) (by omega)).mp ej]; exact e9⟩) dX3_isStepAt_18
    · rw [e9]
      exact hr_z (pc := 18) hQ hx hb hr hlocks hS (by first | exact Nat.le_of_ble_eq_true rfl | (dsimp only [rmd]; omega)) (by first | exact Nat.le_of_ble_eq_true rfl | (dsimp only [rmd]; omega)) (rfl) (⟨true, rfl, rfl, fun _ => ⟨k, by omega, rfl, e9⟩, fun q => absurd q (by decide)⟩) dX3_isStepAt_18
  · skip
    refine lv_iconst (v := nI 0) (pc := 10) hx hb dX3_isStepAt_10 (by decide) ?_
    exact hr_z (pc := 11) hQ hx hb hr hlocks hS (by first | exact Nat.le_of_ble_eq_true rfl | (dsimp only [rmd]; omega)) (by first | exact Nat.le_of_ble_eq_true rfl | (dsimp only [rmd]; omega)) (rfl) (⟨false, rfl, rfl, fun q => absurd q (by decide), fun _ j hj ej => absurd (decide_eq_true (p := ¬ x < nI 0 ∧ ¬ nI 19 < x) ⟨by rw [ej]; exact nI_nlt (Nat.zero_le _) (by omega), by rw [ej]; exact nI_nlt (by omega) (by omega)⟩) (by rw [h1]; decide)⟩) dX3_isStepAt_11
set_option maxHeartbeats 4000000 in
theorem m_control (l : Launch) (Γ : Cx) (H : Heap) (μ : Nat → Nat) (S : Sx) (th : Int32) (hM : MW Γ H μ S th) (hw : WF S) : Mt l Γ yX3_control (ws_ yX3_control cX3_control 1 (some .int)) 3 0 0 [.ref (μ 0)] H (Rd (nI (pfu S 255) - 1) H) := by
  refine mt_of (by decide +kernel) (Nat.le_of_ble_eq_true rfl) ?_
  intro p e s m args below meth c ls Q hx hb hr hlocks hml hts hown hnm hK hS hl hQ
  refine lv_aload_n (pc := 0) hx hb dX3_control_0 rfl (lk hl rfl) ?_
  refine lv_sipush (v := nI 255) (pc := 1) hx hb dX3_control_1 (by decide) ?_
  refine hc_V (pc := 4) hx hb hml hown hts hK hS (m_firstUp l Γ H μ S th 255 hM hw (by omega)) (cwV 1 hts (lw_V q1869 q1871 qs50 q83 q1872) rfl rfl rfl (by decide +kernel) ⟨(Nat.le_of_ble_eq_true rfl), (Nat.le_of_ble_eq_true rfl)⟩) (hK.recv hM.p0 rfl) rfl hl.1 rfl (Nat.le_of_ble_eq_true rfl) dX3_control_4 ⟨by first | exact Nat.le_of_ble_eq_true rfl | (dsimp only [rmd]; omega), by first | exact Nat.le_of_ble_eq_true rfl | (dsimp only [rmd]; omega)⟩ (fun v1 H1 locs1 hq1 hS => ?_)
  obtain ⟨rfl, rfl⟩ := hq1
  exact hr_i (pc := 7) hQ hx hb hr hlocks hS (by first | exact Nat.le_of_ble_eq_true rfl | (dsimp only [rmd]; omega)) (by first | exact Nat.le_of_ble_eq_true rfl | (dsimp only [rmd]; omega)) (⟨rfl, rfl⟩) dX3_control_7
set_option maxHeartbeats 4000000 in
theorem m_refuse (l : Launch) (Γ : Cx) (H : Heap) (μ : Nat → Nat) (S : Sx) (th : Int32) (x : Int32) (hM : MW Γ H μ S th) : Mt l Γ yX3_refuse (ws_ yX3_refuse cX3_refuse 2 (some .int)) 1 0 0 [.ref (μ 0), .int x] H (MP Γ μ S x H (some (.int (nI 0)))) := by
  refine mt_of (by decide +kernel) (Nat.le_of_ble_eq_true rfl) ?_
  intro p e s m args below meth c ls Q hx hb hr hlocks hml hts hown hnm hK hS hl hQ
  have ho : Off (Mf μ) H H := Off.rf
  refine lv_aload_n (pc := 0) hx hb dX3_refuse_0 rfl (lk hl rfl) ?_
  refine lv_iload_n (pc := 1) hx hb dX3_refuse_1 rfl (lk hl rfl) ?_
  refine hw_put (pc := 2) hx hb hts in_X3 tyX3_ok nmX3 hown hK (hM.p0) (hM.g (by decide)) hS rfl 0 (Nat.le_of_ble_eq_true rfl) (hts _ q1777) (fun x h => h) rfl rfl (rfl) (rfl) (Nat.le_of_ble_eq_true rfl) dX3_refuse_2 (fun H1 locs1 hp1 z1 o1 hS => ?_)
  have hM := hM.th (th' := x) hp1 o1
  have ho := ho.trans (Off.put (S := Mf μ) z1 o1 ⟨0, by decide, rfl⟩)
  refine lv_iconst (v := nI 0) (pc := 5) hx hb dX3_refuse_5 (by decide) ?_
  exact hr_i (pc := 6) hQ hx hb hr hlocks hS (by first | exact Nat.le_of_ble_eq_true rfl | (dsimp only [rmd]; omega)) (by first | exact Nat.le_of_ble_eq_true rfl | (dsimp only [rmd]; omega)) (⟨rfl, hM, ho⟩) dX3_refuse_6
set_option maxHeartbeats 4000000 in
theorem m_told (l : Launch) (Γ : Cx) (H : Heap) (μ : Nat → Nat) (S : Sx) (th : Int32) (x : Int32) (hM : MW Γ H μ S th) : Mt l Γ yX3_told (ws_ yX3_told cX3_told 2 (some .int)) 1 0 0 [.ref (μ 0), .int x] H (MP Γ μ S (nI 0) H (some (.int x))) := by
  refine mt_of (by decide +kernel) (Nat.le_of_ble_eq_true rfl) ?_
  intro p e s m args below meth c ls Q hx hb hr hlocks hml hts hown hnm hK hS hl hQ
  have ho : Off (Mf μ) H H := Off.rf
  refine lv_aload_n (pc := 0) hx hb dX3_told_0 rfl (lk hl rfl) ?_
  refine lv_iconst (v := nI 0) (pc := 1) hx hb dX3_told_1 (by decide) ?_
  refine hw_put (pc := 2) hx hb hts in_X3 tyX3_ok nmX3 hown hK (hM.p0) (hM.g (by decide)) hS rfl 0 (Nat.le_of_ble_eq_true rfl) (hts _ q1777) (fun x h => h) rfl rfl (rfl) (rfl) (Nat.le_of_ble_eq_true rfl) dX3_told_2 (fun H1 locs1 hp1 z1 o1 hS => ?_)
  have hM := hM.th (th' := nI 0) hp1 o1
  have ho := ho.trans (Off.put (S := Mf μ) z1 o1 ⟨0, by decide, rfl⟩)
  refine lv_iload_n (pc := 5) hx hb dX3_told_5 rfl (lk hl rfl) ?_
  exact hr_i (pc := 6) hQ hx hb hr hlocks hS (by first | exact Nat.le_of_ble_eq_true rfl | (dsimp only [rmd]; omega)) (by first | exact Nat.le_of_ble_eq_true rfl | (dsimp only [rmd]; omega)) (⟨rfl, hM, ho⟩) dX3_told_6
set_option maxHeartbeats 4000000 in
theorem m_thrown (l : Launch) (Γ : Cx) (H : Heap) (μ : Nat → Nat) (S : Sx) (th : Int32) (hM : MW Γ H μ S th) : Mt l Γ yX3_thrown (ws_ yX3_thrown cX3_thrown 1 (some .int)) 1 0 0 [.ref (μ 0)] H (Rd th H) := by
  refine mt_of (by decide +kernel) (Nat.le_of_ble_eq_true rfl) ?_
  intro p e s m args below meth c ls Q hx hb hr hlocks hml hts hown hnm hK hS hl hQ
  refine lv_aload_n (pc := 0) hx hb dX3_thrown_0 rfl (lk hl rfl) ?_
  refine hw_get (pc := 1) hx hb hts in_X3 hown hK (hM.p0) rfl 0 (Nat.le_of_ble_eq_true rfl) (hts _ q1777) (fun x h => h) rfl dX3_thrown_1 ?_
  exact hr_i (pc := 4) hQ hx hb hr hlocks hS (by first | exact Nat.le_of_ble_eq_true rfl | (dsimp only [rmd]; omega)) (by first | exact Nat.le_of_ble_eq_true rfl | (dsimp only [rmd]; omega)) (⟨rfl, rfl⟩) dX3_thrown_4
def fidx (core place inst : Nat) (st : Bool) : Nat := 2 * (4 * (20 * core + place) + inst) + (if st then 1 else 0)
set_option maxHeartbeats 4000000 in
theorem m_failureAt (l : Launch) (Γ : Cx) (H : Heap) (a b d9 : Nat) (st : Bool) : Mt l Γ yX3_failureAt (ws_ yX3_failureAt cX3_failureAt 5 (some .int)) 1 0 0 [.int (nI a), .int (nI b), .int (nI d9), .int (b01 st)] H (Rd (nI (fidx a b d9 st)) H) := by
  refine mt_of (by decide +kernel) (Nat.le_of_ble_eq_true rfl) ?_
  intro p e s m args below meth c ls Q hx hb hr hlocks hml hts hown hnm hK hS hl hQ
  refine lv_iconst (v := nI 2) (pc := 0) hx hb dX3_failureAt_0 (by decide) ?_
  refine lv_iconst (v := nI 4) (pc := 1) hx hb dX3_failureAt_1 (by decide) ?_
  refine lv_bipush (v := nI 20) (pc := 2) hx hb dX3_failureAt_2 (by decide) ?_
  refine lv_iload_n (pc := 4) hx hb dX3_failureAt_4 rfl (lk hl rfl) ?_
  refine lv_imul (pc := 5) hx hb dX3_failureAt_5 ?_
  refine hw_top (congrArg Value.int (show _ = nI (20 * a) from pk_mul _ _)) ?_
  refine lv_iload_n (pc := 6) hx hb dX3_failureAt_6 rfl (lk hl rfl) ?_
  refine lv_iadd (pc := 7) hx hb dX3_failureAt_7 ?_
  refine hw_top (congrArg Value.int (show _ = nI (20 * a + b) from nI_add _ _)) ?_
  refine lv_imul (pc := 8) hx hb dX3_failureAt_8 ?_
  refine hw_top (congrArg Value.int (show _ = nI (4 * (20 * a + b)) from pk_mul _ _)) ?_
  refine lv_iload_n (pc := 9) hx hb dX3_failureAt_9 rfl (lk hl rfl) ?_
  refine lv_iadd (pc := 10) hx hb dX3_failureAt_10 ?_
  refine hw_top (congrArg Value.int (show _ = nI (4 * (20 * a + b) + d9) from nI_add _ _)) ?_
  refine lv_imul (pc := 11) hx hb dX3_failureAt_11 ?_
  refine hw_top (congrArg Value.int (show _ = nI (2 * (4 * (20 * a + b) + d9)) from pk_mul _ _)) ?_
  refine lv_istore (pc := 12) hx hb dX3_failureAt_12 hl (Nat.le_of_ble_eq_true rfl) rfl (fun ls hl => ?_)
  refine lv_iload_n (pc := 14) hx hb dX3_failureAt_14 rfl (lk hl rfl) ?_
  refine hz_eq (tgt := 23) (pc := 15) hx hb dX3_failureAt_15 (by decide) (fun h => ?_) (fun h => ?_)
  · refine lv_iload (pc := 23) hx hb dX3_failureAt_23 (lk hl rfl) ?_
    exact hr_i (pc := 25) hQ hx hb hr hlocks hS (by first | exact Nat.le_of_ble_eq_true rfl | (dsimp only [rmd]; omega)) (by first | exact Nat.le_of_ble_eq_true rfl | (dsimp only [rmd]; omega)) (⟨by rw [h]; rfl, rfl⟩) dX3_failureAt_25
  · skip
    refine lv_iload (pc := 18) hx hb dX3_failureAt_18 (lk hl rfl) ?_
    refine lv_iconst (v := nI 1) (pc := 20) hx hb dX3_failureAt_20 (by decide) ?_
    refine lv_iadd (pc := 21) hx hb dX3_failureAt_21 ?_
    refine hw_top (congrArg Value.int (show _ = nI (2 * (4 * (20 * a + b) + d9) + 1) from nI_add _ _)) ?_
    exact hr_i (pc := 22) hQ hx hb hr hlocks hS (by first | exact Nat.le_of_ble_eq_true rfl | (dsimp only [rmd]; omega)) (by first | exact Nat.le_of_ble_eq_true rfl | (dsimp only [rmd]; omega)) (⟨by rw [h]; rfl, rfl⟩) dX3_failureAt_22
theorem plo_le (S : Sx) (v n : Nat) : plo S v n ≤ n := by
  induction n with
  | zero => exact Nat.le_refl _
  | succ n ih => simp only [plo]; split <;> omega
set_option maxHeartbeats 4000000 in
theorem m_loadOf (l : Launch) (Γ : Cx) (H : Heap) (μ : Nat → Nat) (S : Sx) (th : Int32) (v : Nat) (hM : MW Γ H μ S th) (hw : WF S) (hv : v ≤ 8) : Mt l Γ yX3_loadOf (ws_ yX3_loadOf cX3_loadOf 4 (some .int)) 2 0 0 [.ref (μ 0), .int (nI v - 1)] H (Rd (nI (plo S v (S 8 0))) H) := by
  refine mt_of (by decide +kernel) (Nat.le_of_ble_eq_true rfl) ?_
  intro p e s m args below meth c ls Q hx hb hr hlocks hml hts hown hnm hK hS hl hQ
  have hb8 := hw.b8
  refine lv_iconst (v := nI 0) (pc := 0) hx hb dX3_loadOf_0 (by decide) ?_
  refine lv_istore_n (pc := 1) hx hb dX3_loadOf_1 rfl hl (Nat.le_of_ble_eq_true rfl) rfl (fun ls hl => ?_)
  refine lv_iconst (v := nI 0) (pc := 2) hx hb dX3_loadOf_2 (by decide) ?_
  refine lv_istore_n (pc := 3) hx hb dX3_loadOf_3 rfl hl (Nat.le_of_ble_eq_true rfl) rfl (fun ls hl => ?_)
  refine nat_up (P := fun t => ∀ (locs : List Loc) (ls : Array Slot), va_S (Gz Γ) s.heap H locs → lv_has ls 4 [(0, .ref (μ 0)), (1, .int (nI v - 1)), (2, .int (nI (plo S v t))), (3, .int (nI t))] → W p l e (rmd 2 0 0) s m args below meth c H locs 0 0 Q (F0 m 4 ls [])) (S 8 0) (fun t ht ih locs ls hS hl => ?_) 0 (Nat.zero_le _) _ ls hS (lv_c (lk hl rfl) (lv_c (lk hl rfl) (lv_c (lk hl rfl) (lv_c (lk hl rfl) (lv_0 hl)))))
  refine lv_iload_n (pc := 4) hx hb dX3_loadOf_4 rfl (lk hl rfl) ?_
  refine lv_aload_n (pc := 5) hx hb dX3_loadOf_5 rfl (lk hl rfl) ?_
  refine hw_get (pc := 6) hx hb hts in_X3 hown hK (hM.p0) rfl 9 (Nat.le_of_ble_eq_true rfl) (hts _ q1786) (fun x h => h) rfl dX3_loadOf_6 ?_
  refine lv_iconst (v := nI 0) (pc := 9) hx hb dX3_loadOf_9 (by decide) ?_
  refine hm_iald (k := 8) (pc := 10) hx hb hK hM (by decide) (show 0 < 3 from (by omega)) dX3_loadOf_10 ?_
  refine hn_ge (tgt := 37) (pc := 11) hx hb dX3_loadOf_11 (by decide) (by omega) (by omega) (fun hc => ?_) (fun hc => ?_)
  · have e : t = S 8 0 := by omega
    subst e
    refine lv_iload_n (pc := 37) hx hb dX3_loadOf_37 rfl (lk hl rfl) ?_
    exact hr_i (pc := 38) hQ hx hb hr hlocks hS (by first | exact Nat.le_of_ble_eq_true rfl | (dsimp only [rmd]; omega)) (by first | exact Nat.le_of_ble_eq_true rfl | (dsimp only [rmd]; omega)) (⟨rfl, rfl⟩) dX3_loadOf_38
  · skip
    refine lv_aload_n (pc := 14) hx hb dX3_loadOf_14 rfl (lk hl rfl) ?_
    refine hw_get (pc := 15) hx hb hts in_X3 hown hK (hM.p0) rfl 11 (Nat.le_of_ble_eq_true rfl) (hts _ q1788) (fun x h => h) rfl dX3_loadOf_15 ?_
    refine lv_iconst (v := nI 0) (pc := 18) hx hb dX3_loadOf_18 (by decide) ?_
    refine lv_iload_n (pc := 19) hx hb dX3_loadOf_19 rfl (lk hl rfl) ?_
    refine hc_S (pc := 20) hx hb hml hown hts hK hS (m_at l Γ H 0 t (t) (by omega)) (va_cwS 2 hts (lw_S q1935 q1936 q83 q1937) rfl rfl rfl (by decide +kernel) ⟨(Nat.le_of_ble_eq_true rfl), (Nat.le_of_ble_eq_true rfl)⟩) rfl hl.1 rfl (Nat.le_of_ble_eq_true rfl) dX3_loadOf_20 ⟨by first | exact Nat.le_of_ble_eq_true rfl | (dsimp only [rmd]; omega), by first | exact Nat.le_of_ble_eq_true rfl | (dsimp only [rmd]; omega)⟩ (fun v1 H1 locs1 hq1 hS => ?_)
    obtain ⟨rfl, rfl⟩ := hq1
    refine hm_mald (pc := 23) hx hb hK hM (show t < 48 from (by omega)) dX3_loadOf_23 ?_
    have := hw.b10 t
    refine lv_iload_n (pc := 24) hx hb dX3_loadOf_24 rfl (lk hl rfl) ?_
    refine hm_ne (tgt := 31) (pc := 25) hx hb dX3_loadOf_25 (by decide) (by omega) (by omega) (fun h => ?_) (fun h => ?_)
    · refine hw_iinc (v := nI (t + 1)) (pc := 31) hx hb dX3_loadOf_31 hl (lk hl rfl) (n_inc _ 1) (Nat.le_of_ble_eq_true rfl) (fun ls hl => ?_)
      refine lv_goto (tgt := 4) (pc := 34) hx hb dX3_loadOf_34 (by decide) ?_
      have e : plo S v (t + 1) = plo S v t := by rw [plo, if_neg h]; rfl
      exact ih (t + 1) (by omega) (by omega) _ ls hS (by rw [e]; exact (lv_c (lk hl rfl) (lv_c (lk hl rfl) (lv_c (lk hl rfl) (lv_c (lk hl rfl) (lv_0 hl))))))
    · skip
      refine hw_iinc (v := nI (plo S v t + 1)) (pc := 28) hx hb dX3_loadOf_28 hl (lk hl rfl) (n_inc _ 1) (Nat.le_of_ble_eq_true rfl) (fun ls hl => ?_)
      refine hw_iinc (v := nI (t + 1)) (pc := 31) hx hb dX3_loadOf_31 hl (lk hl rfl) (n_inc _ 1) (Nat.le_of_ble_eq_true rfl) (fun ls hl => ?_)
      refine lv_goto (tgt := 4) (pc := 34) hx hb dX3_loadOf_34 (by decide) ?_
      have e : plo S v (t + 1) = plo S v t + 1 := by rw [plo, if_pos h]
      exact ih (t + 1) (by omega) (by omega) _ ls hS (by rw [e]; exact (lv_c (lk hl rfl) (lv_c (lk hl rfl) (lv_c (lk hl rfl) (lv_c (lk hl rfl) (lv_0 hl))))))
