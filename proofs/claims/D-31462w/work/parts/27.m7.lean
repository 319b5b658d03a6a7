/-! the operations, as functions of the pure state: (state after, which refusal, answer); the reference does them -/
set_option maxRecDepth 100000
abbrev Ox : Type := Sx × Nat × Int32
def inI (x lo hi : Int32) : Bool := decide (¬ x < lo ∧ ¬ hi < x)
def isC (S : Sx) (x : Int32) : Bool := inI x (nI 0) (nI (S 0 0) - 1)
def tn (x : Int32) : Nat := x.toNatClampNeg
def isP (S : Sx) (x : Int32) : Bool := inI x (nI 0) (nI 19) && decide (S 2 (tn x) ≠ 0)
theorem tn_nI {k : Nat} (h : k < 2 ^ 31) : tn (nI k) = k := nI_clamp h
def MO (Γ : Cx) (μ : Nat → Nat) (H : Heap) (o : Ox) : Option Value → Heap → Prop := fun v H1 => v = some (.int o.2.2) ∧ MW Γ H1 μ o.1 (nI o.2.1) ∧ Off (Mf μ) H H1
theorem MW.row {Γ : Cx} {H : Heap} {μ : Nat → Nat} {S : Sx} {th : Int32} {f i v : Nat} (h : MW Γ H μ S th) (hf : 14 ≤ f) : MW Γ H μ (up2 S f i v) th :=
  ⟨fun k hk => ⟨by rw [mc_off (by omega) k hk (by omega)]; exact (h.1 k hk).1, (h.1 k hk).2⟩, h.2⟩
def oClear (S : Sx) : Ox := (up2 (up2 (up2 (pbegins S) 0 6 (S 0 6 + 2)) 0 7 (S 0 7 + 1)) 0 8 (S 0 8 + 1), 0, nI (S 0 1))
set_option maxHeartbeats 4000000 in
theorem m_clear (l : Launch) (Γ : Cx) (H : Heap) (μ : Nat → Nat) (S : Sx) (th : Int32) (hM : MW Γ H μ S th) : Mt l Γ yX3_clear (ws_ yX3_clear cX3_clear 2 (some .int)) 3 0 0 [.ref (μ 0)] H (MO Γ μ H (oClear S)) := by
  refine mt_of (by decide +kernel) (Nat.le_of_ble_eq_true rfl) ?_
  intro p e s m args below meth c ls Q hx hb hr hlocks hml hts hown hnm hK hS hl hQ
  have ho : Off (Mf μ) H H := Off.rf
  refine lv_aload_n (pc := 0) hx hb dX3_clear_0 rfl (lk hl rfl) ?_
  refine hw_get (pc := 1) hx hb hts in_X3 hown hK (hM.p0) rfl 14 (Nat.le_of_ble_eq_true rfl) (hts _ q1791) (fun x h => h) rfl dX3_clear_1 ?_
  refine lv_istore_n (pc := 4) hx hb dX3_clear_4 rfl hl (Nat.le_of_ble_eq_true rfl) rfl (fun ls hl => ?_)
  refine lv_aload_n (pc := 5) hx hb dX3_clear_5 rfl (lk hl rfl) ?_
  refine hc_V (pc := 6) hx hb hml hown hts hK hS (m_begins l Γ H μ S th hM) (cwV 0 hts (lw_V q1773 q1775 qs44 q83 q1776) rfl rfl rfl (by decide +kernel) ⟨(Nat.le_of_ble_eq_true rfl), (Nat.le_of_ble_eq_true rfl)⟩) (hK.recv hM.p0 rfl) rfl hl.1 rfl (Nat.le_of_ble_eq_true rfl) dX3_clear_6 ⟨by first | exact Nat.le_of_ble_eq_true rfl | (dsimp only [rmd]; omega), by first | exact Nat.le_of_ble_eq_true rfl | (dsimp only [rmd]; omega)⟩ (fun v1 H1 locs1 hq1 hS => ?_)
  obtain ⟨rfl, hM, ho1⟩ := hq1
  have ho := ho.trans ho1
  refine lv_aload_n (pc := 9) hx hb dX3_clear_9 rfl (lk hl rfl) ?_
  refine lv_iload_n (pc := 10) hx hb dX3_clear_10 rfl (lk hl rfl) ?_
  refine hc_V (pc := 11) hx hb hml hown hts hK hS (m_told l Γ H1 μ (pbegins S) th (nI (S 0 1)) hM) (cwV 1 hts (lw_V q1838 q1840 qs45 q83 q1841) rfl rfl rfl (by decide +kernel) ⟨(Nat.le_of_ble_eq_true rfl), (Nat.le_of_ble_eq_true rfl)⟩) (hK.recv hM.p0 rfl) rfl hl.1 rfl (Nat.le_of_ble_eq_true rfl) dX3_clear_11 ⟨by first | exact Nat.le_of_ble_eq_true rfl | (dsimp only [rmd]; omega), by first | exact Nat.le_of_ble_eq_true rfl | (dsimp only [rmd]; omega)⟩ (fun v2 H2 locs2 hq2 hS => ?_)
  obtain ⟨rfl, hM, ho2⟩ := hq2
  have ho := ho.trans ho2
  exact hr_i (pc := 14) hQ hx hb hr hlocks hS (by first | exact Nat.le_of_ble_eq_true rfl | (dsimp only [rmd]; omega)) (by first | exact Nat.le_of_ble_eq_true rfl | (dsimp only [rmd]; omega)) (⟨rfl, ((hM.gh (by decide)).gh (by decide)).gh (by decide), ho⟩) dX3_clear_14
def oCore (S : Sx) : Ox := if S 0 0 = 8 then (S, 1, nI 0) else (up2 (up2 (up2 S 1 (S 0 0) 0) 0 0 (S 0 0 + 1)) 0 6 (S 0 6 + 1), 0, nI (S 0 0))
set_option maxHeartbeats 4000000 in
theorem m_core (l : Launch) (Γ : Cx) (H : Heap) (μ : Nat → Nat) (S : Sx) (th : Int32) (hM : MW Γ H μ S th) (hw : WF S) : Mt l Γ yX3_core (ws_ yX3_core cX3_core 1 (some .int)) 3 0 0 [.ref (μ 0)] H (MO Γ μ H (oCore S)) := by
  refine mt_of (by decide +kernel) (Nat.le_of_ble_eq_true rfl) ?_
  intro p e s m args below meth c ls Q hx hb hr hlocks hml hts hown hnm hK hS hl hQ
  have ho : Off (Mf μ) H H := Off.rf
  have hb0 := hw.b0
  refine lv_aload_n (pc := 0) hx hb dX3_core_0 rfl (lk hl rfl) ?_
  refine hw_get (pc := 1) hx hb hts in_X3 hown hK (hM.p0) rfl 1 (Nat.le_of_ble_eq_true rfl) (hts _ q1778) (fun x h => h) rfl dX3_core_1 ?_
  refine lv_bipush (v := nI 8) (pc := 4) hx hb dX3_core_4 (by decide) ?_
  refine hn_ne (tgt := 15) (pc := 6) hx hb dX3_core_6 (by decide) (by omega) (by omega) (fun h1 => ?_) (fun h1 => ?_)
  · rw [oCore, if_neg h1] at hQ
    refine lv_aload_n (pc := 15) hx hb dX3_core_15 rfl (lk hl rfl) ?_
    refine hw_get (pc := 16) hx hb hts in_X3 hown hK (hM.p0) rfl 2 (Nat.le_of_ble_eq_true rfl) (hts _ q1779) (fun x h => h) rfl dX3_core_16 ?_
    refine lv_aload_n (pc := 19) hx hb dX3_core_19 rfl (lk hl rfl) ?_
    refine hw_get (pc := 20) hx hb hts in_X3 hown hK (hM.p0) rfl 1 (Nat.le_of_ble_eq_true rfl) (hts _ q1778) (fun x h => h) rfl dX3_core_20 ?_
    refine lv_iconst (v := nI 0) (pc := 23) hx hb dX3_core_23 (by decide) ?_
    refine hm_iast (k := 1) (pc := 24) hx hb hK hM (by decide) (show S 0 0 < 8 from (by omega)) hS dX3_core_24 (fun H1 locs1 hM ho1 hS => ?_)
    have ho := ho.trans ho1
    refine lv_aload_n (pc := 25) hx hb dX3_core_25 rfl (lk hl rfl) ?_
    refine lv_dup (pc := 26) hx hb dX3_core_26 rfl ?_
    refine hw_get (pc := 27) hx hb hts in_X3 hown hK (hM.p0) rfl 1 (Nat.le_of_ble_eq_true rfl) (hts _ q1778) (fun x h => h) rfl dX3_core_27 ?_
    rw [up2_f (by decide)]
    refine lv_iconst (v := nI 1) (pc := 30) hx hb dX3_core_30 (by decide) ?_
    refine lv_iadd (pc := 31) hx hb dX3_core_31 ?_
    refine hw_top (congrArg Value.int (show _ = nI (S 0 0 + 1) from nI_add _ _)) ?_
    refine hw_put (pc := 32) hx hb hts in_X3 tyX3_ok nmX3 hown hK (hM.p0) (hM.g (by decide)) hS rfl 1 (Nat.le_of_ble_eq_true rfl) (hts _ q1778) (fun x h => h) rfl rfl (rfl) (rfl) (Nat.le_of_ble_eq_true rfl) dX3_core_32 (fun H2 locs2 hp2 z2 o2 hS => ?_)
    have hM := hM.sc (i := 0) (v := S 0 0 + 1) hp2 o2
    have ho := ho.trans (Off.put (S := Mf μ) z2 o2 ⟨0, by decide, rfl⟩)
    refine lv_aload_n (pc := 35) hx hb dX3_core_35 rfl (lk hl rfl) ?_
    refine lv_aload_n (pc := 36) hx hb dX3_core_36 rfl (lk hl rfl) ?_
    refine hw_get (pc := 37) hx hb hts in_X3 hown hK (hM.p0) rfl 1 (Nat.le_of_ble_eq_true rfl) (hts _ q1778) (fun x h => h) rfl dX3_core_37 ?_
    rw [up2_s]
    refine lv_iconst (v := nI 1) (pc := 40) hx hb dX3_core_40 (by decide) ?_
    refine lv_isub (pc := 41) hx hb dX3_core_41 ?_
    refine hw_top (congrArg Value.int (show _ = nI (S 0 0 + 1 - 1) from n_sub (show 1 ≤ S 0 0 + 1 by omega))) ?_
    rw [Nat.add_sub_cancel]
    refine hc_V (pc := 42) hx hb hml hown hts hK hS (m_told l Γ H2 μ (up2 (up2 S 1 (S 0 0) 0) 0 0 (S 0 0 + 1)) th (nI (S 0 0)) hM) (cwV 1 hts (lw_V q1838 q1840 qs45 q83 q1841) rfl rfl rfl (by decide +kernel) ⟨(Nat.le_of_ble_eq_true rfl), (Nat.le_of_ble_eq_true rfl)⟩) (hK.recv hM.p0 rfl) rfl hl.1 rfl (Nat.le_of_ble_eq_true rfl) dX3_core_42 ⟨by first | exact Nat.le_of_ble_eq_true rfl | (dsimp only [rmd]; omega), by first | exact Nat.le_of_ble_eq_true rfl | (dsimp only [rmd]; omega)⟩ (fun v3 H3 locs3 hq3 hS => ?_)
    obtain ⟨rfl, hM, ho3⟩ := hq3
    have ho := ho.trans ho3
    exact hr_i (pc := 45) hQ hx hb hr hlocks hS (by first | exact Nat.le_of_ble_eq_true rfl | (dsimp only [rmd]; omega)) (by first | exact Nat.le_of_ble_eq_true rfl | (dsimp only [rmd]; omega)) (⟨rfl, hM.gh (by decide), ho⟩) dX3_core_45
  · skip
    rw [oCore, if_pos h1] at hQ
    refine lv_aload_n (pc := 9) hx hb dX3_core_9 rfl (lk hl rfl) ?_
    refine lv_iconst (v := nI 1) (pc := 10) hx hb dX3_core_10 (by decide) ?_
    refine hc_V (pc := 11) hx hb hml hown hts hK hS (m_refuse l Γ H μ S th (nI 1) hM) (cwV 1 hts (lw_V q1846 q1848 qs46 q83 q1849) rfl rfl rfl (by decide +kernel) ⟨(Nat.le_of_ble_eq_true rfl), (Nat.le_of_ble_eq_true rfl)⟩) (hK.recv hM.p0 rfl) rfl hl.1 rfl (Nat.le_of_ble_eq_true rfl) dX3_core_11 ⟨by first | exact Nat.le_of_ble_eq_true rfl | (dsimp only [rmd]; omega), by first | exact Nat.le_of_ble_eq_true rfl | (dsimp only [rmd]; omega)⟩ (fun v4 H4 locs4 hq4 hS => ?_)
    obtain ⟨rfl, hM, ho4⟩ := hq4
    have ho := ho.trans ho4
    exact hr_i (pc := 14) hQ hx hb hr hlocks hS (by first | exact Nat.le_of_ble_eq_true rfl | (dsimp only [rmd]; omega)) (by first | exact Nat.le_of_ble_eq_true rfl | (dsimp only [rmd]; omega)) (⟨rfl, hM, ho⟩) dX3_core_14
def oCores (S : Sx) : Ox := (S, 0, nI (S 0 0))
def oEntries (S : Sx) : Ox := (S, 0, nI (S 0 1))
def oUpCores (S : Sx) : Ox := (S, 0, nI (pus S (S 0 0)))
def oErrors (S : Sx) : Ox := (S, 0, nI 0)
set_option maxHeartbeats 4000000 in
theorem m_cores (l : Launch) (Γ : Cx) (H : Heap) (μ : Nat → Nat) (S : Sx) (th : Int32) (hM : MW Γ H μ S th) : Mt l Γ yX3_cores (ws_ yX3_cores cX3_cores 1 (some .int)) 2 0 0 [.ref (μ 0)] H (MO Γ μ H (oCores S)) := by
  refine mt_of (by decide +kernel) (Nat.le_of_ble_eq_true rfl) ?_
  intro p e s m args below meth c ls Q hx hb hr hlocks hml hts hown hnm hK hS hl hQ
  have ho : Off (Mf μ) H H := Off.rf
  refine lv_aload_n (pc := 0) hx hb dX3_cores_0 rfl (lk hl rfl) ?_
  refine lv_aload_n (pc := 1) hx hb dX3_cores_1 rfl (lk hl rfl) ?_
  refine hw_get (pc := 2) hx hb hts in_X3 hown hK (hM.p0) rfl 1 (Nat.le_of_ble_eq_true rfl) (hts _ q1778) (fun x h => h) rfl dX3_cores_2 ?_
  refine hc_V (pc := 5) hx hb hml hown hts hK hS (m_told l Γ H μ S th (nI (S 0 0)) hM) (cwV 1 hts (lw_V q1838 q1840 qs45 q83 q1841) rfl rfl rfl (by decide +kernel) ⟨(Nat.le_of_ble_eq_true rfl), (Nat.le_of_ble_eq_true rfl)⟩) (hK.recv hM.p0 rfl) rfl hl.1 rfl (Nat.le_of_ble_eq_true rfl) dX3_cores_5 ⟨by first | exact Nat.le_of_ble_eq_true rfl | (dsimp only [rmd]; omega), by first | exact Nat.le_of_ble_eq_true rfl | (dsimp only [rmd]; omega)⟩ (fun v1 H1 locs1 hq1 hS => ?_)
  obtain ⟨rfl, hM, ho1⟩ := hq1
  have ho := ho.trans ho1
  exact hr_i (pc := 8) hQ hx hb hr hlocks hS (by first | exact Nat.le_of_ble_eq_true rfl | (dsimp only [rmd]; omega)) (by first | exact Nat.le_of_ble_eq_true rfl | (dsimp only [rmd]; omega)) (⟨rfl, hM, ho⟩) dX3_cores_8
set_option maxHeartbeats 4000000 in
theorem m_entries (l : Launch) (Γ : Cx) (H : Heap) (μ : Nat → Nat) (S : Sx) (th : Int32) (hM : MW Γ H μ S th) : Mt l Γ yX3_entries (ws_ yX3_entries cX3_entries 1 (some .int)) 2 0 0 [.ref (μ 0)] H (MO Γ μ H (oEntries S)) := by
  refine mt_of (by decide +kernel) (Nat.le_of_ble_eq_true rfl) ?_
  intro p e s m args below meth c ls Q hx hb hr hlocks hml hts hown hnm hK hS hl hQ
  have ho : Off (Mf μ) H H := Off.rf
  refine lv_aload_n (pc := 0) hx hb dX3_entries_0 rfl (lk hl rfl) ?_
  refine lv_aload_n (pc := 1) hx hb dX3_entries_1 rfl (lk hl rfl) ?_
  refine hw_get (pc := 2) hx hb hts in_X3 hown hK (hM.p0) rfl 14 (Nat.le_of_ble_eq_true rfl) (hts _ q1791) (fun x h => h) rfl dX3_entries_2 ?_
  refine hc_V (pc := 5) hx hb hml hown hts hK hS (m_told l Γ H μ S th (nI (S 0 1)) hM) (cwV 1 hts (lw_V q1838 q1840 qs45 q83 q1841) rfl rfl rfl (by decide +kernel) ⟨(Nat.le_of_ble_eq_true rfl), (Nat.le_of_ble_eq_true rfl)⟩) (hK.recv hM.p0 rfl) rfl hl.1 rfl (Nat.le_of_ble_eq_true rfl) dX3_entries_5 ⟨by first | exact Nat.le_of_ble_eq_true rfl | (dsimp only [rmd]; omega), by first | exact Nat.le_of_ble_eq_true rfl | (dsimp only [rmd]; omega)⟩ (fun v1 H1 locs1 hq1 hS => ?_)
  obtain ⟨rfl, hM, ho1⟩ := hq1
  have ho := ho.trans ho1
  exact hr_i (pc := 8) hQ hx hb hr hlocks hS (by first | exact Nat.le_of_ble_eq_true rfl | (dsimp only [rmd]; omega)) (by first | exact Nat.le_of_ble_eq_true rfl | (dsimp only [rmd]; omega)) (⟨rfl, hM, ho⟩) dX3_entries_8
set_option maxHeartbeats 4000000 in
theorem m_errors (l : Launch) (Γ : Cx) (H : Heap) (μ : Nat → Nat) (S : Sx) (th : Int32) (hM : MW Γ H μ S th) : Mt l Γ yX3_errors (ws_ yX3_errors cX3_errors 1 (some .int)) 2 0 0 [.ref (μ 0)] H (MO Γ μ H (oErrors S)) := by
  refine mt_of (by decide +kernel) (Nat.le_of_ble_eq_true rfl) ?_
  intro p e s m args below meth c ls Q hx hb hr hlocks hml hts hown hnm hK hS hl hQ
  have ho : Off (Mf μ) H H := Off.rf
  refine lv_aload_n (pc := 0) hx hb dX3_errors_0 rfl (lk hl rfl) ?_
  refine lv_iconst (v := nI 0) (pc := 1) hx hb dX3_errors_1 (by decide) ?_
  refine hc_V (pc := 2) hx hb hml hown hts hK hS (m_told l Γ H μ S th (nI 0) hM) (cwV 1 hts (lw_V q1838 q1840 qs45 q83 q1841) rfl rfl rfl (by decide +kernel) ⟨(Nat.le_of_ble_eq_true rfl), (Nat.le_of_ble_eq_true rfl)⟩) (hK.recv hM.p0 rfl) rfl hl.1 rfl (Nat.le_of_ble_eq_true rfl) dX3_errors_2 ⟨by first | exact Nat.le_of_ble_eq_true rfl | (dsimp only [rmd]; omega), by first | exact Nat.le_of_ble_eq_true rfl | (dsimp only [rmd]; omega)⟩ (fun v1 H1 locs1 hq1 hS => ?_)
  obtain ⟨rfl, hM, ho1⟩ := hq1
  have ho := ho.trans ho1
  exact hr_i (pc := 5) hQ hx hb hr hlocks hS (by first | exact Nat.le_of_ble_eq_true rfl | (dsimp only [rmd]; omega)) (by first | exact Nat.le_of_ble_eq_true rfl | (dsimp only [rmd]; omega)) (⟨rfl, hM, ho⟩) dX3_errors_5
def oLevel (S : Sx) (x : Int32) : Ox := if isC S x = true then (S, 0, nI (S 1 (tn x))) else (S, 1, nI 0)
set_option maxHeartbeats 4000000 in
theorem m_level (l : Launch) (Γ : Cx) (H : Heap) (μ : Nat → Nat) (S : Sx) (th : Int32) (x : Int32) (hM : MW Γ H μ S th) (hw : WF S) : Mt l Γ yX3_level (ws_ yX3_level cX3_level 2 (some .int)) 3 0 0 [.ref (μ 0), .int x] H (MO Γ μ H (oLevel S x)) := by
  refine mt_of (by decide +kernel) (Nat.le_of_ble_eq_true rfl) ?_
  intro p e s m args below meth c ls Q hx hb hr hlocks hml hts hown hnm hK hS hl hQ
  have ho : Off (Mf μ) H H := Off.rf
  have hb0 := hw.b0
  refine lv_aload_n (pc := 0) hx hb dX3_level_0 rfl (lk hl rfl) ?_
  refine lv_iload_n (pc := 1) hx hb dX3_level_1 rfl (lk hl rfl) ?_
  refine hc_V (pc := 2) hx hb hml hown hts hK hS (m_isCore l Γ H μ S th x hM) (cwV 1 hts (lw_V q1915 q1917 qs56 q83 q1918) rfl rfl rfl (by decide +kernel) ⟨(Nat.le_of_ble_eq_true rfl), (Nat.le_of_ble_eq_true rfl)⟩) (hK.recv hM.p0 rfl) rfl hl.1 rfl (Nat.le_of_ble_eq_true rfl) dX3_level_2 ⟨by first | exact Nat.le_of_ble_eq_true rfl | (dsimp only [rmd]; omega), by first | exact Nat.le_of_ble_eq_true rfl | (dsimp only [rmd]; omega)⟩ (fun v1 H1 locs1 hq1 hS => ?_)
  obtain ⟨rfl, rfl⟩ := hq1
  refine hz_ne (tgt := 14) (pc := 5) hx hb dX3_level_5 (by decide) (fun h1 => ?_) (fun h1 => ?_)
  · rw [oLevel, if_pos (show isC S x = true from h1)] at hQ
    obtain ⟨k, hk, rfl⟩ := isCore_iff hw h1
    rw [tn_nI (by omega)] at hQ
    refine lv_aload_n (pc := 14) hx hb dX3_level_14 rfl (lk hl rfl) ?_
    refine lv_aload_n (pc := 15) hx hb dX3_level_15 rfl (lk hl rfl) ?_
    refine hw_get (pc := 16) hx hb hts in_X3 hown hK (hM.p0) rfl 2 (Nat.le_of_ble_eq_true rfl) (hts _ q1779) (fun x h => h) rfl dX3_level_16 ?_
    refine lv_iload_n (pc := 19) hx hb dX3_level_19 rfl (lk hl rfl) ?_
    refine hm_iald (k := 1) (pc := 20) hx hb hK hM (by decide) (show k < 8 from (by omega)) dX3_level_20 ?_
    have := hw.b1 k
    refine hc_V (pc := 21) hx hb hml hown hts hK hS (m_told l Γ H μ S th (nI (S 1 k)) hM) (cwV 1 hts (lw_V q1838 q1840 qs45 q83 q1841) rfl rfl rfl (by decide +kernel) ⟨(Nat.le_of_ble_eq_true rfl), (Nat.le_of_ble_eq_true rfl)⟩) (hK.recv hM.p0 rfl) rfl hl.1 rfl (Nat.le_of_ble_eq_true rfl) dX3_level_21 ⟨by first | exact Nat.le_of_ble_eq_true rfl | (dsimp only [rmd]; omega), by first | exact Nat.le_of_ble_eq_true rfl | (dsimp only [rmd]; omega)⟩ (fun v2 H2 locs2 hq2 hS => ?_)
    obtain ⟨rfl, hM, ho2⟩ := hq2
    have ho := ho.trans ho2
    exact hr_i (pc := 24) hQ hx hb hr hlocks hS (by first | exact Nat.le_of_ble_eq_true rfl | (dsimp only [rmd]; omega)) (by first | exact Nat.le_of_ble_eq_true rfl | (dsimp only [rmd]; omega)) (⟨rfl, hM, ho⟩) dX3_level_24
  · skip
    rw [oLevel, if_neg (show ¬ isC S x = true by show ¬ decide _ = true; rw [h1]; simp)] at hQ
    refine lv_aload_n (pc := 8) hx hb dX3_level_8 rfl (lk hl rfl) ?_
    refine lv_iconst (v := nI 1) (pc := 9) hx hb dX3_level_9 (by decide) ?_
    refine hc_V (pc := 10) hx hb hml hown hts hK hS (m_refuse l Γ H μ S th (nI 1) hM) (cwV 1 hts (lw_V q1846 q1848 qs46 q83 q1849) rfl rfl rfl (by decide +kernel) ⟨(Nat.le_of_ble_eq_true rfl), (Nat.le_of_ble_eq_true rfl)⟩) (hK.recv hM.p0 rfl) rfl hl.1 rfl (Nat.le_of_ble_eq_true rfl) dX3_level_10 ⟨by first | exact Nat.le_of_ble_eq_true rfl | (dsimp only [rmd]; omega), by first | exact Nat.le_of_ble_eq_true rfl | (dsimp only [rmd]; omega)⟩ (fun v3 H3 locs3 hq3 hS => ?_)
    obtain ⟨rfl, hM, ho3⟩ := hq3
    have ho := ho.trans ho3
    exact hr_i (pc := 13) hQ hx hb hr hlocks hS (by first | exact Nat.le_of_ble_eq_true rfl | (dsimp only [rmd]; omega)) (by first | exact Nat.le_of_ble_eq_true rfl | (dsimp only [rmd]; omega)) (⟨rfl, hM, ho⟩) dX3_level_13
def oLoad (S : Sx) (x : Int32) : Ox := if isC S x = true then (S, 0, nI (plo S (tn x + 1) (S 8 0))) else (S, 1, nI 0)
set_option maxHeartbeats 4000000 in
theorem m_load (l : Launch) (Γ : Cx) (H : Heap) (μ : Nat → Nat) (S : Sx) (th : Int32) (x : Int32) (hM : MW Γ H μ S th) (hw : WF S) : Mt l Γ yX3_load (ws_ yX3_load cX3_load 2 (some .int)) 3 0 0 [.ref (μ 0), .int x] H (MO Γ μ H (oLoad S x)) := by
  refine mt_of (by decide +kernel) (Nat.le_of_ble_eq_true rfl) ?_
  intro p e s m args below meth c ls Q hx hb hr hlocks hml hts hown hnm hK hS hl hQ
  have ho : Off (Mf μ) H H := Off.rf
  have hb0 := hw.b0
  refine lv_aload_n (pc := 0) hx hb dX3_load_0 rfl (lk hl rfl) ?_
  refine lv_iload_n (pc := 1) hx hb dX3_load_1 rfl (lk hl rfl) ?_
  refine hc_V (pc := 2) hx hb hml hown hts hK hS (m_isCore l Γ H μ S th x hM) (cwV 1 hts (lw_V q1915 q1917 qs56 q83 q1918) rfl rfl rfl (by decide +kernel) ⟨(Nat.le_of_ble_eq_true rfl), (Nat.le_of_ble_eq_true rfl)⟩) (hK.recv hM.p0 rfl) rfl hl.1 rfl (Nat.le_of_ble_eq_true rfl) dX3_load_2 ⟨by first | exact Nat.le_of_ble_eq_true rfl | (dsimp only [rmd]; omega), by first | exact Nat.le_of_ble_eq_true rfl | (dsimp only [rmd]; omega)⟩ (fun v1 H1 locs1 hq1 hS => ?_)
  obtain ⟨rfl, rfl⟩ := hq1
  refine hz_ne (tgt := 14) (pc := 5) hx hb dX3_load_5 (by decide) (fun h1 => ?_) (fun h1 => ?_)
  · rw [oLoad, if_pos (show isC S x = true from h1)] at hQ
    obtain ⟨k, hk, rfl⟩ := isCore_iff hw h1
    rw [tn_nI (by omega)] at hQ
    refine lv_aload_n (pc := 14) hx hb dX3_load_14 rfl (lk hl rfl) ?_
    refine lv_aload_n (pc := 15) hx hb dX3_load_15 rfl (lk hl rfl) ?_
    refine lv_iload_n (pc := 16) hx hb dX3_load_16 rfl (lk hl rfl) ?_
    refine hw_top (congrArg Value.int (nI_pred k).symm) ?_
    refine hc_V (pc := 17) hx hb hml hown hts hK hS (m_loadOf l Γ H μ S th (k + 1) hM hw (by omega)) (cwV 1 hts (lw_V q1942 q1944 qs61 q83 q1945) rfl rfl rfl (by decide +kernel) ⟨(Nat.le_of_ble_eq_true rfl), (Nat.le_of_ble_eq_true rfl)⟩) (hK.recv hM.p0 rfl) rfl hl.1 rfl (Nat.le_of_ble_eq_true rfl) dX3_load_17 ⟨by first | exact Nat.le_of_ble_eq_true rfl | (dsimp only [rmd]; omega), by first | exact Nat.le_of_ble_eq_true rfl | (dsimp only [rmd]; omega)⟩ (fun v2 H2 locs2 hq2 hS => ?_)
    obtain ⟨rfl, rfl⟩ := hq2
    refine hc_V (pc := 20) hx hb hml hown hts hK hS (m_told l Γ H μ S th (nI (plo S (k + 1) (S 8 0))) hM) (cwV 1 hts (lw_V q1838 q1840 qs45 q83 q1841) rfl rfl rfl (by decide +kernel) ⟨(Nat.le_of_ble_eq_true rfl), (Nat.le_of_ble_eq_true rfl)⟩) (hK.recv hM.p0 rfl) rfl hl.1 rfl (Nat.le_of_ble_eq_true rfl) dX3_load_20 ⟨by first | exact Nat.le_of_ble_eq_true rfl | (dsimp only [rmd]; omega), by first | exact Nat.le_of_ble_eq_true rfl | (dsimp only [rmd]; omega)⟩ (fun v3 H3 locs3 hq3 hS => ?_)
    obtain ⟨rfl, hM, ho3⟩ := hq3
    have ho := ho.trans ho3
    exact hr_i (pc := 23) hQ hx hb hr hlocks hS (by first | exact Nat.le_of_ble_eq_true rfl | (dsimp only [rmd]; omega)) (by first | exact Nat.le_of_ble_eq_true rfl | (dsimp only [rmd]; omega)) (⟨rfl, hM, ho⟩) dX3_load_23
  · skip
    rw [oLoad, if_neg (show ¬ isC S x = true by show ¬ decide _ = true; rw [h1]; simp)] at hQ
    refine lv_aload_n (pc := 8) hx hb dX3_load_8 rfl (lk hl rfl) ?_
    refine lv_iconst (v := nI 1) (pc := 9) hx hb dX3_load_9 (by decide) ?_
    refine hc_V (pc := 10) hx hb hml hown hts hK hS (m_refuse l Γ H μ S th (nI 1) hM) (cwV 1 hts (lw_V q1846 q1848 qs46 q83 q1849) rfl rfl rfl (by decide +kernel) ⟨(Nat.le_of_ble_eq_true rfl), (Nat.le_of_ble_eq_true rfl)⟩) (hK.recv hM.p0 rfl) rfl hl.1 rfl (Nat.le_of_ble_eq_true rfl) dX3_load_10 ⟨by first | exact Nat.le_of_ble_eq_true rfl | (dsimp only [rmd]; omega), by first | exact Nat.le_of_ble_eq_true rfl | (dsimp only [rmd]; omega)⟩ (fun v4 H4 locs4 hq4 hS => ?_)
    obtain ⟨rfl, hM, ho4⟩ := hq4
    have ho := ho.trans ho4
    exact hr_i (pc := 13) hQ hx hb hr hlocks hS (by first | exact Nat.le_of_ble_eq_true rfl | (dsimp only [rmd]; omega)) (by first | exact Nat.le_of_ble_eq_true rfl | (dsimp only [rmd]; omega)) (⟨rfl, hM, ho⟩) dX3_load_13
/-- what isStepAt answers, told by isP -/
theorem stepAt_t {S : Sx} {x : Int32} {b : Bool} (h1 : b = true → ∃ k, k < 20 ∧ x = nI k ∧ S 2 k = 1) (hb : b = true) : ∃ k, k < 20 ∧ x = nI k ∧ S 2 k = 1 ∧ isP S x = true := by
  obtain ⟨k, hk, e, e2⟩ := h1 hb
  refine ⟨k, hk, e, e2, ?_⟩
  rw [isP, e, tn_nI (by omega), e2, inI, decide_eq_true ⟨nI_nlt (Nat.zero_le _) (by omega), nI_nlt (by omega) (by omega)⟩]
  rfl
theorem stepAt_f {S : Sx} {x : Int32} {b : Bool} (h0 : b = false → ∀ k, k < 20 → x = nI k → S 2 k = 0) (hb : b = false) : ¬ isP S x = true := by
  intro h
  rw [isP, Bool.and_eq_true] at h
  obtain ⟨k, -, hk, rfl⟩ := i_in (lo := 0) (by decide) (by decide) (of_decide_eq_true h.1).1 (of_decide_eq_true h.1).2
  have := h0 hb k (by omega) rfl
  have h2 := of_decide_eq_true h.2
  rw [tn_nI (by omega)] at h2
  exact h2 this
def oInstances (S : Sx) (x : Int32) : Ox := if isP S x = true then (S, 0, nI (S 6 (tn x))) else (S, 1, nI 0)
set_option maxHeartbeats 4000000 in
theorem m_instances (l : Launch) (Γ : Cx) (H : Heap) (μ : Nat → Nat) (S : Sx) (th : Int32) (x : Int32) (hM : MW Γ H μ S th) (hw : WF S) : Mt l Γ yX3_instances (ws_ yX3_instances cX3_instances 2 (some .int)) 3 0 0 [.ref (μ 0), .int x] H (MO Γ μ H (oInstances S x)) := by
  refine mt_of (by decide +kernel) (Nat.le_of_ble_eq_true rfl) ?_
  intro p e s m args below meth c ls Q hx hb hr hlocks hml hts hown hnm hK hS hl hQ
  have ho : Off (Mf μ) H H := Off.rf
  refine lv_aload_n (pc := 0) hx hb dX3_instances_0 rfl (lk hl rfl) ?_
  refine lv_iload_n (pc := 1) hx hb dX3_instances_1 rfl (lk hl rfl) ?_
  refine hc_V (pc := 2) hx hb hml hown hts hK hS (m_isStepAt l Γ H μ S th x hM hw) (cwV 1 hts (lw_V q1891 q1893 qs53 q83 q1894) rfl rfl rfl (by decide +kernel) ⟨(Nat.le_of_ble_eq_true rfl), (Nat.le_of_ble_eq_true rfl)⟩) (hK.recv hM.p0 rfl) rfl hl.1 rfl (Nat.le_of_ble_eq_true rfl) dX3_instances_2 ⟨by first | exact Nat.le_of_ble_eq_true rfl | (dsimp only [rmd]; omega), by first | exact Nat.le_of_ble_eq_true rfl | (dsimp only [rmd]; omega)⟩ (fun v9 H9 locs9 hq9 hS => ?_)
  obtain ⟨b, rfl, rfl, q1, q0⟩ := hq9
  refine hz_ne (tgt := 14) (pc := 5) hx hb dX3_instances_5 (by decide) (fun h1 => ?_) (fun h1 => ?_)
  · obtain ⟨k, hk, rfl, e2, hP⟩ := stepAt_t q1 h1
    rw [oInstances, if_pos hP, tn_nI (by omega)] at hQ
    refine lv_aload_n (pc := 14) hx hb dX3_instances_14 rfl (lk hl rfl) ?_
    refine lv_aload_n (pc := 15) hx hb dX3_instances_15 rfl (lk hl rfl) ?_
    refine hw_get (pc := 16) hx hb hts in_X3 hown hK (hM.p0) rfl 7 (Nat.le_of_ble_eq_true rfl) (hts _ q1784) (fun x h => h) rfl dX3_instances_16 ?_
    refine lv_iload_n (pc := 19) hx hb dX3_instances_19 rfl (lk hl rfl) ?_
    refine hm_iald (k := 6) (pc := 20) hx hb hK hM (by decide) (show k < 20 from (by omega)) dX3_instances_20 ?_
    have := hw.b6 k
    refine hc_V (pc := 21) hx hb hml hown hts hK hS (m_told l Γ H μ S th (nI (S 6 k)) hM) (cwV 1 hts (lw_V q1838 q1840 qs45 q83 q1841) rfl rfl rfl (by decide +kernel) ⟨(Nat.le_of_ble_eq_true rfl), (Nat.le_of_ble_eq_true rfl)⟩) (hK.recv hM.p0 rfl) rfl hl.1 rfl (Nat.le_of_ble_eq_true rfl) dX3_instances_21 ⟨by first | exact Nat.le_of_ble_eq_true rfl | (dsimp only [rmd]; omega), by first | exact Nat.le_of_ble_eq_true rfl | (dsimp only [rmd]; omega)⟩ (fun v1 H1 locs1 hq1 hS => ?_)
    obtain ⟨rfl, hM, ho1⟩ := hq1
    have ho := ho.trans ho1
    exact hr_i (pc := 24) hQ hx hb hr hlocks hS (by first | exact Nat.le_of_ble_eq_true rfl | (dsimp only [rmd]; omega)) (by first | exact Nat.le_of_ble_eq_true rfl | (dsimp only [rmd]; omega)) (⟨rfl, hM, ho⟩) dX3_instances_24
  · skip
    rw [oInstances, if_neg (stepAt_f q0 h1)] at hQ
    refine lv_aload_n (pc := 8) hx hb dX3_instances_8 rfl (lk hl rfl) ?_
    refine lv_iconst (v := nI 1) (pc := 9) hx hb dX3_instances_9 (by decide) ?_
    refine hc_V (pc := 10) hx hb hml hown hts hK hS (m_refuse l Γ H μ S th (nI 1) hM) (cwV 1 hts (lw_V q1846 q1848 qs46 q83 q1849) rfl rfl rfl (by decide +kernel) ⟨(Nat.le_of_ble_eq_true rfl), (Nat.le_of_ble_eq_true rfl)⟩) (hK.recv hM.p0 rfl) rfl hl.1 rfl (Nat.le_of_ble_eq_true rfl) dX3_instances_10 ⟨by first | exact Nat.le_of_ble_eq_true rfl | (dsimp only [rmd]; omega), by first | exact Nat.le_of_ble_eq_true rfl | (dsimp only [rmd]; omega)⟩ (fun v2 H2 locs2 hq2 hS => ?_)
    obtain ⟨rfl, hM, ho2⟩ := hq2
    have ho := ho.trans ho2
    exact hr_i (pc := 13) hQ hx hb hr hlocks hS (by first | exact Nat.le_of_ble_eq_true rfl | (dsimp only [rmd]; omega)) (by first | exact Nat.le_of_ble_eq_true rfl | (dsimp only [rmd]; omega)) (⟨rfl, hM, ho⟩) dX3_instances_13
def isK (x : Int32) : Bool := inI x (nI 0) (nI 2)
def oCoreOf (S : Sx) (x y : Int32) : Ox := if isK x = true then (if inI y (nI 0) (nI (S 8 (tn x)) - 1) = true then (S, 0, nI (S 10 (16 * tn x + tn y)) - 1) else (S, 2, nI 0)) else (S, 1, nI 0)
def oMoves (S : Sx) (x y : Int32) : Ox := if isK x = true then (if inI y (nI 0) (nI (S 8 (tn x)) - 1) = true then (S, 0, nI (S 11 (16 * tn x + tn y))) else (S, 2, nI 0)) else (S, 1, nI 0)
/-- an index under a count -/
theorem ix_iff {n : Nat} (hn : n < 2 ^ 31) {y : Int32} (h : inI y (nI 0) (nI n - 1) = true) : ∃ k, k < n ∧ y = nI k := by
  have h1 := of_decide_eq_true h
  rcases Nat.eq_zero_or_pos n with rfl | h0
  · exfalso
    apply h1.2
    have h2 : ¬ y < 0 := h1.1
    rw [Int32.lt_iff_toInt_lt, nm_toInt (by decide)]
    rw [Int32.lt_iff_toInt_lt, Int32.toInt_zero] at h2
    omega
  · rw [n_m h0] at h1
    obtain ⟨j, -, h2, h3⟩ := i_in (lo := 0) (by omega) (Nat.zero_le _) h1.1 h1.2
    exact ⟨j, by omega, h3⟩
theorem isK_iff {x : Int32} (h : isK x = true) : ∃ k, k < 3 ∧ x = nI k := by
  obtain ⟨k, -, hk, e⟩ := i_in (lo := 0) (by decide) (by decide) (of_decide_eq_true h).1 (of_decide_eq_true h).2
  exact ⟨k, by omega, e⟩
theorem b8_le {S : Sx} (hw : WF S) {k : Nat} (hk : k < 3) : S 8 k ≤ 16 := by
  have h := hw.b8
  rcases (show k = 0 ∨ k = 1 ∨ k = 2 by omega) with rfl | rfl | rfl <;> omega
set_option maxHeartbeats 4000000 in
theorem m_coreOf (l : Launch) (Γ : Cx) (H : Heap) (μ : Nat → Nat) (S : Sx) (th : Int32) (x y : Int32) (hM : MW Γ H μ S th) (hw : WF S) : Mt l Γ yX3_coreOf (ws_ yX3_coreOf cX3_coreOf 3 (some .int)) 3 0 0 [.ref (μ 0), .int x, .int y] H (MO Γ μ H (oCoreOf S x y)) := by
  refine mt_of (by decide +kernel) (Nat.le_of_ble_eq_true rfl) ?_
  intro p e s m args below meth c ls Q hx hb hr hlocks hml hts hown hnm hK hS hl hQ
  have ho : Off (Mf μ) H H := Off.rf
  refine lv_iload_n (pc := 0) hx hb dX3_coreOf_0 rfl (lk hl rfl) ?_
  refine hc_S (pc := 1) hx hb hml hown hts hK hS (m_isKind l Γ H x) (va_cwS 1 hts (lw_S q2006 q2007 q83 q2008) rfl rfl rfl (by decide +kernel) ⟨(Nat.le_of_ble_eq_true rfl), (Nat.le_of_ble_eq_true rfl)⟩) rfl hl.1 rfl (Nat.le_of_ble_eq_true rfl) dX3_coreOf_1 ⟨by first | exact Nat.le_of_ble_eq_true rfl | (dsimp only [rmd]; omega), by first | exact Nat.le_of_ble_eq_true rfl | (dsimp only [rmd]; omega)⟩ (fun v1 H1 locs1 hq1 hS => ?_)
  obtain ⟨rfl, rfl⟩ := hq1
  refine hz_ne (tgt := 13) (pc := 4) hx hb dX3_coreOf_4 (by decide) (fun h1 => ?_) (fun h1 => ?_)
  · rw [oCoreOf, if_pos (show isK x = true from h1)] at hQ
    obtain ⟨k, hk, rfl⟩ := isK_iff h1
    have h8 := b8_le hw hk
    rw [tn_nI (by omega)] at hQ
    refine lv_iload_n (pc := 13) hx hb dX3_coreOf_13 rfl (lk hl rfl) ?_
    refine lv_iconst (v := nI 0) (pc := 14) hx hb dX3_coreOf_14 (by decide) ?_
    refine lv_aload_n (pc := 15) hx hb dX3_coreOf_15 rfl (lk hl rfl) ?_
    refine hw_get (pc := 16) hx hb hts in_X3 hown hK (hM.p0) rfl 9 (Nat.le_of_ble_eq_true rfl) (hts _ q1786) (fun x h => h) rfl dX3_coreOf_16 ?_
    refine lv_iload_n (pc := 19) hx hb dX3_coreOf_19 rfl (lk hl rfl) ?_
    refine hm_iald (k := 8) (pc := 20) hx hb hK hM (by decide) (show k < 3 from (by omega)) dX3_coreOf_20 ?_
    refine lv_iconst (v := nI 1) (pc := 21) hx hb dX3_coreOf_21 (by decide) ?_
    refine lv_isub (pc := 22) hx hb dX3_coreOf_22 ?_
    refine hw_top (congrArg Value.int (show _ = nI (S 8 k) - 1 from n_1 _)) ?_
    refine hc_S (pc := 23) hx hb hml hown hts hK hS (m_in l Γ H y (nI 0) (nI (S 8 k) - 1)) (va_cwS 3 hts (lw_S q1854 q1855 q83 q1856) rfl rfl rfl (by decide +kernel) ⟨(Nat.le_of_ble_eq_true rfl), (Nat.le_of_ble_eq_true rfl)⟩) rfl hl.1 rfl (Nat.le_of_ble_eq_true rfl) dX3_coreOf_23 ⟨by first | exact Nat.le_of_ble_eq_true rfl | (dsimp only [rmd]; omega), by first | exact Nat.le_of_ble_eq_true rfl | (dsimp only [rmd]; omega)⟩ (fun v2 H2 locs2 hq2 hS => ?_)
    obtain ⟨rfl, rfl⟩ := hq2
    refine hz_ne (tgt := 35) (pc := 26) hx hb dX3_coreOf_26 (by decide) (fun h2 => ?_) (fun h2 => ?_)
    · rw [if_pos (show inI y (nI 0) (nI (S 8 k) - 1) = true from h2)] at hQ
      obtain ⟨j, hj, rfl⟩ := ix_iff (by omega) (show inI y (nI 0) (nI (S 8 k) - 1) = true from h2)
      rw [tn_nI (by omega)] at hQ
      refine lv_aload_n (pc := 35) hx hb dX3_coreOf_35 rfl (lk hl rfl) ?_
      refine lv_aload_n (pc := 36) hx hb dX3_coreOf_36 rfl (lk hl rfl) ?_
      refine hw_get (pc := 37) hx hb hts in_X3 hown hK (hM.p0) rfl 11 (Nat.le_of_ble_eq_true rfl) (hts _ q1788) (fun x h => h) rfl dX3_coreOf_37 ?_
      refine lv_iload_n (pc := 40) hx hb dX3_coreOf_40 rfl (lk hl rfl) ?_
      refine lv_iload_n (pc := 41) hx hb dX3_coreOf_41 rfl (lk hl rfl) ?_
      refine hc_S (pc := 42) hx hb hml hown hts hK hS (m_at l Γ H k j (16 * k + j) (by omega)) (va_cwS 2 hts (lw_S q1935 q1936 q83 q1937) rfl rfl rfl (by decide +kernel) ⟨(Nat.le_of_ble_eq_true rfl), (Nat.le_of_ble_eq_true rfl)⟩) rfl hl.1 rfl (Nat.le_of_ble_eq_true rfl) dX3_coreOf_42 ⟨by first | exact Nat.le_of_ble_eq_true rfl | (dsimp only [rmd]; omega), by first | exact Nat.le_of_ble_eq_true rfl | (dsimp only [rmd]; omega)⟩ (fun v3 H3 locs3 hq3 hS => ?_)
      obtain ⟨rfl, rfl⟩ := hq3
      refine hm_mald (pc := 45) hx hb hK hM (show 16 * k + j < 48 from (by omega)) dX3_coreOf_45 ?_
      have := hw.b10 (16 * k + j)
      refine hc_V (pc := 46) hx hb hml hown hts hK hS (m_told l Γ H μ S th (nI (S 10 (16 * k + j)) - 1) hM) (cwV 1 hts (lw_V q1838 q1840 qs45 q83 q1841) rfl rfl rfl (by decide +kernel) ⟨(Nat.le_of_ble_eq_true rfl), (Nat.le_of_ble_eq_true rfl)⟩) (hK.recv hM.p0 rfl) rfl hl.1 rfl (Nat.le_of_ble_eq_true rfl) dX3_coreOf_46 ⟨by first | exact Nat.le_of_ble_eq_true rfl | (dsimp only [rmd]; omega), by first | exact Nat.le_of_ble_eq_true rfl | (dsimp only [rmd]; omega)⟩ (fun v4 H4 locs4 hq4 hS => ?_)
      obtain ⟨rfl, hM, ho4⟩ := hq4
      have ho := ho.trans ho4
      exact hr_i (pc := 49) hQ hx hb hr hlocks hS (by first | exact Nat.le_of_ble_eq_true rfl | (dsimp only [rmd]; omega)) (by first | exact Nat.le_of_ble_eq_true rfl | (dsimp only [rmd]; omega)) (⟨rfl, hM, ho⟩) dX3_coreOf_49
    · skip
      rw [if_neg (show ¬ inI y (nI 0) (nI (S 8 k) - 1) = true by show ¬ decide _ = true; rw [h2]; simp)] at hQ
      refine lv_aload_n (pc := 29) hx hb dX3_coreOf_29 rfl (lk hl rfl) ?_
      refine lv_iconst (v := nI 2) (pc := 30) hx hb dX3_coreOf_30 (by decide) ?_
      refine hc_V (pc := 31) hx hb hml hown hts hK hS (m_refuse l Γ H μ S th (nI 2) hM) (cwV 1 hts (lw_V q1846 q1848 qs46 q83 q1849) rfl rfl rfl (by decide +kernel) ⟨(Nat.le_of_ble_eq_true rfl), (Nat.le_of_ble_eq_true rfl)⟩) (hK.recv hM.p0 rfl) rfl hl.1 rfl (Nat.le_of_ble_eq_true rfl) dX3_coreOf_31 ⟨by first | exact Nat.le_of_ble_eq_true rfl | (dsimp only [rmd]; omega), by first | exact Nat.le_of_ble_eq_true rfl | (dsimp only [rmd]; omega)⟩ (fun v5 H5 locs5 hq5 hS => ?_)
      obtain ⟨rfl, hM, ho5⟩ := hq5
      have ho := ho.trans ho5
      exact hr_i (pc := 34) hQ hx hb hr hlocks hS (by first | exact Nat.le_of_ble_eq_true rfl | (dsimp only [rmd]; omega)) (by first | exact Nat.le_of_ble_eq_true rfl | (dsimp only [rmd]; omega)) (⟨rfl, hM, ho⟩) dX3_coreOf_34
  · skip
    rw [oCoreOf, if_neg (show ¬ isK x = true by show ¬ decide _ = true; rw [h1]; simp)] at hQ
    refine lv_aload_n (pc := 7) hx hb dX3_coreOf_7 rfl (lk hl rfl) ?_
    refine lv_iconst (v := nI 1) (pc := 8) hx hb dX3_coreOf_8 (by decide) ?_
    refine hc_V (pc := 9) hx hb hml hown hts hK hS (m_refuse l Γ H μ S th (nI 1) hM) (cwV 1 hts (lw_V q1846 q1848 qs46 q83 q1849) rfl rfl rfl (by decide +kernel) ⟨(Nat.le_of_ble_eq_true rfl), (Nat.le_of_ble_eq_true rfl)⟩) (hK.recv hM.p0 rfl) rfl hl.1 rfl (Nat.le_of_ble_eq_true rfl) dX3_coreOf_9 ⟨by first | exact Nat.le_of_ble_eq_true rfl | (dsimp only [rmd]; omega), by first | exact Nat.le_of_ble_eq_true rfl | (dsimp only [rmd]; omega)⟩ (fun v6 H6 locs6 hq6 hS => ?_)
    obtain ⟨rfl, hM, ho6⟩ := hq6
    have ho := ho.trans ho6
    exact hr_i (pc := 12) hQ hx hb hr hlocks hS (by first | exact Nat.le_of_ble_eq_true rfl | (dsimp only [rmd]; omega)) (by first | exact Nat.le_of_ble_eq_true rfl | (dsimp only [rmd]; omega)) (⟨rfl, hM, ho⟩) dX3_coreOf_12
set_option maxHeartbeats 4000000 in
theorem m_moves (l : Launch) (Γ : Cx) (H : Heap) (μ : Nat → Nat) (S : Sx) (th : Int32) (x y : Int32) (hM : MW Γ H μ S th) (hw : WF S) : Mt l Γ yX3_moves (ws_ yX3_moves cX3_moves 3 (some .int)) 3 0 0 [.ref (μ 0), .int x, .int y] H (MO Γ μ H (oMoves S x y)) := by
  refine mt_of (by decide +kernel) (Nat.le_of_ble_eq_true rfl) ?_
  intro p e s m args below meth c ls Q hx hb hr hlocks hml hts hown hnm hK hS hl hQ
  have ho : Off (Mf μ) H H := Off.rf
  refine lv_iload_n (pc := 0) hx hb dX3_moves_0 rfl (lk hl rfl) ?_
  refine hc_S (pc := 1) hx hb hml hown hts hK hS (m_isKind l Γ H x) (va_cwS 1 hts (lw_S q2006 q2007 q83 q2008) rfl rfl rfl (by decide +kernel) ⟨(Nat.le_of_ble_eq_true rfl), (Nat.le_of_ble_eq_true rfl)⟩) rfl hl.1 rfl (Nat.le_of_ble_eq_true rfl) dX3_moves_1 ⟨by first | exact Nat.le_of_ble_eq_true rfl | (dsimp only [rmd]; omega), by first | exact Nat.le_of_ble_eq_true rfl | (dsimp only [rmd]; omega)⟩ (fun v1 H1 locs1 hq1 hS => ?_)
  obtain ⟨rfl, rfl⟩ := hq1
  refine hz_ne (tgt := 13) (pc := 4) hx hb dX3_moves_4 (by decide) (fun h1 => ?_) (fun h1 => ?_)
  · rw [oMoves, if_pos (show isK x = true from h1)] at hQ
    obtain ⟨k, hk, rfl⟩ := isK_iff h1
    have h8 := b8_le hw hk
    rw [tn_nI (by omega)] at hQ
    refine lv_iload_n (pc := 13) hx hb dX3_moves_13 rfl (lk hl rfl) ?_
    refine lv_iconst (v := nI 0) (pc := 14) hx hb dX3_moves_14 (by decide) ?_
    refine lv_aload_n (pc := 15) hx hb dX3_moves_15 rfl (lk hl rfl) ?_
    refine hw_get (pc := 16) hx hb hts in_X3 hown hK (hM.p0) rfl 9 (Nat.le_of_ble_eq_true rfl) (hts _ q1786) (fun x h => h) rfl dX3_moves_16 ?_
    refine lv_iload_n (pc := 19) hx hb dX3_moves_19 rfl (lk hl rfl) ?_
    refine hm_iald (k := 8) (pc := 20) hx hb hK hM (by decide) (show k < 3 from (by omega)) dX3_moves_20 ?_
    refine lv_iconst (v := nI 1) (pc := 21) hx hb dX3_moves_21 (by decide) ?_
    refine lv_isub (pc := 22) hx hb dX3_moves_22 ?_
    refine hw_top (congrArg Value.int (show _ = nI (S 8 k) - 1 from n_1 _)) ?_
    refine hc_S (pc := 23) hx hb hml hown hts hK hS (m_in l Γ H y (nI 0) (nI (S 8 k) - 1)) (va_cwS 3 hts (lw_S q1854 q1855 q83 q1856) rfl rfl rfl (by decide +kernel) ⟨(Nat.le_of_ble_eq_true rfl), (Nat.le_of_ble_eq_true rfl)⟩) rfl hl.1 rfl (Nat.le_of_ble_eq_true rfl) dX3_moves_23 ⟨by first | exact Nat.le_of_ble_eq_true rfl | (dsimp only [rmd]; omega), by first | exact Nat.le_of_ble_eq_true rfl | (dsimp only [rmd]; omega)⟩ (fun v2 H2 locs2 hq2 hS => ?_)
    obtain ⟨rfl, rfl⟩ := hq2
    refine hz_ne (tgt := 35) (pc := 26) hx hb dX3_moves_26 (by decide) (fun h2 => ?_) (fun h2 => ?_)
    · rw [if_pos (show inI y (nI 0) (nI (S 8 k) - 1) = true from h2)] at hQ
      obtain ⟨j, hj, rfl⟩ := ix_iff (by omega) (show inI y (nI 0) (nI (S 8 k) - 1) = true from h2)
      rw [tn_nI (by omega)] at hQ
      refine lv_aload_n (pc := 35) hx hb dX3_moves_35 rfl (lk hl rfl) ?_
      refine lv_aload_n (pc := 36) hx hb dX3_moves_36 rfl (lk hl rfl) ?_
      refine hw_get (pc := 37) hx hb hts in_X3 hown hK (hM.p0) rfl 12 (Nat.le_of_ble_eq_true rfl) (hts _ q1789) (fun x h => h) rfl dX3_moves_37 ?_
      refine lv_iload_n (pc := 40) hx hb dX3_moves_40 rfl (lk hl rfl) ?_
      refine lv_iload_n (pc := 41) hx hb dX3_moves_41 rfl (lk hl rfl) ?_
      refine hc_S (pc := 42) hx hb hml hown hts hK hS (m_at l Γ H k j (16 * k + j) (by omega)) (va_cwS 2 hts (lw_S q1935 q1936 q83 q1937) rfl rfl rfl (by decide +kernel) ⟨(Nat.le_of_ble_eq_true rfl), (Nat.le_of_ble_eq_true rfl)⟩) rfl hl.1 rfl (Nat.le_of_ble_eq_true rfl) dX3_moves_42 ⟨by first | exact Nat.le_of_ble_eq_true rfl | (dsimp only [rmd]; omega), by first | exact Nat.le_of_ble_eq_true rfl | (dsimp only [rmd]; omega)⟩ (fun v3 H3 locs3 hq3 hS => ?_)
      obtain ⟨rfl, rfl⟩ := hq3
      refine hm_iald (k := 11) (pc := 45) hx hb hK hM (by decide) (show 16 * k + j < 48 from (by omega)) dX3_moves_45 ?_
      refine hc_V (pc := 46) hx hb hml hown hts hK hS (m_told l Γ H μ S th (nI (S 11 (16 * k + j))) hM) (cwV 1 hts (lw_V q1838 q1840 qs45 q83 q1841) rfl rfl rfl (by decide +kernel) ⟨(Nat.le_of_ble_eq_true rfl), (Nat.le_of_ble_eq_true rfl)⟩) (hK.recv hM.p0 rfl) rfl hl.1 rfl (Nat.le_of_ble_eq_true rfl) dX3_moves_46 ⟨by first | exact Nat.le_of_ble_eq_true rfl | (dsimp only [rmd]; omega), by first | exact Nat.le_of_ble_eq_true rfl | (dsimp only [rmd]; omega)⟩ (fun v4 H4 locs4 hq4 hS => ?_)
      obtain ⟨rfl, hM, ho4⟩ := hq4
      have ho := ho.trans ho4
      exact hr_i (pc := 49) hQ hx hb hr hlocks hS (by first | exact Nat.le_of_ble_eq_true rfl | (dsimp only [rmd]; omega)) (by first | exact Nat.le_of_ble_eq_true rfl | (dsimp only [rmd]; omega)) (⟨rfl, hM, ho⟩) dX3_moves_49
    · skip
      rw [if_neg (show ¬ inI y (nI 0) (nI (S 8 k) - 1) = true by show ¬ decide _ = true; rw [h2]; simp)] at hQ
      refine lv_aload_n (pc := 29) hx hb dX3_moves_29 rfl (lk hl rfl) ?_
      refine lv_iconst (v := nI 2) (pc := 30) hx hb dX3_moves_30 (by decide) ?_
      refine hc_V (pc := 31) hx hb hml hown hts hK hS (m_refuse l Γ H μ S th (nI 2) hM) (cwV 1 hts (lw_V q1846 q1848 qs46 q83 q1849) rfl rfl rfl (by decide +kernel) ⟨(Nat.le_of_ble_eq_true rfl), (Nat.le_of_ble_eq_true rfl)⟩) (hK.recv hM.p0 rfl) rfl hl.1 rfl (Nat.le_of_ble_eq_true rfl) dX3_moves_31 ⟨by first | exact Nat.le_of_ble_eq_true rfl | (dsimp only [rmd]; omega), by first | exact Nat.le_of_ble_eq_true rfl | (dsimp only [rmd]; omega)⟩ (fun v5 H5 locs5 hq5 hS => ?_)
      obtain ⟨rfl, hM, ho5⟩ := hq5
      have ho := ho.trans ho5
      exact hr_i (pc := 34) hQ hx hb hr hlocks hS (by first | exact Nat.le_of_ble_eq_true rfl | (dsimp only [rmd]; omega)) (by first | exact Nat.le_of_ble_eq_true rfl | (dsimp only [rmd]; omega)) (⟨rfl, hM, ho⟩) dX3_moves_34
  · skip
    rw [oMoves, if_neg (show ¬ isK x = true by show ¬ decide _ = true; rw [h1]; simp)] at hQ
    refine lv_aload_n (pc := 7) hx hb dX3_moves_7 rfl (lk hl rfl) ?_
    refine lv_iconst (v := nI 1) (pc := 8) hx hb dX3_moves_8 (by decide) ?_
    refine hc_V (pc := 9) hx hb hml hown hts hK hS (m_refuse l Γ H μ S th (nI 1) hM) (cwV 1 hts (lw_V q1846 q1848 qs46 q83 q1849) rfl rfl rfl (by decide +kernel) ⟨(Nat.le_of_ble_eq_true rfl), (Nat.le_of_ble_eq_true rfl)⟩) (hK.recv hM.p0 rfl) rfl hl.1 rfl (Nat.le_of_ble_eq_true rfl) dX3_moves_9 ⟨by first | exact Nat.le_of_ble_eq_true rfl | (dsimp only [rmd]; omega), by first | exact Nat.le_of_ble_eq_true rfl | (dsimp only [rmd]; omega)⟩ (fun v6 H6 locs6 hq6 hS => ?_)
    obtain ⟨rfl, hM, ho6⟩ := hq6
    have ho := ho.trans ho6
    exact hr_i (pc := 12) hQ hx hb hr hlocks hS (by first | exact Nat.le_of_ble_eq_true rfl | (dsimp only [rmd]; omega)) (by first | exact Nat.le_of_ble_eq_true rfl | (dsimp only [rmd]; omega)) (⟨rfl, hM, ho⟩) dX3_moves_12
theorem nar_z {v : Nat} (h : v ≤ 1) : narrow .boolean (.int (nI v)) = .int (nI v) := by
  rcases (show v = 0 ∨ v = 1 by omega) with e | e
  · rw [e]; rfl
  · rw [e]; rfl
def oIsBroken (S : Sx) (x : Int32) : Ox := if inI x (nI 0) (nI (S 8 1) - 1) = true then (S, 0, nI (S 12 (tn x))) else (S, 1, nI 0)
set_option maxHeartbeats 4000000 in
theorem m_isBroken (l : Launch) (Γ : Cx) (H : Heap) (μ : Nat → Nat) (S : Sx) (th : Int32) (x : Int32) (hM : MW Γ H μ S th) (hw : WF S) : Mt l Γ yX3_isBroken (ws_ yX3_isBroken cX3_isBroken 2 (some .boolean)) 3 0 0 [.ref (μ 0), .int x] H (MO Γ μ H (oIsBroken S x)) := by
  refine mt_of (by decide +kernel) (Nat.le_of_ble_eq_true rfl) ?_
  intro p e s m args below meth c ls Q hx hb hr hlocks hml hts hown hnm hK hS hl hQ
  have ho : Off (Mf μ) H H := Off.rf
  have h8 := hw.b8
  refine lv_iload_n (pc := 0) hx hb dX3_isBroken_0 rfl (lk hl rfl) ?_
  refine lv_iconst (v := nI 0) (pc := 1) hx hb dX3_isBroken_1 (by decide) ?_
  refine lv_aload_n (pc := 2) hx hb dX3_isBroken_2 rfl (lk hl rfl) ?_
  refine hw_get (pc := 3) hx hb hts in_X3 hown hK (hM.p0) rfl 9 (Nat.le_of_ble_eq_true rfl) (hts _ q1786) (fun x h => h) rfl dX3_isBroken_3 ?_
  refine lv_iconst (v := nI 1) (pc := 6) hx hb dX3_isBroken_6 (by decide) ?_
  refine hm_iald (k := 8) (pc := 7) hx hb hK hM (by decide) (show 1 < 3 from (by omega)) dX3_isBroken_7 ?_
  refine lv_iconst (v := nI 1) (pc := 8) hx hb dX3_isBroken_8 (by decide) ?_
  refine lv_isub (pc := 9) hx hb dX3_isBroken_9 ?_
  refine hw_top (congrArg Value.int (show _ = nI (S 8 1) - 1 from n_1 _)) ?_
  refine hc_S (pc := 10) hx hb hml hown hts hK hS (m_in l Γ H x (nI 0) (nI (S 8 1) - 1)) (va_cwS 3 hts (lw_S q1854 q1855 q83 q1856) rfl rfl rfl (by decide +kernel) ⟨(Nat.le_of_ble_eq_true rfl), (Nat.le_of_ble_eq_true rfl)⟩) rfl hl.1 rfl (Nat.le_of_ble_eq_true rfl) dX3_isBroken_10 ⟨by first | exact Nat.le_of_ble_eq_true rfl | (dsimp only [rmd]; omega), by first | exact Nat.le_of_ble_eq_true rfl | (dsimp only [rmd]; omega)⟩ (fun v1 H1 locs1 hq1 hS => ?_)
  obtain ⟨rfl, rfl⟩ := hq1
  refine hz_ne (tgt := 23) (pc := 13) hx hb dX3_isBroken_13 (by decide) (fun h1 => ?_) (fun h1 => ?_)
  · rw [oIsBroken, if_pos (show inI x (nI 0) (nI (S 8 1) - 1) = true from h1)] at hQ
    obtain ⟨j, hj, rfl⟩ := ix_iff (by omega) (show inI x (nI 0) (nI (S 8 1) - 1) = true from h1)
    rw [tn_nI (by omega)] at hQ
    have h12 := hw.b12 j
    refine lv_aload_n (pc := 23) hx hb dX3_isBroken_23 rfl (lk hl rfl) ?_
    refine lv_iconst (v := nI 0) (pc := 24) hx hb dX3_isBroken_24 (by decide) ?_
    refine hw_put (pc := 25) hx hb hts in_X3 tyX3_ok nmX3 hown hK (hM.p0) (hM.g (by decide)) hS rfl 0 (Nat.le_of_ble_eq_true rfl) (hts _ q1777) (fun x h => h) rfl rfl (rfl) (rfl) (Nat.le_of_ble_eq_true rfl) dX3_isBroken_25 (fun H2 locs2 hp2 z2 o2 hS => ?_)
    have hM := hM.th (th' := nI 0) hp2 o2
    have ho := ho.trans (Off.put (S := Mf μ) z2 o2 ⟨0, by decide, rfl⟩)
    refine lv_aload_n (pc := 28) hx hb dX3_isBroken_28 rfl (lk hl rfl) ?_
    refine hw_get (pc := 29) hx hb hts in_X3 hown hK (hM.p0) rfl 13 (Nat.le_of_ble_eq_true rfl) (hts _ q1790) (fun x h => h) rfl dX3_isBroken_29 ?_
    refine lv_iload_n (pc := 32) hx hb dX3_isBroken_32 rfl (lk hl rfl) ?_
    refine hm_zald (k := 12) (pc := 33) hx hb hK hM (by decide) (show j < 16 from (by omega)) dX3_isBroken_33 ?_
    have := hw.b12 j
    exact hr_z (pc := 34) hQ hx hb hr hlocks hS (by first | exact Nat.le_of_ble_eq_true rfl | (dsimp only [rmd]; omega)) (by first | exact Nat.le_of_ble_eq_true rfl | (dsimp only [rmd]; omega)) (nar_z h12) (⟨rfl, hM, ho⟩) dX3_isBroken_34
  · skip
    rw [oIsBroken, if_neg (show ¬ inI x (nI 0) (nI (S 8 1) - 1) = true by show ¬ decide _ = true; rw [h1]; simp)] at hQ
    refine lv_aload_n (pc := 16) hx hb dX3_isBroken_16 rfl (lk hl rfl) ?_
    refine lv_iconst (v := nI 1) (pc := 17) hx hb dX3_isBroken_17 (by decide) ?_
    refine hw_put (pc := 18) hx hb hts in_X3 tyX3_ok nmX3 hown hK (hM.p0) (hM.g (by decide)) hS rfl 0 (Nat.le_of_ble_eq_true rfl) (hts _ q1777) (fun x h => h) rfl rfl (rfl) (rfl) (Nat.le_of_ble_eq_true rfl) dX3_isBroken_18 (fun H3 locs3 hp3 z3 o3 hS => ?_)
    have hM := hM.th (th' := nI 1) hp3 o3
    have ho := ho.trans (Off.put (S := Mf μ) z3 o3 ⟨0, by decide, rfl⟩)
    refine lv_iconst (v := nI 0) (pc := 21) hx hb dX3_isBroken_21 (by decide) ?_
    exact hr_z (pc := 22) hQ hx hb hr hlocks hS (by first | exact Nat.le_of_ble_eq_true rfl | (dsimp only [rmd]; omega)) (by first | exact Nat.le_of_ble_eq_true rfl | (dsimp only [rmd]; omega)) (rfl) (⟨rfl, hM, ho⟩) dX3_isBroken_22
def oEntry (S : Sx) (x : Int32) : Ox := if inI x (nI 0) (nI (S 0 1) - 1) = true then (S, 0, nI (S 13 (tn x))) else (S, 1, nI 0)
set_option maxHeartbeats 4000000 in
theorem m_entry (l : Launch) (Γ : Cx) (H : Heap) (μ : Nat → Nat) (S : Sx) (th : Int32) (x : Int32) (hM : MW Γ H μ S th) (hw : WF S) : Mt l Γ yX3_entry (ws_ yX3_entry cX3_entry 2 (some .int)) 3 0 0 [.ref (μ 0), .int x] H (MO Γ μ H (oEntry S x)) := by
  refine mt_of (by decide +kernel) (Nat.le_of_ble_eq_true rfl) ?_
  intro p e s m args below meth c ls Q hx hb hr hlocks hml hts hown hnm hK hS hl hQ
  have ho : Off (Mf μ) H H := Off.rf
  have h8 := hw.b01
  refine lv_iload_n (pc := 0) hx hb dX3_entry_0 rfl (lk hl rfl) ?_
  refine lv_iconst (v := nI 0) (pc := 1) hx hb dX3_entry_1 (by decide) ?_
  refine lv_aload_n (pc := 2) hx hb dX3_entry_2 rfl (lk hl rfl) ?_
  refine hw_get (pc := 3) hx hb hts in_X3 hown hK (hM.p0) rfl 14 (Nat.le_of_ble_eq_true rfl) (hts _ q1791) (fun x h => h) rfl dX3_entry_3 ?_
  refine lv_iconst (v := nI 1) (pc := 6) hx hb dX3_entry_6 (by decide) ?_
  refine lv_isub (pc := 7) hx hb dX3_entry_7 ?_
  refine hw_top (congrArg Value.int (show _ = nI (S 0 1) - 1 from n_1 _)) ?_
  refine hc_S (pc := 8) hx hb hml hown hts hK hS (m_in l Γ H x (nI 0) (nI (S 0 1) - 1)) (va_cwS 3 hts (lw_S q1854 q1855 q83 q1856) rfl rfl rfl (by decide +kernel) ⟨(Nat.le_of_ble_eq_true rfl), (Nat.le_of_ble_eq_true rfl)⟩) rfl hl.1 rfl (Nat.le_of_ble_eq_true rfl) dX3_entry_8 ⟨by first | exact Nat.le_of_ble_eq_true rfl | (dsimp only [rmd]; omega), by first | exact Nat.le_of_ble_eq_true rfl | (dsimp only [rmd]; omega)⟩ (fun v1 H1 locs1 hq1 hS => ?_)
  obtain ⟨rfl, rfl⟩ := hq1
  refine hz_ne (tgt := 20) (pc := 11) hx hb dX3_entry_11 (by decide) (fun h1 => ?_) (fun h1 => ?_)
  · rw [oEntry, if_pos (show inI x (nI 0) (nI (S 0 1) - 1) = true from h1)] at hQ
    obtain ⟨j, hj, rfl⟩ := ix_iff (by omega) (show inI x (nI 0) (nI (S 0 1) - 1) = true from h1)
    rw [tn_nI (by omega)] at hQ
    refine lv_aload_n (pc := 20) hx hb dX3_entry_20 rfl (lk hl rfl) ?_
    refine lv_aload_n (pc := 21) hx hb dX3_entry_21 rfl (lk hl rfl) ?_
    refine hw_get (pc := 22) hx hb hts in_X3 hown hK (hM.p0) rfl 16 (Nat.le_of_ble_eq_true rfl) (hts _ q1793) (fun x h => h) rfl dX3_entry_22 ?_
    refine lv_iload_n (pc := 25) hx hb dX3_entry_25 rfl (lk hl rfl) ?_
    refine hm_iald (k := 13) (pc := 26) hx hb hK hM (by decide) (show j < 100000 from (by omega)) dX3_entry_26 ?_
    refine hc_V (pc := 27) hx hb hml hown hts hK hS (m_told l Γ H μ S th (nI (S 13 j)) hM) (cwV 1 hts (lw_V q1838 q1840 qs45 q83 q1841) rfl rfl rfl (by decide +kernel) ⟨(Nat.le_of_ble_eq_true rfl), (Nat.le_of_ble_eq_true rfl)⟩) (hK.recv hM.p0 rfl) rfl hl.1 rfl (Nat.le_of_ble_eq_true rfl) dX3_entry_27 ⟨by first | exact Nat.le_of_ble_eq_true rfl | (dsimp only [rmd]; omega), by first | exact Nat.le_of_ble_eq_true rfl | (dsimp only [rmd]; omega)⟩ (fun v2 H2 locs2 hq2 hS => ?_)
    obtain ⟨rfl, hM, ho2⟩ := hq2
    have ho := ho.trans ho2
    exact hr_i (pc := 30) hQ hx hb hr hlocks hS (by first | exact Nat.le_of_ble_eq_true rfl | (dsimp only [rmd]; omega)) (by first | exact Nat.le_of_ble_eq_true rfl | (dsimp only [rmd]; omega)) (⟨rfl, hM, ho⟩) dX3_entry_30
  · skip
    rw [oEntry, if_neg (show ¬ inI x (nI 0) (nI (S 0 1) - 1) = true by show ¬ decide _ = true; rw [h1]; simp)] at hQ
    refine lv_aload_n (pc := 14) hx hb dX3_entry_14 rfl (lk hl rfl) ?_
    refine lv_iconst (v := nI 1) (pc := 15) hx hb dX3_entry_15 (by decide) ?_
    refine hc_V (pc := 16) hx hb hml hown hts hK hS (m_refuse l Γ H μ S th (nI 1) hM) (cwV 1 hts (lw_V q1846 q1848 qs46 q83 q1849) rfl rfl rfl (by decide +kernel) ⟨(Nat.le_of_ble_eq_true rfl), (Nat.le_of_ble_eq_true rfl)⟩) (hK.recv hM.p0 rfl) rfl hl.1 rfl (Nat.le_of_ble_eq_true rfl) dX3_entry_16 ⟨by first | exact Nat.le_of_ble_eq_true rfl | (dsimp only [rmd]; omega), by first | exact Nat.le_of_ble_eq_true rfl | (dsimp only [rmd]; omega)⟩ (fun v3 H3 locs3 hq3 hS => ?_)
    obtain ⟨rfl, hM, ho3⟩ := hq3
    have ho := ho.trans ho3
    exact hr_i (pc := 19) hQ hx hb hr hlocks hS (by first | exact Nat.le_of_ble_eq_true rfl | (dsimp only [rmd]; omega)) (by first | exact Nat.le_of_ble_eq_true rfl | (dsimp only [rmd]; omega)) (⟨rfl, hM, ho⟩) dX3_entry_19
def oFail (S : Sx) (x y z : Int32) (st : Bool) (w : Int32) : Ox := if (isC S x && isP S y) = true then (if (inI z (nI 0) (nI 3) && inI w (nI 0) (nI 9)) = true then (up2 S 7 (fidx (tn x) (tn y) (tn z) st) (tn w), 0, nI (S 7 (fidx (tn x) (tn y) (tn z) st))) else (S, 2, nI 0)) else (S, 1, nI 0)
set_option maxHeartbeats 4000000 in
theorem m_fail (l : Launch) (Γ : Cx) (H : Heap) (μ : Nat → Nat) (S : Sx) (th : Int32) (x y z : Int32) (st : Bool) (w : Int32) (hM : MW Γ H μ S th) (hw : WF S) : Mt l Γ yX3_fail (ws_ yX3_fail cX3_fail 8 (some .int)) 3 0 0 [.ref (μ 0), .int x, .int y, .int z, .int (b01 st), .int w] H (MO Γ μ H (oFail S x y z st w)) := by
  refine mt_of (by decide +kernel) (Nat.le_of_ble_eq_true rfl) ?_
  intro p e s m args below meth c ls Q hx hb hr hlocks hml hts hown hnm hK hS hl hQ
  have ho : Off (Mf μ) H H := Off.rf
  have hb0 := hw.b0
  have no1 : ¬ (isC S x && isP S y) = true → ∀ (locs : List Loc) (ls : Array Slot), va_S (Gz Γ) s.heap H locs → lv_has ls 8 [(0, .ref (μ 0))] → W p l e (rmd 3 0 0) s m args below meth c H locs 0 0 Q (F0 m 16 ls []) := by
    intro hn locs ls hS hl
    rw [oFail, if_neg hn] at hQ
    refine lv_aload_n (pc := 16) hx hb dX3_fail_16 rfl (lk hl rfl) ?_
    refine lv_iconst (v := nI 1) (pc := 17) hx hb dX3_fail_17 (by decide) ?_
    refine hc_V (pc := 18) hx hb hml hown hts hK hS (m_refuse l Γ H μ S th (nI 1) hM) (cwV 1 hts (lw_V q1846 q1848 qs46 q83 q1849) rfl rfl rfl (by decide +kernel) ⟨(Nat.le_of_ble_eq_true rfl), (Nat.le_of_ble_eq_true rfl)⟩) (hK.recv hM.p0 rfl) rfl hl.1 rfl (Nat.le_of_ble_eq_true rfl) dX3_fail_18 ⟨by first | exact Nat.le_of_ble_eq_true rfl | (dsimp only [rmd]; omega), by first | exact Nat.le_of_ble_eq_true rfl | (dsimp only [rmd]; omega)⟩ (fun v1 H1 locs1 hq1 hS => ?_)
    obtain ⟨rfl, hM, ho1⟩ := hq1
    have ho := ho.trans ho1
    exact hr_i (pc := 21) hQ hx hb hr hlocks hS (by first | exact Nat.le_of_ble_eq_true rfl | (dsimp only [rmd]; omega)) (by first | exact Nat.le_of_ble_eq_true rfl | (dsimp only [rmd]; omega)) (⟨rfl, hM, ho⟩) dX3_fail_21
  refine lv_aload_n (pc := 0) hx hb dX3_fail_0 rfl (lk hl rfl) ?_
  refine lv_iload_n (pc := 1) hx hb dX3_fail_1 rfl (lk hl rfl) ?_
  refine hc_V (pc := 2) hx hb hml hown hts hK hS (m_isCore l Γ H μ S th x hM) (cwV 1 hts (lw_V q1915 q1917 qs56 q83 q1918) rfl rfl rfl (by decide +kernel) ⟨(Nat.le_of_ble_eq_true rfl), (Nat.le_of_ble_eq_true rfl)⟩) (hK.recv hM.p0 rfl) rfl hl.1 rfl (Nat.le_of_ble_eq_true rfl) dX3_fail_2 ⟨by first | exact Nat.le_of_ble_eq_true rfl | (dsimp only [rmd]; omega), by first | exact Nat.le_of_ble_eq_true rfl | (dsimp only [rmd]; omega)⟩ (fun v1 H1 locs1 hq1 hS => ?_)
  obtain ⟨rfl, rfl⟩ := hq1
  refine hz_eq (tgt := 16) (pc := 5) hx hb dX3_fail_5 (by decide) (fun h1 => ?_) (fun h1 => ?_)
  · exact no1 (by rw [show isC S x = false from h1]; simp) _ ls hS (by repeat first | exact lv_0 hl | refine lv_c (lk hl rfl) ?_)
  · skip
    refine lv_aload_n (pc := 8) hx hb dX3_fail_8 rfl (lk hl rfl) ?_
    refine lv_iload_n (pc := 9) hx hb dX3_fail_9 rfl (lk hl rfl) ?_
    refine hc_V (pc := 10) hx hb hml hown hts hK hS (m_isStepAt l Γ H μ S th y hM hw) (cwV 1 hts (lw_V q1891 q1893 qs53 q83 q1894) rfl rfl rfl (by decide +kernel) ⟨(Nat.le_of_ble_eq_true rfl), (Nat.le_of_ble_eq_true rfl)⟩) (hK.recv hM.p0 rfl) rfl hl.1 rfl (Nat.le_of_ble_eq_true rfl) dX3_fail_10 ⟨by first | exact Nat.le_of_ble_eq_true rfl | (dsimp only [rmd]; omega), by first | exact Nat.le_of_ble_eq_true rfl | (dsimp only [rmd]; omega)⟩ (fun v9 H9 locs9 hq9 hS => ?_)
    obtain ⟨b, rfl, rfl, q1, q0⟩ := hq9
    refine hz_ne (tgt := 22) (pc := 13) hx hb dX3_fail_13 (by decide) (fun h2 => ?_) (fun h2 => ?_)
    · obtain ⟨p9, hp9, rfl, e2, hP⟩ := stepAt_t q1 h2
      have no2 : ¬ (inI z (nI 0) (nI 3) && inI w (nI 0) (nI 9)) = true → ∀ (locs : List Loc) (ls : Array Slot), va_S (Gz Γ) s.heap H locs → lv_has ls 8 [(0, .ref (μ 0))] → W p l e (rmd 3 0 0) s m args below meth c H locs 0 0 Q (F0 m 42 ls []) := by
        intro hn locs ls hS hl
        rw [oFail, if_pos (by rw [show isC S x = true from h1, hP]; rfl), if_neg hn] at hQ
        refine lv_aload_n (pc := 42) hx hb dX3_fail_42 rfl (lk hl rfl) ?_
        refine lv_iconst (v := nI 2) (pc := 43) hx hb dX3_fail_43 (by decide) ?_
        refine hc_V (pc := 44) hx hb hml hown hts hK hS (m_refuse l Γ H μ S th (nI 2) hM) (cwV 1 hts (lw_V q1846 q1848 qs46 q83 q1849) rfl rfl rfl (by decide +kernel) ⟨(Nat.le_of_ble_eq_true rfl), (Nat.le_of_ble_eq_true rfl)⟩) (hK.recv hM.p0 rfl) rfl hl.1 rfl (Nat.le_of_ble_eq_true rfl) dX3_fail_44 ⟨by first | exact Nat.le_of_ble_eq_true rfl | (dsimp only [rmd]; omega), by first | exact Nat.le_of_ble_eq_true rfl | (dsimp only [rmd]; omega)⟩ (fun v2 H2 locs2 hq2 hS => ?_)
        obtain ⟨rfl, hM, ho2⟩ := hq2
        have ho := ho.trans ho2
        exact hr_i (pc := 47) hQ hx hb hr hlocks hS (by first | exact Nat.le_of_ble_eq_true rfl | (dsimp only [rmd]; omega)) (by first | exact Nat.le_of_ble_eq_true rfl | (dsimp only [rmd]; omega)) (⟨rfl, hM, ho⟩) dX3_fail_47
      refine lv_iload_n (pc := 22) hx hb dX3_fail_22 rfl (lk hl rfl) ?_
      refine lv_iconst (v := nI 0) (pc := 23) hx hb dX3_fail_23 (by decide) ?_
      refine lv_iconst (v := nI 3) (pc := 24) hx hb dX3_fail_24 (by decide) ?_
      refine hc_S (pc := 25) hx hb hml hown hts hK hS (m_in l Γ H z (nI 0) (nI 3)) (va_cwS 3 hts (lw_S q1854 q1855 q83 q1856) rfl rfl rfl (by decide +kernel) ⟨(Nat.le_of_ble_eq_true rfl), (Nat.le_of_ble_eq_true rfl)⟩) rfl hl.1 rfl (Nat.le_of_ble_eq_true rfl) dX3_fail_25 ⟨by first | exact Nat.le_of_ble_eq_true rfl | (dsimp only [rmd]; omega), by first | exact Nat.le_of_ble_eq_true rfl | (dsimp only [rmd]; omega)⟩ (fun v3 H3 locs3 hq3 hS => ?_)
      obtain ⟨rfl, rfl⟩ := hq3
      refine hz_eq (tgt := 42) (pc := 28) hx hb dX3_fail_28 (by decide) (fun h3 => ?_) (fun h3 => ?_)
      · exact no2 (by rw [show inI z (nI 0) (nI 3) = false from h3]; simp) _ ls hS (by repeat first | exact lv_0 hl | refine lv_c (lk hl rfl) ?_)
      · skip
        refine lv_iload (pc := 31) hx hb dX3_fail_31 (lk hl rfl) ?_
        refine lv_iconst (v := nI 0) (pc := 33) hx hb dX3_fail_33 (by decide) ?_
        refine lv_bipush (v := nI 9) (pc := 34) hx hb dX3_fail_34 (by decide) ?_
        refine hc_S (pc := 36) hx hb hml hown hts hK hS (m_in l Γ H w (nI 0) (nI 9)) (va_cwS 3 hts (lw_S q1854 q1855 q83 q1856) rfl rfl rfl (by decide +kernel) ⟨(Nat.le_of_ble_eq_true rfl), (Nat.le_of_ble_eq_true rfl)⟩) rfl hl.1 rfl (Nat.le_of_ble_eq_true rfl) dX3_fail_36 ⟨by first | exact Nat.le_of_ble_eq_true rfl | (dsimp only [rmd]; omega), by first | exact Nat.le_of_ble_eq_true rfl | (dsimp only [rmd]; omega)⟩ (fun v4 H4 locs4 hq4 hS => ?_)
        obtain ⟨rfl, rfl⟩ := hq4
        refine hz_ne (tgt := 48) (pc := 39) hx hb dX3_fail_39 (by decide) (fun h4 => ?_) (fun h4 => ?_)
        · rw [oFail, if_pos (by rw [show isC S x = true from h1, hP]; rfl), if_pos (by rw [show inI z (nI 0) (nI 3) = true from h3, show inI w (nI 0) (nI 9) = true from h4]; rfl)] at hQ
          obtain ⟨k, hk, rfl⟩ := isCore_iff hw h1
          obtain ⟨i, -, hi, rfl⟩ := i_in (lo := 0) (by decide) (by decide) (of_decide_eq_true h3).1 (of_decide_eq_true h3).2
          obtain ⟨v, -, hv, rfl⟩ := i_in (lo := 0) (by decide) (by decide) (of_decide_eq_true h4).1 (of_decide_eq_true h4).2
          rw [tn_nI (by omega), tn_nI (by omega), tn_nI (by omega), tn_nI (by omega)] at hQ
          have hfx := fidx_lt st (show k < 8 by omega) hp9 (show i < 4 by omega)
          refine lv_iload_n (pc := 48) hx hb dX3_fail_48 rfl (lk hl rfl) ?_
          refine lv_iload_n (pc := 49) hx hb dX3_fail_49 rfl (lk hl rfl) ?_
          refine lv_iload_n (pc := 50) hx hb dX3_fail_50 rfl (lk hl rfl) ?_
          refine lv_iload (pc := 51) hx hb dX3_fail_51 (lk hl rfl) ?_
          refine hc_S (pc := 53) hx hb hml hown hts hK hS (m_failureAt l Γ H k p9 i st) (va_cwS 4 hts (lw_S q1880 q1881 q83 q1882) rfl rfl rfl (by decide +kernel) ⟨(Nat.le_of_ble_eq_true rfl), (Nat.le_of_ble_eq_true rfl)⟩) rfl hl.1 rfl (Nat.le_of_ble_eq_true rfl) dX3_fail_53 ⟨by first | exact Nat.le_of_ble_eq_true rfl | (dsimp only [rmd]; omega), by first | exact Nat.le_of_ble_eq_true rfl | (dsimp only [rmd]; omega)⟩ (fun v5 H5 locs5 hq5 hS => ?_)
          obtain ⟨rfl, rfl⟩ := hq5
          refine lv_istore (pc := 56) hx hb dX3_fail_56 hl (Nat.le_of_ble_eq_true rfl) rfl (fun ls hl => ?_)
          refine lv_aload_n (pc := 58) hx hb dX3_fail_58 rfl (lk hl rfl) ?_
          refine hw_get (pc := 59) hx hb hts in_X3 hown hK (hM.p0) rfl 8 (Nat.le_of_ble_eq_true rfl) (hts _ q1785) (fun x h => h) rfl dX3_fail_59 ?_
          refine lv_iload (pc := 62) hx hb dX3_fail_62 (lk hl rfl) ?_
          refine hm_iald (k := 7) (pc := 64) hx hb hK hM (by decide) (show fidx k p9 i st < 1280 from (by omega)) dX3_fail_64 ?_
          have := hw.b7 (fidx k p9 i st)
          refine lv_istore (pc := 65) hx hb dX3_fail_65 hl (Nat.le_of_ble_eq_true rfl) rfl (fun ls hl => ?_)
          refine lv_aload_n (pc := 67) hx hb dX3_fail_67 rfl (lk hl rfl) ?_
          refine hw_get (pc := 68) hx hb hts in_X3 hown hK (hM.p0) rfl 8 (Nat.le_of_ble_eq_true rfl) (hts _ q1785) (fun x h => h) rfl dX3_fail_68 ?_
          refine lv_iload (pc := 71) hx hb dX3_fail_71 (lk hl rfl) ?_
          refine lv_iload (pc := 73) hx hb dX3_fail_73 (lk hl rfl) ?_
          refine hm_iast (k := 7) (pc := 75) hx hb hK hM (by decide) (show fidx k p9 i st < 1280 from (by omega)) hS dX3_fail_75 (fun H6 locs6 hM ho6 hS => ?_)
          have ho := ho.trans ho6
          refine lv_aload_n (pc := 76) hx hb dX3_fail_76 rfl (lk hl rfl) ?_
          refine lv_iload (pc := 77) hx hb dX3_fail_77 (lk hl rfl) ?_
          refine hc_V (pc := 79) hx hb hml hown hts hK hS (m_told l Γ H6 μ (up2 S 7 (fidx k p9 i st) v) th (nI (S 7 (fidx k p9 i st))) hM) (cwV 1 hts (lw_V q1838 q1840 qs45 q83 q1841) rfl rfl rfl (by decide +kernel) ⟨(Nat.le_of_ble_eq_true rfl), (Nat.le_of_ble_eq_true rfl)⟩) (hK.recv hM.p0 rfl) rfl hl.1 rfl (Nat.le_of_ble_eq_true rfl) dX3_fail_79 ⟨by first | exact Nat.le_of_ble_eq_true rfl | (dsimp only [rmd]; omega), by first | exact Nat.le_of_ble_eq_true rfl | (dsimp only [rmd]; omega)⟩ (fun v7 H7 locs7 hq7 hS => ?_)
          obtain ⟨rfl, hM, ho7⟩ := hq7
          have ho := ho.trans ho7
          exact hr_i (pc := 82) hQ hx hb hr hlocks hS (by first | exact Nat.le_of_ble_eq_true rfl | (dsimp only [rmd]; omega)) (by first | exact Nat.le_of_ble_eq_true rfl | (dsimp only [rmd]; omega)) (⟨rfl, hM, ho⟩) dX3_fail_82
        · skip
          exact no2 (by rw [show inI w (nI 0) (nI 9) = false from h4]; simp) _ ls hS (by repeat first | exact lv_0 hl | refine lv_c (lk hl rfl) ?_)
    · skip
      exact no1 (by rw [show isP S y = false by simpa using stepAt_f q0 h2]; simp) _ ls hS (by repeat first | exact lv_0 hl | refine lv_c (lk hl rfl) ?_)
def oThread (S : Sx) (x : Int32) : Ox := if inI x (nI 1) (nI 255) = true then (if S 8 0 = 16 then (S, 2, nI 0) else (up2 (pplace (padd S 0 (tn x)) (S 8 0)) 0 7 (S 0 7 + 1), 0, nI (S 8 0))) else (S, 1, nI 0)
def oInterrupt (S : Sx) (x : Int32) : Ox := if inI x (nI 1) (nI 255) = true then (if S 8 1 = 12 then (S, 2, nI 0) else (up2 (pint (padd S 1 (tn x)) (S 8 1)) 0 8 (S 0 8 + 1), 0, nI (S 8 1))) else (S, 1, nI 0)
def oTimer (S : Sx) (x : Int32) : Ox := if isC S x = true then (if 10 < S 1 (tn x) ∧ S 8 2 ≠ 16 then (up2 (padd S 2 0) 10 (32 + S 8 2) (tn x + 1), 0, nI (S 8 2)) else (S, 2, nI 0)) else (S, 1, nI 0)
theorem wf_padd {S : Sx} (hw : WF S) {k v : Nat} (hv : v < 256) (h8 : (k = 0 ∧ S 8 0 < 16) ∨ (k = 1 ∧ S 8 1 < 12) ∨ (k = 2 ∧ S 8 2 < 16)) : WF (padd S k v) := by
  have q := hw.b8
  obtain ⟨w0, w1, w2, w3, w4, w5, w6, w7, w8, w9, w10, w12, w13⟩ := hw
  have h1 : WF (up2 S 8 k (S 8 k + 1)) := by
    refine ⟨?_, fun j => ?_, fun j => ?_, fun j => ?_, fun j => ?_, fun j => ?_, fun j => ?_, fun j => ?_, ?_, fun j => ?_, fun j => ?_, fun j => ?_, ?_⟩
    · rw [up2_f (by decide)]; exact w0
    · rw [up2_f (by decide)]; exact w1 j
    · rw [up2_f (by decide)]; exact w2 j
    · rw [up2_f (by decide)]; exact w3 j
    · rw [up2_f (by decide)]; exact w4 j
    · rw [up2_f (by decide)]; exact w5 j
    · rw [up2_f (by decide)]; exact w6 j
    · rw [up2_f (by decide)]; exact w7 j
    · rcases h8 with ⟨rfl, h⟩ | ⟨rfl, h⟩ | ⟨rfl, h⟩
      · rw [up2_s, up2_i (by decide), up2_i (by decide)]; omega
      · rw [up2_s, up2_i (by decide), up2_i (by decide)]; omega
      · rw [up2_s, up2_i (by decide), up2_i (by decide)]; omega
    · rw [up2_f (by decide)]; exact w9 j
    · rw [up2_f (by decide)]; exact w10 j
    · rw [up2_f (by decide)]; exact w12 j
    · rw [up2_f (by decide), up2_f (by decide)]; exact w13
  exact (h1.up (by omega)).up (by omega)
set_option maxHeartbeats 4000000 in
theorem m_thread (l : Launch) (Γ : Cx) (H : Heap) (μ : Nat → Nat) (S : Sx) (th : Int32) (x : Int32) (hM : MW Γ H μ S th) (hw : WF S) : Mt l Γ yX3_thread (ws_ yX3_thread cX3_thread 3 (some .int)) 4 0 0 [.ref (μ 0), .int x] H (MO Γ μ H (oThread S x)) := by
  refine mt_of (by decide +kernel) (Nat.le_of_ble_eq_true rfl) ?_
  intro p e s m args below meth c ls Q hx hb hr hlocks hml hts hown hnm hK hS hl hQ
  have ho : Off (Mf μ) H H := Off.rf
  have h8 := hw.b8
  refine lv_iload_n (pc := 0) hx hb dX3_thread_0 rfl (lk hl rfl) ?_
  refine lv_iconst (v := nI 1) (pc := 1) hx hb dX3_thread_1 (by decide) ?_
  refine lv_sipush (v := nI 255) (pc := 2) hx hb dX3_thread_2 (by decide) ?_
  refine hc_S (pc := 5) hx hb hml hown hts hK hS (m_in l Γ H x (nI 1) (nI 255)) (va_cwS 3 hts (lw_S q1854 q1855 q83 q1856) rfl rfl rfl (by decide +kernel) ⟨(Nat.le_of_ble_eq_true rfl), (Nat.le_of_ble_eq_true rfl)⟩) rfl hl.1 rfl (Nat.le_of_ble_eq_true rfl) dX3_thread_5 ⟨by first | exact Nat.le_of_ble_eq_true rfl | (dsimp only [rmd]; omega), by first | exact Nat.le_of_ble_eq_true rfl | (dsimp only [rmd]; omega)⟩ (fun v1 H1 locs1 hq1 hS => ?_)
  obtain ⟨rfl, rfl⟩ := hq1
  refine hz_ne (tgt := 17) (pc := 8) hx hb dX3_thread_8 (by decide) (fun h1 => ?_) (fun h1 => ?_)
  · rw [oThread, if_pos (show inI x (nI 1) (nI 255) = true from h1)] at hQ
    obtain ⟨v, hv1, hv, rfl⟩ := i_in (lo := 1) (by decide) (by decide) (of_decide_eq_true h1).1 (of_decide_eq_true h1).2
    rw [tn_nI (by omega)] at hQ
    refine lv_aload_n (pc := 17) hx hb dX3_thread_17 rfl (lk hl rfl) ?_
    refine hw_get (pc := 18) hx hb hts in_X3 hown hK (hM.p0) rfl 9 (Nat.le_of_ble_eq_true rfl) (hts _ q1786) (fun x h => h) rfl dX3_thread_18 ?_
    refine lv_iconst (v := nI 0) (pc := 21) hx hb dX3_thread_21 (by decide) ?_
    refine hm_iald (k := 8) (pc := 22) hx hb hK hM (by decide) (show 0 < 3 from (by omega)) dX3_thread_22 ?_
    refine lv_bipush (v := nI 16) (pc := 23) hx hb dX3_thread_23 (by decide) ?_
    refine hn_ne (tgt := 34) (pc := 25) hx hb dX3_thread_25 (by decide) (by omega) (by omega) (fun h2 => ?_) (fun h2 => ?_)
    · rw [if_neg h2] at hQ
      refine lv_aload_n (pc := 34) hx hb dX3_thread_34 rfl (lk hl rfl) ?_
      refine lv_iconst (v := nI 0) (pc := 35) hx hb dX3_thread_35 (by decide) ?_
      refine lv_iload_n (pc := 36) hx hb dX3_thread_36 rfl (lk hl rfl) ?_
      refine hc_V (pc := 37) hx hb hml hown hts hK hS (m_addsThing l Γ H μ S th 0 v hM (by omega) (by omega) (by omega)) (cwV 2 hts (lw_V q1974 q1976 qs67 q83 q1977) rfl rfl rfl (by decide +kernel) ⟨(Nat.le_of_ble_eq_true rfl), (Nat.le_of_ble_eq_true rfl)⟩) (hK.recv hM.p0 rfl) rfl hl.1 rfl (Nat.le_of_ble_eq_true rfl) dX3_thread_37 ⟨by first | exact Nat.le_of_ble_eq_true rfl | (dsimp only [rmd]; omega), by first | exact Nat.le_of_ble_eq_true rfl | (dsimp only [rmd]; omega)⟩ (fun v2 H2 locs2 hq2 hS => ?_)
      obtain ⟨rfl, hM, ho2⟩ := hq2
      have ho := ho.trans ho2
      refine lv_istore_n (pc := 40) hx hb dX3_thread_40 rfl hl (Nat.le_of_ble_eq_true rfl) rfl (fun ls hl => ?_)
      have hw := wf_padd hw (k := 0) (v := v) (by omega) (by omega)
      refine lv_aload_n (pc := 41) hx hb dX3_thread_41 rfl (lk hl rfl) ?_
      refine lv_iload_n (pc := 42) hx hb dX3_thread_42 rfl (lk hl rfl) ?_
      refine hc_V (pc := 43) hx hb hml hown hts hK hS (m_placesThread l Γ H2 μ (padd S 0 v) th (S 8 0) hM hw (by omega)) (cwV 1 hts (lw_V q1938 q1940 qs60 q83 q1941) rfl rfl rfl (by decide +kernel) ⟨(Nat.le_of_ble_eq_true rfl), (Nat.le_of_ble_eq_true rfl)⟩) (hK.recv hM.p0 rfl) rfl hl.1 rfl (Nat.le_of_ble_eq_true rfl) dX3_thread_43 ⟨by first | exact Nat.le_of_ble_eq_true rfl | (dsimp only [rmd]; omega), by first | exact Nat.le_of_ble_eq_true rfl | (dsimp only [rmd]; omega)⟩ (fun v3 H3 locs3 hq3 hS => ?_)
      obtain ⟨rfl, hM, ho3⟩ := hq3
      have ho := ho.trans ho3
      refine lv_aload_n (pc := 46) hx hb dX3_thread_46 rfl (lk hl rfl) ?_
      refine lv_iload_n (pc := 47) hx hb dX3_thread_47 rfl (lk hl rfl) ?_
      refine hc_V (pc := 48) hx hb hml hown hts hK hS (m_told l Γ H3 μ (pplace (padd S 0 v) (S 8 0)) th (nI (S 8 0)) hM) (cwV 1 hts (lw_V q1838 q1840 qs45 q83 q1841) rfl rfl rfl (by decide +kernel) ⟨(Nat.le_of_ble_eq_true rfl), (Nat.le_of_ble_eq_true rfl)⟩) (hK.recv hM.p0 rfl) rfl hl.1 rfl (Nat.le_of_ble_eq_true rfl) dX3_thread_48 ⟨by first | exact Nat.le_of_ble_eq_true rfl | (dsimp only [rmd]; omega), by first | exact Nat.le_of_ble_eq_true rfl | (dsimp only [rmd]; omega)⟩ (fun v4 H4 locs4 hq4 hS => ?_)
      obtain ⟨rfl, hM, ho4⟩ := hq4
      have ho := ho.trans ho4
      exact hr_i (pc := 51) hQ hx hb hr hlocks hS (by first | exact Nat.le_of_ble_eq_true rfl | (dsimp only [rmd]; omega)) (by first | exact Nat.le_of_ble_eq_true rfl | (dsimp only [rmd]; omega)) (⟨rfl, hM.gh (by decide), ho⟩) dX3_thread_51
    · skip
      rw [if_pos h2] at hQ
      refine lv_aload_n (pc := 28) hx hb dX3_thread_28 rfl (lk hl rfl) ?_
      refine lv_iconst (v := nI 2) (pc := 29) hx hb dX3_thread_29 (by decide) ?_
      refine hc_V (pc := 30) hx hb hml hown hts hK hS (m_refuse l Γ H μ S th (nI 2) hM) (cwV 1 hts (lw_V q1846 q1848 qs46 q83 q1849) rfl rfl rfl (by decide +kernel) ⟨(Nat.le_of_ble_eq_true rfl), (Nat.le_of_ble_eq_true rfl)⟩) (hK.recv hM.p0 rfl) rfl hl.1 rfl (Nat.le_of_ble_eq_true rfl) dX3_thread_30 ⟨by first | exact Nat.le_of_ble_eq_true rfl | (dsimp only [rmd]; omega), by first | exact Nat.le_of_ble_eq_true rfl | (dsimp only [rmd]; omega)⟩ (fun v5 H5 locs5 hq5 hS => ?_)
      obtain ⟨rfl, hM, ho5⟩ := hq5
      have ho := ho.trans ho5
      exact hr_i (pc := 33) hQ hx hb hr hlocks hS (by first | exact Nat.le_of_ble_eq_true rfl | (dsimp only [rmd]; omega)) (by first | exact Nat.le_of_ble_eq_true rfl | (dsimp only [rmd]; omega)) (⟨rfl, hM, ho⟩) dX3_thread_33
  · skip
    rw [oThread, if_neg (show ¬ inI x (nI 1) (nI 255) = true by show ¬ decide _ = true; rw [h1]; simp)] at hQ
    refine lv_aload_n (pc := 11) hx hb dX3_thread_11 rfl (lk hl rfl) ?_
    refine lv_iconst (v := nI 1) (pc := 12) hx hb dX3_thread_12 (by decide) ?_
    refine hc_V (pc := 13) hx hb hml hown hts hK hS (m_refuse l Γ H μ S th (nI 1) hM) (cwV 1 hts (lw_V q1846 q1848 qs46 q83 q1849) rfl rfl rfl (by decide +kernel) ⟨(Nat.le_of_ble_eq_true rfl), (Nat.le_of_ble_eq_true rfl)⟩) (hK.recv hM.p0 rfl) rfl hl.1 rfl (Nat.le_of_ble_eq_true rfl) dX3_thread_13 ⟨by first | exact Nat.le_of_ble_eq_true rfl | (dsimp only [rmd]; omega), by first | exact Nat.le_of_ble_eq_true rfl | (dsimp only [rmd]; omega)⟩ (fun v6 H6 locs6 hq6 hS => ?_)
    obtain ⟨rfl, hM, ho6⟩ := hq6
    have ho := ho.trans ho6
    exact hr_i (pc := 16) hQ hx hb hr hlocks hS (by first | exact Nat.le_of_ble_eq_true rfl | (dsimp only [rmd]; omega)) (by first | exact Nat.le_of_ble_eq_true rfl | (dsimp only [rmd]; omega)) (⟨rfl, hM, ho⟩) dX3_thread_16
set_option maxHeartbeats 4000000 in
theorem m_interrupt (l : Launch) (Γ : Cx) (H : Heap) (μ : Nat → Nat) (S : Sx) (th : Int32) (x : Int32) (hM : MW Γ H μ S th) (hw : WF S) : Mt l Γ yX3_interrupt (ws_ yX3_interrupt cX3_interrupt 3 (some .int)) 5 0 0 [.ref (μ 0), .int x] H (MO Γ μ H (oInterrupt S x)) := by
  refine mt_of (by decide +kernel) (Nat.le_of_ble_eq_true rfl) ?_
  intro p e s m args below meth c ls Q hx hb hr hlocks hml hts hown hnm hK hS hl hQ
  have ho : Off (Mf μ) H H := Off.rf
  have h8 := hw.b8
  refine lv_iload_n (pc := 0) hx hb dX3_interrupt_0 rfl (lk hl rfl) ?_
  refine lv_iconst (v := nI 1) (pc := 1) hx hb dX3_interrupt_1 (by decide) ?_
  refine lv_sipush (v := nI 255) (pc := 2) hx hb dX3_interrupt_2 (by decide) ?_
  refine hc_S (pc := 5) hx hb hml hown hts hK hS (m_in l Γ H x (nI 1) (nI 255)) (va_cwS 3 hts (lw_S q1854 q1855 q83 q1856) rfl rfl rfl (by decide +kernel) ⟨(Nat.le_of_ble_eq_true rfl), (Nat.le_of_ble_eq_true rfl)⟩) rfl hl.1 rfl (Nat.le_of_ble_eq_true rfl) dX3_interrupt_5 ⟨by first | exact Nat.le_of_ble_eq_true rfl | (dsimp only [rmd]; omega), by first | exact Nat.le_of_ble_eq_true rfl | (dsimp only [rmd]; omega)⟩ (fun v1 H1 locs1 hq1 hS => ?_)
  obtain ⟨rfl, rfl⟩ := hq1
  refine hz_ne (tgt := 17) (pc := 8) hx hb dX3_interrupt_8 (by decide) (fun h1 => ?_) (fun h1 => ?_)
  · rw [oInterrupt, if_pos (show inI x (nI 1) (nI 255) = true from h1)] at hQ
    obtain ⟨v, hv1, hv, rfl⟩ := i_in (lo := 1) (by decide) (by decide) (of_decide_eq_true h1).1 (of_decide_eq_true h1).2
    rw [tn_nI (by omega)] at hQ
    refine lv_aload_n (pc := 17) hx hb dX3_interrupt_17 rfl (lk hl rfl) ?_
    refine hw_get (pc := 18) hx hb hts in_X3 hown hK (hM.p0) rfl 9 (Nat.le_of_ble_eq_true rfl) (hts _ q1786) (fun x h => h) rfl dX3_interrupt_18 ?_
    refine lv_iconst (v := nI 1) (pc := 21) hx hb dX3_interrupt_21 (by decide) ?_
    refine hm_iald (k := 8) (pc := 22) hx hb hK hM (by decide) (show 1 < 3 from (by omega)) dX3_interrupt_22 ?_
    refine lv_bipush (v := nI 12) (pc := 23) hx hb dX3_interrupt_23 (by decide) ?_
    refine hn_ne (tgt := 34) (pc := 25) hx hb dX3_interrupt_25 (by decide) (by omega) (by omega) (fun h2 => ?_) (fun h2 => ?_)
    · rw [if_neg h2] at hQ
      refine lv_aload_n (pc := 34) hx hb dX3_interrupt_34 rfl (lk hl rfl) ?_
      refine lv_iconst (v := nI 1) (pc := 35) hx hb dX3_interrupt_35 (by decide) ?_
      refine lv_iload_n (pc := 36) hx hb dX3_interrupt_36 rfl (lk hl rfl) ?_
      refine hc_V (pc := 37) hx hb hml hown hts hK hS (m_addsThing l Γ H μ S th 1 v hM (by omega) (by omega) (by omega)) (cwV 2 hts (lw_V q1974 q1976 qs67 q83 q1977) rfl rfl rfl (by decide +kernel) ⟨(Nat.le_of_ble_eq_true rfl), (Nat.le_of_ble_eq_true rfl)⟩) (hK.recv hM.p0 rfl) rfl hl.1 rfl (Nat.le_of_ble_eq_true rfl) dX3_interrupt_37 ⟨by first | exact Nat.le_of_ble_eq_true rfl | (dsimp only [rmd]; omega), by first | exact Nat.le_of_ble_eq_true rfl | (dsimp only [rmd]; omega)⟩ (fun v2 H2 locs2 hq2 hS => ?_)
      obtain ⟨rfl, hM, ho2⟩ := hq2
      have ho := ho.trans ho2
      refine lv_istore_n (pc := 40) hx hb dX3_interrupt_40 rfl hl (Nat.le_of_ble_eq_true rfl) rfl (fun ls hl => ?_)
      have hw := wf_padd hw (k := 1) (v := v) (by omega) (by omega)
      refine lv_aload_n (pc := 41) hx hb dX3_interrupt_41 rfl (lk hl rfl) ?_
      refine lv_iload_n (pc := 42) hx hb dX3_interrupt_42 rfl (lk hl rfl) ?_
      refine hc_V (pc := 43) hx hb hml hown hts hK hS (m_placesInterrupt l Γ H2 μ (padd S 1 v) th (S 8 1) hM hw (by omega)) (cwV 1 hts (lw_V q1962 q1964 qs66 q83 q1965) rfl rfl rfl (by decide +kernel) ⟨(Nat.le_of_ble_eq_true rfl), (Nat.le_of_ble_eq_true rfl)⟩) (hK.recv hM.p0 rfl) rfl hl.1 rfl (Nat.le_of_ble_eq_true rfl) dX3_interrupt_43 ⟨by first | exact Nat.le_of_ble_eq_true rfl | (dsimp only [rmd]; omega), by first | exact Nat.le_of_ble_eq_true rfl | (dsimp only [rmd]; omega)⟩ (fun v3 H3 locs3 hq3 hS => ?_)
      obtain ⟨rfl, hM, ho3⟩ := hq3
      have ho := ho.trans ho3
      refine lv_aload_n (pc := 46) hx hb dX3_interrupt_46 rfl (lk hl rfl) ?_
      refine lv_iload_n (pc := 47) hx hb dX3_interrupt_47 rfl (lk hl rfl) ?_
      refine hc_V (pc := 48) hx hb hml hown hts hK hS (m_told l Γ H3 μ (pint (padd S 1 v) (S 8 1)) th (nI (S 8 1)) hM) (cwV 1 hts (lw_V q1838 q1840 qs45 q83 q1841) rfl rfl rfl (by decide +kernel) ⟨(Nat.le_of_ble_eq_true rfl), (Nat.le_of_ble_eq_true rfl)⟩) (hK.recv hM.p0 rfl) rfl hl.1 rfl (Nat.le_of_ble_eq_true rfl) dX3_interrupt_48 ⟨by first | exact Nat.le_of_ble_eq_true rfl | (dsimp only [rmd]; omega), by first | exact Nat.le_of_ble_eq_true rfl | (dsimp only [rmd]; omega)⟩ (fun v4 H4 locs4 hq4 hS => ?_)
      obtain ⟨rfl, hM, ho4⟩ := hq4
      have ho := ho.trans ho4
      exact hr_i (pc := 51) hQ hx hb hr hlocks hS (by first | exact Nat.le_of_ble_eq_true rfl | (dsimp only [rmd]; omega)) (by first | exact Nat.le_of_ble_eq_true rfl | (dsimp only [rmd]; omega)) (⟨rfl, hM.gh (by decide), ho⟩) dX3_interrupt_51
    · skip
      rw [if_pos h2] at hQ
      refine lv_aload_n (pc := 28) hx hb dX3_interrupt_28 rfl (lk hl rfl) ?_
      refine lv_iconst (v := nI 2) (pc := 29) hx hb dX3_interrupt_29 (by decide) ?_
      refine hc_V (pc := 30) hx hb hml hown hts hK hS (m_refuse l Γ H μ S th (nI 2) hM) (cwV 1 hts (lw_V q1846 q1848 qs46 q83 q1849) rfl rfl rfl (by decide +kernel) ⟨(Nat.le_of_ble_eq_true rfl), (Nat.le_of_ble_eq_true rfl)⟩) (hK.recv hM.p0 rfl) rfl hl.1 rfl (Nat.le_of_ble_eq_true rfl) dX3_interrupt_30 ⟨by first | exact Nat.le_of_ble_eq_true rfl | (dsimp only [rmd]; omega), by first | exact Nat.le_of_ble_eq_true rfl | (dsimp only [rmd]; omega)⟩ (fun v5 H5 locs5 hq5 hS => ?_)
      obtain ⟨rfl, hM, ho5⟩ := hq5
      have ho := ho.trans ho5
      exact hr_i (pc := 33) hQ hx hb hr hlocks hS (by first | exact Nat.le_of_ble_eq_true rfl | (dsimp only [rmd]; omega)) (by first | exact Nat.le_of_ble_eq_true rfl | (dsimp only [rmd]; omega)) (⟨rfl, hM, ho⟩) dX3_interrupt_33
  · skip
    rw [oInterrupt, if_neg (show ¬ inI x (nI 1) (nI 255) = true by show ¬ decide _ = true; rw [h1]; simp)] at hQ
    refine lv_aload_n (pc := 11) hx hb dX3_interrupt_11 rfl (lk hl rfl) ?_
    refine lv_iconst (v := nI 1) (pc := 12) hx hb dX3_interrupt_12 (by decide) ?_
    refine hc_V (pc := 13) hx hb hml hown hts hK hS (m_refuse l Γ H μ S th (nI 1) hM) (cwV 1 hts (lw_V q1846 q1848 qs46 q83 q1849) rfl rfl rfl (by decide +kernel) ⟨(Nat.le_of_ble_eq_true rfl), (Nat.le_of_ble_eq_true rfl)⟩) (hK.recv hM.p0 rfl) rfl hl.1 rfl (Nat.le_of_ble_eq_true rfl) dX3_interrupt_13 ⟨by first | exact Nat.le_of_ble_eq_true rfl | (dsimp only [rmd]; omega), by first | exact Nat.le_of_ble_eq_true rfl | (dsimp only [rmd]; omega)⟩ (fun v6 H6 locs6 hq6 hS => ?_)
    obtain ⟨rfl, hM, ho6⟩ := hq6
    have ho := ho.trans ho6
    exact hr_i (pc := 16) hQ hx hb hr hlocks hS (by first | exact Nat.le_of_ble_eq_true rfl | (dsimp only [rmd]; omega)) (by first | exact Nat.le_of_ble_eq_true rfl | (dsimp only [rmd]; omega)) (⟨rfl, hM, ho⟩) dX3_interrupt_16
set_option maxHeartbeats 4000000 in
theorem m_timer (l : Launch) (Γ : Cx) (H : Heap) (μ : Nat → Nat) (S : Sx) (th : Int32) (x : Int32) (hM : MW Γ H μ S th) (hw : WF S) : Mt l Γ yX3_timer (ws_ yX3_timer cX3_timer 3 (some .int)) 4 0 0 [.ref (μ 0), .int x] H (MO Γ μ H (oTimer S x)) := by
  refine mt_of (by decide +kernel) (Nat.le_of_ble_eq_true rfl) ?_
  intro p e s m args below meth c ls Q hx hb hr hlocks hml hts hown hnm hK hS hl hQ
  have ho : Off (Mf μ) H H := Off.rf
  have h8 := hw.b8
  have hb0 := hw.b0
  refine lv_aload_n (pc := 0) hx hb dX3_timer_0 rfl (lk hl rfl) ?_
  refine lv_iload_n (pc := 1) hx hb dX3_timer_1 rfl (lk hl rfl) ?_
  refine hc_V (pc := 2) hx hb hml hown hts hK hS (m_isCore l Γ H μ S th x hM) (cwV 1 hts (lw_V q1915 q1917 qs56 q83 q1918) rfl rfl rfl (by decide +kernel) ⟨(Nat.le_of_ble_eq_true rfl), (Nat.le_of_ble_eq_true rfl)⟩) (hK.recv hM.p0 rfl) rfl hl.1 rfl (Nat.le_of_ble_eq_true rfl) dX3_timer_2 ⟨by first | exact Nat.le_of_ble_eq_true rfl | (dsimp only [rmd]; omega), by first | exact Nat.le_of_ble_eq_true rfl | (dsimp only [rmd]; omega)⟩ (fun v1 H1 locs1 hq1 hS => ?_)
  obtain ⟨rfl, rfl⟩ := hq1
  refine hz_ne (tgt := 14) (pc := 5) hx hb dX3_timer_5 (by decide) (fun h1 => ?_) (fun h1 => ?_)
  · rw [oTimer, if_pos (show isC S x = true from h1)] at hQ
    obtain ⟨k, hk, rfl⟩ := isCore_iff hw h1
    rw [tn_nI (by omega)] at hQ
    have no : ¬ (10 < S 1 k ∧ S 8 2 ≠ 16) → ∀ (locs : List Loc) (ls : Array Slot), va_S (Gz Γ) s.heap H locs → lv_has ls 3 [(0, .ref (μ 0))] → W p l e (rmd 4 0 0) s m args below meth c H locs 0 0 Q (F0 m 33 ls []) := by
      intro hn locs ls hS hl
      rw [if_neg hn] at hQ
      refine lv_aload_n (pc := 33) hx hb dX3_timer_33 rfl (lk hl rfl) ?_
      refine lv_iconst (v := nI 2) (pc := 34) hx hb dX3_timer_34 (by decide) ?_
      refine hc_V (pc := 35) hx hb hml hown hts hK hS (m_refuse l Γ H μ S th (nI 2) hM) (cwV 1 hts (lw_V q1846 q1848 qs46 q83 q1849) rfl rfl rfl (by decide +kernel) ⟨(Nat.le_of_ble_eq_true rfl), (Nat.le_of_ble_eq_true rfl)⟩) (hK.recv hM.p0 rfl) rfl hl.1 rfl (Nat.le_of_ble_eq_true rfl) dX3_timer_35 ⟨by first | exact Nat.le_of_ble_eq_true rfl | (dsimp only [rmd]; omega), by first | exact Nat.le_of_ble_eq_true rfl | (dsimp only [rmd]; omega)⟩ (fun v2 H2 locs2 hq2 hS => ?_)
      obtain ⟨rfl, hM, ho2⟩ := hq2
      have ho := ho.trans ho2
      exact hr_i (pc := 38) hQ hx hb hr hlocks hS (by first | exact Nat.le_of_ble_eq_true rfl | (dsimp only [rmd]; omega)) (by first | exact Nat.le_of_ble_eq_true rfl | (dsimp only [rmd]; omega)) (⟨rfl, hM, ho⟩) dX3_timer_38
    refine lv_aload_n (pc := 14) hx hb dX3_timer_14 rfl (lk hl rfl) ?_
    refine lv_iload_n (pc := 15) hx hb dX3_timer_15 rfl (lk hl rfl) ?_
    refine hc_V (pc := 16) hx hb hml hown hts hK hS (m_isUp l Γ H μ S th k hM hw (by omega)) (cwV 1 hts (lw_V q1876 q1878 qs51 q83 q1879) rfl rfl rfl (by decide +kernel) ⟨(Nat.le_of_ble_eq_true rfl), (Nat.le_of_ble_eq_true rfl)⟩) (hK.recv hM.p0 rfl) rfl hl.1 rfl (Nat.le_of_ble_eq_true rfl) dX3_timer_16 ⟨by first | exact Nat.le_of_ble_eq_true rfl | (dsimp only [rmd]; omega), by first | exact Nat.le_of_ble_eq_true rfl | (dsimp only [rmd]; omega)⟩ (fun v3 H3 locs3 hq3 hS => ?_)
    obtain ⟨rfl, rfl⟩ := hq3
    refine hz_eq (tgt := 33) (pc := 19) hx hb dX3_timer_19 (by decide) (fun h2 => ?_) (fun h2 => ?_)
    · exact no (fun q => of_decide_eq_false h2 q.1) _ ls hS (by repeat first | exact lv_0 hl | refine lv_c (lk hl rfl) ?_)
    · skip
      refine lv_aload_n (pc := 22) hx hb dX3_timer_22 rfl (lk hl rfl) ?_
      refine hw_get (pc := 23) hx hb hts in_X3 hown hK (hM.p0) rfl 9 (Nat.le_of_ble_eq_true rfl) (hts _ q1786) (fun x h => h) rfl dX3_timer_23 ?_
      refine lv_iconst (v := nI 2) (pc := 26) hx hb dX3_timer_26 (by decide) ?_
      refine hm_iald (k := 8) (pc := 27) hx hb hK hM (by decide) (show 2 < 3 from (by omega)) dX3_timer_27 ?_
      refine lv_bipush (v := nI 16) (pc := 28) hx hb dX3_timer_28 (by decide) ?_
      refine hn_ne (tgt := 39) (pc := 30) hx hb dX3_timer_30 (by decide) (by omega) (by omega) (fun h3 => ?_) (fun h3 => ?_)
      · rw [if_pos ⟨of_decide_eq_true h2, h3⟩] at hQ
        refine lv_aload_n (pc := 39) hx hb dX3_timer_39 rfl (lk hl rfl) ?_
        refine lv_iconst (v := nI 2) (pc := 40) hx hb dX3_timer_40 (by decide) ?_
        refine lv_iconst (v := nI 0) (pc := 41) hx hb dX3_timer_41 (by decide) ?_
        refine hc_V (pc := 42) hx hb hml hown hts hK hS (m_addsThing l Γ H μ S th 2 0 hM (by omega) (by omega) (by omega)) (cwV 2 hts (lw_V q1974 q1976 qs67 q83 q1977) rfl rfl rfl (by decide +kernel) ⟨(Nat.le_of_ble_eq_true rfl), (Nat.le_of_ble_eq_true rfl)⟩) (hK.recv hM.p0 rfl) rfl hl.1 rfl (Nat.le_of_ble_eq_true rfl) dX3_timer_42 ⟨by first | exact Nat.le_of_ble_eq_true rfl | (dsimp only [rmd]; omega), by first | exact Nat.le_of_ble_eq_true rfl | (dsimp only [rmd]; omega)⟩ (fun v4 H4 locs4 hq4 hS => ?_)
        obtain ⟨rfl, hM, ho4⟩ := hq4
        have ho := ho.trans ho4
        refine lv_istore_n (pc := 45) hx hb dX3_timer_45 rfl hl (Nat.le_of_ble_eq_true rfl) rfl (fun ls hl => ?_)
        refine lv_aload_n (pc := 46) hx hb dX3_timer_46 rfl (lk hl rfl) ?_
        refine hw_get (pc := 47) hx hb hts in_X3 hown hK (hM.p0) rfl 11 (Nat.le_of_ble_eq_true rfl) (hts _ q1788) (fun x h => h) rfl dX3_timer_47 ?_
        refine lv_iconst (v := nI 2) (pc := 50) hx hb dX3_timer_50 (by decide) ?_
        refine lv_iload_n (pc := 51) hx hb dX3_timer_51 rfl (lk hl rfl) ?_
        refine hc_S (pc := 52) hx hb hml hown hts hK hS (m_at l Γ H4 2 (S 8 2) (32 + (S 8 2)) (by omega)) (va_cwS 2 hts (lw_S q1935 q1936 q83 q1937) rfl rfl rfl (by decide +kernel) ⟨(Nat.le_of_ble_eq_true rfl), (Nat.le_of_ble_eq_true rfl)⟩) rfl hl.1 rfl (Nat.le_of_ble_eq_true rfl) dX3_timer_52 ⟨by first | exact Nat.le_of_ble_eq_true rfl | (dsimp only [rmd]; omega), by first | exact Nat.le_of_ble_eq_true rfl | (dsimp only [rmd]; omega)⟩ (fun v5 H5 locs5 hq5 hS => ?_)
        obtain ⟨rfl, rfl⟩ := hq5
        refine lv_iload_n (pc := 55) hx hb dX3_timer_55 rfl (lk hl rfl) ?_
        refine hw_top (congrArg Value.int (nI_pred k).symm) ?_
        refine hm_mast (pc := 56) hx hb hK hM (show 32 + S 8 2 < 48 from (by omega)) hS dX3_timer_56 (fun H6 locs6 hM ho6 hS => ?_)
        have ho := ho.trans ho6
        refine lv_aload_n (pc := 57) hx hb dX3_timer_57 rfl (lk hl rfl) ?_
        refine lv_iload_n (pc := 58) hx hb dX3_timer_58 rfl (lk hl rfl) ?_
        refine hc_V (pc := 59) hx hb hml hown hts hK hS (m_told l Γ H6 μ (up2 (padd S 2 0) 10 (32 + S 8 2) (k + 1)) th (nI (S 8 2)) hM) (cwV 1 hts (lw_V q1838 q1840 qs45 q83 q1841) rfl rfl rfl (by decide +kernel) ⟨(Nat.le_of_ble_eq_true rfl), (Nat.le_of_ble_eq_true rfl)⟩) (hK.recv hM.p0 rfl) rfl hl.1 rfl (Nat.le_of_ble_eq_true rfl) dX3_timer_59 ⟨by first | exact Nat.le_of_ble_eq_true rfl | (dsimp only [rmd]; omega), by first | exact Nat.le_of_ble_eq_true rfl | (dsimp only [rmd]; omega)⟩ (fun v7 H7 locs7 hq7 hS => ?_)
        obtain ⟨rfl, hM, ho7⟩ := hq7
        have ho := ho.trans ho7
        exact hr_i (pc := 62) hQ hx hb hr hlocks hS (by first | exact Nat.le_of_ble_eq_true rfl | (dsimp only [rmd]; omega)) (by first | exact Nat.le_of_ble_eq_true rfl | (dsimp only [rmd]; omega)) (⟨rfl, hM, ho⟩) dX3_timer_62
      · skip
        exact no (fun q => q.2 h3) _ ls hS (by repeat first | exact lv_0 hl | refine lv_c (lk hl rfl) ?_)
  · skip
    rw [oTimer, if_neg (show ¬ isC S x = true by show ¬ decide _ = true; rw [h1]; simp)] at hQ
    refine lv_aload_n (pc := 8) hx hb dX3_timer_8 rfl (lk hl rfl) ?_
    refine lv_iconst (v := nI 1) (pc := 9) hx hb dX3_timer_9 (by decide) ?_
    refine hc_V (pc := 10) hx hb hml hown hts hK hS (m_refuse l Γ H μ S th (nI 1) hM) (cwV 1 hts (lw_V q1846 q1848 qs46 q83 q1849) rfl rfl rfl (by decide +kernel) ⟨(Nat.le_of_ble_eq_true rfl), (Nat.le_of_ble_eq_true rfl)⟩) (hK.recv hM.p0 rfl) rfl hl.1 rfl (Nat.le_of_ble_eq_true rfl) dX3_timer_10 ⟨by first | exact Nat.le_of_ble_eq_true rfl | (dsimp only [rmd]; omega), by first | exact Nat.le_of_ble_eq_true rfl | (dsimp only [rmd]; omega)⟩ (fun v8 H8 locs8 hq8 hS => ?_)
    obtain ⟨rfl, hM, ho8⟩ := hq8
    have ho := ho.trans ho8
    exact hr_i (pc := 13) hQ hx hb hr hlocks hS (by first | exact Nat.le_of_ble_eq_true rfl | (dsimp only [rmd]; omega)) (by first | exact Nat.le_of_ble_eq_true rfl | (dsimp only [rmd]; omega)) (⟨rfl, hM, ho⟩) dX3_timer_13
