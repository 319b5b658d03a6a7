/-! java.util.ArrayDeque of seventeen places, and its iterator -/
set_option maxRecDepth 100000
set_option maxHeartbeats 4000000
theorem nI_0le {k : Nat} (h : k < 2 ^ 31) : (0 : Int32) ≤ nI k := by
  rw [Int32.le_iff_toInt_le, nI_toInt h, Int32.toInt_zero]
  omega
def inc17 (i : Nat) : Nat := if i + 1 < 17 then i + 1 else 0
def dec17 (i : Nat) : Nat := if i = 0 then 16 else i - 1
theorem j_dq_inc (l : Launch) (Γ : Cx) (H : Heap) (i : Nat) (hi : i < 17) : Mt l Γ yJ9_inc (ws_ yJ9_inc cJ9_inc 2 (some .int)) 1 0 0 [.int (nI i), .int (nI 17)] H (Rd (nI (inc17 i)) H) := by
  refine mt_of (by decide +kernel) (Nat.le_of_ble_eq_true rfl) ?_
  intro p e s m args below meth c ls Q hx hb hr hlocks hml hts hown hnm hK hS hl hQ
  refine hw_iinc (v := nI (i + 1)) (pc := 0) hx hb dJ9_inc_0 hl (lk hl rfl) (n_inc _ 1) (Nat.le_of_ble_eq_true rfl) (fun ls hl => ?_)
  refine lv_iload_n (pc := 3) hx hb dJ9_inc_3 rfl (lk hl rfl) ?_
  refine lv_iload_n (pc := 4) hx hb dJ9_inc_4 rfl (lk hl rfl) ?_
  refine hn_lt (tgt := 10) (pc := 5) hx hb dJ9_inc_5 (by decide) (by omega) (by omega) (fun h => ?_) (fun h => ?_)
  · refine lv_iload_n (pc := 10) hx hb dJ9_inc_10 rfl (lk hl rfl) ?_
    exact hr_i (pc := 11) hQ hx hb hr hlocks hS (by first | exact Nat.le_of_ble_eq_true rfl | (dsimp only [rmd]; omega)) (by first | exact Nat.le_of_ble_eq_true rfl | (dsimp only [rmd]; omega)) (⟨by rw [inc17, if_pos h], rfl⟩) dJ9_inc_11
  · skip
    refine lv_iconst (v := nI 0) (pc := 8) hx hb dJ9_inc_8 (by decide) ?_
    refine lv_istore_n (pc := 9) hx hb dJ9_inc_9 rfl hl (Nat.le_of_ble_eq_true rfl) rfl (fun ls hl => ?_)
    refine lv_iload_n (pc := 10) hx hb dJ9_inc_10 rfl (lk hl rfl) ?_
    exact hr_i (pc := 11) hQ hx hb hr hlocks hS (by first | exact Nat.le_of_ble_eq_true rfl | (dsimp only [rmd]; omega)) (by first | exact Nat.le_of_ble_eq_true rfl | (dsimp only [rmd]; omega)) (⟨by rw [inc17, if_neg (by omega)], rfl⟩) dJ9_inc_11
theorem j_dq_dec (l : Launch) (Γ : Cx) (H : Heap) (i : Nat) (hi : i < 17) : Mt l Γ yJ9_dec (ws_ yJ9_dec cJ9_dec 2 (some .int)) 1 0 0 [.int (nI i), .int (nI 17)] H (Rd (nI (dec17 i)) H) := by
  refine mt_of (by decide +kernel) (Nat.le_of_ble_eq_true rfl) ?_
  intro p e s m args below meth c ls Q hx hb hr hlocks hml hts hown hnm hK hS hl hQ
  refine hw_iinc (v := nI i - 1) (pc := 0) hx hb dJ9_dec_0 hl (lk hl rfl) (n_dec _) (Nat.le_of_ble_eq_true rfl) (fun ls hl => ?_)
  refine lv_iload_n (pc := 3) hx hb dJ9_dec_3 rfl (lk hl rfl) ?_
  rcases Nat.eq_zero_or_pos i with h0 | h0
  · subst h0
    refine lv_if_ge (tgt := 11) (pc := 4) hx hb dJ9_dec_4 (by decide) (fun q => absurd q (by decide)) (fun _ => ?_)
    refine lv_iload_n (pc := 7) hx hb dJ9_dec_7 rfl (lk hl rfl) ?_
    refine lv_iconst (v := nI 1) (pc := 8) hx hb dJ9_dec_8 (by decide) ?_
    refine lv_isub (pc := 9) hx hb dJ9_dec_9 ?_
    refine hw_top (congrArg Value.int (show _ = nI (17 - 1) from n_sub (show 1 ≤ 17 by omega))) ?_
    refine lv_istore_n (pc := 10) hx hb dJ9_dec_10 rfl hl (Nat.le_of_ble_eq_true rfl) rfl (fun ls hl => ?_)
    refine lv_iload_n (pc := 11) hx hb dJ9_dec_11 rfl (lk hl rfl) ?_
    exact hr_i (pc := 12) hQ hx hb hr hlocks hS (by first | exact Nat.le_of_ble_eq_true rfl | (dsimp only [rmd]; omega)) (by first | exact Nat.le_of_ble_eq_true rfl | (dsimp only [rmd]; omega)) (⟨rfl, rfl⟩) dJ9_dec_12
  · rw [n_m h0] at hl ⊢
    refine lv_if_ge (tgt := 11) (pc := 4) hx hb dJ9_dec_4 (by decide) (fun _ => ?_) (fun q => absurd (nI_0le (by omega)) q)
    refine lv_iload_n (pc := 11) hx hb dJ9_dec_11 rfl (lk hl rfl) ?_
    exact hr_i (pc := 12) hQ hx hb hr hlocks hS (by first | exact Nat.le_of_ble_eq_true rfl | (dsimp only [rmd]; omega)) (by first | exact Nat.le_of_ble_eq_true rfl | (dsimp only [rmd]; omega)) (⟨by rw [dec17, if_neg (by omega)], rfl⟩) dJ9_dec_12
/-- how many lie between head and tail -/
def dqn (h t : Nat) : Nat := if h ≤ t then t - h else t + 17 - h
theorem j_dq_sub (l : Launch) (Γ : Cx) (H : Heap) (h t : Nat) (hh : h < 17) (ht : t < 17) : Mt l Γ yJ9_sub (ws_ yJ9_sub cJ9_sub 3 (some .int)) 1 0 0 [.int (nI t), .int (nI h), .int (nI 17)] H (Rd (nI (dqn h t)) H) := by
  refine mt_of (by decide +kernel) (Nat.le_of_ble_eq_true rfl) ?_
  intro p e s m args below meth c ls Q hx hb hr hlocks hml hts hown hnm hK hS hl hQ
  refine lv_iload_n (pc := 0) hx hb dJ9_sub_0 rfl (lk hl rfl) ?_
  refine lv_iload_n (pc := 1) hx hb dJ9_sub_1 rfl (lk hl rfl) ?_
  refine lv_isub (pc := 2) hx hb dJ9_sub_2 ?_
  refine lv_dup (pc := 3) hx hb dJ9_sub_3 rfl ?_
  refine lv_istore_n (pc := 4) hx hb dJ9_sub_4 rfl hl (Nat.le_of_ble_eq_true rfl) rfl (fun ls hl => ?_)
  by_cases hc : h ≤ t
  · refine lv_if_ge (tgt := 12) (pc := 5) hx hb dJ9_sub_5 (by decide) (fun _ => ?_) (fun q => absurd (show (0 : Int32) ≤ nI t - nI h by rw [n_sub hc]; exact nI_0le (by omega)) q)
    rw [n_sub hc] at hl
    refine lv_iload_n (pc := 12) hx hb dJ9_sub_12 rfl (lk hl rfl) ?_
    exact hr_i (pc := 13) hQ hx hb hr hlocks hS (by first | exact Nat.le_of_ble_eq_true rfl | (dsimp only [rmd]; omega)) (by first | exact Nat.le_of_ble_eq_true rfl | (dsimp only [rmd]; omega)) (⟨by rw [dqn, if_pos hc], rfl⟩) dJ9_sub_13
  · have hneg : ¬ (0 : Int32) ≤ nI t - nI h := by
      have key : ∀ h, h < 17 → ∀ t, t < 17 → ¬ h ≤ t → ¬ (0 : Int32) ≤ nI t - nI h := by decide +kernel
      exact key h hh t ht hc
    refine lv_if_ge (tgt := 12) (pc := 5) hx hb dJ9_sub_5 (by decide) (fun q => absurd q hneg) (fun _ => ?_)
    refine lv_iload_n (pc := 8) hx hb dJ9_sub_8 rfl (lk hl rfl) ?_
    refine lv_iload_n (pc := 9) hx hb dJ9_sub_9 rfl (lk hl rfl) ?_
    refine lv_iadd (pc := 10) hx hb dJ9_sub_10 ?_
    have e : nI t - nI h + nI 17 = nI (t + 17 - h) := by
      have key : ∀ h, h < 17 → ∀ t, t < 17 → nI t - nI h + nI 17 = nI (t + 17 - h) := by decide +kernel
      exact key h hh t ht
    rw [e]
    refine lv_istore_n (pc := 11) hx hb dJ9_sub_11 rfl hl (Nat.le_of_ble_eq_true rfl) rfl (fun ls hl => ?_)
    refine lv_iload_n (pc := 12) hx hb dJ9_sub_12 rfl (lk hl rfl) ?_
    exact hr_i (pc := 13) hQ hx hb hr hlocks hS (by first | exact Nat.le_of_ble_eq_true rfl | (dsimp only [rmd]; omega)) (by first | exact Nat.le_of_ble_eq_true rfl | (dsimp only [rmd]; omega)) (⟨by rw [dqn, if_neg hc], rfl⟩) dJ9_sub_13
theorem j_dq_size (l : Launch) (Γ : Cx) (H : Heap) (a arr h t : Nat) (f : Nat → Option Nat) (hpa : pt Γ H a (ob 11 [.ref arr, .int (nI h), .int (nI t)])) (hpr : pt Γ H arr (oa Γ 17 f)) (hh : h < 17) (ht : t < 17) : Mt l Γ yJ9_size (ws_ yJ9_size cJ9_size 1 (some .int)) 2 0 0 [.ref a] H (Rd (nI (dqn h t)) H) := by
  refine mt_of (by decide +kernel) (Nat.le_of_ble_eq_true rfl) ?_
  intro p e s m args below meth c ls Q hx hb hr hlocks hml hts hown hnm hK hS hl hQ
  refine lv_aload_n (pc := 0) hx hb dJ9_size_0 rfl (lk hl rfl) ?_
  refine hw_get (pc := 1) hx hb hts in_J9 hown hK (hpa) rfl 2 (Nat.le_of_ble_eq_true rfl) (hts _ q329) (fun x h => h) rfl dJ9_size_1 ?_
  refine lv_aload_n (pc := 4) hx hb dJ9_size_4 rfl (lk hl rfl) ?_
  refine hw_get (pc := 5) hx hb hts in_J9 hown hK (hpa) rfl 1 (Nat.le_of_ble_eq_true rfl) (hts _ q328) (fun x h => h) rfl dJ9_size_5 ?_
  refine lv_aload_n (pc := 8) hx hb dJ9_size_8 rfl (lk hl rfl) ?_
  refine hw_get (pc := 9) hx hb hts in_J9 hown hK (hpa) rfl 0 (Nat.le_of_ble_eq_true rfl) (hts _ q325) (fun x h => h) rfl dJ9_size_9 ?_
  refine hw_olen (pc := 12) hx hb hK (hpr) dJ9_size_12 ?_
  refine hc_S (pc := 13) hx hb hml hown hts hK hS (j_dq_sub l Γ H h t hh ht) (va_cwS 3 hts (lw_S q1395 q1396 q82 q1397) rfl rfl rfl (by decide +kernel) ⟨(Nat.le_of_ble_eq_true rfl), (Nat.le_of_ble_eq_true rfl)⟩) rfl hl.1 rfl (Nat.le_of_ble_eq_true rfl) dJ9_size_13 ⟨by first | exact Nat.le_of_ble_eq_true rfl | (dsimp only [rmd]; omega), by first | exact Nat.le_of_ble_eq_true rfl | (dsimp only [rmd]; omega)⟩ (fun v9 H9 locs9 hq9 hS => ?_)
  obtain ⟨rfl, rfl⟩ := hq9
  exact hr_i (pc := 16) hQ hx hb hr hlocks hS (by first | exact Nat.le_of_ble_eq_true rfl | (dsimp only [rmd]; omega)) (by first | exact Nat.le_of_ble_eq_true rfl | (dsimp only [rmd]; omega)) (⟨rfl, rfl⟩) dJ9_size_16
theorem j_dq_init (l : Launch) (Γ : Cx) (H : Heap) (a : Nat) (hpa : pt Γ H a (ob 11 [.null, .int (nI 0), .int (nI 0)])) (hg : Gz Γ a) : Mt l Γ yJ9_init (ws_ yJ9_init cJ9_init 1 none) 2 1 17 [.ref a] H (fun v H1 => v = none ∧ pt Γ H1 a (ob 11 [.ref H.size, .int (nI 0), .int (nI 0)]) ∧ pt Γ H1 H.size (oa Γ 17 (fun _ => none)) ∧ Gz Γ H.size ∧ Off (fun q => q = a) H H1) := by
  refine mt_of (by decide +kernel) (Nat.le_of_ble_eq_true rfl) ?_
  intro p e s m args below meth c ls Q hx hb hr hlocks hml hts hown hnm hK hS hl hQ
  have ho : Off (fun q => q = a) H H := Off.rf
  have hla := hpa.lt
  refine lv_aload_n (pc := 0) hx hb dJ9_init_0 rfl (lk hl rfl) ?_
  refine hc_I (pc := 1) hx hb hml hown hts hK hS (j_ac_init l Γ H a) (cwI 0 hts (lw_meth q141) rfl rfl rfl (hts _ q71) (hts _ q323) (hts _ q140) rfl (by decide +kernel) ⟨(Nat.le_of_ble_eq_true rfl), (Nat.le_of_ble_eq_true rfl)⟩) rfl hl.1 rfl (Nat.le_of_ble_eq_true rfl) dJ9_init_1 ⟨by first | exact Nat.le_of_ble_eq_true rfl | (dsimp only [rmd]; omega), by first | exact Nat.le_of_ble_eq_true rfl | (dsimp only [rmd]; omega)⟩ (fun v9 H9 locs9 hq9 hS => ?_)
  obtain ⟨rfl, rfl⟩ := hq9
  refine lv_aload_n (pc := 4) hx hb dJ9_init_4 rfl (lk hl rfl) ?_
  refine lv_bipush (v := nI 17) (pc := 5) hx hb dJ9_init_5 (by decide) ?_
  refine hw_newq (t0 := 3) (N := 17) (pc := 7) hx hb hown (hts _ q324) hK.2.1.2.1 hK rfl hS (by decide) (by decide) (by first | exact Nat.le_of_ble_eq_true rfl | (dsimp only [rmd]; omega)) (by first | exact Nat.le_of_ble_eq_true rfl | (dsimp only [rmd]; omega)) dJ9_init_7 (fun qn Hn eqn hpn hgn zn on hS => ?_)
  have hpa := hpa.old on
  have ho := ho.trans (Off.new zn on)
  have : a < Hn.size := hpa.lt
  have hne : a ≠ qn := by omega
  have hga := hg
  refine hw_put (pc := 10) hx hb hts in_J9 tyJ9_ok nmJ9 hown hK (hpa) (hga) hS rfl 0 (Nat.le_of_ble_eq_true rfl) (hts _ q325) (fun x h => h) rfl rfl (rfl) (rfl) (Nat.le_of_ble_eq_true rfl) dJ9_init_10 (fun Hp1 locsp1 hpp1 zp1 op1 hS => ?_)
  have hpa : pt Γ Hp1 a (ob 11 [.ref qn, .int (nI 0), .int (nI 0)]) := hpp1
  have ho := ho.trans (Off.put zp1 op1 (by first | rfl | (simp; done) | exact Or.inl rfl | exact Or.inr rfl | omega))
  subst eqn
  exact hr_v (pc := 13) hQ hx hb hr hlocks hS (by first | exact Nat.le_of_ble_eq_true rfl | (dsimp only [rmd]; omega)) (by first | exact Nat.le_of_ble_eq_true rfl | (dsimp only [rmd]; omega)) (⟨rfl, hpa, hpn.ne op1 (by omega), hgn, ho⟩) dJ9_init_13
theorem j_dq_addLast (l : Launch) (Γ : Cx) (H : Heap) (a arr t q : Nat) (f : Nat → Option Nat) (hpa : pt Γ H a (ob 11 [.ref arr, .int (nI 0), .int (nI t)])) (hpr : pt Γ H arr (oa Γ 17 f)) (ht : t < 16) (hg : Gz Γ a) (hgr : Gz Γ arr) (hv : Anyc Γ H q) (hna : arr ≠ a) : Mt l Γ yJ9_addLast (ws_ yJ9_addLast cJ9_addLast 3 none) 2 0 0 [.ref a, .ref q] H (fun v H1 => v = none ∧ pt Γ H1 a (ob 11 [.ref arr, .int (nI 0), .int (nI (t + 1))]) ∧ pt Γ H1 arr (oa Γ 17 (va_up f t (some q))) ∧ Off (fun q => q = a ∨ q = arr) H H1) := by
  refine mt_of (by decide +kernel) (Nat.le_of_ble_eq_true rfl) ?_
  intro p e s m args below meth c ls Q hx hb hr hlocks hml hts hown hnm hK hS hl hQ
  have ho : Off (fun q => q = a ∨ q = arr) H H := Off.rf
  refine lv_aload_n (pc := 0) hx hb dJ9_addLast_0 rfl (lk hl rfl) ?_
  refine lv_ifnonnull (tgt := 12) (pc := 1) hx hb dJ9_addLast_1 (by decide) ?_
  refine lv_aload_n (pc := 12) hx hb dJ9_addLast_12 rfl (lk hl rfl) ?_
  refine hw_get (pc := 13) hx hb hts in_J9 hown hK (hpa) rfl 0 (Nat.le_of_ble_eq_true rfl) (hts _ q325) (fun x h => h) rfl dJ9_addLast_13 ?_
  refine lv_astore_n (pc := 16) hx hb dJ9_addLast_16 rfl hl (Nat.le_of_ble_eq_true rfl) rfl (fun ls hl => ?_)
  refine lv_aload_n (pc := 17) hx hb dJ9_addLast_17 rfl (lk hl rfl) ?_
  refine lv_aload_n (pc := 18) hx hb dJ9_addLast_18 rfl (lk hl rfl) ?_
  refine hw_get (pc := 19) hx hb hts in_J9 hown hK (hpa) rfl 2 (Nat.le_of_ble_eq_true rfl) (hts _ q329) (fun x h => h) rfl dJ9_addLast_19 ?_
  refine lv_aload_n (pc := 22) hx hb dJ9_addLast_22 rfl (lk hl rfl) ?_
  refine hw_oast (pc := 23) hx hb hK (hpr) (hgr) hS (hK.anyc hv) (vp_in_nI (show t < 17 by omega) (by omega)) dJ9_addLast_23 (fun H1 locs1 hp1 z1 o1 hS => ?_)
  rw [nI_clamp (by omega)] at hp1
  have hpa := hpa.ne o1 hna.symm
  have hpr := hp1
  have ho := ho.trans (Off.put z1 o1 (Or.inr rfl))
  refine lv_aload_n (pc := 24) hx hb dJ9_addLast_24 rfl (lk hl rfl) ?_
  refine hw_get (pc := 25) hx hb hts in_J9 hown hK (hpa) rfl 1 (Nat.le_of_ble_eq_true rfl) (hts _ q328) (fun x h => h) rfl dJ9_addLast_25 ?_
  refine lv_aload_n (pc := 28) hx hb dJ9_addLast_28 rfl (lk hl rfl) ?_
  refine lv_aload_n (pc := 29) hx hb dJ9_addLast_29 rfl (lk hl rfl) ?_
  refine hw_get (pc := 30) hx hb hts in_J9 hown hK (hpa) rfl 2 (Nat.le_of_ble_eq_true rfl) (hts _ q329) (fun x h => h) rfl dJ9_addLast_30 ?_
  refine lv_aload_n (pc := 33) hx hb dJ9_addLast_33 rfl (lk hl rfl) ?_
  refine hw_olen (pc := 34) hx hb hK (hpr) dJ9_addLast_34 ?_
  refine hc_S (pc := 35) hx hb hml hown hts hK hS (j_dq_inc l Γ _ t (by omega)) (va_cwS 2 hts (lw_S q1709 q1119 q82 q1120) rfl rfl rfl (by decide +kernel) ⟨(Nat.le_of_ble_eq_true rfl), (Nat.le_of_ble_eq_true rfl)⟩) rfl hl.1 rfl (Nat.le_of_ble_eq_true rfl) dJ9_addLast_35 ⟨by first | exact Nat.le_of_ble_eq_true rfl | (dsimp only [rmd]; omega), by first | exact Nat.le_of_ble_eq_true rfl | (dsimp only [rmd]; omega)⟩ (fun v1 H1 locs1 hq1 hS => ?_)
  obtain ⟨rfl, rfl⟩ := hq1
  rw [show inc17 t = t + 1 by rw [inc17, if_pos (by omega)]]
  refine lv_dup_x1 (pc := 38) hx hb dJ9_addLast_38 rfl rfl ?_
  refine hw_put (pc := 39) hx hb hts in_J9 tyJ9_ok nmJ9 hown hK (hpa) (hg) hS rfl 2 (Nat.le_of_ble_eq_true rfl) (hts _ q329) (fun x h => h) rfl rfl (rfl) (rfl) (Nat.le_of_ble_eq_true rfl) dJ9_addLast_39 (fun Hp2 locsp2 hpp2 zp2 op2 hS => ?_)
  have hpa : pt Γ Hp2 a (ob 11 [.ref arr, .int (nI 0), .int (nI (t + 1))]) := hpp2
  have hpr := hpr.ne op2 (by first | assumption | omega | (intro hne; subst hne; simp_all))
  have ho := ho.trans (Off.put zp2 op2 (by first | rfl | (simp; done) | exact Or.inl rfl | exact Or.inr rfl | omega))
  refine hn_ne (tgt := 50) (pc := 42) hx hb dJ9_addLast_42 (by decide) (by omega) (by omega) (fun _ => ?_) (fun hn => absurd hn (by omega))
  exact hr_v (pc := 50) hQ hx hb hr hlocks hS (by first | exact Nat.le_of_ble_eq_true rfl | (dsimp only [rmd]; omega)) (by first | exact Nat.le_of_ble_eq_true rfl | (dsimp only [rmd]; omega)) (⟨rfl, hpa, hpr, ho⟩) dJ9_addLast_50
theorem j_dq_addFirst (l : Launch) (Γ : Cx) (H : Heap) (a arr h q : Nat) (f : Nat → Option Nat) (hpa : pt Γ H a (ob 11 [.ref arr, .int (nI h), .int (nI 0)])) (hpr : pt Γ H arr (oa Γ 17 f)) (hh : h < 17) (hd : dec17 h ≠ 0) (hg : Gz Γ a) (hgr : Gz Γ arr) (hv : Anyc Γ H q) (hna : arr ≠ a) (hqa : q ≠ a) : Mt l Γ yJ9_addFirst (ws_ yJ9_addFirst cJ9_addFirst 3 none) 2 0 0 [.ref a, .ref q] H (fun v H1 => v = none ∧ pt Γ H1 a (ob 11 [.ref arr, .int (nI (dec17 h)), .int (nI 0)]) ∧ pt Γ H1 arr (oa Γ 17 (va_up f (dec17 h) (some q))) ∧ Off (fun q => q = a ∨ q = arr) H H1) := by
  have hd17 : dec17 h < 17 := by unfold dec17; split <;> omega
  refine mt_of (by decide +kernel) (Nat.le_of_ble_eq_true rfl) ?_
  intro p e s m args below meth c ls Q hx hb hr hlocks hml hts hown hnm hK hS hl hQ
  have ho : Off (fun q => q = a ∨ q = arr) H H := Off.rf
  refine lv_aload_n (pc := 0) hx hb dJ9_addFirst_0 rfl (lk hl rfl) ?_
  refine lv_ifnonnull (tgt := 12) (pc := 1) hx hb dJ9_addFirst_1 (by decide) ?_
  refine lv_aload_n (pc := 12) hx hb dJ9_addFirst_12 rfl (lk hl rfl) ?_
  refine hw_get (pc := 13) hx hb hts in_J9 hown hK (hpa) rfl 0 (Nat.le_of_ble_eq_true rfl) (hts _ q325) (fun x h => h) rfl dJ9_addFirst_13 ?_
  refine lv_astore_n (pc := 16) hx hb dJ9_addFirst_16 rfl hl (Nat.le_of_ble_eq_true rfl) rfl (fun ls hl => ?_)
  refine lv_aload_n (pc := 17) hx hb dJ9_addFirst_17 rfl (lk hl rfl) ?_
  refine lv_aload_n (pc := 18) hx hb dJ9_addFirst_18 rfl (lk hl rfl) ?_
  refine lv_aload_n (pc := 19) hx hb dJ9_addFirst_19 rfl (lk hl rfl) ?_
  refine hw_get (pc := 20) hx hb hts in_J9 hown hK (hpa) rfl 1 (Nat.le_of_ble_eq_true rfl) (hts _ q328) (fun x h => h) rfl dJ9_addFirst_20 ?_
  refine lv_aload_n (pc := 23) hx hb dJ9_addFirst_23 rfl (lk hl rfl) ?_
  refine hw_olen (pc := 24) hx hb hK (hpr) dJ9_addFirst_24 ?_
  refine hc_S (pc := 25) hx hb hml hown hts hK hS (j_dq_dec l Γ _ h (by omega)) (va_cwS 2 hts (lw_S q1357 q1358 q82 q1359) rfl rfl rfl (by decide +kernel) ⟨(Nat.le_of_ble_eq_true rfl), (Nat.le_of_ble_eq_true rfl)⟩) rfl hl.1 rfl (Nat.le_of_ble_eq_true rfl) dJ9_addFirst_25 ⟨by first | exact Nat.le_of_ble_eq_true rfl | (dsimp only [rmd]; omega), by first | exact Nat.le_of_ble_eq_true rfl | (dsimp only [rmd]; omega)⟩ (fun v1 H1 locs1 hq1 hS => ?_)
  obtain ⟨rfl, rfl⟩ := hq1
  refine lv_dup_x1 (pc := 28) hx hb dJ9_addFirst_28 rfl rfl ?_
  refine hw_put (pc := 29) hx hb hts in_J9 tyJ9_ok nmJ9 hown hK (hpa) (hg) hS rfl 1 (Nat.le_of_ble_eq_true rfl) (hts _ q328) (fun x h => h) rfl rfl (rfl) (rfl) (Nat.le_of_ble_eq_true rfl) dJ9_addFirst_29 (fun Hp2 locsp2 hpp2 zp2 op2 hS => ?_)
  have hpa : pt Γ Hp2 a (ob 11 [.ref arr, .int (nI (dec17 h)), .int (nI 0)]) := hpp2
  have hpr := hpr.ne op2 (by first | assumption | omega | (intro hne; subst hne; simp_all))
  have ho := ho.trans (Off.put zp2 op2 (by first | rfl | (simp; done) | exact Or.inl rfl | exact Or.inr rfl | omega))
  have hv := hv.ne op2 hqa
  refine lv_aload_n (pc := 32) hx hb dJ9_addFirst_32 rfl (lk hl rfl) ?_
  refine hw_oast (pc := 33) hx hb hK (hpr) (hgr) hS (hK.anyc hv) (vp_in_nI hd17 (by omega)) dJ9_addFirst_33 (fun H1 locs1 hp1 z1 o1 hS => ?_)
  rw [nI_clamp (by omega)] at hp1
  have hpa := hpa.ne o1 hna.symm
  have hpr := hp1
  have ho := ho.trans (Off.put z1 o1 (Or.inr rfl))
  refine lv_aload_n (pc := 34) hx hb dJ9_addFirst_34 rfl (lk hl rfl) ?_
  refine hw_get (pc := 35) hx hb hts in_J9 hown hK (hpa) rfl 1 (Nat.le_of_ble_eq_true rfl) (hts _ q328) (fun x h => h) rfl dJ9_addFirst_35 ?_
  refine lv_aload_n (pc := 38) hx hb dJ9_addFirst_38 rfl (lk hl rfl) ?_
  refine hw_get (pc := 39) hx hb hts in_J9 hown hK (hpa) rfl 2 (Nat.le_of_ble_eq_true rfl) (hts _ q329) (fun x h => h) rfl dJ9_addFirst_39 ?_
  refine hn_ne (tgt := 50) (pc := 42) hx hb dJ9_addFirst_42 (by decide) (by omega) (by omega) (fun _ => ?_) (fun hn => absurd hn (by omega))
  exact hr_v (pc := 50) hQ hx hb hr hlocks hS (by first | exact Nat.le_of_ble_eq_true rfl | (dsimp only [rmd]; omega)) (by first | exact Nat.le_of_ble_eq_true rfl | (dsimp only [rmd]; omega)) (⟨rfl, hpa, hpr, ho⟩) dJ9_addFirst_50
theorem j_dq_cclear (l : Launch) (Γ : Cx) (H : Heap) (arr t : Nat) (f : Nat → Option Nat) (hpr : pt Γ H arr (oa Γ 17 f)) (ht : t < 17) (hgr : Gz Γ arr) (hf : ∀ k, t ≤ k → f k = none) : Mt l Γ yJ9_circularClear (ws_ yJ9_circularClear cJ9_circularClear 4 none) 1 0 0 [.ref arr, .int (nI 0), .int (nI t)] H (fun v H1 => v = none ∧ pt Γ H1 arr (oa Γ 17 (fun _ => none)) ∧ Off (fun q => q = arr) H H1) := by
  refine mt_of (by decide +kernel) (Nat.le_of_ble_eq_true rfl) ?_
  intro p e s m args below meth c ls Q hx hb hr hlocks hml hts hown hnm hK hS hl hQ
  have ho : Off (fun q => q = arr) H H := Off.rf
  refine lv_iload_n (pc := 0) hx hb dJ9_circularClear_0 rfl (lk hl rfl) ?_
  refine lv_iload_n (pc := 1) hx hb dJ9_circularClear_1 rfl (lk hl rfl) ?_
  refine hn_gt (tgt := 9) (pc := 2) hx hb dJ9_circularClear_2 (by decide) (by omega) (by omega) (fun hn => absurd hn (by omega)) (fun _ => ?_)
  refine lv_iload_n (pc := 5) hx hb dJ9_circularClear_5 rfl (lk hl rfl) ?_
  refine lv_goto (tgt := 11) (pc := 6) hx hb dJ9_circularClear_6 (by decide) ?_
  refine lv_istore_n (pc := 11) hx hb dJ9_circularClear_11 rfl hl (Nat.le_of_ble_eq_true rfl) rfl (fun ls hl => ?_)
  have L : ∀ (d i : Nat) (H' : Heap) (locs : List Loc) (ls : Array Slot), i + d = t → pt Γ H' arr (oa Γ 17 (fun k => if k < i then none else f k)) → Off (fun q => q = arr) H H' → va_S (Gz Γ) s.heap H' locs → lv_has ls 4 [(0, .ref arr), (1, .int (nI i)), (2, .int (nI t)), (3, .int (nI t))] → W p l e (rmd 1 0 0) s m args below meth c H' locs 0 0 Q (F0 m 12 ls []) := by
    intro d
    induction d with
    | zero =>
      intro i H' locs ls hi hpr ho hS hl
      refine lv_iload_n (pc := 12) hx hb dJ9_circularClear_12 rfl (lk hl rfl) ?_
      refine lv_iload_n (pc := 13) hx hb dJ9_circularClear_13 rfl (lk hl rfl) ?_
      refine hn_ge (tgt := 27) (pc := 14) hx hb dJ9_circularClear_14 (by decide) (by omega) (by omega) (fun _ => ?_) (fun hn => absurd hn (by omega))
      refine lv_iload_n (pc := 27) hx hb dJ9_circularClear_27 rfl (lk hl rfl) ?_
      refine lv_iload_n (pc := 28) hx hb dJ9_circularClear_28 rfl (lk hl rfl) ?_
      refine hn_ne (tgt := 35) (pc := 29) hx hb dJ9_circularClear_29 (by decide) (by omega) (by omega) (fun hn => absurd hn (by omega)) (fun _ => ?_)
      refine lv_goto (tgt := 42) (pc := 32) hx hb dJ9_circularClear_32 (by decide) ?_
      have e : (fun k => if k < i then none else f k) = (fun _ => none) := by
        funext k
        split
        · rfl
        · exact hf k (by omega)
      exact hr_v (pc := 42) hQ hx hb hr hlocks hS (by first | exact Nat.le_of_ble_eq_true rfl | (dsimp only [rmd]; omega)) (by first | exact Nat.le_of_ble_eq_true rfl | (dsimp only [rmd]; omega)) (⟨rfl, hpr.eq (congrArg (oa Γ 17) e), ho⟩) dJ9_circularClear_42
    | succ d ih =>
      intro i H' locs ls hi hpr ho hS hl
      refine lv_iload_n (pc := 12) hx hb dJ9_circularClear_12 rfl (lk hl rfl) ?_
      refine lv_iload_n (pc := 13) hx hb dJ9_circularClear_13 rfl (lk hl rfl) ?_
      refine hn_ge (tgt := 27) (pc := 14) hx hb dJ9_circularClear_14 (by decide) (by omega) (by omega) (fun hn => absurd hn (by omega)) (fun _ => ?_)
      refine lv_aload_n (pc := 17) hx hb dJ9_circularClear_17 rfl (lk hl rfl) ?_
      refine lv_iload_n (pc := 18) hx hb dJ9_circularClear_18 rfl (lk hl rfl) ?_
      refine lv_null (pc := 19) hx hb dJ9_circularClear_19 ?_
      refine hw_astN (t0 := 3) (pc := 20) hx hb hK (hpr) rfl (hgr) hS (vp_in_nI (show i < 17 by omega) (by omega)) dJ9_circularClear_20 (fun H1 locs1 hp1 z1 o1 hS => ?_)
      rw [nI_clamp (by omega)] at hp1
      refine hw_iinc (v := nI (i + 1)) (pc := 21) hx hb dJ9_circularClear_21 hl (lk hl rfl) (n_inc _ 1) (Nat.le_of_ble_eq_true rfl) (fun ls hl => ?_)
      refine lv_goto (tgt := 12) (pc := 24) hx hb dJ9_circularClear_24 (by decide) ?_
      have e : va_up (fun k => if k < i then none else f k) i none = (fun k => if k < i + 1 then none else f k) := by
        funext k
        unfold va_up
        by_cases h : k = i
        · rw [if_pos h, if_pos (by omega)]
        · rw [if_neg h]
          show (if k < i then none else f k) = _
          by_cases h2 : k < i
          · rw [if_pos h2, if_pos (by omega)]
          · rw [if_neg h2, if_neg (by omega)]
      exact ih (i + 1) H1 _ ls (by omega) (hp1.eq (congrArg (oa Γ 17) e)) (ho.trans (Off.put z1 o1 rfl)) hS (lv_c (lk hl rfl) (lv_c (lk hl rfl) (lv_c (lk hl rfl) (lv_c (lk hl rfl) (lv_0 hl)))))
  exact L t 0 _ _ ls (by omega) (hpr.eq (congrArg (oa Γ 17) (by funext k; simp))) ho hS (by repeat first | exact lv_0 hl | refine lv_c (lk hl rfl) ?_)
theorem j_dq_clear (l : Launch) (Γ : Cx) (H : Heap) (a arr t : Nat) (f : Nat → Option Nat) (hpa : pt Γ H a (ob 11 [.ref arr, .int (nI 0), .int (nI t)])) (hpr : pt Γ H arr (oa Γ 17 f)) (ht : t < 17) (hg : Gz Γ a) (hgr : Gz Γ arr) (hf : ∀ k, t ≤ k → f k = none) (hna : arr ≠ a) : Mt l Γ yJ9_clear (ws_ yJ9_clear cJ9_clear 1 none) 2 0 0 [.ref a] H (fun v H1 => v = none ∧ pt Γ H1 a (ob 11 [.ref arr, .int (nI 0), .int (nI 0)]) ∧ pt Γ H1 arr (oa Γ 17 (fun _ => none)) ∧ Off (fun q => q = a ∨ q = arr) H H1) := by
  refine mt_of (by decide +kernel) (Nat.le_of_ble_eq_true rfl) ?_
  intro p e s m args below meth c ls Q hx hb hr hlocks hml hts hown hnm hK hS hl hQ
  refine lv_aload_n (pc := 0) hx hb dJ9_clear_0 rfl (lk hl rfl) ?_
  refine hw_get (pc := 1) hx hb hts in_J9 hown hK (hpa) rfl 0 (Nat.le_of_ble_eq_true rfl) (hts _ q325) (fun x h => h) rfl dJ9_clear_1 ?_
  refine lv_aload_n (pc := 4) hx hb dJ9_clear_4 rfl (lk hl rfl) ?_
  refine hw_get (pc := 5) hx hb hts in_J9 hown hK (hpa) rfl 1 (Nat.le_of_ble_eq_true rfl) (hts _ q328) (fun x h => h) rfl dJ9_clear_5 ?_
  refine lv_aload_n (pc := 8) hx hb dJ9_clear_8 rfl (lk hl rfl) ?_
  refine hw_get (pc := 9) hx hb hts in_J9 hown hK (hpa) rfl 2 (Nat.le_of_ble_eq_true rfl) (hts _ q329) (fun x h => h) rfl dJ9_clear_9 ?_
  refine hc_S (pc := 12) hx hb hml hown hts hK hS (j_dq_cclear l Γ H arr t f hpr ht hgr hf) (va_cwS 3 hts (lw_S q384 q385 q82 q386) rfl rfl rfl (by decide +kernel) ⟨(Nat.le_of_ble_eq_true rfl), (Nat.le_of_ble_eq_true rfl)⟩) rfl hl.1 rfl (Nat.le_of_ble_eq_true rfl) dJ9_clear_12 ⟨by first | exact Nat.le_of_ble_eq_true rfl | (dsimp only [rmd]; omega), by first | exact Nat.le_of_ble_eq_true rfl | (dsimp only [rmd]; omega)⟩ (fun v9 H9 locs9 hq9 hS => ?_)
  obtain ⟨rfl, hpr, ho9⟩ := hq9
  have hpa := hpa.off ho9 hna.symm
  have ho := ho9.mono (T := fun q => q = a ∨ q = arr) (fun q _ e => Or.inr e)
  refine lv_aload_n (pc := 15) hx hb dJ9_clear_15 rfl (lk hl rfl) ?_
  refine lv_aload_n (pc := 16) hx hb dJ9_clear_16 rfl (lk hl rfl) ?_
  refine lv_iconst (v := nI 0) (pc := 17) hx hb dJ9_clear_17 (by decide) ?_
  refine lv_dup_x1 (pc := 18) hx hb dJ9_clear_18 rfl rfl ?_
  refine hw_put (pc := 19) hx hb hts in_J9 tyJ9_ok nmJ9 hown hK (hpa) (hg) hS rfl 2 (Nat.le_of_ble_eq_true rfl) (hts _ q329) (fun x h => h) rfl rfl (rfl) (rfl) (Nat.le_of_ble_eq_true rfl) dJ9_clear_19 (fun Hp1 locsp1 hpp1 zp1 op1 hS => ?_)
  have hpa : pt Γ Hp1 a (ob 11 [.ref arr, .int (nI 0), .int (nI 0)]) := hpp1
  have hpr := hpr.ne op1 (by first | assumption | omega | (intro hne; subst hne; simp_all))
  have ho := ho.trans (Off.put zp1 op1 (by first | rfl | (simp; done) | exact Or.inl rfl | exact Or.inr rfl | omega))
  refine hw_put (pc := 22) hx hb hts in_J9 tyJ9_ok nmJ9 hown hK (hpa) (hg) hS rfl 1 (Nat.le_of_ble_eq_true rfl) (hts _ q328) (fun x h => h) rfl rfl (rfl) (rfl) (Nat.le_of_ble_eq_true rfl) dJ9_clear_22 (fun Hp2 locsp2 hpp2 zp2 op2 hS => ?_)
  have hpa : pt Γ Hp2 a (ob 11 [.ref arr, .int (nI 0), .int (nI 0)]) := hpp2
  have hpr := hpr.ne op2 (by first | assumption | omega | (intro hne; subst hne; simp_all))
  have ho := ho.trans (Off.put zp2 op2 (by first | rfl | (simp; done) | exact Or.inl rfl | exact Or.inr rfl | omega))
  exact hr_v (pc := 25) hQ hx hb hr hlocks hS (by first | exact Nat.le_of_ble_eq_true rfl | (dsimp only [rmd]; omega)) (by first | exact Nat.le_of_ble_eq_true rfl | (dsimp only [rmd]; omega)) (⟨rfl, hpa, hpr, ho⟩) dJ9_clear_25
