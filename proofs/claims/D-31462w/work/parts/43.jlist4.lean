/-! ArrayList: clear, iterator; its iterator -/
set_option maxRecDepth 100000
set_option maxHeartbeats 4000000
theorem j_al_clear (l : Launch) (Γ : Cx) (H : Heap) (a arr n : Nat) (md : Nat) (f : Nat → Option Nat) (hpa : pt Γ H a (ob 8 [.int (nI md), .ref arr, .int (nI n)])) (hpr : pt Γ H arr (oa Γ 10 f)) (hg : Gz Γ a) (hgr : Gz Γ arr) (hn : n ≤ 10) (hf : ∀ k, n ≤ k → f k = none) (hna : arr ≠ a) : Mt l Γ yJ2_clear (ws_ yJ2_clear cJ2_clear 4 none) 1 0 0 [.ref a] H (fun v H1 => v = none ∧ pt Γ H1 a (ob 8 [.int (nI (md + 1)), .ref arr, .int (nI 0)]) ∧ pt Γ H1 arr (oa Γ 10 (fun _ => none)) ∧ Off (fun q => q = a ∨ q = arr) H H1) := by
  refine mt_of (by decide +kernel) (Nat.le_of_ble_eq_true rfl) ?_
  intro p e s m args below meth c ls Q hx hb hr hlocks hml hts hown hnm hK hS hl hQ
  have ho : Off (fun q => q = a ∨ q = arr) H H := Off.rf
  refine lv_aload_n (pc := 0) hx hb dJ2_clear_0 rfl (lk hl rfl) ?_
  refine lv_dup (pc := 1) hx hb dJ2_clear_1 rfl ?_
  refine hw_get (pc := 2) hx hb hts in_J2 hown hK (hpa) rfl 0 (Nat.le_of_ble_eq_true rfl) (hts _ q156) (u_same (hts _ q153)) rfl dJ2_clear_2 ?_
  refine lv_iconst (v := nI 1) (pc := 5) hx hb dJ2_clear_5 (by decide) ?_
  refine lv_iadd (pc := 6) hx hb dJ2_clear_6 ?_
  refine hw_top (congrArg Value.int (show _ = nI (md + 1) from nI_add _ _)) ?_
  refine hw_put (pc := 7) hx hb hts in_J2 tyJ2_ok nmJ2 hown hK (hpa) (hg) hS rfl 0 (Nat.le_of_ble_eq_true rfl) (hts _ q156) (u_same (hts _ q153)) rfl rfl (rfl) (rfl) (Nat.le_of_ble_eq_true rfl) dJ2_clear_7 (fun Hp1 locsp1 hpp1 zp1 op1 hS => ?_)
  have hpa : pt Γ Hp1 a (ob 8 [.int (nI (md + 1)), .ref arr, .int (nI n)]) := hpp1
  have hpr := hpr.ne op1 (by first | assumption | omega | (intro hne; subst hne; simp_all))
  have ho := ho.trans (Off.put zp1 op1 (by first | rfl | (simp; done) | exact Or.inl rfl | exact Or.inr rfl | omega))
  refine lv_aload_n (pc := 10) hx hb dJ2_clear_10 rfl (lk hl rfl) ?_
  refine hw_get (pc := 11) hx hb hts in_J2 hown hK (hpa) rfl 1 (Nat.le_of_ble_eq_true rfl) (hts _ q145) (fun x h => h) rfl dJ2_clear_11 ?_
  refine lv_astore_n (pc := 14) hx hb dJ2_clear_14 rfl hl (Nat.le_of_ble_eq_true rfl) rfl (fun ls hl => ?_)
  refine lv_aload_n (pc := 15) hx hb dJ2_clear_15 rfl (lk hl rfl) ?_
  refine hw_get (pc := 16) hx hb hts in_J2 hown hK (hpa) rfl 2 (Nat.le_of_ble_eq_true rfl) (hts _ q148) (fun x h => h) rfl dJ2_clear_16 ?_
  refine lv_istore_n (pc := 19) hx hb dJ2_clear_19 rfl hl (Nat.le_of_ble_eq_true rfl) rfl (fun ls hl => ?_)
  refine lv_aload_n (pc := 20) hx hb dJ2_clear_20 rfl (lk hl rfl) ?_
  refine lv_iconst (v := nI 0) (pc := 21) hx hb dJ2_clear_21 (by decide) ?_
  refine lv_dup_x1 (pc := 22) hx hb dJ2_clear_22 rfl rfl ?_
  refine hw_put (pc := 23) hx hb hts in_J2 tyJ2_ok nmJ2 hown hK (hpa) (hg) hS rfl 2 (Nat.le_of_ble_eq_true rfl) (hts _ q148) (fun x h => h) rfl rfl (rfl) (rfl) (Nat.le_of_ble_eq_true rfl) dJ2_clear_23 (fun Hp2 locsp2 hpp2 zp2 op2 hS => ?_)
  have hpa : pt Γ Hp2 a (ob 8 [.int (nI (md + 1)), .ref arr, .int (nI 0)]) := hpp2
  have hpr := hpr.ne op2 (by first | assumption | omega | (intro hne; subst hne; simp_all))
  have ho := ho.trans (Off.put zp2 op2 (by first | rfl | (simp; done) | exact Or.inl rfl | exact Or.inr rfl | omega))
  refine lv_istore_n (pc := 26) hx hb dJ2_clear_26 rfl hl (Nat.le_of_ble_eq_true rfl) rfl (fun ls hl => ?_)
  have L : ∀ (d i : Nat) (H' : Heap) (locs : List Loc) (ls : Array Slot), i + d = n → pt Γ H' a (ob 8 [.int (nI (md + 1)), .ref arr, .int (nI 0)]) → pt Γ H' arr (oa Γ 10 (fun k => if k < i then none else f k)) → Off (fun q => q = a ∨ q = arr) H H' → va_S (Gz Γ) s.heap H' locs → lv_has ls 4 [(0, .ref a), (1, .ref arr), (2, .int (nI n)), (3, .int (nI i))] → W p l e (rmd 1 0 0) s m args below meth c H' locs 0 0 Q (F0 m 27 ls []) := by
    intro d
    induction d with
    | zero =>
      intro i H' locs ls hi hpa hpr ho hS hl
      refine lv_iload_n (pc := 27) hx hb dJ2_clear_27 rfl (lk hl rfl) ?_
      refine lv_iload_n (pc := 28) hx hb dJ2_clear_28 rfl (lk hl rfl) ?_
      refine hn_ge (tgt := 42) (pc := 29) hx hb dJ2_clear_29 (by decide) (by omega) (by omega) (fun _ => ?_) (fun hn => absurd hn (by omega))
      have e : (fun k => if k < i then none else f k) = (fun _ => none) := by
        funext k
        split
        · rfl
        · exact hf k (by omega)
      exact hr_v (pc := 42) hQ hx hb hr hlocks hS (by first | exact Nat.le_of_ble_eq_true rfl | (dsimp only [rmd]; omega)) (by first | exact Nat.le_of_ble_eq_true rfl | (dsimp only [rmd]; omega)) (⟨rfl, hpa, hpr.eq (congrArg (oa Γ 10) e), ho⟩) dJ2_clear_42
    | succ d ih =>
      intro i H' locs ls hi hpa hpr ho hS hl
      refine lv_iload_n (pc := 27) hx hb dJ2_clear_27 rfl (lk hl rfl) ?_
      refine lv_iload_n (pc := 28) hx hb dJ2_clear_28 rfl (lk hl rfl) ?_
      refine hn_ge (tgt := 42) (pc := 29) hx hb dJ2_clear_29 (by decide) (by omega) (by omega) (fun hn => absurd hn (by omega)) (fun _ => ?_)
      refine lv_aload_n (pc := 32) hx hb dJ2_clear_32 rfl (lk hl rfl) ?_
      refine lv_iload_n (pc := 33) hx hb dJ2_clear_33 rfl (lk hl rfl) ?_
      refine lv_null (pc := 34) hx hb dJ2_clear_34 ?_
      refine hw_astN (t0 := 3) (pc := 35) hx hb hK (hpr) rfl (hgr) hS (vp_in_nI (show i < 10 by omega) (by omega)) dJ2_clear_35 (fun H1 locs1 hp1 z1 o1 hS => ?_)
      rw [nI_clamp (by omega)] at hp1
      refine hw_iinc (v := nI (i + 1)) (pc := 36) hx hb dJ2_clear_36 hl (lk hl rfl) (n_inc _ 1) (Nat.le_of_ble_eq_true rfl) (fun ls hl => ?_)
      refine lv_goto (tgt := 27) (pc := 39) hx hb dJ2_clear_39 (by decide) ?_
      have e : va_up (fun k => if k < i then none else f k) i none = (fun k => if k < i + 1 then none else f k) := by
        funext k
        unfold va_up
        by_cases h : k = i
        · rw [if_pos h, if_pos (by omega)]
        · rw [if_neg h]
          show (if k < i then none else f k) = _
          by_cases h2 : k < i
          · rw [if_pos h2, if_pos (by omega)]
          · rw [if_neg h2, if_neg (by omega)]
      exact ih (i + 1) H1 _ ls (by omega) (hpa.ne o1 hna.symm) (hp1.eq (congrArg (oa Γ 10) e)) (ho.trans (Off.put z1 o1 (Or.inr rfl))) hS (lv_c (lk hl rfl) (lv_c (lk hl rfl) (lv_c (lk hl rfl) (lv_c (lk hl rfl) (lv_0 hl)))))
  exact L n 0 _ _ ls (by omega) hpa (hpr.eq (congrArg (oa Γ 10) (by funext k; simp))) ho hS (by repeat first | exact lv_0 hl | refine lv_c (lk hl rfl) ?_)
theorem j_ai_init (l : Launch) (Γ : Cx) (H : Heap) (ρ a : Nat) (md v w : Value) (hpi : pt Γ H ρ (ob 14 [.int (nI 0), .int (nI 0), .int (nI 0), .null])) (hpa : pt Γ H a (ob 8 [md, v, w])) (hmd : ∃ x, md = .int x) (hg : Gz Γ ρ) (hne : a ≠ ρ) : Mt l Γ yJ25_init (ws_ yJ25_init cJ25_init 2 none) 1 0 0 [.ref ρ, .ref a] H (fun v H1 => v = none ∧ pt Γ H1 ρ (ob 14 [.int (nI 0), .int (nI 0 - 1), md, .ref a]) ∧ Off (fun q => q = ρ) H H1) := by
  obtain ⟨md, rfl⟩ := hmd
  refine mt_of (by decide +kernel) (Nat.le_of_ble_eq_true rfl) ?_
  intro p e s m args below meth c ls Q hx hb hr hlocks hml hts hown hnm hK hS hl hQ
  have ho : Off (fun q => q = ρ) H H := Off.rf
  refine lv_aload_n (pc := 0) hx hb dJ25_init_0 rfl (lk hl rfl) ?_
  refine lv_aload_n (pc := 1) hx hb dJ25_init_1 rfl (lk hl rfl) ?_
  refine hw_putF (pc := 2) hx hb hts in_J25 tyJ25_ok nmJ25 hown hK (hpi) (hg) hS rfl 3 (Nat.le_of_ble_eq_true rfl) (hts _ q801) (fun x h => h) rfl hnm rfl rfl (rfl) (rfl) (Nat.le_of_ble_eq_true rfl) dJ25_init_2 (fun Hp1 locsp1 hpp1 zp1 op1 hS => ?_)
  have hpi : pt Γ Hp1 ρ (ob 14 [.int (nI 0), .int (nI 0), .int (nI 0), .ref a]) := hpp1
  have hpa := hpa.ne op1 (by first | assumption | omega | (intro hne; subst hne; simp_all))
  have ho := ho.trans (Off.put zp1 op1 (by first | rfl | (simp; done) | exact Or.inl rfl | exact Or.inr rfl | omega))
  refine lv_aload_n (pc := 5) hx hb dJ25_init_5 rfl (lk hl rfl) ?_
  refine W.objInit hx hb hown (hts _ q795) (hts _ q127) (hts _ q128) rfl (by rw [hml]; exact hl.1) rfl dJ25_init_6 (Nat.le_of_ble_eq_true rfl) (Nat.le_of_ble_eq_true rfl) ?_
  refine W.eq (g2 := F0 m 9 ls _) rfl ?_
  refine lv_aload_n (pc := 9) hx hb dJ25_init_9 rfl (lk hl rfl) ?_
  refine lv_iconst (v := nI 0 - 1) (pc := 10) hx hb dJ25_init_10 (by decide) ?_
  refine hw_put (pc := 11) hx hb hts in_J25 tyJ25_ok nmJ25 hown hK (hpi) (hg) hS rfl 1 (Nat.le_of_ble_eq_true rfl) (hts _ q799) (fun x h => h) rfl rfl (rfl) (rfl) (Nat.le_of_ble_eq_true rfl) dJ25_init_11 (fun Hp2 locsp2 hpp2 zp2 op2 hS => ?_)
  have hpi : pt Γ Hp2 ρ (ob 14 [.int (nI 0), .int (nI 0 - 1), .int (nI 0), .ref a]) := hpp2
  have hpa := hpa.ne op2 (by first | assumption | omega | (intro hne; subst hne; simp_all))
  have ho := ho.trans (Off.put zp2 op2 (by first | rfl | (simp; done) | exact Or.inl rfl | exact Or.inr rfl | omega))
  refine lv_aload_n (pc := 14) hx hb dJ25_init_14 rfl (lk hl rfl) ?_
  refine lv_aload_n (pc := 15) hx hb dJ25_init_15 rfl (lk hl rfl) ?_
  refine hw_get (pc := 16) hx hb hts in_J25 hown hK (hpi) rfl 3 (Nat.le_of_ble_eq_true rfl) (hts _ q801) (fun x h => h) rfl dJ25_init_16 ?_
  refine hw_get (pc := 19) hx hb hts in_J2 hown hK (hpa) rfl 0 (Nat.le_of_ble_eq_true rfl) (hts _ q152) (u_same (hts _ q153)) rfl dJ25_init_19 ?_
  refine hw_put (pc := 22) hx hb hts in_J25 tyJ25_ok nmJ25 hown hK (hpi) (hg) hS rfl 2 (Nat.le_of_ble_eq_true rfl) (hts _ q800) (fun x h => h) rfl rfl (rfl) (rfl) (Nat.le_of_ble_eq_true rfl) dJ25_init_22 (fun Hp3 locsp3 hpp3 zp3 op3 hS => ?_)
  have hpi : pt Γ Hp3 ρ (ob 14 [.int (nI 0), .int (nI 0 - 1), .int md, .ref a]) := hpp3
  have hpa := hpa.ne op3 (by first | assumption | omega | (intro hne; subst hne; simp_all))
  have ho := ho.trans (Off.put zp3 op3 (by first | rfl | (simp; done) | exact Or.inl rfl | exact Or.inr rfl | omega))
  exact hr_v (pc := 25) hQ hx hb hr hlocks hS (by first | exact Nat.le_of_ble_eq_true rfl | (dsimp only [rmd]; omega)) (by first | exact Nat.le_of_ble_eq_true rfl | (dsimp only [rmd]; omega)) (⟨rfl, hpi, ho⟩) dJ25_init_25
theorem j_al_iterator (l : Launch) (Γ : Cx) (H : Heap) (a : Nat) (md : Int32) (v w : Value) (hpa : pt Γ H a (ob 8 [.int md, v, w])) : Mt l Γ yJ2_iterator (ws_ yJ2_iterator cJ2_iterator 1 (some (.object "java/util/Iterator"))) 2 1 4 [.ref a] H (fun v H1 => v = some (.ref H.size) ∧ pt Γ H1 H.size (ob 14 [.int (nI 0), .int (nI 0 - 1), .int md, .ref a]) ∧ Gz Γ H.size ∧ Grow H H1) := by
  refine mt_of (by decide +kernel) (Nat.le_of_ble_eq_true rfl) ?_
  intro p e s m args below meth c ls Q hx hb hr hlocks hml hts hown hnm hK hS hl hQ
  have hla := hpa.lt
  refine hw_new (ci := 14) (pc := 0) hx hb hts in_J25 tyJ25_ok hown (hts _ q790) (hts _ q791) (hts _ q100) hK hS rfl rfl (by first | exact Nat.le_of_ble_eq_true rfl | (dsimp only [rmd]; omega)) (by first | exact Nat.le_of_ble_eq_true rfl | (dsimp only [rmd]; omega)) dJ2_iterator_0 (fun qn Hn eqn hpn hgn zn on hS => ?_)
  have hpa := hpa.old on
  have : a < Hn.size := hpa.lt
  have hpn : pt Γ Hn qn (ob 14 [.int (nI 0), .int (nI 0), .int (nI 0), .null]) := hpn
  refine lv_dup (pc := 3) hx hb dJ2_iterator_3 rfl ?_
  refine lv_aload_n (pc := 4) hx hb dJ2_iterator_4 rfl (lk hl rfl) ?_
  refine hc_I (pc := 5) hx hb hml hown hts hK hS (j_ai_init l Γ Hn qn a _ v w hpn hpa ⟨md, rfl⟩ hgn (by omega)) (cwI 1 hts (lw_meth q794) rfl rfl rfl (hts _ q100) (hts _ q792) (hts _ q793) rfl (by decide +kernel) ⟨(Nat.le_of_ble_eq_true rfl), (Nat.le_of_ble_eq_true rfl)⟩) rfl hl.1 rfl (Nat.le_of_ble_eq_true rfl) dJ2_iterator_5 ⟨by first | exact Nat.le_of_ble_eq_true rfl | (dsimp only [rmd]; omega), by first | exact Nat.le_of_ble_eq_true rfl | (dsimp only [rmd]; omega)⟩ (fun v9 H9 locs9 hq9 hS => ?_)
  obtain ⟨rfl, h1, h2⟩ := hq9
  subst eqn
  have hgr : Grow H H9 := ⟨by have := h2.1; omega, fun q hq _ => (h2.2 q (by omega) (fun e => by omega)).trans (on q hq)⟩
  exact hr_a (pc := 8) hQ hx hb hr (Or.inl ⟨_, rfl⟩) (Or.inr ⟨_, rfl⟩) hlocks hS (by first | exact Nat.le_of_ble_eq_true rfl | (dsimp only [rmd]; omega)) (by first | exact Nat.le_of_ble_eq_true rfl | (dsimp only [rmd]; omega)) (⟨rfl, h1, hgn, hgr⟩) dJ2_iterator_8
theorem j_ai_hasNext (l : Launch) (Γ : Cx) (H : Heap) (ρ a i n : Nat) (lr md md2 v : Value) (hpi : pt Γ H ρ (ob 14 [.int (nI i), lr, md, .ref a])) (hpa : pt Γ H a (ob 8 [md2, v, .int (nI n)])) (hi : i ≤ n) (hn : n < 2 ^ 31) : Mt l Γ yJ25_hasNext (ws_ yJ25_hasNext cJ25_hasNext 1 (some .boolean)) 1 0 0 [.ref ρ] H (Rd (b01 (decide (i < n))) H) := by
  refine mt_of (by decide +kernel) (Nat.le_of_ble_eq_true rfl) ?_
  intro p e s m args below meth c ls Q hx hb hr hlocks hml hts hown hnm hK hS hl hQ
  refine lv_aload_n (pc := 0) hx hb dJ25_hasNext_0 rfl (lk hl rfl) ?_
  refine hw_get (pc := 1) hx hb hts in_J25 hown hK (hpi) rfl 0 (Nat.le_of_ble_eq_true rfl) (hts _ q798) (fun x h => h) rfl dJ25_hasNext_1 ?_
  refine lv_aload_n (pc := 4) hx hb dJ25_hasNext_4 rfl (lk hl rfl) ?_
  refine hw_get (pc := 5) hx hb hts in_J25 hown hK (hpi) rfl 3 (Nat.le_of_ble_eq_true rfl) (hts _ q801) (fun x h => h) rfl dJ25_hasNext_5 ?_
  refine hw_getN (pc := 8) hx hb hts in_J2 hown hK (hpa) rfl 2 (Nat.le_of_ble_eq_true rfl) q147 (fun x h => h) rfl dJ25_hasNext_8 ?_
  refine hn_eq (tgt := 18) (pc := 11) hx hb dJ25_hasNext_11 (by decide) (by omega) (by omega) (fun h => ?_) (fun h => ?_)
  · refine lv_iconst (v := nI 0) (pc := 18) hx hb dJ25_hasNext_18 (by decide) ?_
    exact hr_z (pc := 19) hQ hx hb hr hlocks hS (by first | exact Nat.le_of_ble_eq_true rfl | (dsimp only [rmd]; omega)) (by first | exact Nat.le_of_ble_eq_true rfl | (dsimp only [rmd]; omega)) (rfl) (⟨by rw [decide_eq_false (by omega)]; rfl, rfl⟩) dJ25_hasNext_19
  · skip
    refine lv_iconst (v := nI 1) (pc := 14) hx hb dJ25_hasNext_14 (by decide) ?_
    refine lv_goto (tgt := 19) (pc := 15) hx hb dJ25_hasNext_15 (by decide) ?_
    exact hr_z (pc := 19) hQ hx hb hr hlocks hS (by first | exact Nat.le_of_ble_eq_true rfl | (dsimp only [rmd]; omega)) (by first | exact Nat.le_of_ble_eq_true rfl | (dsimp only [rmd]; omega)) (rfl) (⟨by rw [decide_eq_true (by omega)]; rfl, rfl⟩) dJ25_hasNext_19
theorem j_ai_check (l : Launch) (Γ : Cx) (H : Heap) (ρ a : Nat) (i lr v w : Value) (md : Int32) (hpi : pt Γ H ρ (ob 14 [i, lr, .int md, .ref a])) (hpa : pt Γ H a (ob 8 [.int md, v, w])) : Mt l Γ yJ25_checkForComodification (ws_ yJ25_checkForComodification cJ25_checkForComodification 1 none) 1 0 0 [.ref ρ] H (Rn H) := by
  refine mt_of (by decide +kernel) (Nat.le_of_ble_eq_true rfl) ?_
  intro p e s m args below meth c ls Q hx hb hr hlocks hml hts hown hnm hK hS hl hQ
  refine lv_aload_n (pc := 0) hx hb dJ25_checkForComodification_0 rfl (lk hl rfl) ?_
  refine hw_get (pc := 1) hx hb hts in_J25 hown hK (hpi) rfl 3 (Nat.le_of_ble_eq_true rfl) (hts _ q801) (fun x h => h) rfl dJ25_checkForComodification_1 ?_
  refine hw_get (pc := 4) hx hb hts in_J2 hown hK (hpa) rfl 0 (Nat.le_of_ble_eq_true rfl) (hts _ q152) (u_same (hts _ q153)) rfl dJ25_checkForComodification_4 ?_
  refine lv_aload_n (pc := 7) hx hb dJ25_checkForComodification_7 rfl (lk hl rfl) ?_
  refine hw_get (pc := 8) hx hb hts in_J25 hown hK (hpi) rfl 2 (Nat.le_of_ble_eq_true rfl) (hts _ q800) (fun x h => h) rfl dJ25_checkForComodification_8 ?_
  refine lv_icmp_eq (tgt := 22) (pc := 11) hx hb dJ25_checkForComodification_11 (by decide) (fun _ => ?_) (fun hn => absurd hn (fun z => z rfl))
  exact hr_v (pc := 22) hQ hx hb hr hlocks hS (by first | exact Nat.le_of_ble_eq_true rfl | (dsimp only [rmd]; omega)) (by first | exact Nat.le_of_ble_eq_true rfl | (dsimp only [rmd]; omega)) (⟨rfl, rfl⟩) dJ25_checkForComodification_22
theorem j_ai_next (l : Launch) (Γ : Cx) (H : Heap) (ρ a arr i n q : Nat) (lr : Value) (md : Int32) (f : Nat → Option Nat) (hpi : pt Γ H ρ (ob 14 [.int (nI i), lr, .int md, .ref a])) (hpa : pt Γ H a (ob 8 [.int md, .ref arr, .int (nI n)])) (hpr : pt Γ H arr (oa Γ 10 f)) (hi : i < n) (hn : n ≤ 10) (hf : f i = some q) (hg : Gz Γ ρ) (hn1 : a ≠ ρ) (hn2 : arr ≠ ρ) : Mt l Γ yJ25_next (ws_ yJ25_next cJ25_next 3 (some (.object "java/lang/Object"))) 2 0 0 [.ref ρ] H (fun v H1 => v = some (.ref q) ∧ pt Γ H1 ρ (ob 14 [.int (nI (i + 1)), .int (nI i), .int md, .ref a]) ∧ Off (fun q => q = ρ) H H1) := by
  refine mt_of (by decide +kernel) (Nat.le_of_ble_eq_true rfl) ?_
  intro p e s m args below meth c ls Q hx hb hr hlocks hml hts hown hnm hK hS hl hQ
  have ho : Off (fun q => q = ρ) H H := Off.rf
  refine lv_aload_n (pc := 0) hx hb dJ25_next_0 rfl (lk hl rfl) ?_
  refine hc_V (pc := 1) hx hb hml hown hts hK hS (j_ai_check l Γ _ ρ a _ _ _ _ md hpi hpa) (cwV 0 hts (lw_V q1126 q1127 q1128 q100 q1131) rfl rfl rfl (by decide +kernel) ⟨(Nat.le_of_ble_eq_true rfl), (Nat.le_of_ble_eq_true rfl)⟩) (hK.recv hpi rfl) rfl hl.1 rfl (Nat.le_of_ble_eq_true rfl) dJ25_next_1 ⟨by first | exact Nat.le_of_ble_eq_true rfl | (dsimp only [rmd]; omega), by first | exact Nat.le_of_ble_eq_true rfl | (dsimp only [rmd]; omega)⟩ (fun v9 H9 locs9 hq9 hS => ?_)
  obtain ⟨rfl, rfl⟩ := hq9
  refine lv_aload_n (pc := 4) hx hb dJ25_next_4 rfl (lk hl rfl) ?_
  refine hw_get (pc := 5) hx hb hts in_J25 hown hK (hpi) rfl 0 (Nat.le_of_ble_eq_true rfl) (hts _ q798) (fun x h => h) rfl dJ25_next_5 ?_
  refine lv_istore_n (pc := 8) hx hb dJ25_next_8 rfl hl (Nat.le_of_ble_eq_true rfl) rfl (fun ls hl => ?_)
  refine lv_iload_n (pc := 9) hx hb dJ25_next_9 rfl (lk hl rfl) ?_
  refine lv_aload_n (pc := 10) hx hb dJ25_next_10 rfl (lk hl rfl) ?_
  refine hw_get (pc := 11) hx hb hts in_J25 hown hK (hpi) rfl 3 (Nat.le_of_ble_eq_true rfl) (hts _ q801) (fun x h => h) rfl dJ25_next_11 ?_
  refine hw_getN (pc := 14) hx hb hts in_J2 hown hK (hpa) rfl 2 (Nat.le_of_ble_eq_true rfl) q147 (fun x h => h) rfl dJ25_next_14 ?_
  refine hn_lt (tgt := 28) (pc := 17) hx hb dJ25_next_17 (by decide) (by omega) (by omega) (fun _ => ?_) (fun hn => absurd hn (by omega))
  refine lv_aload_n (pc := 28) hx hb dJ25_next_28 rfl (lk hl rfl) ?_
  refine hw_get (pc := 29) hx hb hts in_J25 hown hK (hpi) rfl 3 (Nat.le_of_ble_eq_true rfl) (hts _ q801) (fun x h => h) rfl dJ25_next_29 ?_
  refine hw_get (pc := 32) hx hb hts in_J2 hown hK (hpa) rfl 1 (Nat.le_of_ble_eq_true rfl) (hts _ q146) (fun x h => h) rfl dJ25_next_32 ?_
  refine lv_astore_n (pc := 35) hx hb dJ25_next_35 rfl hl (Nat.le_of_ble_eq_true rfl) rfl (fun ls hl => ?_)
  refine lv_iload_n (pc := 36) hx hb dJ25_next_36 rfl (lk hl rfl) ?_
  refine lv_aload_n (pc := 37) hx hb dJ25_next_37 rfl (lk hl rfl) ?_
  refine hw_olen (pc := 38) hx hb hK (hpr) dJ25_next_38 ?_
  refine hn_lt (tgt := 50) (pc := 39) hx hb dJ25_next_39 (by decide) (by omega) (by omega) (fun _ => ?_) (fun hn => absurd hn (by omega))
  refine lv_aload_n (pc := 50) hx hb dJ25_next_50 rfl (lk hl rfl) ?_
  refine lv_iload_n (pc := 51) hx hb dJ25_next_51 rfl (lk hl rfl) ?_
  refine lv_iconst (v := nI 1) (pc := 52) hx hb dJ25_next_52 (by decide) ?_
  refine lv_iadd (pc := 53) hx hb dJ25_next_53 ?_
  refine hw_top (congrArg Value.int (show _ = nI (i + 1) from nI_add _ _)) ?_
  refine hw_put (pc := 54) hx hb hts in_J25 tyJ25_ok nmJ25 hown hK (hpi) (hg) hS rfl 0 (Nat.le_of_ble_eq_true rfl) (hts _ q798) (fun x h => h) rfl rfl (rfl) (rfl) (Nat.le_of_ble_eq_true rfl) dJ25_next_54 (fun Hp1 locsp1 hpp1 zp1 op1 hS => ?_)
  have hpi : pt Γ Hp1 ρ (ob 14 [.int (nI (i + 1)), lr, .int md, .ref a]) := hpp1
  have hpa := hpa.ne op1 (by first | assumption | omega | (intro hne; subst hne; simp_all))
  have hpr := hpr.ne op1 (by first | assumption | omega | (intro hne; subst hne; simp_all))
  have ho := ho.trans (Off.put zp1 op1 (by first | rfl | (simp; done) | exact Or.inl rfl | exact Or.inr rfl | omega))
  refine lv_aload_n (pc := 57) hx hb dJ25_next_57 rfl (lk hl rfl) ?_
  refine lv_aload_n (pc := 58) hx hb dJ25_next_58 rfl (lk hl rfl) ?_
  refine lv_iload_n (pc := 59) hx hb dJ25_next_59 rfl (lk hl rfl) ?_
  refine lv_dup_x1 (pc := 60) hx hb dJ25_next_60 rfl rfl ?_
  refine hw_put (pc := 61) hx hb hts in_J25 tyJ25_ok nmJ25 hown hK (hpi) (hg) hS rfl 1 (Nat.le_of_ble_eq_true rfl) (hts _ q799) (fun x h => h) rfl rfl (rfl) (rfl) (Nat.le_of_ble_eq_true rfl) dJ25_next_61 (fun Hp2 locsp2 hpp2 zp2 op2 hS => ?_)
  have hpi : pt Γ Hp2 ρ (ob 14 [.int (nI (i + 1)), .int (nI i), .int md, .ref a]) := hpp2
  have hpa := hpa.ne op2 (by first | assumption | omega | (intro hne; subst hne; simp_all))
  have hpr := hpr.ne op2 (by first | assumption | omega | (intro hne; subst hne; simp_all))
  have ho := ho.trans (Off.put zp2 op2 (by first | rfl | (simp; done) | exact Or.inl rfl | exact Or.inr rfl | omega))
  refine hw_oald (pc := 64) hx hb hK hpr (vp_in_nI (show i < 10 from by omega) (by omega)) dJ25_next_64 ?_
  refine hw_top (va_rf_some (i := i) (by omega) (hf)) ?_
  exact hr_a (pc := 65) hQ hx hb hr (Or.inl ⟨_, rfl⟩) (Or.inr ⟨_, rfl⟩) hlocks hS (by first | exact Nat.le_of_ble_eq_true rfl | (dsimp only [rmd]; omega)) (by first | exact Nat.le_of_ble_eq_true rfl | (dsimp only [rmd]; omega)) (⟨rfl, hpi, ho⟩) dJ25_next_65
