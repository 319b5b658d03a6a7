/-! java.util.LinkedList: what is read of it -/
set_option maxRecDepth 100000
set_option maxHeartbeats 4000000
def lnx (ν : Nat → Nat) (n k : Nat) : Value := if k < n then .ref (ν k) else .null
def lpv (ν : Nat → Nat) (k : Nat) : Value := if k = 0 then .null else .ref (ν (k - 1))
theorem lnx_t {ν : Nat → Nat} {n k : Nat} (h : k < n) : lnx ν n k = .ref (ν k) := if_pos h
theorem lnx_f {ν : Nat → Nat} {n k : Nat} (h : n ≤ k) : lnx ν n k = .null := if_neg (by omega)
theorem lpv_0 {ν : Nat → Nat} : lpv ν 0 = .null := rfl
theorem lpv_s {ν : Nat → Nat} {k : Nat} (h : 0 < k) : lpv ν k = .ref (ν (k - 1)) := if_neg (by omega)
def LL (Γ : Cx) (H : Heap) (a n : Nat) (ν it : Nat → Nat) (md : Nat) : Prop := pt Γ H a (ob 10 [.int (nI md), .int (nI n), lnx ν n 0, lpv ν n]) ∧ ∀ k, k < n → pt Γ H (ν k) (ob 9 [.ref (it k), lnx ν n (k + 1), lpv ν k])
theorem LL.off {Γ : Cx} {H H1 : Heap} {S : Nat → Prop} {a n : Nat} {ν it : Nat → Nat} {md : Nat} (h : LL Γ H a n ν it md) (o : Off S H H1) (ha : ¬ S a) (hn : ∀ k, k < n → ¬ S (ν k)) : LL Γ H1 a n ν it md :=
  ⟨h.1.off o ha, fun k hk => (h.2 k hk).off o (hn k hk)⟩
theorem j_ll_size (l : Launch) (Γ : Cx) (H : Heap) (a n : Nat) (md u v : Value) (hpa : pt Γ H a (ob 10 [md, .int (nI n), u, v])) : Mt l Γ yJ8_size (ws_ yJ8_size cJ8_size 1 (some .int)) 1 0 0 [.ref a] H (Rd (nI n) H) := by
  refine mt_of (by decide +kernel) (Nat.le_of_ble_eq_true rfl) ?_
  intro p e s m args below meth c ls Q hx hb hr hlocks hml hts hown hnm hK hS hl hQ
  refine lv_aload_n (pc := 0) hx hb dJ8_size_0 rfl (lk hl rfl) ?_
  refine hw_get (pc := 1) hx hb hts in_J8 hown hK (hpa) rfl 1 (Nat.le_of_ble_eq_true rfl) (hts _ q306) (fun x h => h) rfl dJ8_size_1 ?_
  exact hr_i (pc := 4) hQ hx hb hr hlocks hS (by first | exact Nat.le_of_ble_eq_true rfl | (dsimp only [rmd]; omega)) (by first | exact Nat.le_of_ble_eq_true rfl | (dsimp only [rmd]; omega)) (⟨rfl, rfl⟩) dJ8_size_4
theorem j_ll_isEl (l : Launch) (Γ : Cx) (H : Heap) (a n k : Nat) (md u v : Value) (hpa : pt Γ H a (ob 10 [md, .int (nI n), u, v])) (hk : k < n) (hn : n < 2 ^ 31) : Mt l Γ yJ8_isElementIndex (ws_ yJ8_isElementIndex cJ8_isElementIndex 2 (some .boolean)) 1 0 0 [.ref a, .int (nI k)] H (Rd (b01 true) H) := by
  refine mt_of (by decide +kernel) (Nat.le_of_ble_eq_true rfl) ?_
  intro p e s m args below meth c ls Q hx hb hr hlocks hml hts hown hnm hK hS hl hQ
  refine lv_iload_n (pc := 0) hx hb dJ8_isElementIndex_0 rfl (lk hl rfl) ?_
  refine lv_if_lt (tgt := 16) (pc := 1) hx hb dJ8_isElementIndex_1 (by decide) (fun q => absurd q (nI_pos (by omega))) (fun _ => ?_)
  refine lv_iload_n (pc := 4) hx hb dJ8_isElementIndex_4 rfl (lk hl rfl) ?_
  refine lv_aload_n (pc := 5) hx hb dJ8_isElementIndex_5 rfl (lk hl rfl) ?_
  refine hw_get (pc := 6) hx hb hts in_J8 hown hK (hpa) rfl 1 (Nat.le_of_ble_eq_true rfl) (hts _ q306) (fun x h => h) rfl dJ8_isElementIndex_6 ?_
  refine hn_ge (tgt := 16) (pc := 9) hx hb dJ8_isElementIndex_9 (by decide) (by omega) (by omega) (fun hn => absurd hn (by omega)) (fun _ => ?_)
  refine lv_iconst (v := nI 1) (pc := 12) hx hb dJ8_isElementIndex_12 (by decide) ?_
  refine lv_goto (tgt := 17) (pc := 13) hx hb dJ8_isElementIndex_13 (by decide) ?_
  exact hr_z (pc := 17) hQ hx hb hr hlocks hS (by first | exact Nat.le_of_ble_eq_true rfl | (dsimp only [rmd]; omega)) (by first | exact Nat.le_of_ble_eq_true rfl | (dsimp only [rmd]; omega)) (rfl) (⟨rfl, rfl⟩) dJ8_isElementIndex_17
theorem j_ll_isPos (l : Launch) (Γ : Cx) (H : Heap) (a n k : Nat) (md u v : Value) (hpa : pt Γ H a (ob 10 [md, .int (nI n), u, v])) (hk : k ≤ n) (hn : n < 2 ^ 31) : Mt l Γ yJ8_isPositionIndex (ws_ yJ8_isPositionIndex cJ8_isPositionIndex 2 (some .boolean)) 1 0 0 [.ref a, .int (nI k)] H (Rd (b01 true) H) := by
  refine mt_of (by decide +kernel) (Nat.le_of_ble_eq_true rfl) ?_
  intro p e s m args below meth c ls Q hx hb hr hlocks hml hts hown hnm hK hS hl hQ
  refine lv_iload_n (pc := 0) hx hb dJ8_isPositionIndex_0 rfl (lk hl rfl) ?_
  refine lv_if_lt (tgt := 16) (pc := 1) hx hb dJ8_isPositionIndex_1 (by decide) (fun q => absurd q (nI_pos (by omega))) (fun _ => ?_)
  refine lv_iload_n (pc := 4) hx hb dJ8_isPositionIndex_4 rfl (lk hl rfl) ?_
  refine lv_aload_n (pc := 5) hx hb dJ8_isPositionIndex_5 rfl (lk hl rfl) ?_
  refine hw_get (pc := 6) hx hb hts in_J8 hown hK (hpa) rfl 1 (Nat.le_of_ble_eq_true rfl) (hts _ q306) (fun x h => h) rfl dJ8_isPositionIndex_6 ?_
  refine hn_gt (tgt := 16) (pc := 9) hx hb dJ8_isPositionIndex_9 (by decide) (by omega) (by omega) (fun hn => absurd hn (by omega)) (fun _ => ?_)
  refine lv_iconst (v := nI 1) (pc := 12) hx hb dJ8_isPositionIndex_12 (by decide) ?_
  refine lv_goto (tgt := 17) (pc := 13) hx hb dJ8_isPositionIndex_13 (by decide) ?_
  exact hr_z (pc := 17) hQ hx hb hr hlocks hS (by first | exact Nat.le_of_ble_eq_true rfl | (dsimp only [rmd]; omega)) (by first | exact Nat.le_of_ble_eq_true rfl | (dsimp only [rmd]; omega)) (rfl) (⟨rfl, rfl⟩) dJ8_isPositionIndex_17
theorem j_ll_ckEl (l : Launch) (Γ : Cx) (H : Heap) (a n k : Nat) (md u v : Value) (hpa : pt Γ H a (ob 10 [md, .int (nI n), u, v])) (hk : k < n) (hn : n < 2 ^ 31) : Mt l Γ yJ8_checkElementIndex (ws_ yJ8_checkElementIndex cJ8_checkElementIndex 2 none) 2 0 0 [.ref a, .int (nI k)] H (Rn H) := by
  refine mt_of (by decide +kernel) (Nat.le_of_ble_eq_true rfl) ?_
  intro p e s m args below meth c ls Q hx hb hr hlocks hml hts hown hnm hK hS hl hQ
  refine lv_aload_n (pc := 0) hx hb dJ8_checkElementIndex_0 rfl (lk hl rfl) ?_
  refine lv_iload_n (pc := 1) hx hb dJ8_checkElementIndex_1 rfl (lk hl rfl) ?_
  refine hc_V (pc := 2) hx hb hml hown hts hK hS (j_ll_isEl l Γ H a n k md u v hpa hk hn) (cwV 1 hts (lw_V q441 q443 qs5 q81 q444) rfl rfl rfl (by decide +kernel) ⟨(Nat.le_of_ble_eq_true rfl), (Nat.le_of_ble_eq_true rfl)⟩) (hK.recv hpa rfl) rfl hl.1 rfl (Nat.le_of_ble_eq_true rfl) dJ8_checkElementIndex_2 ⟨by first | exact Nat.le_of_ble_eq_true rfl | (dsimp only [rmd]; omega), by first | exact Nat.le_of_ble_eq_true rfl | (dsimp only [rmd]; omega)⟩ (fun v9 H9 locs9 hq9 hS => ?_)
  obtain ⟨rfl, rfl⟩ := hq9
  refine hz_ne (tgt := 21) (pc := 5) hx hb dJ8_checkElementIndex_5 (by decide) (fun _ => ?_) (fun hn => absurd hn (by simp))
  exact hr_v (pc := 21) hQ hx hb hr hlocks hS (by first | exact Nat.le_of_ble_eq_true rfl | (dsimp only [rmd]; omega)) (by first | exact Nat.le_of_ble_eq_true rfl | (dsimp only [rmd]; omega)) (⟨rfl, rfl⟩) dJ8_checkElementIndex_21
theorem j_ll_ckPos (l : Launch) (Γ : Cx) (H : Heap) (a n k : Nat) (md u v : Value) (hpa : pt Γ H a (ob 10 [md, .int (nI n), u, v])) (hk : k ≤ n) (hn : n < 2 ^ 31) : Mt l Γ yJ8_checkPositionIndex (ws_ yJ8_checkPositionIndex cJ8_checkPositionIndex 2 none) 2 0 0 [.ref a, .int (nI k)] H (Rn H) := by
  refine mt_of (by decide +kernel) (Nat.le_of_ble_eq_true rfl) ?_
  intro p e s m args below meth c ls Q hx hb hr hlocks hml hts hown hnm hK hS hl hQ
  refine lv_aload_n (pc := 0) hx hb dJ8_checkPositionIndex_0 rfl (lk hl rfl) ?_
  refine lv_iload_n (pc := 1) hx hb dJ8_checkPositionIndex_1 rfl (lk hl rfl) ?_
  refine hc_V (pc := 2) hx hb hml hown hts hK hS (j_ll_isPos l Γ H a n k md u v hpa hk hn) (cwV 1 hts (lw_V q866 q868 qs11 q81 q869) rfl rfl rfl (by decide +kernel) ⟨(Nat.le_of_ble_eq_true rfl), (Nat.le_of_ble_eq_true rfl)⟩) (hK.recv hpa rfl) rfl hl.1 rfl (Nat.le_of_ble_eq_true rfl) dJ8_checkPositionIndex_2 ⟨by first | exact Nat.le_of_ble_eq_true rfl | (dsimp only [rmd]; omega), by first | exact Nat.le_of_ble_eq_true rfl | (dsimp only [rmd]; omega)⟩ (fun v9 H9 locs9 hq9 hS => ?_)
  obtain ⟨rfl, rfl⟩ := hq9
  refine hz_ne (tgt := 21) (pc := 5) hx hb dJ8_checkPositionIndex_5 (by decide) (fun _ => ?_) (fun hn => absurd hn (by simp))
  exact hr_v (pc := 21) hQ hx hb hr hlocks hS (by first | exact Nat.le_of_ble_eq_true rfl | (dsimp only [rmd]; omega)) (by first | exact Nat.le_of_ble_eq_true rfl | (dsimp only [rmd]; omega)) (⟨rfl, rfl⟩) dJ8_checkPositionIndex_21
theorem j_ll_node (l : Launch) (Γ : Cx) (H : Heap) (a n k : Nat) (ν it : Nat → Nat) (md : Nat) (hL : LL Γ H a n ν it md) (hk : k < n) (hn : n ≤ 16) : Mt l Γ yJ8_node (ws_ yJ8_node cJ8_node 4 (some (.object "java/util/LinkedList$Node"))) 1 0 0 [.ref a, .int (nI k)] H (Rv (.ref (ν k)) H) := by
  refine mt_of (by decide +kernel) (Nat.le_of_ble_eq_true rfl) ?_
  intro p e s m args below meth c ls Q hx hb hr hlocks hml hts hown hnm hK hS hl hQ
  have hpa := hL.1
  rw [lnx_t (by omega), lpv_s (by omega)] at hpa
  refine lv_iload_n (pc := 0) hx hb dJ8_node_0 rfl (lk hl rfl) ?_
  refine lv_aload_n (pc := 1) hx hb dJ8_node_1 rfl (lk hl rfl) ?_
  refine hw_get (pc := 2) hx hb hts in_J8 hown hK (hpa) rfl 1 (Nat.le_of_ble_eq_true rfl) (hts _ q306) (fun x h => h) rfl dJ8_node_2 ?_
  refine lv_iconst (v := nI 1) (pc := 5) hx hb dJ8_node_5 (by decide) ?_
  refine lv_ishr (pc := 6) hx hb dJ8_node_6 ?_
  refine hw_top (congrArg Value.int (show _ = nI (n / 2 ^ 1) from n_shr (by omega) (by omega))) ?_
  refine hn_ge (tgt := 35) (pc := 7) hx hb dJ8_node_7 (by decide) (by omega) (by omega) (fun h => ?_) (fun h => ?_)
  · refine lv_aload_n (pc := 35) hx hb dJ8_node_35 rfl (lk hl rfl) ?_
    refine hw_get (pc := 36) hx hb hts in_J8 hown hK (hpa) rfl 3 (Nat.le_of_ble_eq_true rfl) (hts _ q309) (fun x h => h) rfl dJ8_node_36 ?_
    refine lv_astore_n (pc := 39) hx hb dJ8_node_39 rfl hl (Nat.le_of_ble_eq_true rfl) rfl (fun ls hl => ?_)
    refine lv_aload_n (pc := 40) hx hb dJ8_node_40 rfl (lk hl rfl) ?_
    refine hw_get (pc := 41) hx hb hts in_J8 hown hK (hpa) rfl 1 (Nat.le_of_ble_eq_true rfl) (hts _ q306) (fun x h => h) rfl dJ8_node_41 ?_
    refine lv_iconst (v := nI 1) (pc := 44) hx hb dJ8_node_44 (by decide) ?_
    refine lv_isub (pc := 45) hx hb dJ8_node_45 ?_
    refine hw_top (congrArg Value.int (show _ = nI (n - 1) from n_sub (show 1 ≤ n by omega))) ?_
    refine lv_istore_n (pc := 46) hx hb dJ8_node_46 rfl hl (Nat.le_of_ble_eq_true rfl) rfl (fun ls hl => ?_)
    have L : ∀ (d : Nat) (locs : List Loc) (ls : Array Slot), k + d < n → va_S (Gz Γ) s.heap H locs → lv_has ls 4 [(0, .ref a), (1, .int (nI k)), (2, .ref (ν (k + d))), (3, .int (nI (k + d)))] → W p l e (rmd 1 0 0) s m args below meth c H locs 0 0 Q (F0 m 47 ls []) := by
      intro d
      induction d with
      | zero =>
        intro locs ls hd hS hl
        refine lv_iload_n (pc := 47) hx hb dJ8_node_47 rfl (lk hl rfl) ?_
        refine lv_iload_n (pc := 48) hx hb dJ8_node_48 rfl (lk hl rfl) ?_
        refine hn_le (tgt := 63) (pc := 49) hx hb dJ8_node_49 (by decide) (by omega) (by omega) (fun _ => ?_) (fun hn => absurd hn (by omega))
        refine lv_aload_n (pc := 63) hx hb dJ8_node_63 rfl (lk hl rfl) ?_
        exact hr_a (pc := 64) hQ hx hb hr (Or.inl ⟨_, rfl⟩) (Or.inr ⟨_, rfl⟩) hlocks hS (by first | exact Nat.le_of_ble_eq_true rfl | (dsimp only [rmd]; omega)) (by first | exact Nat.le_of_ble_eq_true rfl | (dsimp only [rmd]; omega)) (⟨rfl, rfl⟩) dJ8_node_64
      | succ d ih =>
        intro locs ls hd hS hl
        have hnode := hL.2 (k + (d + 1)) hd
        rw [lpv_s (by omega)] at hnode
        refine lv_iload_n (pc := 47) hx hb dJ8_node_47 rfl (lk hl rfl) ?_
        refine lv_iload_n (pc := 48) hx hb dJ8_node_48 rfl (lk hl rfl) ?_
        refine hn_le (tgt := 63) (pc := 49) hx hb dJ8_node_49 (by decide) (by omega) (by omega) (fun hn => absurd hn (by omega)) (fun _ => ?_)
        refine lv_aload_n (pc := 52) hx hb dJ8_node_52 rfl (lk hl rfl) ?_
        refine hw_get (pc := 53) hx hb hts in_J6 hown hK (hnode) rfl 2 (Nat.le_of_ble_eq_true rfl) (hts _ q289) (fun x h => h) rfl dJ8_node_53 ?_
        refine lv_astore_n (pc := 56) hx hb dJ8_node_56 rfl hl (Nat.le_of_ble_eq_true rfl) rfl (fun ls hl => ?_)
        refine hw_iinc (v := nI (k + (d + 1)) - 1) (pc := 57) hx hb dJ8_node_57 hl (lk hl rfl) (n_dec _) (Nat.le_of_ble_eq_true rfl) (fun ls hl => ?_)
        refine lv_goto (tgt := 47) (pc := 60) hx hb dJ8_node_60 (by decide) ?_
        have e : nI (k + (d + 1)) - 1 = nI (k + d) := by rw [n_m (by omega)]; rfl
        rw [e] at hl
        exact ih _ ls (by omega) hS (by repeat first | exact lv_0 hl | refine lv_c (lk hl rfl) ?_)
    have e : k + (n - 1 - k) = n - 1 := by omega
    exact L (n - 1 - k) _ ls (by omega) hS (by rw [e]; repeat first | exact lv_0 hl | refine lv_c (lk hl rfl) ?_)
  · skip
    refine lv_aload_n (pc := 10) hx hb dJ8_node_10 rfl (lk hl rfl) ?_
    refine hw_get (pc := 11) hx hb hts in_J8 hown hK (hpa) rfl 2 (Nat.le_of_ble_eq_true rfl) (hts _ q308) (fun x h => h) rfl dJ8_node_11 ?_
    refine lv_astore_n (pc := 14) hx hb dJ8_node_14 rfl hl (Nat.le_of_ble_eq_true rfl) rfl (fun ls hl => ?_)
    refine lv_iconst (v := nI 0) (pc := 15) hx hb dJ8_node_15 (by decide) ?_
    refine lv_istore_n (pc := 16) hx hb dJ8_node_16 rfl hl (Nat.le_of_ble_eq_true rfl) rfl (fun ls hl => ?_)
    have L : ∀ (d i : Nat) (locs : List Loc) (ls : Array Slot), i + d = k → va_S (Gz Γ) s.heap H locs → lv_has ls 4 [(0, .ref a), (1, .int (nI k)), (2, .ref (ν i)), (3, .int (nI i))] → W p l e (rmd 1 0 0) s m args below meth c H locs 0 0 Q (F0 m 17 ls []) := by
      intro d
      induction d with
      | zero =>
        intro i locs ls hd hS hl
        refine lv_iload_n (pc := 17) hx hb dJ8_node_17 rfl (lk hl rfl) ?_
        refine lv_iload_n (pc := 18) hx hb dJ8_node_18 rfl (lk hl rfl) ?_
        refine hn_ge (tgt := 33) (pc := 19) hx hb dJ8_node_19 (by decide) (by omega) (by omega) (fun _ => ?_) (fun hn => absurd hn (by omega))
        refine lv_aload_n (pc := 33) hx hb dJ8_node_33 rfl (lk hl rfl) ?_
        obtain rfl : i = k := by omega
        exact hr_a (pc := 34) hQ hx hb hr (Or.inl ⟨_, rfl⟩) (Or.inr ⟨_, rfl⟩) hlocks hS (by first | exact Nat.le_of_ble_eq_true rfl | (dsimp only [rmd]; omega)) (by first | exact Nat.le_of_ble_eq_true rfl | (dsimp only [rmd]; omega)) (⟨rfl, rfl⟩) dJ8_node_34
      | succ d ih =>
        intro i locs ls hd hS hl
        have hnode := hL.2 i (by omega)
        rw [lnx_t (show i + 1 < n by omega)] at hnode
        refine lv_iload_n (pc := 17) hx hb dJ8_node_17 rfl (lk hl rfl) ?_
        refine lv_iload_n (pc := 18) hx hb dJ8_node_18 rfl (lk hl rfl) ?_
        refine hn_ge (tgt := 33) (pc := 19) hx hb dJ8_node_19 (by decide) (by omega) (by omega) (fun hn => absurd hn (by omega)) (fun _ => ?_)
        refine lv_aload_n (pc := 22) hx hb dJ8_node_22 rfl (lk hl rfl) ?_
        refine hw_get (pc := 23) hx hb hts in_J6 hown hK (hnode) rfl 1 (Nat.le_of_ble_eq_true rfl) (hts _ q287) (fun x h => h) rfl dJ8_node_23 ?_
        refine lv_astore_n (pc := 26) hx hb dJ8_node_26 rfl hl (Nat.le_of_ble_eq_true rfl) rfl (fun ls hl => ?_)
        refine hw_iinc (v := nI (i + 1)) (pc := 27) hx hb dJ8_node_27 hl (lk hl rfl) (n_inc _ 1) (Nat.le_of_ble_eq_true rfl) (fun ls hl => ?_)
        refine lv_goto (tgt := 17) (pc := 30) hx hb dJ8_node_30 (by decide) ?_
        exact ih (i + 1) _ ls (by omega) hS (lv_c (lk hl rfl) (lv_c (lk hl rfl) (lv_c (lk hl rfl) (lv_c (lk hl rfl) (lv_0 hl)))))
    exact L k 0 _ ls (by omega) hS (by repeat first | exact lv_0 hl | refine lv_c (lk hl rfl) ?_)
theorem j_ll_get (l : Launch) (Γ : Cx) (H : Heap) (a n k : Nat) (ν it : Nat → Nat) (md : Nat) (hL : LL Γ H a n ν it md) (hk : k < n) (hn : n ≤ 16) : Mt l Γ yJ8_get (ws_ yJ8_get cJ8_get 2 (some (.object "java/lang/Object"))) 3 0 0 [.ref a, .int (nI k)] H (Rv (.ref (it k)) H) := by
  refine mt_of (by decide +kernel) (Nat.le_of_ble_eq_true rfl) ?_
  intro p e s m args below meth c ls Q hx hb hr hlocks hml hts hown hnm hK hS hl hQ
  refine lv_aload_n (pc := 0) hx hb dJ8_get_0 rfl (lk hl rfl) ?_
  refine lv_iload_n (pc := 1) hx hb dJ8_get_1 rfl (lk hl rfl) ?_
  refine hc_V (pc := 2) hx hb hml hown hts hK hS (j_ll_ckEl l Γ H a n k _ _ _ hL.1 hk (by omega)) (cwV 1 hts (lw_V q437 q439 qs4 q81 q440) rfl rfl rfl (by decide +kernel) ⟨(Nat.le_of_ble_eq_true rfl), (Nat.le_of_ble_eq_true rfl)⟩) (hK.recv hL.1 rfl) rfl hl.1 rfl (Nat.le_of_ble_eq_true rfl) dJ8_get_2 ⟨by first | exact Nat.le_of_ble_eq_true rfl | (dsimp only [rmd]; omega), by first | exact Nat.le_of_ble_eq_true rfl | (dsimp only [rmd]; omega)⟩ (fun v8 H8 locs8 hq8 hS => ?_)
  obtain ⟨rfl, rfl⟩ := hq8
  refine lv_aload_n (pc := 5) hx hb dJ8_get_5 rfl (lk hl rfl) ?_
  refine lv_iload_n (pc := 6) hx hb dJ8_get_6 rfl (lk hl rfl) ?_
  refine hc_V (pc := 7) hx hb hml hown hts hK hS (j_ll_node l Γ H a n k ν it md hL hk hn) (cwV 1 hts (lw_V q765 q766 q767 q81 q768) rfl rfl rfl (by decide +kernel) ⟨(Nat.le_of_ble_eq_true rfl), (Nat.le_of_ble_eq_true rfl)⟩) (hK.recv hL.1 rfl) rfl hl.1 rfl (Nat.le_of_ble_eq_true rfl) dJ8_get_7 ⟨by first | exact Nat.le_of_ble_eq_true rfl | (dsimp only [rmd]; omega), by first | exact Nat.le_of_ble_eq_true rfl | (dsimp only [rmd]; omega)⟩ (fun v9 H9 locs9 hq9 hS => ?_)
  obtain ⟨rfl, rfl⟩ := hq9
  have hnode := hL.2 k hk
  refine hw_get (pc := 10) hx hb hts in_J6 hown hK (hnode) rfl 0 (Nat.le_of_ble_eq_true rfl) (hts _ q284) (fun x h => h) rfl dJ8_get_10 ?_
  exact hr_a (pc := 13) hQ hx hb hr (Or.inl ⟨_, rfl⟩) (Or.inr ⟨_, rfl⟩) hlocks hS (by first | exact Nat.le_of_ble_eq_true rfl | (dsimp only [rmd]; omega)) (by first | exact Nat.le_of_ble_eq_true rfl | (dsimp only [rmd]; omega)) (⟨rfl, rfl⟩) dJ8_get_13
