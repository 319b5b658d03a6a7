/-! java.util.ArrayList, as far as it is used: a list of at most ten, its array of ten -/
set_option maxRecDepth 100000
def Rv (v : Value) (H : Heap) : Option Value → Heap → Prop := fun x H1 => x = some v ∧ H = H1
def Rn (H : Heap) : Option Value → Heap → Prop := fun x H1 => x = none ∧ H = H1
theorem va_rf_some {f : Nat → Option Nat} {i q : Nat} (h : i < 2 ^ 31) (hf : f i = some q) : va_rf (f (nI i).toNatClampNeg) = .ref q := by rw [nI_clamp h, hf]; rfl
theorem va_rf_none {f : Nat → Option Nat} {i : Nat} (h : i < 2 ^ 31) (hf : f i = none) : va_rf (f (nI i).toNatClampNeg) = .null := by rw [nI_clamp h, hf]; rfl
set_option maxHeartbeats 4000000
theorem j_preCheck (l : Launch) (Γ : Cx) (H : Heap) (i n : Nat) (h : i < n) (hn : n < 2 ^ 31) : Mt l Γ yJ21_checkIndex (ws_ yJ21_checkIndex cJ21_checkIndex 3 (some .int)) 1 0 0 [.int (nI i), .int (nI n), .null] H (Rd (nI i) H) := by
  refine mt_of (by decide +kernel) (Nat.le_of_ble_eq_true rfl) ?_
  intro p e s m args below meth c ls Q hx hb hr hlocks hml hts hown hnm hK hS hl hQ
  refine lv_iload_n (pc := 0) hx hb dJ21_checkIndex_0 rfl (lk hl rfl) ?_
  refine lv_if_lt (tgt := 9) (pc := 1) hx hb dJ21_checkIndex_1 (by decide) (fun q => absurd q (nI_pos (by omega))) (fun _ => ?_)
  refine lv_iload_n (pc := 4) hx hb dJ21_checkIndex_4 rfl (lk hl rfl) ?_
  refine lv_iload_n (pc := 5) hx hb dJ21_checkIndex_5 rfl (lk hl rfl) ?_
  refine hn_lt (tgt := 16) (pc := 6) hx hb dJ21_checkIndex_6 (by decide) (by omega) (by omega) (fun _ => ?_) (fun hn => absurd hn (by omega))
  refine lv_iload_n (pc := 16) hx hb dJ21_checkIndex_16 rfl (lk hl rfl) ?_
  exact hr_i (pc := 17) hQ hx hb hr hlocks hS (by first | exact Nat.le_of_ble_eq_true rfl | (dsimp only [rmd]; omega)) (by first | exact Nat.le_of_ble_eq_true rfl | (dsimp only [rmd]; omega)) (⟨rfl, rfl⟩) dJ21_checkIndex_17
theorem j_checkIndex (l : Launch) (Γ : Cx) (H : Heap) (i n : Nat) (h : i < n) (hn : n < 2 ^ 31) : Mt l Γ yJ30_checkIndex (ws_ yJ30_checkIndex cJ30_checkIndex 2 (some .int)) 2 0 0 [.int (nI i), .int (nI n)] H (Rd (nI i) H) := by
  refine mt_of (by decide +kernel) (Nat.le_of_ble_eq_true rfl) ?_
  intro p e s m args below meth c ls Q hx hb hr hlocks hml hts hown hnm hK hS hl hQ
  refine lv_iload_n (pc := 0) hx hb dJ30_checkIndex_0 rfl (lk hl rfl) ?_
  refine lv_iload_n (pc := 1) hx hb dJ30_checkIndex_1 rfl (lk hl rfl) ?_
  refine lv_null (pc := 2) hx hb dJ30_checkIndex_2 ?_
  refine hc_S (pc := 3) hx hb hml hown hts hK hS (j_preCheck l Γ _ i n (by omega) (by omega)) (va_cwS 3 hts (lw_S q425 q426 q96 q427) rfl rfl rfl (by decide +kernel) ⟨(Nat.le_of_ble_eq_true rfl), (Nat.le_of_ble_eq_true rfl)⟩) rfl hl.1 rfl (Nat.le_of_ble_eq_true rfl) dJ30_checkIndex_3 ⟨by first | exact Nat.le_of_ble_eq_true rfl | (dsimp only [rmd]; omega), by first | exact Nat.le_of_ble_eq_true rfl | (dsimp only [rmd]; omega)⟩ (fun v1 H1 locs1 hq1 hS => ?_)
  obtain ⟨rfl, rfl⟩ := hq1
  exact hr_i (pc := 6) hQ hx hb hr hlocks hS (by first | exact Nat.le_of_ble_eq_true rfl | (dsimp only [rmd]; omega)) (by first | exact Nat.le_of_ble_eq_true rfl | (dsimp only [rmd]; omega)) (⟨rfl, rfl⟩) dJ30_checkIndex_6
theorem j_al_size (l : Launch) (Γ : Cx) (H : Heap) (a n : Nat) (md v : Value) (hp : pt Γ H a (ob 8 [md, v, .int (nI n)])) : Mt l Γ yJ2_size (ws_ yJ2_size cJ2_size 1 (some .int)) 1 0 0 [.ref a] H (Rd (nI n) H) := by
  refine mt_of (by decide +kernel) (Nat.le_of_ble_eq_true rfl) ?_
  intro p e s m args below meth c ls Q hx hb hr hlocks hml hts hown hnm hK hS hl hQ
  refine lv_aload_n (pc := 0) hx hb dJ2_size_0 rfl (lk hl rfl) ?_
  refine hw_get (pc := 1) hx hb hts in_J2 hown hK (hp) rfl 2 (Nat.le_of_ble_eq_true rfl) (hts _ q148) (fun x h => h) rfl dJ2_size_1 ?_
  exact hr_i (pc := 4) hQ hx hb hr hlocks hS (by first | exact Nat.le_of_ble_eq_true rfl | (dsimp only [rmd]; omega)) (by first | exact Nat.le_of_ble_eq_true rfl | (dsimp only [rmd]; omega)) (⟨rfl, rfl⟩) dJ2_size_4
theorem j_al_data (l : Launch) (Γ : Cx) (H : Heap) (a arr k q : Nat) (md v : Value) (f : Nat → Option Nat) (hp : pt Γ H a (ob 8 [md, .ref arr, v])) (hp2 : pt Γ H arr (oa Γ 10 f)) (hk : k < 10) (hf : f k = some q) : Mt l Γ yJ2_elementData (ws_ yJ2_elementData cJ2_elementData 2 (some (.object "java/lang/Object"))) 1 0 0 [.ref a, .int (nI k)] H (Rv (.ref q) H) := by
  refine mt_of (by decide +kernel) (Nat.le_of_ble_eq_true rfl) ?_
  intro p e s m args below meth c ls Q hx hb hr hlocks hml hts hown hnm hK hS hl hQ
  refine lv_aload_n (pc := 0) hx hb dJ2_elementData_0 rfl (lk hl rfl) ?_
  refine hw_get (pc := 1) hx hb hts in_J2 hown hK (hp) rfl 1 (Nat.le_of_ble_eq_true rfl) (hts _ q145) (fun x h => h) rfl dJ2_elementData_1 ?_
  refine lv_iload_n (pc := 4) hx hb dJ2_elementData_4 rfl (lk hl rfl) ?_
  refine hw_oald (pc := 5) hx hb hK hp2 (vp_in_nI (show k < 10 from by omega) (by omega)) dJ2_elementData_5 ?_
  refine hw_top (va_rf_some (i := k) (by omega) (hf)) ?_
  exact hr_a (pc := 6) hQ hx hb hr (Or.inl ⟨_, rfl⟩) (Or.inr ⟨_, rfl⟩) hlocks hS (by first | exact Nat.le_of_ble_eq_true rfl | (dsimp only [rmd]; omega)) (by first | exact Nat.le_of_ble_eq_true rfl | (dsimp only [rmd]; omega)) (⟨rfl, rfl⟩) dJ2_elementData_6
theorem j_al_get (l : Launch) (Γ : Cx) (H : Heap) (a arr n k q : Nat) (md : Value) (f : Nat → Option Nat) (hp : pt Γ H a (ob 8 [md, .ref arr, .int (nI n)])) (hp2 : pt Γ H arr (oa Γ 10 f)) (hk : k < n) (hn : n ≤ 10) (hf : f k = some q) : Mt l Γ yJ2_get (ws_ yJ2_get cJ2_get 2 (some (.object "java/lang/Object"))) 3 0 0 [.ref a, .int (nI k)] H (Rv (.ref q) H) := by
  refine mt_of (by decide +kernel) (Nat.le_of_ble_eq_true rfl) ?_
  intro p e s m args below meth c ls Q hx hb hr hlocks hml hts hown hnm hK hS hl hQ
  refine lv_iload_n (pc := 0) hx hb dJ2_get_0 rfl (lk hl rfl) ?_
  refine lv_aload_n (pc := 1) hx hb dJ2_get_1 rfl (lk hl rfl) ?_
  refine hw_get (pc := 2) hx hb hts in_J2 hown hK (hp) rfl 2 (Nat.le_of_ble_eq_true rfl) (hts _ q148) (fun x h => h) rfl dJ2_get_2 ?_
  refine hc_S (pc := 5) hx hb hml hown hts hK hS (j_checkIndex l Γ _ k n (by omega) (by omega)) (va_cwS 2 hts (lw_S q422 q423 q107 q424) rfl rfl rfl (by decide +kernel) ⟨(Nat.le_of_ble_eq_true rfl), (Nat.le_of_ble_eq_true rfl)⟩) rfl hl.1 rfl (Nat.le_of_ble_eq_true rfl) dJ2_get_5 ⟨by first | exact Nat.le_of_ble_eq_true rfl | (dsimp only [rmd]; omega), by first | exact Nat.le_of_ble_eq_true rfl | (dsimp only [rmd]; omega)⟩ (fun v1 H1 locs1 hq1 hS => ?_)
  obtain ⟨rfl, rfl⟩ := hq1
  refine lv_pop (pc := 8) hx hb dJ2_get_8 rfl ?_
  refine lv_aload_n (pc := 9) hx hb dJ2_get_9 rfl (lk hl rfl) ?_
  refine lv_iload_n (pc := 10) hx hb dJ2_get_10 rfl (lk hl rfl) ?_
  refine hc_V (pc := 11) hx hb hml hown hts hK hS (j_al_data l Γ H a arr k q md _ f hp hp2 (by omega) hf) (cwV 1 hts (lw_V q428 q429 q430 q73 q431) rfl rfl rfl (by decide +kernel) ⟨(Nat.le_of_ble_eq_true rfl), (Nat.le_of_ble_eq_true rfl)⟩) (hK.recv hp rfl) rfl hl.1 rfl (Nat.le_of_ble_eq_true rfl) dJ2_get_11 ⟨by first | exact Nat.le_of_ble_eq_true rfl | (dsimp only [rmd]; omega), by first | exact Nat.le_of_ble_eq_true rfl | (dsimp only [rmd]; omega)⟩ (fun v9 H9 locs9 hq9 hS => ?_)
  obtain ⟨rfl, rfl⟩ := hq9
  exact hr_a (pc := 14) hQ hx hb hr (Or.inl ⟨_, rfl⟩) (Or.inr ⟨_, rfl⟩) hlocks hS (by first | exact Nat.le_of_ble_eq_true rfl | (dsimp only [rmd]; omega)) (by first | exact Nat.le_of_ble_eq_true rfl | (dsimp only [rmd]; omega)) (⟨rfl, rfl⟩) dJ2_get_14
