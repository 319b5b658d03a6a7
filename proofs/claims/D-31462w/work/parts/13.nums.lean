/-! numbers: branches told in Nat; bits -/
set_option maxRecDepth 100000
abbrev Rd (x : Int32) (H : Heap) : Option Value → Heap → Prop := fun v H1 => v = some (.int x) ∧ H = H1
theorem n_inc (a k : Nat) : nI a + Int32.ofInt (k : Int) = nI (a + k) := by
  have h : Int32.ofInt (k : Int) = nI k := rfl
  rw [h]; exact nI_add a k
theorem n_dec (a : Nat) : nI a + Int32.ofInt (-1) = nI a - 1 := by
  have h : Int32.ofInt (-1) = -1 := rfl
  rw [h, Int32.sub_eq_add_neg]
theorem n_sub {a b : Nat} (h : b ≤ a) : nI a - nI b = nI (a - b) := pk_sub h
theorem n_1 (a : Nat) : nI a - nI 1 = nI a - 1 := rfl
theorem n_mp (a : Nat) : nI a - 1 + nI 1 = nI a := by
  show nI a - 1 + 1 = nI a
  rw [Int32.sub_add_cancel]
theorem n_mi (a : Nat) : (nI a - 1) + Int32.ofInt 1 = nI a := by
  have h : Int32.ofInt 1 = 1 := rfl
  rw [h, Int32.sub_add_cancel]
theorem n_m {a : Nat} (h : 0 < a) : nI a - 1 = nI (a - 1) := by
  obtain ⟨b, rfl⟩ : ∃ b, a = b + 1 := ⟨a - 1, by omega⟩
  exact nI_pred b
theorem n_m0 : nI 0 - 1 = (-1 : Int32) := by decide
theorem nm_toInt {a : Nat} (h : a < 2 ^ 31) : (nI a - 1).toInt = (a : Int) - 1 := by
  rcases Nat.eq_zero_or_pos a with rfl | h0
  · rfl
  · rw [n_m h0, nI_toInt (by omega)]; omega
theorem nm_eq {a b : Nat} (ha : a < 2 ^ 31) (hb : b < 2 ^ 31) : nI a - 1 = nI b - 1 ↔ a = b := by
  constructor
  · intro h
    have := congrArg Int32.toInt h
    rw [nm_toInt ha, nm_toInt hb] at this
    omega
  · rintro rfl; rfl
theorem nm_lt0 {a : Nat} (ha : a < 2 ^ 31) : nI a - 1 < 0 ↔ a = 0 := by
  rw [Int32.lt_iff_toInt_lt, nm_toInt ha, Int32.toInt_zero]; omega
section HN
variable {p : Program} {l : Launch} {e : Env} {R : Room} {s : State} {m : MethodId} {args : Array Value} {below : List Frame} {meth : Method} {c : Code} {H : Heap} {locs : List Loc} {cells slots : Nat} {Q : State → Prop}
variable {cc : ByteArray} {pc : Nat} {ls : Array Slot} {rest : List Value}
theorem hn_lt (hx : p.tables.exec = Jvm.exec) (hb : c.code = cc) {a b : Nat} {off : Int} {tgt : Nat} (hdg : decode cc pc = .ok (.if_icmp .lt off, 3)) (ht : (pc : Int) + off = (tgt : Int)) (ha : a < 2 ^ 31) (hb2 : b < 2 ^ 31)
    (kt : a < b → W p l e R s m args below meth c H locs cells slots Q (F0 m tgt ls rest)) (kf : b ≤ a → W p l e R s m args below meth c H locs cells slots Q (F0 m (pc + 3) ls rest)) : W p l e R s m args below meth c H locs cells slots Q (F0 m pc ls (.int (nI b) :: .int (nI a) :: rest)) :=
  lv_icmp_lt hx hb hdg ht (fun h => kt ((nI_ltI ha hb2).mp h)) (fun h => kf (Nat.not_lt.mp fun q => h ((nI_ltI ha hb2).mpr q)))
theorem hn_ge (hx : p.tables.exec = Jvm.exec) (hb : c.code = cc) {a b : Nat} {off : Int} {tgt : Nat} (hdg : decode cc pc = .ok (.if_icmp .ge off, 3)) (ht : (pc : Int) + off = (tgt : Int)) (ha : a < 2 ^ 31) (hb2 : b < 2 ^ 31)
    (kt : b ≤ a → W p l e R s m args below meth c H locs cells slots Q (F0 m tgt ls rest)) (kf : a < b → W p l e R s m args below meth c H locs cells slots Q (F0 m (pc + 3) ls rest)) : W p l e R s m args below meth c H locs cells slots Q (F0 m pc ls (.int (nI b) :: .int (nI a) :: rest)) :=
  lv_icmp_ge hx hb hdg ht (fun h => kt ((nI_leI hb2 ha).mp h)) (fun h => kf (Nat.not_le.mp fun q => h ((nI_leI hb2 ha).mpr q)))
theorem hn_gt (hx : p.tables.exec = Jvm.exec) (hb : c.code = cc) {a b : Nat} {off : Int} {tgt : Nat} (hdg : decode cc pc = .ok (.if_icmp .gt off, 3)) (ht : (pc : Int) + off = (tgt : Int)) (ha : a < 2 ^ 31) (hb2 : b < 2 ^ 31)
    (kt : b < a → W p l e R s m args below meth c H locs cells slots Q (F0 m tgt ls rest)) (kf : a ≤ b → W p l e R s m args below meth c H locs cells slots Q (F0 m (pc + 3) ls rest)) : W p l e R s m args below meth c H locs cells slots Q (F0 m pc ls (.int (nI b) :: .int (nI a) :: rest)) :=
  lv_icmp_gt hx hb hdg ht (fun h => kt ((nI_ltI hb2 ha).mp h)) (fun h => kf (Nat.not_lt.mp fun q => h ((nI_ltI hb2 ha).mpr q)))
theorem hn_le (hx : p.tables.exec = Jvm.exec) (hb : c.code = cc) {a b : Nat} {off : Int} {tgt : Nat} (hdg : decode cc pc = .ok (.if_icmp .le off, 3)) (ht : (pc : Int) + off = (tgt : Int)) (ha : a < 2 ^ 31) (hb2 : b < 2 ^ 31)
    (kt : a ≤ b → W p l e R s m args below meth c H locs cells slots Q (F0 m tgt ls rest)) (kf : b < a → W p l e R s m args below meth c H locs cells slots Q (F0 m (pc + 3) ls rest)) : W p l e R s m args below meth c H locs cells slots Q (F0 m pc ls (.int (nI b) :: .int (nI a) :: rest)) :=
  lv_icmp_le hx hb hdg ht (fun h => kt ((nI_leI ha hb2).mp h)) (fun h => kf (Nat.not_le.mp fun q => h ((nI_leI ha hb2).mpr q)))
theorem hn_eq (hx : p.tables.exec = Jvm.exec) (hb : c.code = cc) {a b : Nat} {off : Int} {tgt : Nat} (hdg : decode cc pc = .ok (.if_icmp .eq off, 3)) (ht : (pc : Int) + off = (tgt : Int)) (ha : a < 2 ^ 31) (hb2 : b < 2 ^ 31)
    (kt : a = b → W p l e R s m args below meth c H locs cells slots Q (F0 m tgt ls rest)) (kf : a ≠ b → W p l e R s m args below meth c H locs cells slots Q (F0 m (pc + 3) ls rest)) : W p l e R s m args below meth c H locs cells slots Q (F0 m pc ls (.int (nI b) :: .int (nI a) :: rest)) :=
  lv_icmp_eq hx hb hdg ht (fun h => kt ((nI_eq ha hb2).mp h)) (fun h => kf fun q => h ((nI_eq ha hb2).mpr q))
theorem hn_ne (hx : p.tables.exec = Jvm.exec) (hb : c.code = cc) {a b : Nat} {off : Int} {tgt : Nat} (hdg : decode cc pc = .ok (.if_icmp .ne off, 3)) (ht : (pc : Int) + off = (tgt : Int)) (ha : a < 2 ^ 31) (hb2 : b < 2 ^ 31)
    (kt : a ≠ b → W p l e R s m args below meth c H locs cells slots Q (F0 m tgt ls rest)) (kf : a = b → W p l e R s m args below meth c H locs cells slots Q (F0 m (pc + 3) ls rest)) : W p l e R s m args below meth c H locs cells slots Q (F0 m pc ls (.int (nI b) :: .int (nI a) :: rest)) :=
  lv_icmp_ne hx hb hdg ht (fun h => kt fun q => h ((nI_eq ha hb2).mpr q)) (fun h => kf ((nI_eq ha hb2).mp h))
/-- of numbers less one -/
theorem hm_eq (hx : p.tables.exec = Jvm.exec) (hb : c.code = cc) {a b : Nat} {off : Int} {tgt : Nat} (hdg : decode cc pc = .ok (.if_icmp .eq off, 3)) (ht : (pc : Int) + off = (tgt : Int)) (ha : a < 2 ^ 31) (hb2 : b < 2 ^ 31)
    (kt : a = b → W p l e R s m args below meth c H locs cells slots Q (F0 m tgt ls rest)) (kf : a ≠ b → W p l e R s m args below meth c H locs cells slots Q (F0 m (pc + 3) ls rest)) : W p l e R s m args below meth c H locs cells slots Q (F0 m pc ls (.int (nI b - 1) :: .int (nI a - 1) :: rest)) :=
  lv_icmp_eq hx hb hdg ht (fun h => kt ((nm_eq ha hb2).mp h)) (fun h => kf fun q => h ((nm_eq ha hb2).mpr q))
theorem hm_ne (hx : p.tables.exec = Jvm.exec) (hb : c.code = cc) {a b : Nat} {off : Int} {tgt : Nat} (hdg : decode cc pc = .ok (.if_icmp .ne off, 3)) (ht : (pc : Int) + off = (tgt : Int)) (ha : a < 2 ^ 31) (hb2 : b < 2 ^ 31)
    (kt : a ≠ b → W p l e R s m args below meth c H locs cells slots Q (F0 m tgt ls rest)) (kf : a = b → W p l e R s m args below meth c H locs cells slots Q (F0 m (pc + 3) ls rest)) : W p l e R s m args below meth c H locs cells slots Q (F0 m pc ls (.int (nI b - 1) :: .int (nI a - 1) :: rest)) :=
  lv_icmp_ne hx hb hdg ht (fun h => kt fun q => h ((nm_eq ha hb2).mpr q)) (fun h => kf ((nm_eq ha hb2).mp h))
theorem hm_z_lt (hx : p.tables.exec = Jvm.exec) (hb : c.code = cc) {a : Nat} {off : Int} {tgt : Nat} (hdg : decode cc pc = .ok (.ifCond .lt off, 3)) (ht : (pc : Int) + off = (tgt : Int)) (ha : a < 2 ^ 31)
    (kt : a = 0 → W p l e R s m args below meth c H locs cells slots Q (F0 m tgt ls rest)) (kf : 0 < a → W p l e R s m args below meth c H locs cells slots Q (F0 m (pc + 3) ls rest)) : W p l e R s m args below meth c H locs cells slots Q (F0 m pc ls (.int (nI a - 1) :: rest)) :=
  lv_if_lt hx hb hdg ht (fun h => kt ((nm_lt0 ha).mp h)) (fun h => kf (Nat.pos_of_ne_zero fun q => h ((nm_lt0 ha).mpr q)))
/-- of booleans -/
theorem hz_eq (hx : p.tables.exec = Jvm.exec) (hb : c.code = cc) {b : Bool} {off : Int} {tgt : Nat} (hdg : decode cc pc = .ok (.ifCond .eq off, 3)) (ht : (pc : Int) + off = (tgt : Int))
    (kt : b = false → W p l e R s m args below meth c H locs cells slots Q (F0 m tgt ls rest)) (kf : b = true → W p l e R s m args below meth c H locs cells slots Q (F0 m (pc + 3) ls rest)) : W p l e R s m args below meth c H locs cells slots Q (F0 m pc ls (.int (b01 b) :: rest)) := by
  refine lv_if_eq hx hb hdg ht (fun h => kt ?_) (fun h => kf ?_)
  · cases b
    · rfl
    · exact absurd h (by decide)
  · cases b
    · exact absurd rfl h
    · rfl
theorem hz_ne (hx : p.tables.exec = Jvm.exec) (hb : c.code = cc) {b : Bool} {off : Int} {tgt : Nat} (hdg : decode cc pc = .ok (.ifCond .ne off, 3)) (ht : (pc : Int) + off = (tgt : Int))
    (kt : b = true → W p l e R s m args below meth c H locs cells slots Q (F0 m tgt ls rest)) (kf : b = false → W p l e R s m args below meth c H locs cells slots Q (F0 m (pc + 3) ls rest)) : W p l e R s m args below meth c H locs cells slots Q (F0 m pc ls (.int (b01 b) :: rest)) := by
  refine lv_if_ne hx hb hdg ht (fun h => kt ?_) (fun h => kf ?_)
  · cases b
    · exact absurd rfl h
    · rfl
  · cases b
    · rfl
    · exact absurd h (by decide)
/-- a number against naught -/
theorem hn_z_eq (hx : p.tables.exec = Jvm.exec) (hb : c.code = cc) {a : Nat} {off : Int} {tgt : Nat} (hdg : decode cc pc = .ok (.ifCond .eq off, 3)) (ht : (pc : Int) + off = (tgt : Int)) (ha : a < 2 ^ 31)
    (kt : a = 0 → W p l e R s m args below meth c H locs cells slots Q (F0 m tgt ls rest)) (kf : a ≠ 0 → W p l e R s m args below meth c H locs cells slots Q (F0 m (pc + 3) ls rest)) : W p l e R s m args below meth c H locs cells slots Q (F0 m pc ls (.int (nI a) :: rest)) :=
  lv_if_eq hx hb hdg ht (fun h => kt ((nI_eq ha (b := 0) (by omega)).mp h)) (fun h => kf fun q => h ((nI_eq ha (b := 0) (by omega)).mpr q))
theorem hn_z_ne (hx : p.tables.exec = Jvm.exec) (hb : c.code = cc) {a : Nat} {off : Int} {tgt : Nat} (hdg : decode cc pc = .ok (.ifCond .ne off, 3)) (ht : (pc : Int) + off = (tgt : Int)) (ha : a < 2 ^ 31)
    (kt : a ≠ 0 → W p l e R s m args below meth c H locs cells slots Q (F0 m tgt ls rest)) (kf : a = 0 → W p l e R s m args below meth c H locs cells slots Q (F0 m (pc + 3) ls rest)) : W p l e R s m args below meth c H locs cells slots Q (F0 m pc ls (.int (nI a) :: rest)) :=
  lv_if_ne hx hb hdg ht (fun h => kt fun q => h ((nI_eq ha (b := 0) (by omega)).mpr q)) (fun h => kf ((nI_eq ha (b := 0) (by omega)).mp h))
theorem hn_z_le (hx : p.tables.exec = Jvm.exec) (hb : c.code = cc) {a : Nat} {off : Int} {tgt : Nat} (hdg : decode cc pc = .ok (.ifCond .le off, 3)) (ht : (pc : Int) + off = (tgt : Int)) (ha : a < 2 ^ 31)
    (kt : a = 0 → W p l e R s m args below meth c H locs cells slots Q (F0 m tgt ls rest)) (kf : 0 < a → W p l e R s m args below meth c H locs cells slots Q (F0 m (pc + 3) ls rest)) : W p l e R s m args below meth c H locs cells slots Q (F0 m pc ls (.int (nI a) :: rest)) :=
  lv_if_le hx hb hdg ht (fun h => kt (Nat.le_zero.mp ((nI_leI ha (b := 0) (by omega)).mp h))) (fun h => kf (Nat.pos_of_ne_zero fun q => h ((nI_leI ha (b := 0) (by omega)).mpr (by omega))))
end HN
theorem sh_k : ∀ c, c < 32 → ((nI c &&& 31).toBitVec.smod 32).toNat = c := by decide +kernel
theorem n_shr {a c : Nat} (ha : a < 2 ^ 31) (hc : c < 32) : nI a >>> (nI c &&& 31) = nI (a / 2 ^ c) := pk_shrN ha _ c (sh_k c hc)
theorem n_shl {a c : Nat} (hc : c < 32) (h : a * 2 ^ c < 2 ^ 32) : nI a <<< (nI c &&& 31) = nI (a * 2 ^ c) := pk_shlN _ c (sh_k c hc) h
theorem n_and1 {a : Nat} (ha : a < 2 ^ 32) : nI a &&& nI 1 = nI (a % 2) := pk_andN (m := nI 1) ha 1 rfl
theorem n_or (a b : Nat) (ha : a < 2 ^ 31) (hb : b < 2 ^ 31) : nI a ||| nI b = nI (a ||| b) := by
  apply Int32.toBitVec_inj.mp
  rw [Int32.toBitVec_or]
  apply BitVec.eq_of_toNat_eq
  rw [BitVec.toNat_or, pk_tn (by omega), pk_tn (by omega), pk_tn (Nat.lt_trans (Nat.or_lt_two_pow ha hb) (by omega))]
theorem n_and (a b : Nat) (ha : a < 2 ^ 31) (hb : b < 2 ^ 31) : nI a &&& nI b = nI (a &&& b) := by
  apply Int32.toBitVec_inj.mp
  rw [Int32.toBitVec_and]
  apply BitVec.eq_of_toNat_eq
  rw [BitVec.toNat_and, pk_tn (by omega), pk_tn (by omega), pk_tn (Nat.lt_of_le_of_lt Nat.and_le_left (by omega))]
theorem tb {a c : Nat} : a.testBit c = decide (a / 2 ^ c % 2 = 1) := Nat.testBit_eq_decide_div_mod_eq
/-- any int against bounds -/
theorem i_in {x : Int32} {lo hi : Nat} (hh : hi < 2 ^ 31) (hlo : lo ≤ hi) (h1 : ¬ x < nI lo) (h2 : ¬ nI hi < x) : ∃ j, lo ≤ j ∧ j ≤ hi ∧ x = nI j := by
  have h3 : ¬ x < 0 := by
    intro q
    apply h1
    rw [Int32.lt_iff_toInt_lt, nI_toInt (by omega)]
    rw [Int32.lt_iff_toInt_lt, Int32.toInt_zero] at q
    omega
  obtain ⟨j, hj, rfl⟩ := nI_of h3
  exact ⟨j, by have := (not_congr (nI_ltI hj (by omega))).mp h1; omega, by have := (not_congr (nI_ltI hh hj)).mp h2; omega, rfl⟩
