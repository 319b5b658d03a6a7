/-! java.lang.Integer, Long: counting bits -/
set_option maxRecDepth 100000
set_option maxHeartbeats 4000000
section LC
variable {p : Program} {l : Launch} {e : Env} {R : Room} {s : State} {m : MethodId} {args : Array Value} {below : List Frame} {meth : Method} {c : Code} {H : Heap} {locs : List Loc} {cells slots : Nat} {Q : State → Prop}
variable {cc : ByteArray} {pc : Nat} {ls : Array Slot} {rest : List Value}
def lcI (x y : Int64) : Int32 := if x > y then 1 else if x = y then 0 else -1
theorem lv_lcmp (hexec : p.tables.exec = Jvm.exec) (hb : c.code = cc) {x y : Int64} (hdg : decode cc pc = .ok (.lcmp, 1))
    (k : W p l e R s m args below meth c H locs cells slots Q (F0 m (pc + 1) ls (.int (lcI x y) :: rest))) : W p l e R s m args below meth c H locs cells slots Q (F0 m pc ls (.long y :: .long x :: rest)) := by
  unfold lcI at k
  intro T hT X
  by_cases h1 : x > y
  · rw [if_pos h1] at k
    obtain ⟨t, a, b⟩ := k T hT X
    refine ⟨t, ?_, b⟩
    jvm_step X.here [X.here.top, hexec, hb, hdg, h1]
    exact a
  · rw [if_neg h1] at k
    by_cases h2 : x = y
    · rw [if_pos h2] at k
      obtain ⟨t, a, b⟩ := k T hT X
      refine ⟨t, ?_, b⟩
      subst h2
      jvm_step X.here [X.here.top, hexec, hb, hdg, h1]
      exact a
    · rw [if_neg h2] at k
      obtain ⟨t, a, b⟩ := k T hT X
      refine ⟨t, ?_, b⟩
      jvm_step X.here [X.here.top, hexec, hb, hdg, h1, h2]
      exact a
end LC
def us (x : Int32) (y : Int32) : Int32 := (x.toUInt32 >>> (y.toUInt32 &&& Int32.toUInt32 31)).toInt32
def bcA (x : Int32) : Int32 := x - (us x 1 &&& 1431655765)
def bcB (x : Int32) : Int32 := (x &&& 858993459) + (us x 2 &&& 858993459)
def bcC (x : Int32) : Int32 := (x + us x 4) &&& 252645135
def bcD (x : Int32) : Int32 := x + us x 8
def bcE (x : Int32) : Int32 := (x + us x 16) &&& 63
def bcI (x : Int32) : Int32 := bcE (bcD (bcC (bcB (bcA x))))
theorem j_bitCount (l : Launch) (Γ : Cx) (H : Heap) (x : Int32) : Mt l Γ yJ24_bitCount (ws_ yJ24_bitCount cJ24_bitCount 1 (some .int)) 1 0 0 [.int x] H (Rd (bcI x) H) := by
  refine mt_of (by decide +kernel) (Nat.le_of_ble_eq_true rfl) ?_
  intro p e s m args below meth c ls Q hx hb hr hlocks hml hts hown hnm hK hS hl hQ
  refine lv_iload_n (pc := 0) hx hb dJ24_bitCount_0 rfl (lk hl rfl) ?_
  refine lv_iload_n (pc := 1) hx hb dJ24_bitCount_1 rfl (lk hl rfl) ?_
  refine lv_iconst (v := 1) (pc := 2) hx hb dJ24_bitCount_2 (by decide) ?_
  refine lv_iushr (pc := 3) hx hb dJ24_bitCount_3 rfl ?_
  refine lv_ldcw (pc := 4) hx hb hown (hts _ q1152) dJ24_bitCount_4 ?_
  refine lv_iand (pc := 7) hx hb dJ24_bitCount_7 ?_
  refine lv_isub (pc := 8) hx hb dJ24_bitCount_8 ?_
  refine lv_istore_n (pc := 9) hx hb dJ24_bitCount_9 rfl hl (Nat.le_of_ble_eq_true rfl) rfl (fun ls hl => ?_)
  refine lv_iload_n (pc := 10) hx hb dJ24_bitCount_10 rfl (lk hl rfl) ?_
  refine lv_ldcw (pc := 11) hx hb hown (hts _ q1153) dJ24_bitCount_11 ?_
  refine lv_iand (pc := 14) hx hb dJ24_bitCount_14 ?_
  refine lv_iload_n (pc := 15) hx hb dJ24_bitCount_15 rfl (lk hl rfl) ?_
  refine lv_iconst (v := 2) (pc := 16) hx hb dJ24_bitCount_16 (by decide) ?_
  refine lv_iushr (pc := 17) hx hb dJ24_bitCount_17 rfl ?_
  refine lv_ldcw (pc := 18) hx hb hown (hts _ q1153) dJ24_bitCount_18 ?_
  refine lv_iand (pc := 21) hx hb dJ24_bitCount_21 ?_
  refine lv_iadd (pc := 22) hx hb dJ24_bitCount_22 ?_
  refine lv_istore_n (pc := 23) hx hb dJ24_bitCount_23 rfl hl (Nat.le_of_ble_eq_true rfl) rfl (fun ls hl => ?_)
  refine lv_iload_n (pc := 24) hx hb dJ24_bitCount_24 rfl (lk hl rfl) ?_
  refine lv_iload_n (pc := 25) hx hb dJ24_bitCount_25 rfl (lk hl rfl) ?_
  refine lv_iconst (v := 4) (pc := 26) hx hb dJ24_bitCount_26 (by decide) ?_
  refine lv_iushr (pc := 27) hx hb dJ24_bitCount_27 rfl ?_
  refine lv_iadd (pc := 28) hx hb dJ24_bitCount_28 ?_
  refine lv_ldcw (pc := 29) hx hb hown (hts _ q1154) dJ24_bitCount_29 ?_
  refine lv_iand (pc := 32) hx hb dJ24_bitCount_32 ?_
  refine lv_istore_n (pc := 33) hx hb dJ24_bitCount_33 rfl hl (Nat.le_of_ble_eq_true rfl) rfl (fun ls hl => ?_)
  refine lv_iload_n (pc := 34) hx hb dJ24_bitCount_34 rfl (lk hl rfl) ?_
  refine lv_iload_n (pc := 35) hx hb dJ24_bitCount_35 rfl (lk hl rfl) ?_
  refine lv_bipush (v := 8) (pc := 36) hx hb dJ24_bitCount_36 (by decide) ?_
  refine lv_iushr (pc := 38) hx hb dJ24_bitCount_38 rfl ?_
  refine lv_iadd (pc := 39) hx hb dJ24_bitCount_39 ?_
  refine lv_istore_n (pc := 40) hx hb dJ24_bitCount_40 rfl hl (Nat.le_of_ble_eq_true rfl) rfl (fun ls hl => ?_)
  refine lv_iload_n (pc := 41) hx hb dJ24_bitCount_41 rfl (lk hl rfl) ?_
  refine lv_iload_n (pc := 42) hx hb dJ24_bitCount_42 rfl (lk hl rfl) ?_
  refine lv_bipush (v := 16) (pc := 43) hx hb dJ24_bitCount_43 (by decide) ?_
  refine lv_iushr (pc := 45) hx hb dJ24_bitCount_45 rfl ?_
  refine lv_iadd (pc := 46) hx hb dJ24_bitCount_46 ?_
  refine lv_istore_n (pc := 47) hx hb dJ24_bitCount_47 rfl hl (Nat.le_of_ble_eq_true rfl) rfl (fun ls hl => ?_)
  refine lv_iload_n (pc := 48) hx hb dJ24_bitCount_48 rfl (lk hl rfl) ?_
  refine lv_bipush (v := 63) (pc := 49) hx hb dJ24_bitCount_49 (by decide) ?_
  refine lv_iand (pc := 51) hx hb dJ24_bitCount_51 ?_
  exact hr_i (pc := 52) hQ hx hb hr hlocks hS (by first | exact Nat.le_of_ble_eq_true rfl | (dsimp only [rmd]; omega)) (by first | exact Nat.le_of_ble_eq_true rfl | (dsimp only [rmd]; omega)) (⟨rfl, rfl⟩) dJ24_bitCount_52
def ntA (k y : Int32) (sh : Int32) (p : Int32 × Int32) : Int32 × Int32 := if p.1 ≤ k then p else (us p.1 sh, p.2 + y)
def ntI (x : Int32) : Int32 :=
  let z := (x ^^^ (-1)) &&& (x - 1)
  if 0 < z then
    let p := ntA 4 2 2 (ntA 16 4 4 (ntA 256 8 8 (ntA 65536 16 16 (z, 1))))
    p.2 + us p.1 1
  else z &&& 32
theorem j_intNtz (l : Launch) (Γ : Cx) (H : Heap) (x : Int32) : Mt l Γ yJ24_numberOfTrailingZeros (ws_ yJ24_numberOfTrailingZeros cJ24_numberOfTrailingZeros 2 (some .int)) 1 0 0 [.int x] H (Rd (ntI x) H) := by
  refine mt_of (by decide +kernel) (Nat.le_of_ble_eq_true rfl) ?_
  intro p e s m args below meth c ls Q hx hb hr hlocks hml hts hown hnm hK hS hl hQ
  have K74 : ∀ (P : Int32 × Int32) (ls : Array Slot), lv_has ls 2 [(0, .int P.1), (1, .int P.2)] → P.2 + us P.1 1 = ntI x → W p l e (rmd 1 0 0) s m args below meth c H [] 0 0 Q (F0 m 74 ls []) := by
    intro P ls hl he
    refine lv_iload_n (pc := 74) hx hb dJ24_numberOfTrailingZeros_74 rfl (lk hl rfl) ?_
    refine lv_iload_n (pc := 75) hx hb dJ24_numberOfTrailingZeros_75 rfl (lk hl rfl) ?_
    refine lv_iconst (v := 1) (pc := 76) hx hb dJ24_numberOfTrailingZeros_76 (by decide) ?_
    refine lv_iushr (pc := 77) hx hb dJ24_numberOfTrailingZeros_77 rfl ?_
    refine lv_iadd (pc := 78) hx hb dJ24_numberOfTrailingZeros_78 ?_
    exact hr_i (pc := 79) hQ hx hb hr hlocks hS (by first | exact Nat.le_of_ble_eq_true rfl | (dsimp only [rmd]; omega)) (by first | exact Nat.le_of_ble_eq_true rfl | (dsimp only [rmd]; omega)) (⟨by rw [← he]; rfl, rfl⟩) dJ24_numberOfTrailingZeros_79
  have K62 : ∀ (P : Int32 × Int32) (ls : Array Slot), lv_has ls 2 [(0, .int P.1), (1, .int P.2)] → (ntA 4 2 2 P).2 + us (ntA 4 2 2 P).1 1 = ntI x → W p l e (rmd 1 0 0) s m args below meth c H [] 0 0 Q (F0 m 62 ls []) := by
    intro P ls hl he
    refine lv_iload_n (pc := 62) hx hb dJ24_numberOfTrailingZeros_62 rfl (lk hl rfl) ?_
    refine lv_iconst (v := 4) (pc := 63) hx hb dJ24_numberOfTrailingZeros_63 (by decide) ?_
    refine lv_icmp_le (tgt := 74) (pc := 64) hx hb dJ24_numberOfTrailingZeros_64 (by decide) (fun h => ?_) (fun h => ?_)
    · rw [ntA, if_pos h] at he
      exact K74 P ls hl he
    · rw [ntA, if_neg h] at he
      refine hw_iinc (pc := 67) hx hb dJ24_numberOfTrailingZeros_67 hl (lk hl rfl) rfl (Nat.le_of_ble_eq_true rfl) (fun ls hl => ?_)
      refine lv_iload_n (pc := 70) hx hb dJ24_numberOfTrailingZeros_70 rfl (lk hl rfl) ?_
      refine lv_iconst (v := 2) (pc := 71) hx hb dJ24_numberOfTrailingZeros_71 (by decide) ?_
      refine lv_iushr (pc := 72) hx hb dJ24_numberOfTrailingZeros_72 rfl ?_
      refine lv_istore_n (pc := 73) hx hb dJ24_numberOfTrailingZeros_73 rfl hl (Nat.le_of_ble_eq_true rfl) rfl (fun ls hl => ?_)
      exact K74 (us P.1 2, P.2 + 2) ls (by repeat first | exact lv_0 hl | refine lv_c (lk hl rfl) ?_) he
  have K49 : ∀ (P : Int32 × Int32) (ls : Array Slot), lv_has ls 2 [(0, .int P.1), (1, .int P.2)] → (ntA 4 2 2 (ntA 16 4 4 P)).2 + us (ntA 4 2 2 (ntA 16 4 4 P)).1 1 = ntI x → W p l e (rmd 1 0 0) s m args below meth c H [] 0 0 Q (F0 m 49 ls []) := by
    intro P ls hl he
    refine lv_iload_n (pc := 49) hx hb dJ24_numberOfTrailingZeros_49 rfl (lk hl rfl) ?_
    refine lv_bipush (v := 16) (pc := 50) hx hb dJ24_numberOfTrailingZeros_50 (by decide) ?_
    refine lv_icmp_le (tgt := 62) (pc := 52) hx hb dJ24_numberOfTrailingZeros_52 (by decide) (fun h => ?_) (fun h => ?_)
    · have e : ntA 16 4 4 P = P := if_pos h
      rw [e] at he
      exact K62 P ls hl he
    · have e : ntA 16 4 4 P = (us P.1 4, P.2 + 4) := if_neg h
      rw [e] at he
      refine hw_iinc (pc := 55) hx hb dJ24_numberOfTrailingZeros_55 hl (lk hl rfl) rfl (Nat.le_of_ble_eq_true rfl) (fun ls hl => ?_)
      refine lv_iload_n (pc := 58) hx hb dJ24_numberOfTrailingZeros_58 rfl (lk hl rfl) ?_
      refine lv_iconst (v := 4) (pc := 59) hx hb dJ24_numberOfTrailingZeros_59 (by decide) ?_
      refine lv_iushr (pc := 60) hx hb dJ24_numberOfTrailingZeros_60 rfl ?_
      refine lv_istore_n (pc := 61) hx hb dJ24_numberOfTrailingZeros_61 rfl hl (Nat.le_of_ble_eq_true rfl) rfl (fun ls hl => ?_)
      exact K62 (us P.1 4, P.2 + 4) ls (by repeat first | exact lv_0 hl | refine lv_c (lk hl rfl) ?_) he
  have K34 : ∀ (P : Int32 × Int32) (ls : Array Slot), lv_has ls 2 [(0, .int P.1), (1, .int P.2)] → (ntA 4 2 2 (ntA 16 4 4 (ntA 256 8 8 P))).2 + us (ntA 4 2 2 (ntA 16 4 4 (ntA 256 8 8 P))).1 1 = ntI x → W p l e (rmd 1 0 0) s m args below meth c H [] 0 0 Q (F0 m 34 ls []) := by
    intro P ls hl he
    refine lv_iload_n (pc := 34) hx hb dJ24_numberOfTrailingZeros_34 rfl (lk hl rfl) ?_
    refine lv_sipush (v := 256) (pc := 35) hx hb dJ24_numberOfTrailingZeros_35 (by decide) ?_
    refine lv_icmp_le (tgt := 49) (pc := 38) hx hb dJ24_numberOfTrailingZeros_38 (by decide) (fun h => ?_) (fun h => ?_)
    · have e : ntA 256 8 8 P = P := if_pos h
      rw [e] at he
      exact K49 P ls hl he
    · have e : ntA 256 8 8 P = (us P.1 8, P.2 + 8) := if_neg h
      rw [e] at he
      refine hw_iinc (pc := 41) hx hb dJ24_numberOfTrailingZeros_41 hl (lk hl rfl) rfl (Nat.le_of_ble_eq_true rfl) (fun ls hl => ?_)
      refine lv_iload_n (pc := 44) hx hb dJ24_numberOfTrailingZeros_44 rfl (lk hl rfl) ?_
      refine lv_bipush (v := 8) (pc := 45) hx hb dJ24_numberOfTrailingZeros_45 (by decide) ?_
      refine lv_iushr (pc := 47) hx hb dJ24_numberOfTrailingZeros_47 rfl ?_
      refine lv_istore_n (pc := 48) hx hb dJ24_numberOfTrailingZeros_48 rfl hl (Nat.le_of_ble_eq_true rfl) rfl (fun ls hl => ?_)
      exact K49 (us P.1 8, P.2 + 8) ls (by repeat first | exact lv_0 hl | refine lv_c (lk hl rfl) ?_) he
  refine lv_iload_n (pc := 0) hx hb dJ24_numberOfTrailingZeros_0 rfl (lk hl rfl) ?_
  refine lv_iconst (v := (-1)) (pc := 1) hx hb dJ24_numberOfTrailingZeros_1 (by decide) ?_
  refine lv_ixor (pc := 2) hx hb dJ24_numberOfTrailingZeros_2 ?_
  refine lv_iload_n (pc := 3) hx hb dJ24_numberOfTrailingZeros_3 rfl (lk hl rfl) ?_
  refine lv_iconst (v := 1) (pc := 4) hx hb dJ24_numberOfTrailingZeros_4 (by decide) ?_
  refine lv_isub (pc := 5) hx hb dJ24_numberOfTrailingZeros_5 ?_
  refine lv_iand (pc := 6) hx hb dJ24_numberOfTrailingZeros_6 ?_
  refine lv_istore_n (pc := 7) hx hb dJ24_numberOfTrailingZeros_7 rfl hl (Nat.le_of_ble_eq_true rfl) rfl (fun ls hl => ?_)
  refine lv_iload_n (pc := 8) hx hb dJ24_numberOfTrailingZeros_8 rfl (lk hl rfl) ?_
  refine lv_if_gt (tgt := 17) (pc := 9) hx hb dJ24_numberOfTrailingZeros_9 (by decide) (fun h0 => ?_) (fun h0 => ?_)
  · refine lv_iconst (v := 1) (pc := 17) hx hb dJ24_numberOfTrailingZeros_17 (by decide) ?_
    refine lv_istore_n (pc := 18) hx hb dJ24_numberOfTrailingZeros_18 rfl hl (Nat.le_of_ble_eq_true rfl) rfl (fun ls hl => ?_)
    refine lv_iload_n (pc := 19) hx hb dJ24_numberOfTrailingZeros_19 rfl (lk hl rfl) ?_
    refine lv_ldcw (pc := 20) hx hb hown (hts _ q983) dJ24_numberOfTrailingZeros_20 ?_
    refine lv_icmp_le (tgt := 34) (pc := 23) hx hb dJ24_numberOfTrailingZeros_23 (by decide) (fun h => ?_) (fun h => ?_)
    · refine K34 ((x ^^^ (-1)) &&& (x - 1), 1) ls (by repeat first | exact lv_0 hl | refine lv_c (lk hl rfl) ?_) ?_
      have e : ntA 65536 16 16 ((x ^^^ (-1)) &&& (x - 1), 1) = ((x ^^^ (-1)) &&& (x - 1), 1) := if_pos h
      unfold ntI
      rw [if_pos h0, e]
    · refine hw_iinc (pc := 26) hx hb dJ24_numberOfTrailingZeros_26 hl (lk hl rfl) rfl (Nat.le_of_ble_eq_true rfl) (fun ls hl => ?_)
      refine lv_iload_n (pc := 29) hx hb dJ24_numberOfTrailingZeros_29 rfl (lk hl rfl) ?_
      refine lv_bipush (v := 16) (pc := 30) hx hb dJ24_numberOfTrailingZeros_30 (by decide) ?_
      refine lv_iushr (pc := 32) hx hb dJ24_numberOfTrailingZeros_32 rfl ?_
      refine lv_istore_n (pc := 33) hx hb dJ24_numberOfTrailingZeros_33 rfl hl (Nat.le_of_ble_eq_true rfl) rfl (fun ls hl => ?_)
      refine K34 (us ((x ^^^ (-1)) &&& (x - 1)) 16, 1 + 16) ls (by repeat first | exact lv_0 hl | refine lv_c (lk hl rfl) ?_) ?_
      have e : ntA 65536 16 16 ((x ^^^ (-1)) &&& (x - 1), 1) = (us ((x ^^^ (-1)) &&& (x - 1)) 16, 1 + 16) := if_neg h
      unfold ntI
      rw [if_pos h0, e]
  · refine lv_iload_n (pc := 12) hx hb dJ24_numberOfTrailingZeros_12 rfl (lk hl rfl) ?_
    refine lv_bipush (v := 32) (pc := 13) hx hb dJ24_numberOfTrailingZeros_13 (by decide) ?_
    refine lv_iand (pc := 15) hx hb dJ24_numberOfTrailingZeros_15 ?_
    exact hr_i (pc := 16) hQ hx hb hr hlocks hS (by first | exact Nat.le_of_ble_eq_true rfl | (dsimp only [rmd]; omega)) (by first | exact Nat.le_of_ble_eq_true rfl | (dsimp only [rmd]; omega)) (⟨by unfold ntI; rw [if_neg h0], rfl⟩) dJ24_numberOfTrailingZeros_16
def nlA (k y : Int32) (sh : Int32) (p : Int32 × Int32) : Int32 × Int32 := if p.1 < k then p else (us p.1 sh, p.2 + y)
def nlI (x : Int32) : Int32 :=
  if 0 < x then
    let p := nlA 4 (-2) 2 (nlA 16 (-4) 4 (nlA 256 (-8) 8 (nlA 65536 (-16) 16 (x, 31))))
    p.2 - us p.1 1
  else if x = 0 then 32 else 0
theorem j_intNlz (l : Launch) (Γ : Cx) (H : Heap) (x : Int32) : Mt l Γ yJ24_numberOfLeadingZeros (ws_ yJ24_numberOfLeadingZeros cJ24_numberOfLeadingZeros 2 (some .int)) 1 0 0 [.int x] H (Rd (nlI x) H) := by
  refine mt_of (by decide +kernel) (Nat.le_of_ble_eq_true rfl) ?_
  intro p e s m args below meth c ls Q hx hb hr hlocks hml hts hown hnm hK hS hl hQ
  have K73 : ∀ (P : Int32 × Int32) (ls : Array Slot), lv_has ls 2 [(0, .int P.1), (1, .int P.2)] → P.2 - us P.1 1 = nlI x → W p l e (rmd 1 0 0) s m args below meth c H [] 0 0 Q (F0 m 73 ls []) := by
    intro P ls hl he
    refine lv_iload_n (pc := 73) hx hb dJ24_numberOfLeadingZeros_73 rfl (lk hl rfl) ?_
    refine lv_iload_n (pc := 74) hx hb dJ24_numberOfLeadingZeros_74 rfl (lk hl rfl) ?_
    refine lv_iconst (v := 1) (pc := 75) hx hb dJ24_numberOfLeadingZeros_75 (by decide) ?_
    refine lv_iushr (pc := 76) hx hb dJ24_numberOfLeadingZeros_76 rfl ?_
    refine lv_isub (pc := 77) hx hb dJ24_numberOfLeadingZeros_77 ?_
    exact hr_i (pc := 78) hQ hx hb hr hlocks hS (by first | exact Nat.le_of_ble_eq_true rfl | (dsimp only [rmd]; omega)) (by first | exact Nat.le_of_ble_eq_true rfl | (dsimp only [rmd]; omega)) (⟨by rw [← he]; rfl, rfl⟩) dJ24_numberOfLeadingZeros_78
  have K61 : ∀ (P : Int32 × Int32) (ls : Array Slot), lv_has ls 2 [(0, .int P.1), (1, .int P.2)] → (nlA 4 (-2) 2 P).2 - us (nlA 4 (-2) 2 P).1 1 = nlI x → W p l e (rmd 1 0 0) s m args below meth c H [] 0 0 Q (F0 m 61 ls []) := by
    intro P ls hl he
    refine lv_iload_n (pc := 61) hx hb dJ24_numberOfLeadingZeros_61 rfl (lk hl rfl) ?_
    refine lv_iconst (v := 4) (pc := 62) hx hb dJ24_numberOfLeadingZeros_62 (by decide) ?_
    refine lv_icmp_lt (tgt := 73) (pc := 63) hx hb dJ24_numberOfLeadingZeros_63 (by decide) (fun h => ?_) (fun h => ?_)
    · have e : nlA 4 (-2) 2 P = P := if_pos h
      rw [e] at he
      exact K73 P ls hl he
    · have e : nlA 4 (-2) 2 P = (us P.1 2, P.2 + (-2)) := if_neg h
      rw [e] at he
      refine hw_iinc (pc := 66) hx hb dJ24_numberOfLeadingZeros_66 hl (lk hl rfl) rfl (Nat.le_of_ble_eq_true rfl) (fun ls hl => ?_)
      refine lv_iload_n (pc := 69) hx hb dJ24_numberOfLeadingZeros_69 rfl (lk hl rfl) ?_
      refine lv_iconst (v := 2) (pc := 70) hx hb dJ24_numberOfLeadingZeros_70 (by decide) ?_
      refine lv_iushr (pc := 71) hx hb dJ24_numberOfLeadingZeros_71 rfl ?_
      refine lv_istore_n (pc := 72) hx hb dJ24_numberOfLeadingZeros_72 rfl hl (Nat.le_of_ble_eq_true rfl) rfl (fun ls hl => ?_)
      exact K73 (us P.1 2, P.2 + (-2)) ls (by repeat first | exact lv_0 hl | refine lv_c (lk hl rfl) ?_) he
  have K48 : ∀ (P : Int32 × Int32) (ls : Array Slot), lv_has ls 2 [(0, .int P.1), (1, .int P.2)] → (nlA 4 (-2) 2 (nlA 16 (-4) 4 P)).2 - us (nlA 4 (-2) 2 (nlA 16 (-4) 4 P)).1 1 = nlI x → W p l e (rmd 1 0 0) s m args below meth c H [] 0 0 Q (F0 m 48 ls []) := by
    intro P ls hl he
    refine lv_iload_n (pc := 48) hx hb dJ24_numberOfLeadingZeros_48 rfl (lk hl rfl) ?_
    refine lv_bipush (v := 16) (pc := 49) hx hb dJ24_numberOfLeadingZeros_49 (by decide) ?_
    refine lv_icmp_lt (tgt := 61) (pc := 51) hx hb dJ24_numberOfLeadingZeros_51 (by decide) (fun h => ?_) (fun h => ?_)
    · have e : nlA 16 (-4) 4 P = P := if_pos h
      rw [e] at he
      exact K61 P ls hl he
    · have e : nlA 16 (-4) 4 P = (us P.1 4, P.2 + (-4)) := if_neg h
      rw [e] at he
      refine hw_iinc (pc := 54) hx hb dJ24_numberOfLeadingZeros_54 hl (lk hl rfl) rfl (Nat.le_of_ble_eq_true rfl) (fun ls hl => ?_)
      refine lv_iload_n (pc := 57) hx hb dJ24_numberOfLeadingZeros_57 rfl (lk hl rfl) ?_
      refine lv_iconst (v := 4) (pc := 58) hx hb dJ24_numberOfLeadingZeros_58 (by decide) ?_
      refine lv_iushr (pc := 59) hx hb dJ24_numberOfLeadingZeros_59 rfl ?_
      refine lv_istore_n (pc := 60) hx hb dJ24_numberOfLeadingZeros_60 rfl hl (Nat.le_of_ble_eq_true rfl) rfl (fun ls hl => ?_)
      exact K61 (us P.1 4, P.2 + (-4)) ls (by repeat first | exact lv_0 hl | refine lv_c (lk hl rfl) ?_) he
  have K33 : ∀ (P : Int32 × Int32) (ls : Array Slot), lv_has ls 2 [(0, .int P.1), (1, .int P.2)] → (nlA 4 (-2) 2 (nlA 16 (-4) 4 (nlA 256 (-8) 8 P))).2 - us (nlA 4 (-2) 2 (nlA 16 (-4) 4 (nlA 256 (-8) 8 P))).1 1 = nlI x → W p l e (rmd 1 0 0) s m args below meth c H [] 0 0 Q (F0 m 33 ls []) := by
    intro P ls hl he
    refine lv_iload_n (pc := 33) hx hb dJ24_numberOfLeadingZeros_33 rfl (lk hl rfl) ?_
    refine lv_sipush (v := 256) (pc := 34) hx hb dJ24_numberOfLeadingZeros_34 (by decide) ?_
    refine lv_icmp_lt (tgt := 48) (pc := 37) hx hb dJ24_numberOfLeadingZeros_37 (by decide) (fun h => ?_) (fun h => ?_)
    · have e : nlA 256 (-8) 8 P = P := if_pos h
      rw [e] at he
      exact K48 P ls hl he
    · have e : nlA 256 (-8) 8 P = (us P.1 8, P.2 + (-8)) := if_neg h
      rw [e] at he
      refine hw_iinc (pc := 40) hx hb dJ24_numberOfLeadingZeros_40 hl (lk hl rfl) rfl (Nat.le_of_ble_eq_true rfl) (fun ls hl => ?_)
      refine lv_iload_n (pc := 43) hx hb dJ24_numberOfLeadingZeros_43 rfl (lk hl rfl) ?_
      refine lv_bipush (v := 8) (pc := 44) hx hb dJ24_numberOfLeadingZeros_44 (by decide) ?_
      refine lv_iushr (pc := 46) hx hb dJ24_numberOfLeadingZeros_46 rfl ?_
      refine lv_istore_n (pc := 47) hx hb dJ24_numberOfLeadingZeros_47 rfl hl (Nat.le_of_ble_eq_true rfl) rfl (fun ls hl => ?_)
      exact K48 (us P.1 8, P.2 + (-8)) ls (by repeat first | exact lv_0 hl | refine lv_c (lk hl rfl) ?_) he
  refine lv_iload_n (pc := 0) hx hb dJ24_numberOfLeadingZeros_0 rfl (lk hl rfl) ?_
  refine lv_if_gt (tgt := 15) (pc := 1) hx hb dJ24_numberOfLeadingZeros_1 (by decide) (fun h0 => ?_) (fun h0 => ?_)
  · refine lv_bipush (v := 31) (pc := 15) hx hb dJ24_numberOfLeadingZeros_15 (by decide) ?_
    refine lv_istore_n (pc := 17) hx hb dJ24_numberOfLeadingZeros_17 rfl hl (Nat.le_of_ble_eq_true rfl) rfl (fun ls hl => ?_)
    refine lv_iload_n (pc := 18) hx hb dJ24_numberOfLeadingZeros_18 rfl (lk hl rfl) ?_
    refine lv_ldcw (pc := 19) hx hb hown (hts _ q983) dJ24_numberOfLeadingZeros_19 ?_
    refine lv_icmp_lt (tgt := 33) (pc := 22) hx hb dJ24_numberOfLeadingZeros_22 (by decide) (fun h => ?_) (fun h => ?_)
    · refine K33 (x, 31) ls (by repeat first | exact lv_0 hl | refine lv_c (lk hl rfl) ?_) ?_
      have e : nlA 65536 (-16) 16 (x, 31) = (x, 31) := if_pos h
      unfold nlI
      rw [if_pos h0, e]
    · refine hw_iinc (pc := 25) hx hb dJ24_numberOfLeadingZeros_25 hl (lk hl rfl) rfl (Nat.le_of_ble_eq_true rfl) (fun ls hl => ?_)
      refine lv_iload_n (pc := 28) hx hb dJ24_numberOfLeadingZeros_28 rfl (lk hl rfl) ?_
      refine lv_bipush (v := 16) (pc := 29) hx hb dJ24_numberOfLeadingZeros_29 (by decide) ?_
      refine lv_iushr (pc := 31) hx hb dJ24_numberOfLeadingZeros_31 rfl ?_
      refine lv_istore_n (pc := 32) hx hb dJ24_numberOfLeadingZeros_32 rfl hl (Nat.le_of_ble_eq_true rfl) rfl (fun ls hl => ?_)
      refine K33 (us x 16, 31 + (-16)) ls (by repeat first | exact lv_0 hl | refine lv_c (lk hl rfl) ?_) ?_
      have e : nlA 65536 (-16) 16 (x, 31) = (us x 16, 31 + (-16)) := if_neg h
      unfold nlI
      rw [if_pos h0, e]
  · refine lv_iload_n (pc := 4) hx hb dJ24_numberOfLeadingZeros_4 rfl (lk hl rfl) ?_
    refine lv_if_ne (tgt := 13) (pc := 5) hx hb dJ24_numberOfLeadingZeros_5 (by decide) (fun h => ?_) (fun h => ?_)
    · refine lv_iconst (v := 0) (pc := 13) hx hb dJ24_numberOfLeadingZeros_13 (by decide) ?_
      exact hr_i (pc := 14) hQ hx hb hr hlocks hS (by first | exact Nat.le_of_ble_eq_true rfl | (dsimp only [rmd]; omega)) (by first | exact Nat.le_of_ble_eq_true rfl | (dsimp only [rmd]; omega)) (⟨by unfold nlI; rw [if_neg h0, if_neg h], rfl⟩) dJ24_numberOfLeadingZeros_14
    · refine lv_bipush (v := 32) (pc := 8) hx hb dJ24_numberOfLeadingZeros_8 (by decide) ?_
      refine lv_goto (tgt := 14) (pc := 10) hx hb dJ24_numberOfLeadingZeros_10 (by decide) ?_
      exact hr_i (pc := 14) hQ hx hb hr hlocks hS (by first | exact Nat.le_of_ble_eq_true rfl | (dsimp only [rmd]; omega)) (by first | exact Nat.le_of_ble_eq_true rfl | (dsimp only [rmd]; omega)) (⟨by unfold nlI; rw [if_neg h0, if_pos h], rfl⟩) dJ24_numberOfLeadingZeros_14
def ntL (x : Int64) : Int32 := if x.toInt32 = 0 then 32 + ntI (x.toUInt64 >>> ((32 : Int32).toInt64.toUInt64 &&& Int64.toUInt64 63)).toInt64.toInt32 else ntI x.toInt32
theorem j_longNtz (l : Launch) (Γ : Cx) (H : Heap) (x : Int64) : Mt l Γ yJ29_numberOfTrailingZeros (ws_ yJ29_numberOfTrailingZeros cJ29_numberOfTrailingZeros 3 (some .int)) 2 0 0 [.long x] H (Rd (ntL x) H) := by
  refine mt_of (by decide +kernel) (Nat.le_of_ble_eq_true rfl) ?_
  intro p e s m args below meth c ls Q hx hb hr hlocks hml hts hown hnm hK hS hl hQ
  refine lv_lload_n (pc := 0) hx hb dJ29_numberOfTrailingZeros_0 rfl (lk hl rfl) ?_
  refine lv_l2i (pc := 1) hx hb dJ29_numberOfTrailingZeros_1 rfl ?_
  refine lv_istore_n (pc := 2) hx hb dJ29_numberOfTrailingZeros_2 rfl hl (Nat.le_of_ble_eq_true rfl) rfl (fun ls hl => ?_)
  refine lv_iload_n (pc := 3) hx hb dJ29_numberOfTrailingZeros_3 rfl (lk hl rfl) ?_
  refine lv_if_ne (tgt := 21) (pc := 4) hx hb dJ29_numberOfTrailingZeros_4 (by decide) (fun h => ?_) (fun h => ?_)
  · refine lv_iload_n (pc := 21) hx hb dJ29_numberOfTrailingZeros_21 rfl (lk hl rfl) ?_
    refine hc_S (pc := 22) hx hb hml hown hts hK hS (j_intNtz l Γ H _) (va_cwS 1 hts (lw_S q980 q981 q99 q982) rfl rfl rfl (by decide +kernel) ⟨(Nat.le_of_ble_eq_true rfl), (Nat.le_of_ble_eq_true rfl)⟩) rfl hl.1 rfl (Nat.le_of_ble_eq_true rfl) dJ29_numberOfTrailingZeros_22 ⟨by first | exact Nat.le_of_ble_eq_true rfl | (dsimp only [rmd]; omega), by first | exact Nat.le_of_ble_eq_true rfl | (dsimp only [rmd]; omega)⟩ (fun v9 H9 locs9 hq9 hS => ?_)
    obtain ⟨rfl, rfl⟩ := hq9
    exact hr_i (pc := 25) hQ hx hb hr hlocks hS (by first | exact Nat.le_of_ble_eq_true rfl | (dsimp only [rmd]; omega)) (by first | exact Nat.le_of_ble_eq_true rfl | (dsimp only [rmd]; omega)) (⟨by unfold ntL; rw [if_neg h], rfl⟩) dJ29_numberOfTrailingZeros_25
  · refine lv_bipush (v := 32) (pc := 7) hx hb dJ29_numberOfTrailingZeros_7 (by decide) ?_
    refine lv_lload_n (pc := 9) hx hb dJ29_numberOfTrailingZeros_9 rfl (lk hl rfl) ?_
    refine lv_bipush (v := 32) (pc := 10) hx hb dJ29_numberOfTrailingZeros_10 (by decide) ?_
    refine lv_lushr (pc := 12) hx hb dJ29_numberOfTrailingZeros_12 rfl ?_
    refine lv_l2i (pc := 13) hx hb dJ29_numberOfTrailingZeros_13 rfl ?_
    refine hc_S (pc := 14) hx hb hml hown hts hK hS (j_intNtz l Γ H _) (va_cwS 1 hts (lw_S q980 q981 q99 q982) rfl rfl rfl (by decide +kernel) ⟨(Nat.le_of_ble_eq_true rfl), (Nat.le_of_ble_eq_true rfl)⟩) rfl hl.1 rfl (Nat.le_of_ble_eq_true rfl) dJ29_numberOfTrailingZeros_14 ⟨by first | exact Nat.le_of_ble_eq_true rfl | (dsimp only [rmd]; omega), by first | exact Nat.le_of_ble_eq_true rfl | (dsimp only [rmd]; omega)⟩ (fun v9 H9 locs9 hq9 hS => ?_)
    obtain ⟨rfl, rfl⟩ := hq9
    refine lv_iadd (pc := 17) hx hb dJ29_numberOfTrailingZeros_17 ?_
    refine lv_goto (tgt := 25) (pc := 18) hx hb dJ29_numberOfTrailingZeros_18 (by decide) ?_
    exact hr_i (pc := 25) hQ hx hb hr hlocks hS (by first | exact Nat.le_of_ble_eq_true rfl | (dsimp only [rmd]; omega)) (by first | exact Nat.le_of_ble_eq_true rfl | (dsimp only [rmd]; omega)) (⟨by unfold ntL; rw [if_pos h], rfl⟩) dJ29_numberOfTrailingZeros_25
def nlL (x : Int64) : Int32 := if (x.toUInt64 >>> ((32 : Int32).toInt64.toUInt64 &&& Int64.toUInt64 63)).toInt64.toInt32 = 0 then 32 + nlI x.toInt32 else nlI (x.toUInt64 >>> ((32 : Int32).toInt64.toUInt64 &&& Int64.toUInt64 63)).toInt64.toInt32
theorem j_longNlz (l : Launch) (Γ : Cx) (H : Heap) (x : Int64) : Mt l Γ yJ29_numberOfLeadingZeros (ws_ yJ29_numberOfLeadingZeros cJ29_numberOfLeadingZeros 3 (some .int)) 2 0 0 [.long x] H (Rd (nlL x) H) := by
  refine mt_of (by decide +kernel) (Nat.le_of_ble_eq_true rfl) ?_
  intro p e s m args below meth c ls Q hx hb hr hlocks hml hts hown hnm hK hS hl hQ
  refine lv_lload_n (pc := 0) hx hb dJ29_numberOfLeadingZeros_0 rfl (lk hl rfl) ?_
  refine lv_bipush (v := 32) (pc := 1) hx hb dJ29_numberOfLeadingZeros_1 (by decide) ?_
  refine lv_lushr (pc := 3) hx hb dJ29_numberOfLeadingZeros_3 rfl ?_
  refine lv_l2i (pc := 4) hx hb dJ29_numberOfLeadingZeros_4 rfl ?_
  refine lv_istore_n (pc := 5) hx hb dJ29_numberOfLeadingZeros_5 rfl hl (Nat.le_of_ble_eq_true rfl) rfl (fun ls hl => ?_)
  refine lv_iload_n (pc := 6) hx hb dJ29_numberOfLeadingZeros_6 rfl (lk hl rfl) ?_
  refine lv_if_ne (tgt := 21) (pc := 7) hx hb dJ29_numberOfLeadingZeros_7 (by decide) (fun h => ?_) (fun h => ?_)
  · refine lv_iload_n (pc := 21) hx hb dJ29_numberOfLeadingZeros_21 rfl (lk hl rfl) ?_
    refine hc_S (pc := 22) hx hb hml hown hts hK hS (j_intNlz l Γ H _) (va_cwS 1 hts (lw_S q996 q997 q99 q998) rfl rfl rfl (by decide +kernel) ⟨(Nat.le_of_ble_eq_true rfl), (Nat.le_of_ble_eq_true rfl)⟩) rfl hl.1 rfl (Nat.le_of_ble_eq_true rfl) dJ29_numberOfLeadingZeros_22 ⟨by first | exact Nat.le_of_ble_eq_true rfl | (dsimp only [rmd]; omega), by first | exact Nat.le_of_ble_eq_true rfl | (dsimp only [rmd]; omega)⟩ (fun v9 H9 locs9 hq9 hS => ?_)
    obtain ⟨rfl, rfl⟩ := hq9
    exact hr_i (pc := 25) hQ hx hb hr hlocks hS (by first | exact Nat.le_of_ble_eq_true rfl | (dsimp only [rmd]; omega)) (by first | exact Nat.le_of_ble_eq_true rfl | (dsimp only [rmd]; omega)) (⟨by unfold nlL; rw [if_neg h], rfl⟩) dJ29_numberOfLeadingZeros_25
  · refine lv_bipush (v := 32) (pc := 10) hx hb dJ29_numberOfLeadingZeros_10 (by decide) ?_
    refine lv_lload_n (pc := 12) hx hb dJ29_numberOfLeadingZeros_12 rfl (lk hl rfl) ?_
    refine lv_l2i (pc := 13) hx hb dJ29_numberOfLeadingZeros_13 rfl ?_
    refine hc_S (pc := 14) hx hb hml hown hts hK hS (j_intNlz l Γ H _) (va_cwS 1 hts (lw_S q996 q997 q99 q998) rfl rfl rfl (by decide +kernel) ⟨(Nat.le_of_ble_eq_true rfl), (Nat.le_of_ble_eq_true rfl)⟩) rfl hl.1 rfl (Nat.le_of_ble_eq_true rfl) dJ29_numberOfLeadingZeros_14 ⟨by first | exact Nat.le_of_ble_eq_true rfl | (dsimp only [rmd]; omega), by first | exact Nat.le_of_ble_eq_true rfl | (dsimp only [rmd]; omega)⟩ (fun v9 H9 locs9 hq9 hS => ?_)
    obtain ⟨rfl, rfl⟩ := hq9
    refine lv_iadd (pc := 17) hx hb dJ29_numberOfLeadingZeros_17 ?_
    refine lv_goto (tgt := 25) (pc := 18) hx hb dJ29_numberOfLeadingZeros_18 (by decide) ?_
    exact hr_i (pc := 25) hQ hx hb hr hlocks hS (by first | exact Nat.le_of_ble_eq_true rfl | (dsimp only [rmd]; omega)) (by first | exact Nat.le_of_ble_eq_true rfl | (dsimp only [rmd]; omega)) (⟨by unfold nlL; rw [if_pos h], rfl⟩) dJ29_numberOfLeadingZeros_25
