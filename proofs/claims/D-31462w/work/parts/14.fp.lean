/-! what is no NaN -/
set_option maxRecDepth 100000
theorem fp_mean : ∀ a, a < 17 → ∀ b, b < 9 → 0 < b → vf_n64 (FP.ddiv (FP.i2d (nI a)) (FP.i2d (nI b))) := by
  unfold vf_n64
  decide +kernel
def fgood (f : FP.Core.Fmt) : FP.Core.Datum → Prop
  | .nan => False
  | .inf _ => True
  | .fin _ c q => c < 2 ^ f.p ∧ f.qmin ≤ q ∧ q ≤ f.qmax
theorem fg_bound {f : FP.Core.Fmt} {s : Bool} {c : Nat} {q : Int} (hc : c < 2 ^ f.p) (hq : f.qmin ≤ q) : fgood f (FP.Core.bound f s c q) := by
  unfold FP.Core.bound
  split
  · next h => exact ⟨hc, hq, h⟩
  · trivial
theorem fg_ratio {f : FP.Core.Fmt} (hp : 0 < f.p) (hm : f.qmin ≤ f.qmax) {s : Bool} {num den : Nat} {e : Int} : fgood f (FP.Core.roundRatio f s num den e) := by
  unfold FP.Core.roundRatio
  split
  · exact ⟨Nat.two_pow_pos _, Int.le_refl _, hm⟩
  · unfold FP.Core.roundAt FP.Core.settle
    have h1 : f.qmin ≤ FP.Core.quantum f num den e := by
      unfold FP.Core.quantum
      exact Int.le_max_left _ _
    split
    · next h => exact fg_bound h h1
    · refine fg_bound ?_ (by omega)
      show 2 ^ (f.p - 1) < 2 ^ f.p
      exact Nat.pow_lt_pow_right (by decide) (by omega)
/-- an encoding is low: its field stays under that of a NaN -/
theorem fg_enc32 {d : FP.Core.Datum} (h : fgood FP.Core.b32 d) : vf_n32 (UInt32.ofNat (FP.Core.encode FP.Core.b32 d)) := by
  have key : ∀ (s : Bool) (m : Nat), m ≤ 0x7f800000 → vf_n32 (UInt32.ofNat (s.toNat * 2 ^ 31 + m)) := by
    intro s m hm
    unfold vf_n32
    rw [UInt32.le_iff_toNat_le, UInt32.toNat_and]
    show UInt32.toNat (UInt32.ofNat _) &&& (2 ^ 31 - 1) ≤ 0x7f800000
    rw [Nat.and_two_pow_sub_one_eq_mod, UInt32.toNat_ofNat']
    cases s <;> simp <;> omega
  match d, h with
  | .inf s, _ =>
    have e : FP.Core.encode FP.Core.b32 (.inf s) = s.toNat * 2 ^ 31 + 0x7f800000 := by
      show (s.toNat * 256 + 255) * 8388608 + 0 = _
      omega
    rw [e]
    exact key s _ (Nat.le_refl _)
  | .fin s c q, h =>
    have h1 : c < 16777216 := h.1
    have h2 : (-149 : Int) ≤ q := h.2.1
    have h3 : q ≤ (104 : Int) := h.2.2
    unfold FP.Core.encode
    dsimp only
    split
    · next hc =>
      have hc : c < 8388608 := hc
      show vf_n32 (UInt32.ofNat ((s.toNat * 256 + 0) * 8388608 + c))
      rw [show (s.toNat * 256 + 0) * 8388608 + c = s.toNat * 2 ^ 31 + c by omega]
      exact key s _ (by omega)
    · next hc =>
      have hc : ¬ c < 8388608 := hc
      show vf_n32 (UInt32.ofNat ((s.toNat * 256 + ((q - (-149)).toNat + 1)) * 8388608 + (c - 8388608)))
      rw [show (s.toNat * 256 + ((q - (-149)).toNat + 1)) * 8388608 + (c - 8388608) = s.toNat * 2 ^ 31 + (((q - (-149)).toNat + 1) * 8388608 + (c - 8388608)) by omega]
      exact key s _ (by omega)
theorem fg_enc64 {d : FP.Core.Datum} (h : fgood FP.Core.b64 d) : vf_n64 (UInt64.ofNat (FP.Core.encode FP.Core.b64 d)) := by
  have key : ∀ (s : Bool) (m : Nat), m ≤ 0x7ff0000000000000 → vf_n64 (UInt64.ofNat (s.toNat * 2 ^ 63 + m)) := by
    intro s m hm
    unfold vf_n64
    rw [UInt64.le_iff_toNat_le, UInt64.toNat_and]
    show UInt64.toNat (UInt64.ofNat _) &&& (2 ^ 63 - 1) ≤ 0x7ff0000000000000
    rw [Nat.and_two_pow_sub_one_eq_mod, UInt64.toNat_ofNat']
    cases s <;> simp <;> omega
  match d, h with
  | .inf s, _ =>
    have e : FP.Core.encode FP.Core.b64 (.inf s) = s.toNat * 2 ^ 63 + 0x7ff0000000000000 := by
      show (s.toNat * 2048 + 2047) * 4503599627370496 + 0 = _
      omega
    rw [e]
    exact key s _ (Nat.le_refl _)
  | .fin s c q, h =>
    have h1 : c < 9007199254740992 := h.1
    have h2 : (-1074 : Int) ≤ q := h.2.1
    have h3 : q ≤ (971 : Int) := h.2.2
    unfold FP.Core.encode
    dsimp only
    split
    · next hc =>
      have hc : c < 4503599627370496 := hc
      show vf_n64 (UInt64.ofNat ((s.toNat * 2048 + 0) * 4503599627370496 + c))
      rw [show (s.toNat * 2048 + 0) * 4503599627370496 + c = s.toNat * 2 ^ 63 + c by omega]
      exact key s _ (by omega)
    · next hc =>
      have hc : ¬ c < 4503599627370496 := hc
      show vf_n64 (UInt64.ofNat ((s.toNat * 2048 + ((q - (-1074)).toNat + 1)) * 4503599627370496 + (c - 4503599627370496)))
      rw [show (s.toNat * 2048 + ((q - (-1074)).toNat + 1)) * 4503599627370496 + (c - 4503599627370496) = s.toNat * 2 ^ 63 + (((q - (-1074)).toNat + 1) * 4503599627370496 + (c - 4503599627370496)) by omega]
      exact key s _ (by omega)
theorem b32_ok : 0 < FP.Core.b32.p ∧ FP.Core.b32.qmin ≤ FP.Core.b32.qmax := by decide
theorem b64_ok : 0 < FP.Core.b64.p ∧ FP.Core.b64.qmin ≤ FP.Core.b64.qmax := by decide
/-- what is low decodes to no NaN -/
theorem fg_dec32 {r : UInt32} (h : vf_n32 r) : FP.Core.decode FP.Core.b32 r.toNat ≠ .nan := by
  unfold vf_n32 at h
  rw [UInt32.le_iff_toNat_le, UInt32.toNat_and] at h
  have h : r.toNat &&& (2 ^ 31 - 1) ≤ 0x7f800000 := h
  rw [Nat.and_two_pow_sub_one_eq_mod] at h
  have hlt := r.toNat_lt
  have h31 : (2 : Nat) ^ 31 = 2147483648 := by decide
  unfold FP.Core.decode
  split
  · next e =>
    have e : r.toNat / 8388608 % 256 = 255 := e
    split
    · exact fun q => nomatch q
    · next e2 =>
      have e2 : ¬ r.toNat % 8388608 = 0 := e2
      exfalso
      omega
  · split
    · exact fun q => nomatch q
    · exact fun q => nomatch q
theorem fp_f2d {r : UInt32} (h : vf_n32 r) : vf_n64 (FP.f2d r) := by
  have hd := fg_dec32 h
  have hn : ¬ FP.Core.fIsNaN r = true := by
    intro q
    exact hd (of_decide_eq_true q)
  unfold FP.f2d
  rw [if_neg hn]
  unfold FP.Core.f2d FP.Core.convert
  refine fg_enc64 ?_
  revert hd
  generalize FP.Core.decode FP.Core.b32 r.toNat = d
  intro hd
  match d, hd with
  | .nan, hd => exact absurd rfl hd
  | .inf s, _ => trivial
  | .fin s c q, _ => exact fg_ratio b64_ok.1 b64_ok.2
/-- an int as a float -/
theorem fp_i2f {n : Nat} (h0 : 0 < n) (hn : n < 2 ^ 24) : ∃ s c q, FP.Core.decode FP.Core.b32 (FP.i2f (nI n)).toNat = .fin s c q ∧ c ≠ 0 := by
  have hi : (nI n).toInt = (n : Int) := nI_toInt (by omega)
  have hl1 : 2 ^ n.log2 ≤ n := Nat.log2_self_le (by omega)
  have hl2 : n < 2 ^ (n.log2 + 1) := Nat.lt_log2_self
  have hk : n.log2 < 24 := (Nat.log2_lt (by omega)).mpr hn
  obtain ⟨k, hkk⟩ : ∃ k, k = n.log2 := ⟨_, rfl⟩
  rw [← hkk] at hl1 hl2 hk
  have hlead : FP.Core.leading n 1 = (k : Int) := by
    unfold FP.Core.leading
    have e1 : Nat.log2 1 = 0 := by decide
    rw [e1, ← hkk]
    dsimp only
    rw [if_pos (by simp; exact hl1)]
    omega
  have hq : FP.Core.quantum FP.Core.b32 n 1 0 = (k : Int) - 23 := by
    unfold FP.Core.quantum
    rw [hlead]
    show max (-149 : Int) ((k : Int) + 0 - (24 - 1)) = _
    omega
  have hc : FP.Core.nearest (FP.Core.unitsNum n 0 ((k : Int) - 23)) (FP.Core.unitsDen 1 0 ((k : Int) - 23)) = n * 2 ^ (23 - k) := by
    unfold FP.Core.unitsNum FP.Core.unitsDen
    rw [show (0 - ((k : Int) - 23)).toNat = 23 - k by omega, show ((k : Int) - 23 - 0).toNat = 0 by omega]
    unfold FP.Core.nearest
    rw [if_pos (by simp [Nat.mod_one])]
    simp
  have hlo : 2 ^ 23 ≤ n * 2 ^ (23 - k) := by
    calc 2 ^ 23 = 2 ^ k * 2 ^ (23 - k) := by rw [← Nat.pow_add]; congr 1; omega
      _ ≤ _ := Nat.mul_le_mul_right _ hl1
  have hhi : n * 2 ^ (23 - k) < 2 ^ 24 := by
    calc n * 2 ^ (23 - k) < 2 ^ (k + 1) * 2 ^ (23 - k) := Nat.mul_lt_mul_of_pos_right hl2 (Nat.two_pow_pos _)
      _ = 2 ^ 24 := by rw [← Nat.pow_add]; congr 1; omega
  obtain ⟨c, hcc⟩ : ∃ c, c = n * 2 ^ (23 - k) := ⟨_, rfl⟩
  rw [← hcc] at hc hlo hhi
  have hr : FP.Core.round FP.Core.b32 (FP.Core.ofInt (nI n).toInt) = .fin false c ((k : Int) - 23) := by
    rw [hi]
    unfold FP.Core.ofInt FP.Core.round
    dsimp only
    rw [show (n : Int).natAbs = n by omega, show decide ((n : Int) < 0) = false by simp]
    unfold FP.Core.roundRatio
    rw [if_neg (by omega), hq]
    unfold FP.Core.roundAt
    rw [hc]
    unfold FP.Core.settle
    rw [if_pos (show c < 2 ^ FP.Core.b32.p from hhi)]
    unfold FP.Core.bound
    rw [if_pos]
    show (k : Int) - 23 ≤ 104
    omega
  have he : (FP.i2f (nI n)).toNat = (k + 127) * 8388608 + (c - 8388608) := by
    show (UInt32.ofNat (FP.Core.encode FP.Core.b32 (FP.Core.round FP.Core.b32 (FP.Core.ofInt (nI n).toInt)))).toNat = _
    rw [hr]
    unfold FP.Core.encode
    dsimp only
    rw [if_neg (show ¬ c < FP.Core.b32.tails from (show ¬ c < 8388608 by omega))]
    show (UInt32.ofNat ((0 * 256 + (((k : Int) - 23 - (-149)).toNat + 1)) * 8388608 + (c - 8388608))).toNat = _
    rw [UInt32.toNat_ofNat', show ((k : Int) - 23 - (-149)).toNat = k + 126 by omega]
    omega
  have hE : FP.Core.fieldE FP.Core.b32 (FP.i2f (nI n)).toNat = k + 127 := by
    rw [he]
    show ((k + 127) * 8388608 + (c - 8388608)) / 8388608 % 256 = _
    omega
  unfold FP.Core.decode
  rw [hE, if_neg (show ¬ k + 127 = FP.Core.b32.exps - 1 from (show ¬ k + 127 = 255 by omega)), if_neg (by omega)]
  refine ⟨_, _, _, rfl, ?_⟩
  show 8388608 + _ ≠ 0
  omega
theorem fp_i2f0 : FP.Core.decode FP.Core.b32 (FP.i2f (nI 0)).toNat = .fin false 0 (-149) := by decide +kernel
theorem fp_rate {a b : Nat} (hab : a ≤ b) (hb : 0 < b) (h : b < 2 ^ 24) : vf_n32 (FP.fdiv (FP.i2f (nI a)) (FP.i2f (nI b))) := by
  obtain ⟨t, d, r, hd, h0⟩ := fp_i2f hb h
  obtain ⟨s, c, q, hc⟩ : ∃ s c q, FP.Core.decode FP.Core.b32 (FP.i2f (nI a)).toNat = .fin s c q := by
    rcases Nat.eq_zero_or_pos a with rfl | ha
    · exact ⟨_, _, _, fp_i2f0⟩
    · obtain ⟨s, c, q, hc, _⟩ := fp_i2f ha (by omega)
      exact ⟨s, c, q, hc⟩
  show vf_n32 (UInt32.ofNat (FP.Core.encode FP.Core.b32 (FP.Core.quotient FP.Core.b32 (FP.Core.decode FP.Core.b32 (FP.i2f (nI a)).toNat) (FP.Core.decode FP.Core.b32 (FP.i2f (nI b)).toNat))))
  rw [hd, hc]
  refine fg_enc32 ?_
  unfold FP.Core.quotient
  dsimp only
  rw [if_neg h0]
  exact fg_ratio b32_ok.1 b32_ok.2
