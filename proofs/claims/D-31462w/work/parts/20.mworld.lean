/-! the reference's world: one object, thirteen arrays; what they hold is the pure state S (field, place), and 'thrown' -/
set_option maxRecDepth 100000
def msz : Nat → Nat
  | 1 => 8 | 2 => 20 | 3 => 20 | 4 => 20 | 5 => 20 | 6 => 20 | 7 => 1280 | 8 => 3 | 9 => 48 | 10 => 48 | 11 => 48 | 12 => 16 | _ => 100000
def mcell (Γ : Cx) (μ : Nat → Nat) (S : Sx) (th : Int32) : Nat → va_E
  | 0 => ob 2 [.int th, .int (nI (S 0 0)), .ref (μ 1), .ref (μ 2), .ref (μ 3), .ref (μ 4), .ref (μ 5), .ref (μ 6), .ref (μ 7), .ref (μ 8), .ref (μ 9), .ref (μ 10), .ref (μ 11), .ref (μ 12), .int (nI (S 0 1)), .int (nI (S 0 2)), .ref (μ 13)]
  | 1 => ia Γ 8 (fun j => nI (S 1 j))
  | 2 => za Γ 20 (fun j => nI (S 2 j))
  | 3 => za Γ 20 (fun j => nI (S 3 j))
  | 4 => za Γ 20 (fun j => nI (S 4 j))
  | 5 => za Γ 20 (fun j => nI (S 5 j))
  | 6 => ia Γ 20 (fun j => nI (S 6 j))
  | 7 => ia Γ 1280 (fun j => nI (S 7 j))
  | 8 => ia Γ 3 (fun j => nI (S 8 j))
  | 9 => ia Γ 48 (fun j => nI (S 9 j))
  | 10 => ia Γ 48 (fun j => nI (S 10 j) - 1)
  | 11 => ia Γ 48 (fun j => nI (S 11 j))
  | 12 => za Γ 16 (fun j => nI (S 12 j))
  | _ => ia Γ 100000 (fun j => nI (S 13 j))
def MW (Γ : Cx) (H : Heap) (μ : Nat → Nat) (S : Sx) (th : Int32) : Prop := (∀ k, k < 14 → pt Γ H (μ k) (mcell Γ μ S th k) ∧ Gz Γ (μ k)) ∧ ∀ i j, i < 14 → j < 14 → μ i = μ j → i = j
def Mf (μ : Nat → Nat) : Nat → Prop := fun q => ∃ k, k < 14 ∧ q = μ k
abbrev MP (Γ : Cx) (μ : Nat → Nat) (S : Sx) (th : Int32) (H : Heap) (x : Option Value) : Option Value → Heap → Prop := fun v H1 => v = x ∧ MW Γ H1 μ S th ∧ Off (Mf μ) H H1
theorem mc_off {Γ : Cx} {μ : Nat → Nat} {S : Sx} {th : Int32} {k i v : Nat} (hk : 1 ≤ k) (j : Nat) (hj : j < 14) (hn : j ≠ k) : mcell Γ μ (up2 S k i v) th j = mcell Γ μ S th j := by
  have h0 : up2 S k i v 0 = S 0 := up2_row (by omega)
  have hr : up2 S k i v j = S j := up2_row hn
  match j, hj with
  | 0, _ => simp only [mcell, h0]
  | 1, _ => simp only [mcell, hr]
  | 2, _ => simp only [mcell, hr]
  | 3, _ => simp only [mcell, hr]
  | 4, _ => simp only [mcell, hr]
  | 5, _ => simp only [mcell, hr]
  | 6, _ => simp only [mcell, hr]
  | 7, _ => simp only [mcell, hr]
  | 8, _ => simp only [mcell, hr]
  | 9, _ => simp only [mcell, hr]
  | 10, _ => simp only [mcell, hr]
  | 11, _ => simp only [mcell, hr]
  | 12, _ => simp only [mcell, hr]
  | 13, _ => simp only [mcell, hr]
theorem mc_off0 {Γ : Cx} {μ : Nat → Nat} {S S' : Sx} {th th' : Int32} (h : ∀ f, f ≠ 0 → S' f = S f) (j : Nat) (hj : j < 14) (hn : j ≠ 0) : mcell Γ μ S' th' j = mcell Γ μ S th j := by
  have hr : S' j = S j := h j hn
  match j, hj with
  | 1, _ => simp only [mcell, hr]
  | 2, _ => simp only [mcell, hr]
  | 3, _ => simp only [mcell, hr]
  | 4, _ => simp only [mcell, hr]
  | 5, _ => simp only [mcell, hr]
  | 6, _ => simp only [mcell, hr]
  | 7, _ => simp only [mcell, hr]
  | 8, _ => simp only [mcell, hr]
  | 9, _ => simp only [mcell, hr]
  | 10, _ => simp only [mcell, hr]
  | 11, _ => simp only [mcell, hr]
  | 12, _ => simp only [mcell, hr]
  | 13, _ => simp only [mcell, hr]
theorem MW.wr {Γ : Cx} {H H1 : Heap} {μ : Nat → Nat} {S S' : Sx} {th th' : Int32} (h : MW Γ H μ S th) {k : Nat} (hk : k < 14) (hp : pt Γ H1 (μ k) (mcell Γ μ S' th' k)) (o : ∀ q : Nat, q ≠ μ k → H1[q]? = H[q]?) (hc : ∀ j, j < 14 → j ≠ k → mcell Γ μ S' th' j = mcell Γ μ S th j) : MW Γ H1 μ S' th' := by
  refine ⟨fun j hj => ?_, h.2⟩
  by_cases e : j = k
  · subst e
    exact ⟨hp, (h.1 j hj).2⟩
  · refine ⟨?_, (h.1 j hj).2⟩
    rw [hc j hj e]
    exact (h.1 j hj).1.ne o (fun q => e (h.2 j k hj hk q))
theorem MW.g {Γ : Cx} {H : Heap} {μ : Nat → Nat} {S : Sx} {th : Int32} (h : MW Γ H μ S th) {k : Nat} (hk : k < 14) : Gz Γ (μ k) := (h.1 k hk).2
theorem MW.p0 {Γ : Cx} {H : Heap} {μ : Nat → Nat} {S : Sx} {th : Int32} (h : MW Γ H μ S th) : pt Γ H (μ 0) (ob 2 [.int th, .int (nI (S 0 0)), .ref (μ 1), .ref (μ 2), .ref (μ 3), .ref (μ 4), .ref (μ 5), .ref (μ 6), .ref (μ 7), .ref (μ 8), .ref (μ 9), .ref (μ 10), .ref (μ 11), .ref (μ 12), .int (nI (S 0 1)), .int (nI (S 0 2)), .ref (μ 13)]) := (h.1 0 (by decide)).1
theorem MW.pi {Γ : Cx} {H : Heap} {μ : Nat → Nat} {S : Sx} {th : Int32} (h : MW Γ H μ S th) {k : Nat} (hk : k ∈ [1, 6, 7, 8, 9, 11, 13]) : pt Γ H (μ k) (ia Γ (msz k) (fun j => nI (S k j))) := by
  simp only [List.mem_cons, List.not_mem_nil, or_false] at hk
  rcases hk with rfl | rfl | rfl | rfl | rfl | rfl | rfl
  · exact (h.1 1 (by decide)).1
  · exact (h.1 6 (by decide)).1
  · exact (h.1 7 (by decide)).1
  · exact (h.1 8 (by decide)).1
  · exact (h.1 9 (by decide)).1
  · exact (h.1 11 (by decide)).1
  · exact (h.1 13 (by decide)).1
theorem MW.pz {Γ : Cx} {H : Heap} {μ : Nat → Nat} {S : Sx} {th : Int32} (h : MW Γ H μ S th) {k : Nat} (hk : k ∈ [2, 3, 4, 5, 12]) : pt Γ H (μ k) (za Γ (msz k) (fun j => nI (S k j))) := by
  simp only [List.mem_cons, List.not_mem_nil, or_false] at hk
  rcases hk with rfl | rfl | rfl | rfl | rfl
  · exact (h.1 2 (by decide)).1
  · exact (h.1 3 (by decide)).1
  · exact (h.1 4 (by decide)).1
  · exact (h.1 5 (by decide)).1
  · exact (h.1 12 (by decide)).1
theorem MW.p10 {Γ : Cx} {H : Heap} {μ : Nat → Nat} {S : Sx} {th : Int32} (h : MW Γ H μ S th) : pt Γ H (μ 10) (ia Γ 48 (fun j => nI (S 10 j) - 1)) := (h.1 10 (by decide)).1
theorem MW.ni {Γ : Cx} {H H1 : Heap} {μ : Nat → Nat} {S : Sx} {th : Int32} (h : MW Γ H μ S th) {k i v : Nat} (hk : k ∈ [1, 6, 7, 8, 9, 11, 13]) (hp : pt Γ H1 (μ k) (ia Γ (msz k) (fun j => nI (up2 S k i v k j)))) (o : ∀ q : Nat, q ≠ μ k → H1[q]? = H[q]?) : MW Γ H1 μ (up2 S k i v) th := by
  have h1 : 1 ≤ k ∧ k < 14 := by
    simp only [List.mem_cons, List.not_mem_nil, or_false] at hk
    omega
  refine h.wr h1.2 ?_ o (mc_off h1.1)
  simp only [List.mem_cons, List.not_mem_nil, or_false] at hk
  rcases hk with rfl | rfl | rfl | rfl | rfl | rfl | rfl <;> exact hp
theorem MW.nz {Γ : Cx} {H H1 : Heap} {μ : Nat → Nat} {S : Sx} {th : Int32} (h : MW Γ H μ S th) {k i v : Nat} (hk : k ∈ [2, 3, 4, 5, 12]) (hp : pt Γ H1 (μ k) (za Γ (msz k) (fun j => nI (up2 S k i v k j)))) (o : ∀ q : Nat, q ≠ μ k → H1[q]? = H[q]?) : MW Γ H1 μ (up2 S k i v) th := by
  have h1 : 1 ≤ k ∧ k < 14 := by
    simp only [List.mem_cons, List.not_mem_nil, or_false] at hk
    omega
  refine h.wr h1.2 ?_ o (mc_off h1.1)
  simp only [List.mem_cons, List.not_mem_nil, or_false] at hk
  rcases hk with rfl | rfl | rfl | rfl | rfl <;> exact hp
theorem msz_lt (k : Nat) : msz k < 2 ^ 31 := by
  unfold msz
  split <;> omega
theorem MW.th {Γ : Cx} {H H1 : Heap} {μ : Nat → Nat} {S : Sx} {th th' : Int32} (h : MW Γ H μ S th) (hp : pt Γ H1 (μ 0) (mcell Γ μ S th' 0)) (o : ∀ q : Nat, q ≠ μ 0 → H1[q]? = H[q]?) : MW Γ H1 μ S th' := h.wr (by decide) hp o (mc_off0 (fun _ _ => rfl))
theorem MW.sc {Γ : Cx} {H H1 : Heap} {μ : Nat → Nat} {S : Sx} {th : Int32} {i v : Nat} (h : MW Γ H μ S th) (hp : pt Γ H1 (μ 0) (mcell Γ μ (up2 S 0 i v) th 0)) (o : ∀ q : Nat, q ≠ μ 0 → H1[q]? = H[q]?) : MW Γ H1 μ (up2 S 0 i v) th := h.wr (by decide) hp o (mc_off0 (fun _ hf => up2_row hf))
section HMW
variable {p : Program} {l : Launch} {e : Env} {R : Room} {s : State} {m : MethodId} {args : Array Value} {below : List Frame} {meth : Method} {c : Code} {H : Heap} {locs : List Loc} {cells slots : Nat} {Q : State → Prop}
variable {cc : ByteArray} {pc : Nat} {ls : Array Slot} {rest : List Value} {Γ : Cx} {μ : Nat → Nat} {S : Sx} {th : Int32}
theorem hm_iald (hx : p.tables.exec = Jvm.exec) (hb : c.code = cc) (hK : KK Γ s) (hM : MW Γ H μ S th) {k i : Nat} (hk : k ∈ [1, 6, 7, 8, 9, 11, 13]) (hi : i < msz k) (hdg : decode cc pc = .ok (.iaload, 1))
    (kk : W p l e R s m args below meth c H locs cells slots Q (F0 m (pc + 1) ls (.int (nI (S k i)) :: rest))) : W p l e R s m args below meth c H locs cells slots Q (F0 m pc ls (.int (nI i) :: .ref (μ k) :: rest)) := by
  have hz := msz_lt k
  refine hw_iald hx hb hK (hM.pi hk) (vp_in_nI hi hz) hdg ?_
  rw [nI_clamp (by omega)]
  exact kk
theorem hm_zald (hx : p.tables.exec = Jvm.exec) (hb : c.code = cc) (hK : KK Γ s) (hM : MW Γ H μ S th) {k i : Nat} (hk : k ∈ [2, 3, 4, 5, 12]) (hi : i < msz k) (hdg : decode cc pc = .ok (.baload, 1))
    (kk : W p l e R s m args below meth c H locs cells slots Q (F0 m (pc + 1) ls (.int (nI (S k i)) :: rest))) : W p l e R s m args below meth c H locs cells slots Q (F0 m pc ls (.int (nI i) :: .ref (μ k) :: rest)) := by
  have hz := msz_lt k
  refine hw_zald hx hb hK (hM.pz hk) (vp_in_nI hi hz) hdg ?_
  rw [nI_clamp (by omega)]
  exact kk
theorem hm_mald (hx : p.tables.exec = Jvm.exec) (hb : c.code = cc) (hK : KK Γ s) (hM : MW Γ H μ S th) {i : Nat} (hi : i < 48) (hdg : decode cc pc = .ok (.iaload, 1))
    (kk : W p l e R s m args below meth c H locs cells slots Q (F0 m (pc + 1) ls (.int (nI (S 10 i) - 1) :: rest))) : W p l e R s m args below meth c H locs cells slots Q (F0 m pc ls (.int (nI i) :: .ref (μ 10) :: rest)) := by
  refine hw_iald hx hb hK hM.p10 (vp_in_nI hi (by decide)) hdg ?_
  rw [nI_clamp (by omega)]
  exact kk
theorem hm_iast (hx : p.tables.exec = Jvm.exec) (hb : c.code = cc) (hK : KK Γ s) (hM : MW Γ H μ S th) {k i v : Nat} (hk : k ∈ [1, 6, 7, 8, 9, 11, 13]) (hi : i < msz k) (hS : va_S (Gz Γ) s.heap H locs) (hdg : decode cc pc = .ok (.iastore, 1))
    (kk : ∀ (H1 : Heap) (locs1 : List Loc), MW Γ H1 μ (up2 S k i v) th → Off (Mf μ) H H1 → va_S (Gz Γ) s.heap H1 locs1 → W p l e R s m args below meth c H1 locs1 cells slots Q (F0 m (pc + 1) ls rest)) : W p l e R s m args below meth c H locs cells slots Q (F0 m pc ls (.int (nI v) :: .int (nI i) :: .ref (μ k) :: rest)) := by
  have h1 : k < 14 := by
    simp only [List.mem_cons, List.not_mem_nil, or_false] at hk
    omega
  have hz := msz_lt k
  refine hw_iast hx hb hK (hM.pi hk) (hM.g h1) hS (vp_in_nI hi hz) hdg (fun H1 locs1 hp z o hS1 => kk H1 locs1 (hM.ni hk ?_ o) (Off.put z o ⟨k, h1, rfl⟩) hS1)
  rw [nI_clamp (by omega), nI_up2] at hp
  exact hp
theorem hm_zast (hx : p.tables.exec = Jvm.exec) (hb : c.code = cc) (hK : KK Γ s) (hM : MW Γ H μ S th) {k i v : Nat} (hk : k ∈ [2, 3, 4, 5, 12]) (hi : i < msz k) (hv : v ≤ 1) (hS : va_S (Gz Γ) s.heap H locs) (hdg : decode cc pc = .ok (.bastore, 1))
    (kk : ∀ (H1 : Heap) (locs1 : List Loc), MW Γ H1 μ (up2 S k i v) th → Off (Mf μ) H H1 → va_S (Gz Γ) s.heap H1 locs1 → W p l e R s m args below meth c H1 locs1 cells slots Q (F0 m (pc + 1) ls rest)) : W p l e R s m args below meth c H locs cells slots Q (F0 m pc ls (.int (nI v) :: .int (nI i) :: .ref (μ k) :: rest)) := by
  have h1 : k < 14 := by
    simp only [List.mem_cons, List.not_mem_nil, or_false] at hk
    omega
  have hz := msz_lt k
  have hn : vp_nar .boolean (nI v) = nI v := by
    rcases (show v = 0 ∨ v = 1 by omega) with rfl | rfl <;> rfl
  refine hw_zast hx hb hK (hM.pz hk) (hM.g h1) hS hn (vp_in_nI hi hz) hdg (fun H1 locs1 hp z o hS1 => kk H1 locs1 (hM.nz hk ?_ o) (Off.put z o ⟨k, h1, rfl⟩) hS1)
  rw [nI_clamp (by omega), nI_up2] at hp
  exact hp
theorem hm_mast (hx : p.tables.exec = Jvm.exec) (hb : c.code = cc) (hK : KK Γ s) (hM : MW Γ H μ S th) {i v : Nat} (hi : i < 48) (hS : va_S (Gz Γ) s.heap H locs) (hdg : decode cc pc = .ok (.iastore, 1))
    (kk : ∀ (H1 : Heap) (locs1 : List Loc), MW Γ H1 μ (up2 S 10 i v) th → Off (Mf μ) H H1 → va_S (Gz Γ) s.heap H1 locs1 → W p l e R s m args below meth c H1 locs1 cells slots Q (F0 m (pc + 1) ls rest)) : W p l e R s m args below meth c H locs cells slots Q (F0 m pc ls (.int (nI v - 1) :: .int (nI i) :: .ref (μ 10) :: rest)) := by
  refine hw_iast hx hb hK hM.p10 (hM.g (by decide)) hS (vp_in_nI hi (by decide)) hdg (fun H1 locs1 hp z o hS1 => kk H1 locs1 (hM.wr (by decide) ?_ o (mc_off (by decide))) (Off.put z o ⟨10, by decide, rfl⟩) hS1)
  rw [nI_clamp (by omega), nI_up2m] at hp
  exact hp
end HMW
/-- the pure state is well formed -/
def WF (S : Sx) : Prop := (1 ≤ S 0 0 ∧ S 0 0 ≤ 8) ∧ (∀ k, S 1 k ≤ 20) ∧ (∀ k, S 2 k ≤ 1) ∧ (∀ k, S 3 k ≤ 1) ∧ (∀ k, S 4 k ≤ 1) ∧ (∀ k, S 5 k ≤ 1) ∧ (∀ k, S 6 k < 16) ∧ (∀ k, S 7 k ≤ 9) ∧ (S 8 0 ≤ 16 ∧ S 8 1 ≤ 12 ∧ S 8 2 ≤ 16) ∧ (∀ k, S 9 k < 256) ∧ (∀ k, S 10 k ≤ 8) ∧ (∀ k, S 12 k ≤ 1) ∧ S 0 1 ≤ 40000 ∧ S 0 2 ≤ S 0 1
theorem WF.b0 {S : Sx} (h : WF S) : 1 ≤ S 0 0 ∧ S 0 0 ≤ 8 := h.1
theorem WF.b1 {S : Sx} (h : WF S) (k : Nat) : S 1 k ≤ 20 := h.2.1 k
theorem WF.b2 {S : Sx} (h : WF S) (k : Nat) : S 2 k ≤ 1 := h.2.2.1 k
theorem WF.b3 {S : Sx} (h : WF S) (k : Nat) : S 3 k ≤ 1 := h.2.2.2.1 k
theorem WF.b4 {S : Sx} (h : WF S) (k : Nat) : S 4 k ≤ 1 := h.2.2.2.2.1 k
theorem WF.b5 {S : Sx} (h : WF S) (k : Nat) : S 5 k ≤ 1 := h.2.2.2.2.2.1 k
theorem WF.b6 {S : Sx} (h : WF S) (k : Nat) : S 6 k < 16 := h.2.2.2.2.2.2.1 k
theorem WF.b7 {S : Sx} (h : WF S) (k : Nat) : S 7 k ≤ 9 := h.2.2.2.2.2.2.2.1 k
theorem WF.b8 {S : Sx} (h : WF S) : S 8 0 ≤ 16 ∧ S 8 1 ≤ 12 ∧ S 8 2 ≤ 16 := h.2.2.2.2.2.2.2.2.1
theorem WF.b9 {S : Sx} (h : WF S) (k : Nat) : S 9 k < 256 := h.2.2.2.2.2.2.2.2.2.1 k
theorem WF.b10 {S : Sx} (h : WF S) (k : Nat) : S 10 k ≤ 8 := h.2.2.2.2.2.2.2.2.2.2.1 k
theorem WF.b12 {S : Sx} (h : WF S) (k : Nat) : S 12 k ≤ 1 := h.2.2.2.2.2.2.2.2.2.2.2.1 k
theorem WF.b01 {S : Sx} (h : WF S) : S 0 1 ≤ 40000 ∧ S 0 2 ≤ S 0 1 := h.2.2.2.2.2.2.2.2.2.2.2.2
