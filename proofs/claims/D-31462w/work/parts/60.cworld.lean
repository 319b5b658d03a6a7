/-! the component's world: g names the objects (kind, index); what they hold is the pure state -/
set_option maxRecDepth 100000
abbrev Gn := Nat → Nat → Nat
def fjx (p j : Nat) : Nat := fidx (j / 8) p (j / 2 % 4) (decide (j % 2 = 0))
def lv (S : Sx) : Nat → Nat → Prop
  | 0, i => i = 0 | 1, i => i = 0 | 2, i => i < 2 | 3, i => i = 0 | 4, i => i = 0 | 5, i => i = 0 | 6, i => i < 2
  | 7, i => i < S 0 0
  | 8, i => i < 20 ∧ S 2 i ≠ 0 | 9, i => i < 20 ∧ S 2 i ≠ 0 | 10, i => i < 20 ∧ S 2 i ≠ 0 | 11, i => i < 20 ∧ S 2 i ≠ 0 | 12, i => i < 20 ∧ S 2 i ≠ 0
  | 13, i => i < S 8 0 | 14, i => i < S 8 0 | 15, i => i < S 8 1 | 16, i => i < S 8 1 | 17, i => i < S 8 2
  | _, _ => False
def CP (Γ : Cx) (H : Heap) (g : Gn) (S : Sx) : Nat → Nat → Prop
  | 0, i => pt Γ H (g 0 i) (ob 0 [.ref (g 1 0), .ref (g 2 0), .ref (g 3 0), .int (nI (S 0 1)), .int (nI (S 0 4)), .ref (g 4 0), .ref (g 5 0), .ref (g 6 0)])
  | 1, i => pt Γ H (g 1 i) (sa Γ 20 (fun p => if S 2 p = 0 then none else some (g 8 p)))
  | 2, 0 => pt Γ H (g 2 0) (ob 8 [.int (nI (S 0 6)), .ref (g 2 1), .int (nI (S 0 0))])
  | 2, i => pt Γ H (g 2 i) (oa Γ 10 (fun k => if k < S 0 0 then some (g 7 k) else none))
  | 3, i => pt Γ H (g 3 i) (ia Γ (S 0 3) (fun j => nI (S 13 j)))
  | 4, i => pt Γ H (g 4 i) (ob 10 [.int (nI (S 0 7)), .int (nI (S 8 0)), lnx (g 14) (S 8 0) 0, lpv (g 14) (S 8 0)])
  | 5, i => pt Γ H (g 5 i) (ob 10 [.int (nI (S 0 8)), .int (nI (S 8 1)), lnx (g 16) (S 8 1) 0, lpv (g 16) (S 8 1)])
  | 6, 0 => pt Γ H (g 6 0) (ob 11 [.ref (g 6 1), .int (nI 0), .int (nI (S 8 2))])
  | 6, i => pt Γ H (g 6 i) (oa Γ 17 (fun k => if k < S 8 2 then some (g 17 k) else none))
  | 7, i => pt Γ H (g 7 i) (ob 1 [.int (nI i), .int (nI (S 1 i)), .ref (g 0 0)])
  | 8, i => pt Γ H (g 8 i) (ob 3 [.int (nI i), .int (nI (S 3 i)), .int (nI (S 4 i)), .int (nI (S 5 i)), .ref (g 9 i), .ref (g 11 i), .ref (g 12 i)])
  | 9, i => pt Γ H (g 9 i) (ob 12 [.ref (g 10 i), .int (nI (u01 (S 6 i))), .int (nI 0)])
  | 10, i => ∃ f : Nat → Int64, f 0 = Int64.ofNat (S 6 i) ∧ pt Γ H (g 10 i) (ja Γ 1 f)
  | 11, i => pt Γ H (g 11 i) (ia Γ 4 (fun j => nI (S 14 (4 * i + j))))
  | 12, i => pt Γ H (g 12 i) (ia Γ 64 (fun j => nI (S 7 (fjx i j))))
  | 13, i => pt Γ H (g 13 i) (ob 6 [.int (nI (S 9 i)), .int (nI (S 10 i) - 1), .int (nI (S 11 i))])
  | 14, i => pt Γ H (g 14 i) (ob 9 [.ref (g 13 i), lnx (g 14) (S 8 0) (i + 1), lpv (g 14) i])
  | 15, i => pt Γ H (g 15 i) (ob 7 [.int (nI (S 9 (16 + i))), .int (nI (S 10 (16 + i)) - 1), .int (nI (S 11 (16 + i))), .int (nI (S 12 i))])
  | 16, i => pt Γ H (g 16 i) (ob 9 [.ref (g 15 i), lnx (g 16) (S 8 1) (i + 1), lpv (g 16) i])
  | 17, i => pt Γ H (g 17 i) (ob 6 [.int (nI 255), .int (nI (S 10 (32 + i)) - 1), .int (nI (S 11 (32 + i)))])
  | _, _ => False
theorem CP.kept {Γ : Cx} {H H1 : Heap} {g : Gn} {S : Sx} {t i : Nat} (h : CP Γ H g S t i) (e : H1[g t i]? = H[g t i]?) : CP Γ H1 g S t i := by
  unfold CP at h ⊢
  split at h
  all_goals first | exact pt.kept h e | (obtain ⟨f, h1, h2⟩ := h; exact ⟨f, h1, h2.kept e⟩) | exact h
theorem CP.lt {Γ : Cx} {H : Heap} {g : Gn} {S : Sx} {t i : Nat} (h : CP Γ H g S t i) : g t i < H.size := by
  unfold CP at h
  split at h
  all_goals first | exact pt.lt h | (obtain ⟨f, h1, h2⟩ := h; exact h2.lt) | exact h.elim
/-- what a cell reads of names and state -/
def same (g g' : Gn) (S S' : Sx) : Nat → Nat → Prop
  | 0, i => g' 0 i = g 0 i ∧ (g' 1 0 = g 1 0 ∧ g' 2 0 = g 2 0 ∧ g' 3 0 = g 3 0 ∧ g' 4 0 = g 4 0 ∧ g' 5 0 = g 5 0 ∧ g' 6 0 = g 6 0) ∧ S' 0 1 = S 0 1 ∧ S' 0 4 = S 0 4
  | 1, i => g' 1 i = g 1 i ∧ ∀ p, p < 20 → S' 2 p = S 2 p ∧ (S 2 p ≠ 0 → g' 8 p = g 8 p)
  | 2, 0 => g' 2 0 = g 2 0 ∧ g' 2 1 = g 2 1 ∧ S' 0 6 = S 0 6 ∧ S' 0 0 = S 0 0
  | 2, i => g' 2 i = g 2 i ∧ S' 0 0 = S 0 0 ∧ ∀ k, k < S 0 0 → g' 7 k = g 7 k
  | 3, i => g' 3 i = g 3 i ∧ S' 0 3 = S 0 3 ∧ ∀ j, S' 13 j = S 13 j
  | 4, i => g' 4 i = g 4 i ∧ S' 0 7 = S 0 7 ∧ S' 8 0 = S 8 0 ∧ ∀ k, k < S 8 0 → g' 14 k = g 14 k
  | 5, i => g' 5 i = g 5 i ∧ S' 0 8 = S 0 8 ∧ S' 8 1 = S 8 1 ∧ ∀ k, k < S 8 1 → g' 16 k = g 16 k
  | 6, 0 => g' 6 0 = g 6 0 ∧ g' 6 1 = g 6 1 ∧ S' 8 2 = S 8 2
  | 6, i => g' 6 i = g 6 i ∧ S' 8 2 = S 8 2 ∧ ∀ k, k < S 8 2 → g' 17 k = g 17 k
  | 7, i => g' 7 i = g 7 i ∧ S' 1 i = S 1 i ∧ g' 0 0 = g 0 0
  | 8, i => g' 8 i = g 8 i ∧ (S' 3 i = S 3 i ∧ S' 4 i = S 4 i ∧ S' 5 i = S 5 i) ∧ g' 9 i = g 9 i ∧ g' 11 i = g 11 i ∧ g' 12 i = g 12 i
  | 9, i => g' 9 i = g 9 i ∧ g' 10 i = g 10 i ∧ S' 6 i = S 6 i
  | 10, i => g' 10 i = g 10 i ∧ S' 6 i = S 6 i
  | 11, i => g' 11 i = g 11 i ∧ ∀ j, j < 4 → S' 14 (4 * i + j) = S 14 (4 * i + j)
  | 12, i => g' 12 i = g 12 i ∧ ∀ j, j < 64 → S' 7 (fjx i j) = S 7 (fjx i j)
  | 13, i => g' 13 i = g 13 i ∧ S' 9 i = S 9 i ∧ S' 10 i = S 10 i ∧ S' 11 i = S 11 i
  | 14, i => g' 14 i = g 14 i ∧ g' 13 i = g 13 i ∧ S' 8 0 = S 8 0 ∧ (∀ k, k < S 8 0 → g' 14 k = g 14 k) ∧ i < S 8 0
  | 15, i => g' 15 i = g 15 i ∧ S' 9 (16 + i) = S 9 (16 + i) ∧ S' 10 (16 + i) = S 10 (16 + i) ∧ S' 11 (16 + i) = S 11 (16 + i) ∧ S' 12 i = S 12 i
  | 16, i => g' 16 i = g 16 i ∧ g' 15 i = g 15 i ∧ S' 8 1 = S 8 1 ∧ (∀ k, k < S 8 1 → g' 16 k = g 16 k) ∧ i < S 8 1
  | 17, i => g' 17 i = g 17 i ∧ S' 10 (32 + i) = S 10 (32 + i) ∧ S' 11 (32 + i) = S 11 (32 + i)
  | _, _ => False
/-- arrays are told by what they hold below their length -/
theorem arrV_ext {cA : ClassId} {n : Nat} {f f' : Nat → Value} (e : ∀ j, j < n → f' j = f j) : arrV cA n f' = arrV cA n f := by
  unfold arrV
  congr 2
  funext j
  exact e j.val j.isLt
theorem pt.ia {Γ : Cx} {H : Heap} {a n n' : Nat} {f f' : Nat → Int32} (h : pt Γ H a (ia Γ n f)) (hn : n' = n) (e : ∀ j, j < n → f' j = f j) : pt Γ H a (ia Γ n' f') := by
  subst hn
  have h : H[a]? = some (arrV _ n' (fun j => .int (f j))) := h
  exact h.trans (congrArg some (arrV_ext (f := fun j => .int (f' j)) (f' := fun j => .int (f j)) (fun j hj => congrArg Value.int (e j hj).symm)))
theorem pt.oa {Γ : Cx} {H : Heap} {a n : Nat} {f f' : Nat → Option Nat} (h : pt Γ H a (oa Γ n f)) (e : ∀ j, j < n → f' j = f j) : pt Γ H a (oa Γ n f') := by
  have h : H[a]? = some (arrV _ n (fun j => va_rf (f j))) := h
  exact h.trans (congrArg some (arrV_ext (f := fun j => va_rf (f' j)) (f' := fun j => va_rf (f j)) (fun j hj => congrArg va_rf (e j hj).symm)))
theorem pt.sa {Γ : Cx} {H : Heap} {a n : Nat} {f f' : Nat → Option Nat} (h : pt Γ H a (sa Γ n f)) (e : ∀ j, j < n → f' j = f j) : pt Γ H a (sa Γ n f') := by
  have h : H[a]? = some (arrV _ n (fun j => va_rf (f j))) := h
  exact h.trans (congrArg some (arrV_ext (f := fun j => va_rf (f' j)) (f' := fun j => va_rf (f j)) (fun j hj => congrArg va_rf (e j hj).symm)))
theorem lnx_c {ν ν' : Nat → Nat} {n k : Nat} (h : ∀ j, j < n → ν' j = ν j) : lnx ν' n k = lnx ν n k := by
  unfold lnx
  split
  · next hk => rw [h k hk]
  · rfl
theorem lpv_c {ν ν' : Nat → Nat} {n k : Nat} (hk : k ≤ n) (h : ∀ j, j < n → ν' j = ν j) : lpv ν' k = lpv ν k := by
  unfold lpv
  split
  · rfl
  · rw [h (k - 1) (by omega)]
theorem CP.congr {Γ : Cx} {H : Heap} {g g' : Gn} {S S' : Sx} {t i : Nat} (hs : same g g' S S' t i) (h : CP Γ H g S t i) : CP Γ H g' S' t i := by
  match t, i, hs, h with
  | 0, i, hs, h =>
    obtain ⟨e0, ⟨e1, e2, e3, e4, e5, e6⟩, e7, e8⟩ := hs
    simp only [CP] at h ⊢
    rw [e0, e1, e2, e3, e4, e5, e6, e7, e8]
    exact h
  | 1, i, hs, h =>
    obtain ⟨e0, e1⟩ := hs
    simp only [CP] at h ⊢
    rw [e0]
    refine h.sa (fun j hj => ?_)
    rw [(e1 j hj).1]
    by_cases hz : S 2 j = 0
    · rw [if_pos hz, if_pos hz]
    · rw [if_neg hz, if_neg hz, (e1 j hj).2 hz]
  | 2, 0, hs, h =>
    obtain ⟨e0, e1, e2, e3⟩ := hs
    simp only [CP] at h ⊢
    rw [e0, e1, e2, e3]
    exact h
  | 2, i + 1, hs, h =>
    obtain ⟨e0, e1, e2⟩ := hs
    simp only [CP] at h ⊢
    rw [e0, e1]
    refine h.oa (fun j _ => ?_)
    by_cases hz : j < S 0 0
    · rw [if_pos hz, if_pos hz, e2 j hz]
    · rw [if_neg hz, if_neg hz]
  | 3, i, hs, h =>
    obtain ⟨e0, e1, e2⟩ := hs
    simp only [CP] at h ⊢
    rw [e0]
    exact h.ia e1 (fun j _ => by rw [e2 j])
  | 4, i, hs, h =>
    obtain ⟨e0, e1, e2, e3⟩ := hs
    simp only [CP] at h ⊢
    rw [e0, e1, e2, lnx_c e3, lpv_c (Nat.le_refl _) e3]
    exact h
  | 5, i, hs, h =>
    obtain ⟨e0, e1, e2, e3⟩ := hs
    simp only [CP] at h ⊢
    rw [e0, e1, e2, lnx_c e3, lpv_c (Nat.le_refl _) e3]
    exact h
  | 6, 0, hs, h =>
    obtain ⟨e0, e1, e2⟩ := hs
    simp only [CP] at h ⊢
    rw [e0, e1, e2]
    exact h
  | 6, i + 1, hs, h =>
    obtain ⟨e0, e1, e2⟩ := hs
    simp only [CP] at h ⊢
    rw [e0, e1]
    refine h.oa (fun j _ => ?_)
    by_cases hz : j < S 8 2
    · rw [if_pos hz, if_pos hz, e2 j hz]
    · rw [if_neg hz, if_neg hz]
  | 7, i, hs, h =>
    obtain ⟨e0, e1, e2⟩ := hs
    simp only [CP] at h ⊢
    rw [e0, e1, e2]
    exact h
  | 8, i, hs, h =>
    obtain ⟨e0, ⟨e1, e2, e3⟩, e4, e5, e6⟩ := hs
    simp only [CP] at h ⊢
    rw [e0, e1, e2, e3, e4, e5, e6]
    exact h
  | 9, i, hs, h =>
    obtain ⟨e0, e1, e2⟩ := hs
    simp only [CP] at h ⊢
    rw [e0, e1, e2]
    exact h
  | 10, i, hs, h =>
    obtain ⟨e0, e1⟩ := hs
    simp only [CP] at h ⊢
    rw [e0, e1]
    exact h
  | 11, i, hs, h =>
    obtain ⟨e0, e1⟩ := hs
    simp only [CP] at h ⊢
    rw [e0]
    exact h.ia rfl (fun j hj => by rw [e1 j hj])
  | 12, i, hs, h =>
    obtain ⟨e0, e1⟩ := hs
    simp only [CP] at h ⊢
    rw [e0]
    exact h.ia rfl (fun j hj => by rw [e1 j hj])
  | 13, i, hs, h =>
    obtain ⟨e0, e1, e2, e3⟩ := hs
    simp only [CP] at h ⊢
    rw [e0, e1, e2, e3]
    exact h
  | 14, i, hs, h =>
    obtain ⟨e0, e1, e2, e3, e4⟩ := hs
    simp only [CP] at h ⊢
    rw [e0, e1, e2, lnx_c e3, lpv_c (Nat.le_of_lt e4) e3]
    exact h
  | 15, i, hs, h =>
    obtain ⟨e0, e1, e2, e3, e4⟩ := hs
    simp only [CP] at h ⊢
    rw [e0, e1, e2, e3, e4]
    exact h
  | 16, i, hs, h =>
    obtain ⟨e0, e1, e2, e3, e4⟩ := hs
    simp only [CP] at h ⊢
    rw [e0, e1, e2, lnx_c e3, lpv_c (Nat.le_of_lt e4) e3]
    exact h
  | 17, i, hs, h =>
    obtain ⟨e0, e1, e2⟩ := hs
    simp only [CP] at h ⊢
    rw [e0, e1, e2]
    exact h
/-- the world: every living cell, apart from all others -/
def MZ (Γ : Cx) (H : Heap) (g : Gn) (S : Sx) : Prop := (∀ t i, lv S t i → CP Γ H g S t i ∧ Gz Γ (g t i)) ∧ ∀ t i t' i', lv S t i → lv S t' i' → g t i = g t' i' → t = t' ∧ i = i'
def Cf (g : Gn) (S : Sx) : Nat → Prop := fun q => ∃ t i, lv S t i ∧ q = g t i
theorem MZ.c {Γ : Cx} {H : Heap} {g : Gn} {S : Sx} (h : MZ Γ H g S) {t i : Nat} (hl : lv S t i) : CP Γ H g S t i := (h.1 t i hl).1
theorem MZ.g {Γ : Cx} {H : Heap} {g : Gn} {S : Sx} (h : MZ Γ H g S) {t i : Nat} (hl : lv S t i) : Gz Γ (g t i) := (h.1 t i hl).2
/-- a step of the world: D are the cells that are written or new -/
theorem MZ.step {Γ : Cx} {H H1 : Heap} {g g' : Gn} {S S' : Sx} (D : Nat → Nat → Prop) (hM : MZ Γ H g S) (o : ∀ t i, lv S t i → ¬ D t i → H1[g t i]? = H[g t i]?) (hs : ∀ t i, lv S' t i → ¬ D t i → lv S t i ∧ g' t i = g t i ∧ same g g' S S' t i) (hn : ∀ t i, lv S' t i → D t i → CP Γ H1 g' S' t i ∧ Gz Γ (g' t i)) (hj : ∀ t i t' i', lv S' t i → lv S' t' i' → g' t i = g' t' i' → t = t' ∧ i = i') : MZ Γ H1 g' S' := by
  refine ⟨fun t i hl => ?_, hj⟩
  by_cases hD : D t i
  · exact hn t i hl hD
  · obtain ⟨h1, h2, h3⟩ := hs t i hl hD
    refine ⟨(((hM.1 t i h1).1).kept (o t i h1 hD)).congr h3, ?_⟩
    rw [h2]
    exact (hM.1 t i h1).2
/-- one cell written, no name changed, none living more or less -/
theorem MZ.wr {Γ : Cx} {H H1 : Heap} {g : Gn} {S S' : Sx} (hM : MZ Γ H g S) {t0 i0 : Nat} (h0 : lv S t0 i0) (o : ∀ q : Nat, q ≠ g t0 i0 → H1[q]? = H[q]?) (hl : ∀ t i, lv S' t i → lv S t i) (hn : CP Γ H1 g S' t0 i0) (hs : ∀ t i, lv S t i → ¬ (t = t0 ∧ i = i0) → same g g S S' t i) : MZ Γ H1 g S' := by
  refine hM.step (fun t i => t = t0 ∧ i = i0) (fun t i h1 h2 => o _ (fun e => h2 (hM.2 t i t0 i0 h1 h0 e))) (fun t i h1 h2 => ⟨hl t i h1, rfl, hs t i (hl t i h1) h2⟩) (fun t i _ h2 => ?_) (fun t i t' i' h1 h2 => hM.2 t i t' i' (hl t i h1) (hl t' i' h2))
  obtain ⟨rfl, rfl⟩ := h2
  exact ⟨hn, hM.g h0⟩
theorem MZ.off {Γ : Cx} {H H1 : Heap} {g : Gn} {S : Sx} {P : Nat → Prop} (hM : MZ Γ H g S) (o : Off P H H1) (hn : ∀ q, P q → ¬ Cf g S q) : MZ Γ H1 g S :=
  ⟨fun t i hl => ⟨(hM.c hl).kept (o.2 _ (hM.c hl).lt (fun z => hn _ z ⟨t, i, hl, rfl⟩)), hM.g hl⟩, hM.2⟩
theorem MZ.grow {Γ : Cx} {H H1 : Heap} {g : Gn} {S : Sx} (hM : MZ Γ H g S) (o : Grow H H1) : MZ Γ H1 g S := hM.off o (fun _ z => z.elim)
theorem MZ.out {Γ : Cx} {H : Heap} {g : Gn} {S : Sx} (hM : MZ Γ H g S) {q : Nat} (h : H.size ≤ q) : ¬ Cf g S q := by
  intro ⟨t, i, hl, e⟩
  have := (hM.c hl).lt
  omega
