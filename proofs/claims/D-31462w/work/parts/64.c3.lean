/-! steps of the world that change no name -/
set_option maxRecDepth 100000
theorem up2_n {S : Sx} {f i v f' i' : Nat} (h : ¬ (f' = f ∧ i' = i)) : up2 S f i v f' i' = S f' i' := if_neg h
def reads : Nat → Nat → Nat → Nat → Prop
  | 0, _, f, j => f = 0 ∧ (j = 1 ∨ j = 4)
  | 1, _, f, _ => f = 2
  | 2, _, f, j => f = 0 ∧ (j = 6 ∨ j = 0)
  | 3, _, f, j => (f = 0 ∧ j = 3) ∨ f = 13
  | 4, _, f, j => (f = 0 ∧ j = 7) ∨ (f = 8 ∧ j = 0)
  | 5, _, f, j => (f = 0 ∧ j = 8) ∨ (f = 8 ∧ j = 1)
  | 6, _, f, j => f = 8 ∧ j = 2
  | 7, i, f, j => f = 1 ∧ j = i
  | 8, i, f, j => (f = 3 ∨ f = 4 ∨ f = 5) ∧ j = i
  | 9, i, f, j => f = 6 ∧ j = i
  | 10, i, f, j => f = 6 ∧ j = i
  | 11, i, f, j => f = 14 ∧ j / 4 = i
  | 12, i, f, j => f = 7 ∧ j / 8 % 20 = i
  | 13, i, f, j => (f = 9 ∨ f = 10 ∨ f = 11) ∧ j = i
  | 14, _, f, j => (f = 0 ∧ j = 7) ∨ (f = 8 ∧ j = 0)
  | 15, i, f, j => ((f = 9 ∨ f = 10 ∨ f = 11) ∧ j = 16 + i) ∨ (f = 12 ∧ j = i)
  | 16, _, f, j => (f = 0 ∧ j = 8) ∨ (f = 8 ∧ j = 1)
  | 17, i, f, j => (f = 10 ∨ f = 11) ∧ j = 32 + i
  | _, _, _, _ => False
theorem fidx_p {c p i : Nat} (st : Bool) (hp : p < 20) (hi : i < 4) : fidx c p i st / 8 % 20 = p := by
  unfold fidx
  split <;> omega
theorem fjx_p {p j : Nat} (hp : p < 20) : fjx p j / 8 % 20 = p := fidx_p _ hp (by omega)
theorem same_r {g : Gn} {S S' : Sx} {t i : Nat} (hl : lv S t i) (hE : ∀ f j, reads t i f j → S' f j = S f j) : same g g S S' t i := by
  match t, i, hl, hE with
  | 0, i, hl, hE => exact ⟨rfl, ⟨rfl, rfl, rfl, rfl, rfl, rfl⟩, hE 0 1 ⟨rfl, Or.inl rfl⟩, hE 0 4 ⟨rfl, Or.inr rfl⟩⟩
  | 1, i, hl, hE => exact ⟨rfl, fun p _ => ⟨hE 2 p rfl, fun _ => rfl⟩⟩
  | 2, 0, hl, hE => exact ⟨rfl, rfl, hE 0 6 ⟨rfl, Or.inl rfl⟩, hE 0 0 ⟨rfl, Or.inr rfl⟩⟩
  | 2, i + 1, hl, hE => exact ⟨rfl, hE 0 0 ⟨rfl, Or.inr rfl⟩, fun _ _ => rfl⟩
  | 3, i, hl, hE => exact ⟨rfl, hE 0 3 (Or.inl ⟨rfl, rfl⟩), fun j => hE 13 j (Or.inr rfl)⟩
  | 4, i, hl, hE => exact ⟨rfl, hE 0 7 (Or.inl ⟨rfl, rfl⟩), hE 8 0 (Or.inr ⟨rfl, rfl⟩), fun _ _ => rfl⟩
  | 5, i, hl, hE => exact ⟨rfl, hE 0 8 (Or.inl ⟨rfl, rfl⟩), hE 8 1 (Or.inr ⟨rfl, rfl⟩), fun _ _ => rfl⟩
  | 6, 0, hl, hE => exact ⟨rfl, rfl, hE 8 2 ⟨rfl, rfl⟩⟩
  | 6, i + 1, hl, hE => exact ⟨rfl, hE 8 2 ⟨rfl, rfl⟩, fun _ _ => rfl⟩
  | 7, i, hl, hE => exact ⟨rfl, hE 1 i ⟨rfl, rfl⟩, rfl⟩
  | 8, i, hl, hE => exact ⟨rfl, ⟨hE 3 i ⟨Or.inl rfl, rfl⟩, hE 4 i ⟨Or.inr (Or.inl rfl), rfl⟩, hE 5 i ⟨Or.inr (Or.inr rfl), rfl⟩⟩, rfl, rfl, rfl⟩
  | 9, i, hl, hE => exact ⟨rfl, rfl, hE 6 i ⟨rfl, rfl⟩⟩
  | 10, i, hl, hE => exact ⟨rfl, hE 6 i ⟨rfl, rfl⟩⟩
  | 11, i, hl, hE => exact ⟨rfl, fun j hj => hE 14 (4 * i + j) ⟨rfl, by omega⟩⟩
  | 12, i, hl, hE => exact ⟨rfl, fun j hj => hE 7 (fjx i j) ⟨rfl, fjx_p hl.1⟩⟩
  | 13, i, hl, hE => exact ⟨rfl, hE 9 i ⟨Or.inl rfl, rfl⟩, hE 10 i ⟨Or.inr (Or.inl rfl), rfl⟩, hE 11 i ⟨Or.inr (Or.inr rfl), rfl⟩⟩
  | 14, i, hl, hE => exact ⟨rfl, rfl, hE 8 0 (Or.inr ⟨rfl, rfl⟩), fun _ _ => rfl, hl⟩
  | 15, i, hl, hE => exact ⟨rfl, hE 9 (16 + i) (Or.inl ⟨Or.inl rfl, rfl⟩), hE 10 (16 + i) (Or.inl ⟨Or.inr (Or.inl rfl), rfl⟩), hE 11 (16 + i) (Or.inl ⟨Or.inr (Or.inr rfl), rfl⟩), hE 12 i (Or.inr ⟨rfl, rfl⟩)⟩
  | 16, i, hl, hE => exact ⟨rfl, rfl, hE 8 1 (Or.inr ⟨rfl, rfl⟩), fun _ _ => rfl, hl⟩
  | 17, i, hl, hE => exact ⟨rfl, hE 10 (32 + i) ⟨Or.inl rfl, rfl⟩, hE 11 (32 + i) ⟨Or.inr rfl, rfl⟩⟩
/-- some cells are written; what the others read stays -/
theorem MC.st {Γ : Cx} {H H1 : Heap} {g : Gn} {L : Nat} {S S' : Sx} (D : Nat → Nat → Prop) (h : MC Γ H g L S) (hv : LVE S S') (o : ∀ t i, lv S t i → ¬ D t i → H1[nl g L t i]? = H[nl g L t i]?) (hn : ∀ t i, lv S t i → D t i → CP Γ H1 (nl g L) S' t i) (hr : ∀ t i f j, lv S t i → ¬ D t i → reads t i f j → S' f j = S f j) : MC Γ H1 g L S' :=
  MZ.step D h o (fun t i h1 h2 => ⟨(hv.li t i).mp h1, rfl, same_r ((hv.li t i).mp h1) (fun f j q => hr t i f j ((hv.li t i).mp h1) h2 q)⟩) (fun t i h1 h2 => ⟨hn t i ((hv.li t i).mp h1) h2, MZ.g h ((hv.li t i).mp h1)⟩) (fun t i t' i' h1 h2 => h.2 t i t' i' ((hv.li t i).mp h1) ((hv.li t' i').mp h2))
/-- one cell is written -/
theorem MC.w1 {Γ : Cx} {H H1 : Heap} {g : Gn} {L : Nat} {S S' : Sx} {t0 i0 : Nat} (h : MC Γ H g L S) (h3 : t0 ≠ 3) (hl0 : lv S t0 i0) (hv : LVE S S') (o : ∀ q : Nat, q ≠ g t0 i0 → H1[q]? = H[q]?) (hn : CP Γ H1 (nl g L) S' t0 i0) (hr : ∀ t i f j, lv S t i → ¬ (t = t0 ∧ i = i0) → reads t i f j → S' f j = S f j) : MC Γ H1 g L S' :=
  h.st (fun t i => t = t0 ∧ i = i0) hv (fun t i h1 h2 => o _ (fun e => h2 (h.2 t i t0 i0 h1 hl0 (by rw [e, nl_f h3])))) (fun t i _ h2 => by obtain ⟨rfl, rfl⟩ := h2; exact hn) hr
/-- nothing but what no cell reads changes -/
theorem MC.w0 {Γ : Cx} {H : Heap} {g : Gn} {L : Nat} {S S' : Sx} (h : MC Γ H g L S) (hv : LVE S S') (hr : ∀ t i f j, lv S t i → reads t i f j → S' f j = S f j) : MC Γ H g L S' :=
  h.st (fun _ _ => False) hv (fun _ _ _ _ => rfl) (fun _ _ _ z => z.elim) (fun t i f j h1 _ q => hr t i f j h1 q)
theorem Off.ofne {H H1 : Heap} {a : Nat} (o : Off (fun q => q = a) H H1) (z : H1.size = H.size) : ∀ q : Nat, q ≠ a → H1[q]? = H[q]? := by
  intro q hq
  rcases Nat.lt_or_ge q H.size with h | h
  · exact o.2 q h hq
  · rw [Array.getElem?_eq_none h, Array.getElem?_eq_none (by omega)]
/-- a thread's move -/
theorem MC.m13 {Γ : Cx} {H H1 : Heap} {g : Gn} {L : Nat} {S S' : Sx} {t9 : Nat} (h : MC Γ H g L S) (ht : t9 < S 8 0) (h16 : S 8 0 ≤ 16) (o : Off (fun q => q = g 13 t9) H H1) (hE : ∀ f j, ¬ ((f = 10 ∨ f = 11) ∧ j = t9) → S' f j = S f j) (hp : pt Γ H1 (g 13 t9) (ob 6 [.int (nI (S 9 t9)), .int (nI (S' 10 t9) - 1), .int (nI (S' 11 t9))])) : MC Γ H1 g L S' := by
  have hv : LVE S S' := ⟨hE 0 0 (by omega), by funext j; exact hE 2 j (by omega), by funext j; exact hE 8 j (by omega)⟩
  refine h.st (fun t i => t = 13 ∧ i = t9) hv (fun t i h1 h2 => o.2 _ (MZ.c h h1).lt (fun e => h2 (h.2 t i 13 t9 h1 ht (by rw [e, nl_f (by decide)])))) (fun t i _ h2 => ?_) (fun t i f j h1 h2 q => hE f j ?_)
  · obtain ⟨rfl, rfl⟩ := h2
    simp only [CP, nl_f (show 13 ≠ 3 by decide)]
    rw [hE 9 i (by omega)]
    exact hp
  · intro hc
    obtain ⟨hf, rfl⟩ := hc
    unfold reads at q
    split at q
    all_goals first | omega | (exact absurd q (by intro z; exact z)) | skip
    all_goals (have hz : _ := h1; unfold lv at hz; omega)
