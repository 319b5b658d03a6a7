/-! the world with the list's array told apart; what calls do to it -/
set_option maxRecDepth 100000
def nl (g : Gn) (L : Nat) : Gn := up2 g 3 0 L
theorem nl_f {g : Gn} {L t i : Nat} (h : t ≠ 3) : nl g L t i = g t i := up2_f h
theorem nl_r {g : Gn} {L t : Nat} (h : t ≠ 3) : nl g L t = g t := by
  funext i
  exact up2_f h
theorem nl_3 {g : Gn} {L : Nat} : nl g L 3 0 = L := up2_s
theorem nl_nl {g : Gn} {L L1 : Nat} : nl (nl g L) L1 = nl g L1 := by
  funext t i
  unfold nl up2
  split <;> rfl
def MC (Γ : Cx) (H : Heap) (g : Gn) (L : Nat) (S : Sx) : Prop := MZ Γ H (nl g L) S
def Cg (g : Gn) (L : Nat) (S : Sx) : Nat → Prop := Cf (nl g L) S
section GET
variable {Γ : Cx} {H : Heap} {g : Gn} {L : Nat} {S : Sx}
theorem MC.p0 (h : MC Γ H g L S) : pt Γ H (g 0 0) (ob 0 [.ref (g 1 0), .ref (g 2 0), .ref L, .int (nI (S 0 1)), .int (nI (S 0 4)), .ref (g 4 0), .ref (g 5 0), .ref (g 6 0)]) := by
  have q := MZ.c h (t := 0) (i := 0) rfl
  simp only [CP, nl_3, nl_f (show 0 ≠ 3 by decide), nl_f (show 1 ≠ 3 by decide), nl_f (show 2 ≠ 3 by decide), nl_f (show 4 ≠ 3 by decide), nl_f (show 5 ≠ 3 by decide), nl_f (show 6 ≠ 3 by decide)] at q
  exact q
theorem MC.p1 (h : MC Γ H g L S) : pt Γ H (g 1 0) (sa Γ 20 (fun p => if S 2 p = 0 then none else some (g 8 p))) := by
  have q := MZ.c h (t := 1) (i := 0) rfl
  simp only [CP, nl_f (show 1 ≠ 3 by decide), nl_f (show 8 ≠ 3 by decide)] at q
  exact q
theorem MC.p2 (h : MC Γ H g L S) : pt Γ H (g 2 0) (ob 8 [.int (nI (S 0 6)), .ref (g 2 1), .int (nI (S 0 0))]) := by
  have q := MZ.c h (t := 2) (i := 0) (show 0 < 2 by decide)
  simp only [CP, nl_f (show 2 ≠ 3 by decide)] at q
  exact q
theorem MC.p21 (h : MC Γ H g L S) : pt Γ H (g 2 1) (oa Γ 10 (fun k => if k < S 0 0 then some (g 7 k) else none)) := by
  have q := MZ.c h (t := 2) (i := 1) (show 1 < 2 by decide)
  simp only [CP, nl_f (show 2 ≠ 3 by decide), nl_f (show 7 ≠ 3 by decide)] at q
  exact q
theorem MC.p3 (h : MC Γ H g L S) : pt Γ H L (ia Γ (S 0 3) (fun j => nI (S 13 j))) := by
  have q := MZ.c h (t := 3) (i := 0) rfl
  simp only [CP, nl_3] at q
  exact q
theorem MC.l4 (h : MC Γ H g L S) : LL Γ H (g 4 0) (S 8 0) (g 14) (g 13) (S 0 7) := by
  refine ⟨?_, fun k hk => ?_⟩
  · have q := MZ.c h (t := 4) (i := 0) rfl
    simp only [CP, nl_f (show 4 ≠ 3 by decide), nl_r (show 14 ≠ 3 by decide)] at q
    exact q
  · have q := MZ.c h (t := 14) (i := k) hk
    simp only [CP, nl_f (show 13 ≠ 3 by decide), nl_r (show 14 ≠ 3 by decide)] at q
    exact q
theorem MC.l5 (h : MC Γ H g L S) : LL Γ H (g 5 0) (S 8 1) (g 16) (g 15) (S 0 8) := by
  refine ⟨?_, fun k hk => ?_⟩
  · have q := MZ.c h (t := 5) (i := 0) rfl
    simp only [CP, nl_f (show 5 ≠ 3 by decide), nl_r (show 16 ≠ 3 by decide)] at q
    exact q
  · have q := MZ.c h (t := 16) (i := k) hk
    simp only [CP, nl_f (show 15 ≠ 3 by decide), nl_r (show 16 ≠ 3 by decide)] at q
    exact q
theorem MC.p6 (h : MC Γ H g L S) : pt Γ H (g 6 0) (ob 11 [.ref (g 6 1), .int (nI 0), .int (nI (S 8 2))]) := by
  have q := MZ.c h (t := 6) (i := 0) (show 0 < 2 by decide)
  simp only [CP, nl_f (show 6 ≠ 3 by decide)] at q
  exact q
theorem MC.p61 (h : MC Γ H g L S) : pt Γ H (g 6 1) (oa Γ 17 (fun k => if k < S 8 2 then some (g 17 k) else none)) := by
  have q := MZ.c h (t := 6) (i := 1) (show 1 < 2 by decide)
  simp only [CP, nl_f (show 6 ≠ 3 by decide), nl_f (show 17 ≠ 3 by decide)] at q
  exact q
theorem MC.p7 (h : MC Γ H g L S) {k : Nat} (hk : k < S 0 0) : pt Γ H (g 7 k) (ob 1 [.int (nI k), .int (nI (S 1 k)), .ref (g 0 0)]) := by
  have q := MZ.c h (t := 7) (i := k) hk
  simp only [CP, nl_f (show 7 ≠ 3 by decide), nl_f (show 0 ≠ 3 by decide)] at q
  exact q
theorem MC.p8 (h : MC Γ H g L S) {p : Nat} (hp : p < 20) (hp2 : S 2 p ≠ 0) : pt Γ H (g 8 p) (ob 3 [.int (nI p), .int (nI (S 3 p)), .int (nI (S 4 p)), .int (nI (S 5 p)), .ref (g 9 p), .ref (g 11 p), .ref (g 12 p)]) := by
  have q := MZ.c h (t := 8) (i := p) ⟨hp, hp2⟩
  simp only [CP, nl_f (show 8 ≠ 3 by decide), nl_f (show 9 ≠ 3 by decide), nl_f (show 11 ≠ 3 by decide), nl_f (show 12 ≠ 3 by decide)] at q
  exact q
theorem MC.b9 (h : MC Γ H g L S) {p : Nat} (hp : p < 20) (hp2 : S 2 p ≠ 0) : BS Γ H (g 9 p) (g 10 p) (S 6 p) := by
  have q := MZ.c h (t := 9) (i := p) ⟨hp, hp2⟩
  have q2 := MZ.c h (t := 10) (i := p) ⟨hp, hp2⟩
  simp only [CP, nl_f (show 9 ≠ 3 by decide), nl_f (show 10 ≠ 3 by decide)] at q q2
  exact ⟨q, q2⟩
theorem MC.si (h : MC Γ H g L S) {p : Nat} (hp : p < 20) (hp2 : S 2 p ≠ 0) : SI Γ H (g 8 p) (g 9 p) (g 10 p) (S 6 p) := ⟨⟨_, _, _, _, _, _, MC.p8 h hp hp2⟩, MC.b9 h hp hp2⟩
theorem MC.p11 (h : MC Γ H g L S) {p : Nat} (hp : p < 20) (hp2 : S 2 p ≠ 0) : pt Γ H (g 11 p) (ia Γ 4 (fun j => nI (S 14 (4 * p + j)))) := by
  have q := MZ.c h (t := 11) (i := p) ⟨hp, hp2⟩
  simp only [CP, nl_f (show 11 ≠ 3 by decide)] at q
  exact q
theorem MC.p12 (h : MC Γ H g L S) {p : Nat} (hp : p < 20) (hp2 : S 2 p ≠ 0) : pt Γ H (g 12 p) (ia Γ 64 (fun j => nI (S 7 (fjx p j)))) := by
  have q := MZ.c h (t := 12) (i := p) ⟨hp, hp2⟩
  simp only [CP, nl_f (show 12 ≠ 3 by decide)] at q
  exact q
theorem MC.p13 (h : MC Γ H g L S) {t : Nat} (ht : t < S 8 0) : pt Γ H (g 13 t) (ob 6 [.int (nI (S 9 t)), .int (nI (S 10 t) - 1), .int (nI (S 11 t))]) := by
  have q := MZ.c h (t := 13) (i := t) ht
  simp only [CP, nl_f (show 13 ≠ 3 by decide)] at q
  exact q
theorem MC.p15 (h : MC Γ H g L S) {t : Nat} (ht : t < S 8 1) : pt Γ H (g 15 t) (ob 7 [.int (nI (S 9 (16 + t))), .int (nI (S 10 (16 + t)) - 1), .int (nI (S 11 (16 + t))), .int (nI (S 12 t))]) := by
  have q := MZ.c h (t := 15) (i := t) ht
  simp only [CP, nl_f (show 15 ≠ 3 by decide)] at q
  exact q
theorem MC.p17 (h : MC Γ H g L S) {t : Nat} (ht : t < S 8 2) : pt Γ H (g 17 t) (ob 6 [.int (nI 255), .int (nI (S 10 (32 + t)) - 1), .int (nI (S 11 (32 + t)))]) := by
  have q := MZ.c h (t := 17) (i := t) ht
  simp only [CP, nl_f (show 17 ≠ 3 by decide)] at q
  exact q
theorem MC.gz (h : MC Γ H g L S) {t i : Nat} (ht : t ≠ 3) (hl : lv S t i) : Gz Γ (g t i) := by
  have q := MZ.g h hl
  rw [nl_f ht] at q
  exact q
theorem MC.gL (h : MC Γ H g L S) : Gz Γ L := by
  have q := MZ.g h (t := 3) (i := 0) rfl
  rw [nl_3] at q
  exact q
theorem MC.ne (h : MC Γ H g L S) {t i t' i' : Nat} (ht : t ≠ 3) (ht' : t' ≠ 3) (hl : lv S t i) (hl' : lv S t' i') (hd : ¬ (t = t' ∧ i = i')) : g t i ≠ g t' i' := by
  intro e
  exact hd (h.2 t i t' i' hl hl' (by rw [nl_f ht, nl_f ht']; exact e))
theorem MC.neL (h : MC Γ H g L S) {t i : Nat} (ht : t ≠ 3) (hl : lv S t i) : g t i ≠ L := by
  intro e
  exact ht (h.2 t i 3 0 hl rfl (by rw [nl_f ht, nl_3]; exact e)).1
theorem MC.cf (h : MC Γ H g L S) {t i : Nat} (ht : t ≠ 3) (hl : lv S t i) : Cg g L S (g t i) := ⟨t, i, hl, (nl_f ht).symm⟩
theorem MC.cfL (h : MC Γ H g L S) : Cg g L S L := ⟨3, 0, rfl, nl_3.symm⟩
theorem MC.grow (h : MC Γ H g L S) {H1 : Heap} (o : Grow H H1) : MC Γ H1 g L S := MZ.grow h o
theorem MC.off (h : MC Γ H g L S) {H1 : Heap} {P : Nat → Prop} (o : Off P H H1) (hn : ∀ q, P q → ¬ Cg g L S q) : MC Γ H1 g L S := MZ.off h o hn
theorem MC.out (h : MC Γ H g L S) {q : Nat} (hq : H.size ≤ q) : ¬ Cg g L S q := MZ.out h hq
theorem MC.clt (h : MC Γ H g L S) {q : Nat} (hq : Cg g L S q) : q < H.size := by
  obtain ⟨t, i, hl, rfl⟩ := hq
  exact (MZ.c h hl).lt
end GET
/-- what calls leave as it was -/
def LVE (S S1 : Sx) : Prop := S1 0 0 = S 0 0 ∧ S1 2 = S 2 ∧ S1 8 = S 8
theorem LVE.rf {S : Sx} : LVE S S := ⟨rfl, rfl, rfl⟩
theorem LVE.trans {S S1 S2 : Sx} (h : LVE S S1) (h2 : LVE S1 S2) : LVE S S2 := ⟨h2.1.trans h.1, h2.2.1.trans h.2.1, h2.2.2.trans h.2.2⟩
theorem LVE.li {S S1 : Sx} (h : LVE S S1) : ∀ t i, lv S1 t i ↔ lv S t i := by
  obtain ⟨h0, h2, h8⟩ := h
  intro t i
  unfold lv
  split <;> simp only [h0, h2, h8]
/-- the world after some calls: the state S1, the list's array L1; from the world (L, S) in H -/
def CS (Γ : Cx) (g : Gn) (L : Nat) (S : Sx) (H H1 : Heap) (L1 : Nat) (S1 : Sx) : Prop := MC Γ H1 g L1 S1 ∧ Off (Cg g L S) H H1 ∧ (L1 = L ∨ H.size ≤ L1) ∧ LVE S S1
theorem CS.rf {Γ : Cx} {g : Gn} {L : Nat} {S : Sx} {H : Heap} (h : MC Γ H g L S) : CS Γ g L S H H L S := ⟨h, Off.rf, Or.inl rfl, LVE.rf⟩
theorem Cg.back {g : Gn} {L L1 : Nat} {S S1 : Sx} {q n : Nat} (hL : L1 = L ∨ n ≤ L1) (hv : LVE S S1) (hq : q < n) (h : Cg g L1 S1 q) : Cg g L S q := by
  obtain ⟨t, i, hl, e⟩ := h
  refine ⟨t, i, (hv.li t i).mp hl, ?_⟩
  by_cases h3 : t = 3
  · subst h3
    have hi : i = 0 := hl
    subst hi
    rw [nl_3] at e ⊢
    rcases hL with h | h
    · exact e.trans h
    · omega
  · rw [nl_f h3] at e ⊢
    exact e
theorem CS.trans {Γ : Cx} {g : Gn} {L L1 L2 : Nat} {S S1 S2 : Sx} {H H1 H2 : Heap} (h : CS Γ g L S H H1 L1 S1) (h2 : CS Γ g L1 S1 H1 H2 L2 S2) : CS Γ g L S H H2 L2 S2 := by
  refine ⟨h2.1, h.2.1.fresh h2.2.1 (fun q hq z => Cg.back h.2.2.1 h.2.2.2 hq z), ?_, h.2.2.2.trans h2.2.2.2⟩
  have := h.2.1.1
  rcases h2.2.2.1 with e | e
  · rw [e]; exact h.2.2.1
  · exact Or.inr (by omega)
theorem CS.grow {Γ : Cx} {g : Gn} {L L1 : Nat} {S S1 : Sx} {H H1 H2 : Heap} (h : CS Γ g L S H H1 L1 S1) (o : Grow H1 H2) : CS Γ g L S H H2 L1 S1 :=
  ⟨h.1.grow o, h.2.1.trans o.of, h.2.2⟩
/-- an object of one's own is written -/
theorem CS.own {Γ : Cx} {g : Gn} {L L1 : Nat} {S S1 : Sx} {H H1 H2 : Heap} {P : Nat → Prop} (h : CS Γ g L S H H1 L1 S1) (o : Off P H1 H2) (h1 : ∀ q, P q → H.size ≤ q) (h2 : ∀ q, P q → ¬ Cg g L1 S1 q) : CS Γ g L S H H2 L1 S1 :=
  ⟨h.1.off o h2, h.2.1.fresh o (fun q hq z => by have := h1 q z; omega), h.2.2⟩
theorem CS.out {Γ : Cx} {g : Gn} {L L1 : Nat} {S S1 : Sx} {H H1 : Heap} (h : CS Γ g L S H H1 L1 S1) {q : Nat} (hq : q < H.size) (hn : ¬ Cg g L S q) : ¬ Cg g L1 S1 q := fun z => hn (Cg.back h.2.2.1 h.2.2.2 hq z)
theorem CS.pt {Γ : Cx} {g : Gn} {L L1 : Nat} {S S1 : Sx} {H H1 : Heap} (h : CS Γ g L S H H1 L1 S1) {q : Nat} {e : va_E} (hp : pt Γ H q e) (hn : ¬ Cg g L S q) : pt Γ H1 q e := hp.off h.2.1 hn
