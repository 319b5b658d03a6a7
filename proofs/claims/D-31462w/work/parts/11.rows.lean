/-! ROWS over 'pt': one instruction, one call, one end each; what a store leaves is said of every other cell -/
set_option maxRecDepth 100000
theorem lk {ls : Array Slot} {nL : Nat} {l : List (Nat × Value)} (h : lv_has ls nL l) {i : Nat} {v : Value} (hk : l.lookup i = some v) : ls[i]? = some (.val v) := by
  refine h.2.2 (i, v) ?_
  have key : ∀ l : List (Nat × Value), l.lookup i = some v → (i, v) ∈ l := by
    intro l
    induction l with
    | nil => intro h; simp at h
    | cons x t ih =>
      intro h
      obtain ⟨a, b⟩ := x
      rw [List.lookup_cons] at h
      by_cases e : (i == a) = true
      · rw [e] at h
        have e' : i = a := by simpa using e
        simp at h
        rw [e', h]
        exact List.mem_cons_self
      · have e2 : (i == a) = false := by simpa using e
        rw [e2] at h
        exact List.mem_cons_of_mem _ (ih h)
  exact key l hk
theorem lv_0 {ls : Array Slot} {nL : Nat} {l : List (Nat × Value)} (h : lv_has ls nL l) : lv_has ls nL [] := ⟨h.1, h.2.1, fun _ h => nomatch h⟩
theorem lv_c {ls : Array Slot} {nL : Nat} {l : List (Nat × Value)} {i : Nat} {v : Value} (hv : ls[i]? = some (.val v)) (h : lv_has ls nL l) : lv_has ls nL ((i, v) :: l) := ⟨h.1, h.2.1, fun q hq => (List.mem_cons.mp hq).elim (fun e => by rw [e]; exact hv) (h.2.2 q)⟩
theorem gz_new {Γ : Cx} {s : State} {H : Heap} {locs : List Loc} (hK : KK Γ s) (hS : va_S (Gz Γ) s.heap H locs) : Gz Γ H.size := Nat.le_trans hK.2.2.2.2.2.2 hS.1
theorem va_S.new {A : Nat → Prop} {H0 H H1 : Heap} {locs : List Loc} (h : va_S A H0 H locs) (z : H1.size = H.size + 1) (o : ∀ q : Nat, q < H.size → H1[q]? = H[q]?) : va_S A H0 H1 locs :=
  ⟨Nat.le_trans h.1 (by omega), fun x h1 h2 => (o x (Nat.lt_of_lt_of_le h1 h.1)).trans (h.2.1 x h1 h2), h.2.2⟩
theorem KK.recv {Γ : Cx} {s : State} {H : Heap} {a ci : Nat} {q : vw_C} {fs : List Value} (hK : KK Γ s) (hp : pt Γ H a (.inr (ci, fs))) (hc : cls[ci]? = some q) : ∃ cell : Cell, H[a]? = some cell ∧ cell.vm.isStatics = false ∧ s.vm.findClass q.1 = some cell.cls := va_recv hK.1 hp.P hc (q0 := 0) rfl
/-- an object of a class may lie where E is asked, by the tables' word -/
theorem KK.any {Γ : Cx} {s : State} {H : Heap} {a ci : Nat} {q : vw_C} {fs : List Value} {E : String} (hK : KK Γ s) (hp : pt Γ H a (.inr (ci, fs))) (hc : cls[ci]? = some q) (hw : Cond.castable q.1 E ∈ lw_tbl) : va_Any E s H a := by
  refine va_rAny hK.1 hp.P (q0 := 0) rfl hc (fun comp c0 h1 h2 => ?_)
  have h := hK.2.1.1 _ hw rfl
  obtain ⟨c, t, hc, ht, hasg⟩ := Cond.castable_spec h
  cases Option.some.inj (h2.symm.trans hc)
  cases Option.some.inj (h1.symm.trans ht)
  exact hasg
section HR
variable {p : Program} {l : Launch} {e : Env} {R : Room} {s : State} {m : MethodId} {args : Array Value} {below : List Frame} {meth : Method} {c : Code} {H : Heap} {locs : List Loc} {cells slots : Nat} {Q : State → Prop}
variable {cc : ByteArray} {pc : Nat} {ls : Array Slot} {rest : List Value} {Γ : Cx} {a : Nat}
theorem hw_top {v v' : Value} (h : v = v') (k : W p l e R s m args below meth c H locs cells slots Q (F0 m pc ls (v' :: rest))) : W p l e R s m args below meth c H locs cells slots Q (F0 m pc ls (v :: rest)) := h ▸ k
theorem hw_get (hexec : p.tables.exec = Jvm.exec) (hb : c.code = cc) {own ref C : String} {T : u_T} {N ci index : Nat} (hts : ∀ w ∈ lw_all, w.before args s = true) (hin : ∀ w ∈ u_ws C T N, w ∈ lw_all) (hown : s.vm.findClass own = some m.cls) (hK : KK Γ s) {fs : List Value} (hp : pt Γ H a (.inr (ci, fs))) (hc : cls[ci]? = some (C, T, N)) (k : Nat) (hk : k < N) (hlink : (Cond.fieldLink own index ref (T k).2.1 (T k).2.2.1).before args s = true) (hsame : ∀ x, s.fieldFound? (T k).1 (T k).2.1 (T k).2.2.1 = some x → s.fieldFound? ref (T k).2.1 (T k).2.2.1 = some x) {v : Value} (hv : fs[k]? = some v) (hdg : decode cc pc = .ok (.getfield index, 3))
    (kk : W p l e R s m args below meth c H locs cells slots Q (F0 m (pc + 3) ls (v :: rest))) : W p l e R s m args below meth c H locs cells slots Q (F0 m pc ls (.ref a :: rest)) :=
  va_get hexec hb hts hin hown hK.1 hp.P 0 rfl hc k hk hlink hsame hv hdg kk
theorem hw_getN (hexec : p.tables.exec = Jvm.exec) (hb : c.code = cc) {own ref C host : String} {T : u_T} {N ci index : Nat} (hts : ∀ w ∈ lw_all, w.before args s = true) (hin : ∀ w ∈ u_ws C T N, w ∈ lw_all) (hown : s.vm.findClass own = some m.cls) (hK : KK Γ s) {fs : List Value} (hp : pt Γ H a (.inr (ci, fs))) (hc : cls[ci]? = some (C, T, N)) (k : Nat) (hk : k < N) (hw : Cond.fieldLinkNest own index ref (T k).2.1 (T k).2.2.1 host ∈ lw_tbl) (hsame : ∀ x, s.fieldFound? (T k).1 (T k).2.1 (T k).2.2.1 = some x → s.fieldFound? ref (T k).2.1 (T k).2.2.1 = some x) {v : Value} (hv : fs[k]? = some v) (hdg : decode cc pc = .ok (.getfield index, 3))
    (kk : W p l e R s m args below meth c H locs cells slots Q (F0 m (pc + 3) ls (v :: rest))) : W p l e R s m args below meth c H locs cells slots Q (F0 m pc ls (.ref a :: rest)) :=
  va_getN hexec hb hts hin hown hK.1 hp.P 0 rfl hc k hk ((hK.2.1.1 _ hw rfl).use rfl) hsame hv hdg kk
/-- what a field's store asks -/
theorem hw_put (hexec : p.tables.exec = Jvm.exec) (hb : c.code = cc) {own ref C : String} {T : u_T} {N ci index : Nat} (hts : ∀ w ∈ lw_all, w.before args s = true) (hin : ∀ w ∈ u_ws C T N, w ∈ lw_all) {ty0 : Nat → FieldType} (hty : ∀ k, k < N → parseFieldDescriptor (T k).2.2.1 = some (ty0 k)) (hnm : ∀ a, a < N → ∀ b, b < N → a ≠ b → (T a).2.1 ≠ (T b).2.1) (hown : s.vm.findClass own = some m.cls) (hK : KK Γ s) {fs : List Value} (hp : pt Γ H a (.inr (ci, fs))) (ha : Gz Γ a) (hS0 : va_S (Gz Γ) s.heap H locs) (hc : cls[ci]? = some (C, T, N)) (k : Nat) (hk : k < N) (hlink : (Cond.fieldLink own index ref (T k).2.1 (T k).2.2.1).before args s = true) (hsame : ∀ x, s.fieldFound? (T k).1 (T k).2.1 (T k).2.2.1 = some x → s.fieldFound? ref (T k).2.1 (T k).2.2.1 = some x) (hfin : (T k).2.2.2 = false) {ty : FieldType} {v : Value} (hd : parseFieldDescriptor (T k).2.2.1 = some ty) (hn : narrow ty v = v) (hfit : fits ty v = true) (hl : k < fs.length)
    (hdg : decode cc pc = .ok (.putfield index, 3)) (kk : ∀ (H1 : Heap) (locs1 : List Loc), pt Γ H1 a (.inr (ci, fs.set k v)) → H1.size = H.size → (∀ q : Nat, q ≠ a → H1[q]? = H[q]?) → va_S (Gz Γ) s.heap H1 locs1 → W p l e R s m args below meth c H1 locs1 cells slots Q (F0 m (pc + 3) ls rest)) : W p l e R s m args below meth c H locs cells slots Q (F0 m pc ls (v :: .ref a :: rest)) := by
  have hap := va_apart (own := own) hts hin ty0 hty hnm hK.1 hc
  obtain ⟨r, h1, cell, q1, q2, q3, q4⟩ := hp
  have hr : r = (C, T, N) := Option.some.inj (h1.symm.trans hc)
  subst hr
  obtain ⟨hSl, hfc, kC, hkC, hkind⟩ := hK.1.1 ci _ hc
  obtain ⟨cf, kf, fi, f, hi, hsl⟩ := hSl k hk
  have hlay := hts _ (hin _ (u_in_lay hk))
  unfold u_lay at hlay
  rw [if_neg (by rw [hfin]; decide)] at hlay
  have hst := (u_facts hfc hkC (u_lays hts hin hk) hi).1
  have h6 := u_store hfc hkC hkind hlay hi hd hn hfit
  refine W.putK hexec hb (f := f) ⟨hown, hlink, ⟨_, _, _, hsame _ hi⟩, hst⟩ (by rw [q2]; exact h6) q1 q3 (by rw [hsl]; exact k2_hasslot (q4 k hk)) rfl rfl hdg fun H' e1 e2 e3 => ?_
  rw [hsl] at e1 ⊢
  exact kk H' _ ⟨_, hc, t_OB.to (V := updV (vp_V fs) k v) ⟨_, e1, q2, q3, t_set q4 hap hk v⟩ (fun j _ => vp_updV_set hl v j)⟩ e2 e3 (hS0.put e2 e3 ha)
theorem hw_putF (hexec : p.tables.exec = Jvm.exec) (hb : c.code = cc) {own ref C : String} {T : u_T} {N ci index : Nat} (hts : ∀ w ∈ lw_all, w.before args s = true) (hin : ∀ w ∈ u_ws C T N, w ∈ lw_all) {ty0 : Nat → FieldType} (hty : ∀ k, k < N → parseFieldDescriptor (T k).2.2.1 = some (ty0 k)) (hnm : ∀ a, a < N → ∀ b, b < N → a ≠ b → (T a).2.1 ≠ (T b).2.1) (hown : s.vm.findClass own = some m.cls) (hK : KK Γ s) {fs : List Value} (hp : pt Γ H a (.inr (ci, fs))) (ha : Gz Γ a) (hS0 : va_S (Gz Γ) s.heap H locs) (hc : cls[ci]? = some (C, T, N)) (k : Nat) (hk : k < N) (hlink : (Cond.fieldLink own index ref (T k).2.1 (T k).2.2.1).before args s = true) (hsame : ∀ x, s.fieldFound? (T k).1 (T k).2.1 (T k).2.2.1 = some x → s.fieldFound? ref (T k).2.1 (T k).2.2.1 = some x) (hfin : (T k).2.2.2 = true) (hin2 : meth.name = "<init>") (hdecl : (T k).1 = own) {ty : FieldType} {v : Value} (hd : parseFieldDescriptor (T k).2.2.1 = some ty) (hn : narrow ty v = v) (hfit : fits ty v = true) (hl : k < fs.length)
    (hdg : decode cc pc = .ok (.putfield index, 3)) (kk : ∀ (H1 : Heap) (locs1 : List Loc), pt Γ H1 a (.inr (ci, fs.set k v)) → H1.size = H.size → (∀ q : Nat, q ≠ a → H1[q]? = H[q]?) → va_S (Gz Γ) s.heap H1 locs1 → W p l e R s m args below meth c H1 locs1 cells slots Q (F0 m (pc + 3) ls rest)) : W p l e R s m args below meth c H locs cells slots Q (F0 m pc ls (v :: .ref a :: rest)) := by
  have hap := va_apart (own := own) hts hin ty0 hty hnm hK.1 hc
  obtain ⟨r, h1, cell, q1, q2, q3, q4⟩ := hp
  have hr : r = (C, T, N) := Option.some.inj (h1.symm.trans hc)
  subst hr
  obtain ⟨hSl, hfc, kC, hkC, hkind⟩ := hK.1.1 ci _ hc
  obtain ⟨cf, kf, fi, f, hi, hsl⟩ := hSl k hk
  have hlay := hts _ (hin _ (u_in_lay hk))
  unfold u_lay at hlay
  rw [if_pos hfin] at hlay
  have hst := (u_facts hfc hkC (u_lays hts hin hk) hi).1
  have hcf : m.cls = cf := by
    obtain ⟨_, _, c', _, _, _, -, -, hf', -, -, -, hown2, -⟩ := Cond.laysFinal_spec hlay
    have e1 : c' = cf := by have := hi.symm.trans hf'; simp at this; exact this.1.symm
    rw [hdecl] at hown2
    rw [← e1]; exact Option.some.inj (hown.symm.trans hown2)
  have h6 := u_fits hfc hkC hkind (Or.inr hlay) hi hd hn hfit
  refine W.putFinK hexec hb hown hlink (hsame _ hi) hst hcf hin2 (by rw [q2]; exact h6) q1 q3 (by rw [hsl]; exact k2_hasslot (q4 k hk)) rfl rfl hdg fun H' e1 e2 e3 => ?_
  rw [hsl] at e1 ⊢
  exact kk H' _ ⟨_, hc, t_OB.to (V := updV (vp_V fs) k v) ⟨_, e1, q2, q3, t_set q4 hap hk v⟩ (fun j _ => vp_updV_set hl v j)⟩ e2 e3 (hS0.put e2 e3 ha)
/-- arrays: reads -/
theorem hw_iald (hexec : p.tables.exec = Jvm.exec) (hb : c.code = cc) (hK : KK Γ s) {n : Nat} {f : Nat → Int32} (hp : pt Γ H a (ia Γ n f)) {i : Int32} (hin : vp_in i n) (hdg : decode cc pc = .ok (.iaload, 1))
    (kk : W p l e R s m args below meth c H locs cells slots Q (F0 m (pc + 1) ls (.int (f i.toNatClampNeg) :: rest))) : W p l e R s m args below meth c H locs cells slots Q (F0 m pc ls (.int i :: .ref a :: rest)) := va_iald hexec hb hK.1 hp.P 0 0 rfl rfl hin hdg kk
theorem hw_zald (hexec : p.tables.exec = Jvm.exec) (hb : c.code = cc) (hK : KK Γ s) {n : Nat} {f : Nat → Int32} (hp : pt Γ H a (za Γ n f)) {i : Int32} (hin : vp_in i n) (hdg : decode cc pc = .ok (.baload, 1))
    (kk : W p l e R s m args below meth c H locs cells slots Q (F0 m (pc + 1) ls (.int (f i.toNatClampNeg) :: rest))) : W p l e R s m args below meth c H locs cells slots Q (F0 m pc ls (.int i :: .ref a :: rest)) := va_zald hexec hb hK.1 hp.P 0 1 rfl rfl hin hdg kk
theorem hw_lald (hexec : p.tables.exec = Jvm.exec) (hb : c.code = cc) (hK : KK Γ s) {n : Nat} {f : Nat → Int64} (hp : pt Γ H a (ja Γ n f)) {i : Int32} (hin : vp_in i n) (hdg : decode cc pc = .ok (.laload, 1))
    (kk : W p l e R s m args below meth c H locs cells slots Q (F0 m (pc + 1) ls (.long (f i.toNatClampNeg) :: rest))) : W p l e R s m args below meth c H locs cells slots Q (F0 m pc ls (.int i :: .ref a :: rest)) := va_lald hexec hb hK.1 hp.P 0 2 rfl rfl hin hdg kk
theorem hw_oald (hexec : p.tables.exec = Jvm.exec) (hb : c.code = cc) (hK : KK Γ s) {n : Nat} {f : Nat → Option Nat} (hp : pt Γ H a (oa Γ n f)) {i : Int32} (hin : vp_in i n) (hdg : decode cc pc = .ok (.aaload, 1))
    (kk : W p l e R s m args below meth c H locs cells slots Q (F0 m (pc + 1) ls (va_rf (f i.toNatClampNeg) :: rest))) : W p l e R s m args below meth c H locs cells slots Q (F0 m pc ls (.int i :: .ref a :: rest)) := va_aldq hexec hb hK.1 hp.P 0 3 rfl rfl hin hdg kk
theorem hw_sald (hexec : p.tables.exec = Jvm.exec) (hb : c.code = cc) (hK : KK Γ s) {n : Nat} {f : Nat → Option Nat} (hp : pt Γ H a (sa Γ n f)) {i : Int32} (hin : vp_in i n) (hdg : decode cc pc = .ok (.aaload, 1))
    (kk : W p l e R s m args below meth c H locs cells slots Q (F0 m (pc + 1) ls (va_rf (f i.toNatClampNeg) :: rest))) : W p l e R s m args below meth c H locs cells slots Q (F0 m pc ls (.int i :: .ref a :: rest)) := va_aldq hexec hb hK.1 hp.P 0 4 rfl rfl hin hdg kk
theorem hw_ilen (hexec : p.tables.exec = Jvm.exec) (hb : c.code = cc) (hK : KK Γ s) {n : Nat} {f : Nat → Int32} (hp : pt Γ H a (ia Γ n f)) (hdg : decode cc pc = .ok (.arraylength, 1))
    (kk : W p l e R s m args below meth c H locs cells slots Q (F0 m (pc + 1) ls (.int (nI n) :: rest))) : W p l e R s m args below meth c H locs cells slots Q (F0 m pc ls (.ref a :: rest)) := va_alen (v := nI n) hexec hb hK.1 hp.P 0 0 rfl rfl rfl hdg kk
theorem hw_llen (hexec : p.tables.exec = Jvm.exec) (hb : c.code = cc) (hK : KK Γ s) {n : Nat} {f : Nat → Int64} (hp : pt Γ H a (ja Γ n f)) (hdg : decode cc pc = .ok (.arraylength, 1))
    (kk : W p l e R s m args below meth c H locs cells slots Q (F0 m (pc + 1) ls (.int (nI n) :: rest))) : W p l e R s m args below meth c H locs cells slots Q (F0 m pc ls (.ref a :: rest)) := va_alen (v := nI n) hexec hb hK.1 hp.P 0 2 rfl rfl rfl hdg kk
theorem hw_olen (hexec : p.tables.exec = Jvm.exec) (hb : c.code = cc) (hK : KK Γ s) {n : Nat} {f : Nat → Option Nat} (hp : pt Γ H a (oa Γ n f)) (hdg : decode cc pc = .ok (.arraylength, 1))
    (kk : W p l e R s m args below meth c H locs cells slots Q (F0 m (pc + 1) ls (.int (nI n) :: rest))) : W p l e R s m args below meth c H locs cells slots Q (F0 m pc ls (.ref a :: rest)) := va_alen (v := nI n) hexec hb hK.1 hp.P 0 3 rfl rfl rfl hdg kk
theorem hw_slen (hexec : p.tables.exec = Jvm.exec) (hb : c.code = cc) (hK : KK Γ s) {n : Nat} {f : Nat → Option Nat} (hp : pt Γ H a (sa Γ n f)) (hdg : decode cc pc = .ok (.arraylength, 1))
    (kk : W p l e R s m args below meth c H locs cells slots Q (F0 m (pc + 1) ls (.int (nI n) :: rest))) : W p l e R s m args below meth c H locs cells slots Q (F0 m pc ls (.ref a :: rest)) := va_alen (v := nI n) hexec hb hK.1 hp.P 0 4 rfl rfl rfl hdg kk
/-- arrays: stores -/
theorem hw_iast (hexec : p.tables.exec = Jvm.exec) (hb : c.code = cc) (hK : KK Γ s) {n : Nat} {f : Nat → Int32} (hp : pt Γ H a (ia Γ n f)) (ha : Gz Γ a) (hS : va_S (Gz Γ) s.heap H locs) {i x : Int32} (hin : vp_in i n) (hdg : decode cc pc = .ok (.iastore, 1))
    (kk : ∀ (H1 : Heap) (locs1 : List Loc), pt Γ H1 a (ia Γ n (upd f i.toNatClampNeg x)) → H1.size = H.size → (∀ q : Nat, q ≠ a → H1[q]? = H[q]?) → va_S (Gz Γ) s.heap H1 locs1 → W p l e R s m args below meth c H1 locs1 cells slots Q (F0 m (pc + 1) ls rest)) : W p l e R s m args below meth c H locs cells slots Q (F0 m pc ls (.int x :: .int i :: .ref a :: rest)) := by
  refine W.iast hexec hb hp ((hK.1.2 0 _ rfl).1 n (fun j => .int (f j))) (fun q => by cases q) (by show ¬ (i < 0 ∨ (arrV _ _ _).slots.size ≤ _); rw [arrV_size]; exact hin) rfl rfl hdg fun H1 e z oq => ?_
  refine kk H1 _ ?_ z oq (hS.put z oq ha)
  show H1[a]? = some (vp_cell _ _)
  rw [e, vp_cell_i, vp_cell_i, arrV_store]
  congr 2
  funext q
  by_cases hq : q = i.toNatClampNeg
  · subst hq
    simp [updV, upd]
  · simp [updV, upd, hq]
theorem hw_zast (hexec : p.tables.exec = Jvm.exec) (hb : c.code = cc) (hK : KK Γ s) {n : Nat} {f : Nat → Int32} (hp : pt Γ H a (za Γ n f)) (ha : Gz Γ a) (hS : va_S (Gz Γ) s.heap H locs) {i x : Int32} (hx : vp_nar .boolean x = x) (hin : vp_in i n) (hdg : decode cc pc = .ok (.bastore, 1))
    (kk : ∀ (H1 : Heap) (locs1 : List Loc), pt Γ H1 a (za Γ n (upd f i.toNatClampNeg x)) → H1.size = H.size → (∀ q : Nat, q ≠ a → H1[q]? = H[q]?) → va_S (Gz Γ) s.heap H1 locs1 → W p l e R s m args below meth c H1 locs1 cells slots Q (F0 m (pc + 1) ls rest)) : W p l e R s m args below meth c H locs cells slots Q (F0 m pc ls (.int x :: .int i :: .ref a :: rest)) := by
  refine W.zast hexec hb hp ((hK.1.2 1 _ rfl).1 n (fun j => .int (f j))) (fun q => by cases q) (by show ¬ (i < 0 ∨ (arrV _ _ _).slots.size ≤ _); rw [arrV_size]; exact hin) rfl rfl hdg fun H1 e z oq => ?_
  refine kk H1 _ ?_ z oq (hS.put z oq ha)
  show H1[a]? = some (vp_cell _ _)
  rw [e, vp_cell_i, vp_cell_i, arrV_store]
  congr 2
  funext q
  by_cases hq : q = i.toNatClampNeg
  · subst hq
    simp only [updV, upd, if_true]
    have h2 : narrow .boolean (.int x) = .int (vp_nar .boolean x) := by simp [vp_nar, narrow]
    rw [h2, hx]
  · simp [updV, upd, hq]
theorem hw_last (hexec : p.tables.exec = Jvm.exec) (hb : c.code = cc) (hK : KK Γ s) {n : Nat} {f : Nat → Int64} (hp : pt Γ H a (ja Γ n f)) (ha : Gz Γ a) (hS : va_S (Gz Γ) s.heap H locs) {i : Int32} {x : Int64} (hin : vp_in i n) (hdg : decode cc pc = .ok (.lastore, 1))
    (kk : ∀ (H1 : Heap) (locs1 : List Loc), pt Γ H1 a (ja Γ n (vp_updL f i.toNatClampNeg x)) → H1.size = H.size → (∀ q : Nat, q ≠ a → H1[q]? = H[q]?) → va_S (Gz Γ) s.heap H1 locs1 → W p l e R s m args below meth c H1 locs1 cells slots Q (F0 m (pc + 1) ls rest)) : W p l e R s m args below meth c H locs cells slots Q (F0 m pc ls (.long x :: .int i :: .ref a :: rest)) := by
  refine W.last hexec hb hp ((hK.1.2 2 _ rfl).1 n (fun j => .long (f j))) (fun q => by cases q) (by show ¬ (i < 0 ∨ (arrV _ _ _).slots.size ≤ _); rw [arrV_size]; exact hin) rfl rfl hdg fun H1 e z oq => ?_
  refine kk H1 _ ?_ z oq (hS.put z oq ha)
  show H1[a]? = some (vp_cell _ _)
  rw [e, vp_cell_l, vp_cell_l, arrV_store]
  congr 2
  funext q
  by_cases hq : q = i.toNatClampNeg
  · subst hq
    simp [updV, vp_updL]
  · simp [updV, vp_updL, hq]
theorem hw_oast (hexec : p.tables.exec = Jvm.exec) (hb : c.code = cc) (hK : KK Γ s) {n v : Nat} {f : Nat → Option Nat} (hp : pt Γ H a (oa Γ n f)) (ha : Gz Γ a) (hS : va_S (Gz Γ) s.heap H locs) (hr : va_Any "java/lang/Object" s H v) {i : Int32} (hin : vp_in i n) (hdg : decode cc pc = .ok (.aastore, 1))
    (kk : ∀ (H1 : Heap) (locs1 : List Loc), pt Γ H1 a (oa Γ n (va_up f i.toNatClampNeg (some v))) → H1.size = H.size → (∀ q : Nat, q ≠ a → H1[q]? = H[q]?) → va_S (Gz Γ) s.heap H1 locs1 → W p l e R s m args below meth c H1 locs1 cells slots Q (F0 m (pc + 1) ls rest)) : W p l e R s m args below meth c H locs cells slots Q (F0 m pc ls (.ref v :: .int i :: .ref a :: rest)) := by
  have hlt : i.toNatClampNeg < n := Nat.not_le.mp fun q => hin (Or.inr q)
  have h0 : ¬ i < 0 := fun q => hin (Or.inl q)
  obtain ⟨cellV, g1, g3, ⟨kC, hkC⟩, hasg⟩ := hr
  obtain ⟨kA, comp, k1, k2, k3, -⟩ := (hK.1.2 3 _ rfl).2
  obtain ⟨kE, hkE, -⟩ := Vm.findClass_spec k3
  refine W.aast hexec hb hp (fun q h => by cases h) (fun h => by cases h) k1 k2 rfl hkE ⟨h0, by show _ < (arrV _ _ _).slots.size; rw [arrV_size]; exact hlt⟩ g1 (fun q h => by rw [h] at g3; cases g3) hkC (hasg _ k3) rfl rfl hdg fun H1 e z oq => ?_
  refine kk H1 _ ?_ z oq (hS.put z oq ha)
  show H1[a]? = some (vp_cell _ _)
  rw [e, vp_cell_q, vp_cell_q, arrV_store]
  congr 2
  funext q
  by_cases hq : q = i.toNatClampNeg
  · subst hq
    simp [updV, va_up, va_rf]
  · simp [updV, va_up, hq]
theorem hw_sast (hexec : p.tables.exec = Jvm.exec) (hb : c.code = cc) (hK : KK Γ s) {n v : Nat} {f : Nat → Option Nat} {fs : List Value} (hp : pt Γ H a (sa Γ n f)) (ha : Gz Γ a) (hS : va_S (Gz Γ) s.heap H locs) (hv : pt Γ H v (.inr (3, fs))) {i : Int32} (hin : vp_in i n) (hdg : decode cc pc = .ok (.aastore, 1))
    (kk : ∀ (H1 : Heap) (locs1 : List Loc), pt Γ H1 a (sa Γ n (va_up f i.toNatClampNeg (some v))) → H1.size = H.size → (∀ q : Nat, q ≠ a → H1[q]? = H[q]?) → va_S (Gz Γ) s.heap H1 locs1 → W p l e R s m args below meth c H1 locs1 cells slots Q (F0 m (pc + 1) ls rest)) : W p l e R s m args below meth c H locs cells slots Q (F0 m pc ls (.ref v :: .int i :: .ref a :: rest)) := by
  have hlt : i.toNatClampNeg < n := Nat.not_le.mp fun q => hin (Or.inr q)
  have h0 : ¬ i < 0 := fun q => hin (Or.inl q)
  obtain ⟨cellV, g1, g3, g2⟩ := hK.recv hv (q := (RX4, TX4, 7)) rfl
  have hcls := (hK.1.1 3 (RX4, TX4, 7) rfl).2
  obtain ⟨kA, comp, k1, k2, k3, -⟩ := (hK.1.2 4 _ rfl).2
  have e1 : comp = Γ.2.1.1 3 := Option.some.inj (k3.symm.trans hcls.1)
  have e2 : cellV.cls = Γ.2.1.1 3 := Option.some.inj (g2.symm.trans hcls.1)
  subst e1
  have hasg := va_assign hcls
  obtain ⟨kC, hkC, -⟩ := hcls.2
  refine W.aast hexec hb hp (fun q h => by cases h) (fun h => by cases h) k1 k2 rfl hkC ⟨h0, by show _ < (arrV _ _ _).slots.size; rw [arrV_size]; exact hlt⟩ g1 (fun q h => by rw [h] at g3; cases g3) (by rw [e2]; exact hkC) (by rw [e2]; exact hasg) rfl rfl hdg fun H1 e z oq => ?_
  refine kk H1 _ ?_ z oq (hS.put z oq ha)
  show H1[a]? = some (vp_cell _ _)
  rw [e, vp_cell_q, vp_cell_q, arrV_store]
  congr 2
  funext q
  by_cases hq : q = i.toNatClampNeg
  · subst hq
    simp [updV, va_up, va_rf]
  · simp [updV, va_up, hq]
theorem hw_astN {t0 : Nat} {cA : ClassId} {C : String} (hexec : p.tables.exec = Jvm.exec) (hb : c.code = cc) (hK : KK Γ s) {n : Nat} {f : Nat → Option Nat} (hp : pt Γ H a (.inl (cA, n, .inr (.inr (.inr (.inr f)))))) (ht : (tys Γ)[t0]? = some (cA, .object C)) (ha : Gz Γ a) (hS : va_S (Gz Γ) s.heap H locs) {i : Int32} (hin : vp_in i n) (hdg : decode cc pc = .ok (.aastore, 1))
    (kk : ∀ (H1 : Heap) (locs1 : List Loc), pt Γ H1 a (.inl (cA, n, .inr (.inr (.inr (.inr (va_up f i.toNatClampNeg none)))))) → H1.size = H.size → (∀ q : Nat, q ≠ a → H1[q]? = H[q]?) → va_S (Gz Γ) s.heap H1 locs1 → W p l e R s m args below meth c H1 locs1 cells slots Q (F0 m (pc + 1) ls rest)) : W p l e R s m args below meth c H locs cells slots Q (F0 m pc ls (.null :: .int i :: .ref a :: rest)) := by
  refine va_WaastN (C := C) hexec hb hp ((hK.1.2 t0 _ ht).1 n (fun j => va_rf (f j))) (fun h => by cases h) (by show ¬ (i < 0 ∨ (arrV _ _ _).slots.size ≤ _); rw [arrV_size]; exact hin) rfl rfl hdg fun H1 e z oq => ?_
  refine kk H1 _ ?_ z oq (hS.put z oq ha)
  show H1[a]? = some (vp_cell _ _)
  rw [e, vp_cell_q, vp_cell_q, arrV_store]
  congr 2
  funext q
  by_cases hq : q = i.toNatClampNeg
  · subst hq
    simp [updV, va_up, va_rf]
  · simp [updV, va_up, hq]
/-- makings -/
theorem hw_new (hexec : p.tables.exec = Jvm.exec) (hb : c.code = cc) {own C : String} {T : u_T} {N ci index : Nat} (hts : ∀ w ∈ lw_all, w.before args s = true) (hin : ∀ w ∈ u_ws C T N, w ∈ lw_all) {ty : Nat → FieldType} (hty : ∀ k, k < N → parseFieldDescriptor (T k).2.2.1 = some (ty k)) (hown : s.vm.findClass own = some m.cls) (hcl : (Cond.classLink own index C).before args s = true) (hinst : (Cond.instantiable C N).before args s = true) (hini : (Cond.initialized C).before args s = true)
    (hK : KK Γ s) (hS : va_S (Gz Γ) s.heap H locs) (hc : cls[ci]? = some (C, T, N)) {fs : List Value} (hfs : (List.range N).map (fun j => defaultValue (ty j)) = fs) (hcells : cells + 1 ≤ R.cells) (hslots : slots + N ≤ R.slots) (hdg : decode cc pc = .ok (.new index, 3))
    (kk : ∀ (q : Nat) (H1 : Heap), q = H.size → pt Γ H1 q (.inr (ci, fs)) → Gz Γ q → H1.size = H.size + 1 → (∀ r : Nat, r < H.size → H1[r]? = H[r]?) → va_S (Gz Γ) s.heap H1 locs → W p l e R s m args below meth c H1 locs (cells + 1) (slots + N) Q (F0 m (pc + 3) ls (.ref q :: rest))) : W p l e R s m args below meth c H locs cells slots Q (F0 m pc ls rest) := by
  have hKn := hK.1.1 ci _ hc
  refine W.newcK hexec hb hown hcl hinst hini rfl hdg hcells hslots hKn.2.1 rfl fun H1 kC hkC e1 z1 o1 => ?_
  refine kk H.size H1 rfl ⟨_, hc, (u_born ty hts hin hKn hkC e1 hty).to (fun j hj => ?_)⟩ (gz_new hK hS) z1 o1 (hS.new z1 o1)
  subst hfs
  have hj : j < N := hj
  simp [vp_V, hj]
theorem hw_newi (hexec : p.tables.exec = Jvm.exec) (hb : c.code = cc) (hK : KK Γ s) (harr : (Cond.arrayClass .int).before args s = true) (hS : va_S (Gz Γ) s.heap H locs) {n : Int32} {N : Nat} (hn : n = nI N) (hN : N ≤ 100000) (hcells : cells + 1 ≤ R.cells) (hslots : slots + N ≤ R.slots) (hdg : decode cc pc = .ok (.newarray .int, 2))
    (kk : ∀ (q : Nat) (H1 : Heap), q = H.size → pt Γ H1 q (ia Γ N (fun _ => 0)) → Gz Γ q → H1.size = H.size + 1 → (∀ r : Nat, r < H.size → H1[r]? = H[r]?) → va_S (Gz Γ) s.heap H1 locs → W p l e R s m args below meth c H1 locs (cells + 1) (slots + N) Q (F0 m (pc + 2) ls (.ref q :: rest))) : W p l e R s m args below meth c H locs cells slots Q (F0 m pc ls (.int n :: rest)) := by
  subst hn
  refine va_newaK (atype := .int) (N := N) hexec hb harr rfl hdg rfl (nI_pos (by omega)) (nI_clamp (by omega)) (by show N * 4 ≤ _; omega) hcells hslots rfl fun H1 cA e1 z1 o1 hAr hNm => ?_
  have h0 := (hK.1.2 0 _ rfl).2
  have e : cA = Γ.2.2.1 0 := Option.some.inj (hNm.symm.trans h0)
  subst e
  exact kk H.size H1 rfl e1 (gz_new hK hS) z1 o1 (hS.new z1 o1)
theorem hw_newz (hexec : p.tables.exec = Jvm.exec) (hb : c.code = cc) (hK : KK Γ s) (harr : (Cond.arrayClass .boolean).before args s = true) (hS : va_S (Gz Γ) s.heap H locs) {n : Int32} {N : Nat} (hn : n = nI N) (hN : N ≤ 100000) (hcells : cells + 1 ≤ R.cells) (hslots : slots + N ≤ R.slots) (hdg : decode cc pc = .ok (.newarray .boolean, 2))
    (kk : ∀ (q : Nat) (H1 : Heap), q = H.size → pt Γ H1 q (za Γ N (fun _ => 0)) → Gz Γ q → H1.size = H.size + 1 → (∀ r : Nat, r < H.size → H1[r]? = H[r]?) → va_S (Gz Γ) s.heap H1 locs → W p l e R s m args below meth c H1 locs (cells + 1) (slots + N) Q (F0 m (pc + 2) ls (.ref q :: rest))) : W p l e R s m args below meth c H locs cells slots Q (F0 m pc ls (.int n :: rest)) := by
  subst hn
  refine va_newaK (atype := .boolean) (N := N) hexec hb harr rfl hdg rfl (nI_pos (by omega)) (nI_clamp (by omega)) (by show N * 1 ≤ _; omega) hcells hslots rfl fun H1 cA e1 z1 o1 hAr hNm => ?_
  have h0 := (hK.1.2 1 _ rfl).2
  have e : cA = Γ.2.2.1 1 := Option.some.inj (hNm.symm.trans h0)
  subst e
  exact kk H.size H1 rfl e1 (gz_new hK hS) z1 o1 (hS.new z1 o1)
theorem hw_newl (hexec : p.tables.exec = Jvm.exec) (hb : c.code = cc) (hK : KK Γ s) (harr : (Cond.arrayClass .long).before args s = true) (hS : va_S (Gz Γ) s.heap H locs) {n : Int32} {N : Nat} (hn : n = nI N) (hN : N ≤ 100000) (hcells : cells + 1 ≤ R.cells) (hslots : slots + N ≤ R.slots) (hdg : decode cc pc = .ok (.newarray .long, 2))
    (kk : ∀ (q : Nat) (H1 : Heap), q = H.size → pt Γ H1 q (ja Γ N (fun _ => 0)) → Gz Γ q → H1.size = H.size + 1 → (∀ r : Nat, r < H.size → H1[r]? = H[r]?) → va_S (Gz Γ) s.heap H1 locs → W p l e R s m args below meth c H1 locs (cells + 1) (slots + N) Q (F0 m (pc + 2) ls (.ref q :: rest))) : W p l e R s m args below meth c H locs cells slots Q (F0 m pc ls (.int n :: rest)) := by
  subst hn
  refine va_newaK (atype := .long) (N := N) hexec hb harr rfl hdg rfl (nI_pos (by omega)) (nI_clamp (by omega)) (by show N * 8 ≤ _; omega) hcells hslots rfl fun H1 cA e1 z1 o1 hAr hNm => ?_
  have h0 := (hK.1.2 2 _ rfl).2
  have e : cA = Γ.2.2.1 2 := Option.some.inj (hNm.symm.trans h0)
  subst e
  exact kk H.size H1 rfl e1 (gz_new hK hS) z1 o1 (hS.new z1 o1)
theorem hw_newq {t0 : Nat} {cA0 : ClassId} {C : String} (hexec : p.tables.exec = Jvm.exec) (hb : c.code = cc) {own : String} {index : Nat} (hown : s.vm.findClass own = some m.cls) (hclink : (Cond.classLink own index C).before args s = true) (hover : va_AO C s) (hK : KK Γ s) (ht : (tys Γ)[t0]? = some (cA0, .object C)) (hS : va_S (Gz Γ) s.heap H locs)
    {n : Int32} {N : Nat} (hn : n = nI N) (hN : N ≤ 100000) (hcells : cells + 1 ≤ R.cells) (hslots : slots + N ≤ R.slots) (hdg : decode cc pc = .ok (.anewarray index, 3))
    (kk : ∀ (q : Nat) (H1 : Heap), q = H.size → pt Γ H1 q (.inl (cA0, N, .inr (.inr (.inr (.inr (fun _ => none)))))) → Gz Γ q → H1.size = H.size + 1 → (∀ r : Nat, r < H.size → H1[r]? = H[r]?) → va_S (Gz Γ) s.heap H1 locs → W p l e R s m args below meth c H1 locs (cells + 1) (slots + N) Q (F0 m (pc + 3) ls (.ref q :: rest))) : W p l e R s m args below meth c H locs cells slots Q (F0 m pc ls (.int n :: rest)) := by
  subst hn
  have hcl : (nI N).toNatClampNeg = N := nI_clamp (by omega)
  refine W.anew hexec hb hown hclink (va_AO.use hover) rfl hdg rfl (nI_pos (by omega)) (by rw [hcl]; omega) hcells (by rw [hcl]; exact hslots) fun cA kA comp f1 f2 f3 f4 => ?_
  rw [hcl]
  obtain ⟨kA', comp', -, -, -, h0⟩ := (hK.1.2 t0 _ ht).2
  have e : cA = cA0 := Option.some.inj (f1.symm.trans h0)
  subst e
  generalize hH1 : H.push ({ cls := cA, slots := Array.replicate N .null, vm := .none } : Cell) = H1
  have z1 : H1.size = H.size + 1 := by rw [← hH1, Array.size_push]
  have e1 : H1[H.size]? = some (arrV cA N (fun _ => .null)) := by rw [← hH1, Array.getElem?_push_size, ← arrV_new]
  have o1 : ∀ q : Nat, q < H.size → H1[q]? = H[q]? := fun q hq => by rw [← hH1, Array.getElem?_push, if_neg (Nat.ne_of_lt hq)]
  exact kk H.size H1 rfl e1 (gz_new hK hS) z1 o1 (hS.new z1 o1)
/-- ends -/
theorem hr_i {mc ms : Nat} {Post : Option Value → Heap → Prop} {r : Int32} (hQ : Q = MQ below (Qn Γ Post) args s mc ms (Gz Γ)) (hexec : p.tables.exec = Jvm.exec) (hb : c.code = cc) (hr : meth.sig.returnType = some .int) (hlocks : meth.locks = false) (hS : va_S (Gz Γ) s.heap H locs) (hc : cells ≤ mc) (hs : slots ≤ ms) (hp : Post (some (.int r)) H) (hdg : decode cc pc = .ok (.ireturn, 1)) :
    W p l e R s m args below meth c H locs cells slots Q (F0 m pc ls [.int r]) := by
  subst hQ
  exact W.widen hc hs (W.iret hexec hb hr (fun t ht hW => ⟨⟨_, rfl, by rw [ht]; exact hp⟩, hS.F ht⟩) hS.2.2 hdg hlocks)
theorem hr_z {mc ms : Nat} {Post : Option Value → Heap → Prop} {r : Int32} (hQ : Q = MQ below (Qn Γ Post) args s mc ms (Gz Γ)) (hexec : p.tables.exec = Jvm.exec) (hb : c.code = cc) (hr : meth.sig.returnType = some .boolean) (hlocks : meth.locks = false) (hS : va_S (Gz Γ) s.heap H locs) (hc : cells ≤ mc) (hs : slots ≤ ms) (hn : narrow .boolean (.int r) = .int r) (hp : Post (some (.int r)) H) (hdg : decode cc pc = .ok (.ireturn, 1)) :
    W p l e R s m args below meth c H locs cells slots Q (F0 m pc ls [.int r]) := by
  subst hQ
  exact W.widen hc hs (W.zret hexec hb hr hn (fun t ht hW => ⟨⟨_, rfl, by rw [ht]; exact hp⟩, hS.F ht⟩) hS.2.2 hdg hlocks)
theorem hr_v {mc ms : Nat} {Post : Option Value → Heap → Prop} (hQ : Q = MQ below (Qn Γ Post) args s mc ms (Gz Γ)) (hexec : p.tables.exec = Jvm.exec) (hb : c.code = cc) (hr : meth.sig.returnType = none) (hlocks : meth.locks = false) (hS : va_S (Gz Γ) s.heap H locs) (hc : cells ≤ mc) (hs : slots ≤ ms) (hp : Post none H) (hdg : decode cc pc = .ok (.return_, 1)) :
    W p l e R s m args below meth c H locs cells slots Q (F0 m pc ls []) := by
  subst hQ
  exact W.widen hc hs (W.vret hexec hb hr (fun t ht hW => ⟨⟨_, rfl, by rw [ht]; exact hp⟩, hS.F ht⟩) hS.2.2 hdg hlocks)
theorem hr_a {mc ms : Nat} {Post : Option Value → Heap → Prop} {v : Value} {rt : FieldType} (hQ : Q = MQ below (Qn Γ Post) args s mc ms (Gz Γ)) (hexec : p.tables.exec = Jvm.exec) (hb : c.code = cc) (hr : meth.sig.returnType = some rt) (hrt : (∃ n, rt = .object n) ∨ ∃ t, rt = .array t) (hv : v = .null ∨ ∃ a, v = .ref a) (hlocks : meth.locks = false) (hS : va_S (Gz Γ) s.heap H locs) (hc : cells ≤ mc) (hs : slots ≤ ms) (hp : Post (some v) H) (hdg : decode cc pc = .ok (.areturn, 1)) :
    W p l e R s m args below meth c H locs cells slots Q (F0 m pc ls [v]) := by
  subst hQ
  exact W.widen hc hs (W.aret hexec hb hr hrt hv (fun t ht hW => ⟨⟨_, rfl, by rw [ht]; exact hp⟩, hS.F ht⟩) hS.2.2 hdg hlocks)
theorem rf_or {r : Option Nat} : va_rf r = .null ∨ ∃ a, va_rf r = .ref a := by
  cases r with
  | none => exact Or.inl rfl
  | some a => exact Or.inr ⟨a, rfl⟩
end HR
/-- a method's start -/
theorem mt_of {l : Launch} {Γ : Cx} {y : MethodName} {cc : ByteArray} {maxL : Nat} {ret : Option FieldType} {d mc ms : Nat} {av : List Value} {H : Heap} {Post : Option Value → Heap → Prop} (hy : plainName y.cls = true) (hlen : (lg_sl av).length ≤ maxL)
    (body : ∀ (p : Program) (e : Env) (s : State) (m : MethodId) (args : Array Value) (below : List Frame) (meth : Method) (c : Code) (ls : Array Slot) (Q : State → Prop), p.tables.exec = Jvm.exec → c.code = cc → meth.sig.returnType = ret → meth.locks = false → c.maxLocals = maxL → (∀ w ∈ lw_all, w.before args s = true) → s.vm.findClass y.cls = some m.cls → meth.name = y.name → KK Γ s → va_S (Gz Γ) s.heap H [] → lv_has ls maxL (lv_args 0 av) → Q = MQ below (Qn Γ Post) args s mc ms (Gz Γ) →
      W p l e (rmd d mc ms) s m args below meth c H [] 0 0 Q (F0 m 0 ls [])) : Mt l Γ y (ws_ y cc maxL ret) d mc ms av H Post := by
  refine Met.ofW (cc := cc) (maxL := maxL) (ret := ret) hy rfl ?_
  intro p e s m args below meth c s₁ B hml hv
  obtain ⟨rfl, hh, hK⟩ := hv
  subst hh
  have hts := atoms_spec (ws := ws_ y cc maxL ret) B.pre
  rw [lg_entry_eq]
  exact body p e s m _ below meth c _ _ B.exec B.bytes B.returns B.notSynchronized hml (fun w h => hts w (List.mem_cons_of_mem _ h)) (findClass_of_methodNamed B.named) (name_of_methodNamed B.named B.method).1 hK va_S.rf (lv_entry av hlen) rfl
section HC
variable {p : Program} {l : Launch} {e : Env} {R : Room} {s : State} {m : MethodId} {args : Array Value} {below : List Frame} {meth : Method} {c : Code} {H : Heap} {locs : List Loc} {cells slots : Nat} {Q : State → Prop}
variable {cc : ByteArray} {pc nL : Nat} {ls : Array Slot} {rest st0 : List Value} {Γ : Cx} {b : Nat}
theorem run_go {mc ms : Nat} {Post : Option Value → Heap → Prop} {g2 : Option Value → JFrame} (hS : va_S (Gz Γ) s.heap H locs) {T : State} {g : JFrame} (hr : ∃ (v : Option Value) (st₀ t T' : State) (L : List Loc), st₀.heap = H ∧ Stand p l e R s m args below meth c T' (locs ++ L) (cells + mc) (slots + ms) ∧ (∀ q ∈ L, Gz Γ q.base) ∧ T'.heap = t.heap ∧ T'.vm = t.vm ∧ (∃ a : Array Value, Qn Γ Post a st₀ (.returned v) t) ∧ Goes p e below T g T' (g2 v))
    (kk : ∀ (v : Option Value) (H1 : Heap) (locs1 : List Loc), Post v H1 → va_S (Gz Γ) s.heap H1 locs1 → W p l e R s m args below meth c H1 locs1 (cells + mc) (slots + ms) Q (g2 v)) : ∃ t, Steps p.tables e below (T.setTop g) t ∧ Q t := by
  obtain ⟨v, st₀, t, T', L, h0, X', hL, e1, e2, ⟨_, ⟨v', hv, hp⟩, hz, hk⟩, st⟩ := hr
  cases hv
  rw [h0] at hz hk
  obtain ⟨t2, a1, b1⟩ := kk v T'.heap (locs ++ L) (by rw [e1]; exact hp)
    ⟨Nat.le_trans hS.1 (by rw [e1]; exact hz), fun q h1 h2 => by rw [e1, hk q (Nat.lt_of_lt_of_le h1 hS.1) h2]; exact hS.2.1 q h1 h2, fun q hq => by
      rcases List.mem_append.mp hq with h | h
      · exact hS.2.2 q h
      · exact hL q h⟩ T' rfl X'
  exact ⟨t2, st t2 a1, b1⟩
theorem hc_V {own C : String} {index maxL mc ms n d : Nat} {y : MethodName} {bytes : ByteArray} {ret : Option FieldType} {As : List Value} {Post : Option Value → Heap → Prop} (hx : p.tables.exec = Jvm.exec) (hb : c.code = cc) (hml : c.maxLocals = nL) (hown : s.vm.findClass own = some m.cls) (hts : ∀ w ∈ lw_all, w.before args s = true) (hK : KK Γ s) (hS : va_S (Gz Γ) s.heap H locs) (hM : Mt l Γ y (ws_ y bytes maxL ret) d mc ms (.ref b :: As) H Post) (cw : CallW R s args own C index y bytes maxL ret (ws_ y bytes maxL ret) (rmd d mc ms) mc ms n) (hrec : ∃ cell : Cell, H[b]? = some cell ∧ cell.vm.isStatics = false ∧ s.vm.findClass C = some cell.cls)
    (hn : As.length = n) (hsize : ls.size = nL) (hst : st0 = As.reverse ++ .ref b :: rest) (hW : (rest.map fun v => v.category).sum ≤ 8) (hdg : decode cc pc = .ok (.invokevirtual index, 3)) (hf : cells + mc ≤ R.cells ∧ slots + ms ≤ R.slots)
    (kk : ∀ (v : Option Value) (H1 : Heap) (locs1 : List Loc), Post v H1 → va_S (Gz Γ) s.heap H1 locs1 → W p l e R s m args below meth c H1 locs1 (cells + mc) (slots + ms) Q (F0 m (pc + 3) ls (v.toList ++ rest))) : W p l e R s m args below meth c H locs cells slots Q (F0 m pc ls st0) := by
  intro T hT X
  have hr := va_runV (g := F0 m pc ls st0) ⟨hx, hb, hml, hown, hts⟩ hM cw ⟨Pn.blind, hrec, fun U hU hW => ⟨rfl, hU, hK.call hS U hU hW⟩⟩ rfl hn hsize hst (lv_room hW) hdg hf T hT X
  obtain ⟨v, st₀, t, T', L, h0, X', hL, e1, e2, hq, st⟩ := hr
  exact run_go (g2 := fun v => F0 m (pc + 3) ls (v.toList ++ rest)) hS ⟨v, st₀, t, T', L, h0, X', hL, e1, e2, ⟨_, hq⟩, st⟩ kk
theorem hc_S {own : String} {index maxL mc ms n d : Nat} {y : MethodName} {bytes : ByteArray} {ret : Option FieldType} {As : List Value} {Post : Option Value → Heap → Prop} (hx : p.tables.exec = Jvm.exec) (hb : c.code = cc) (hml : c.maxLocals = nL) (hown : s.vm.findClass own = some m.cls) (hts : ∀ w ∈ lw_all, w.before args s = true) (hK : KK Γ s) (hS : va_S (Gz Γ) s.heap H locs) (hM : Mt l Γ y (ws_ y bytes maxL ret) d mc ms As H Post) (cw : CallB R s args own index y bytes maxL ret (ws_ y bytes maxL ret) (rmd d mc ms) mc ms n ∧ (Cond.static y).before args s = true)
    (hn : As.length = n) (hsize : ls.size = nL) (hst : st0 = As.reverse ++ rest) (hW : (rest.map fun v => v.category).sum ≤ 8) (hdg : decode cc pc = .ok (.invokestatic index, 3)) (hf : cells + mc ≤ R.cells ∧ slots + ms ≤ R.slots)
    (kk : ∀ (v : Option Value) (H1 : Heap) (locs1 : List Loc), Post v H1 → va_S (Gz Γ) s.heap H1 locs1 → W p l e R s m args below meth c H1 locs1 (cells + mc) (slots + ms) Q (F0 m (pc + 3) ls (v.toList ++ rest))) : W p l e R s m args below meth c H locs cells slots Q (F0 m pc ls st0) := by
  intro T hT X
  obtain ⟨v, st₀, t, T', L, h0, X', hL, e1, e2, hq, st⟩ := va_runS (g := F0 m pc ls st0) ⟨hx, hb, hml, hown, hts⟩ hM cw ⟨Pn.blind, fun U hU hW => ⟨rfl, hU, hK.call hS U hU hW⟩⟩ rfl hn hsize hst (lv_room hW) hdg hf T hT X
  exact run_go (g2 := fun v => F0 m (pc + 3) ls (v.toList ++ rest)) hS ⟨v, st₀, t, T', L, h0, X', hL, e1, e2, ⟨_, hq⟩, st⟩ kk
theorem hc_I {own : String} {index maxL mc ms n d : Nat} {y : MethodName} {bytes : ByteArray} {As : List Value} {Post : Option Value → Heap → Prop} (hx : p.tables.exec = Jvm.exec) (hb : c.code = cc) (hml : c.maxLocals = nL) (hown : s.vm.findClass own = some m.cls) (hts : ∀ w ∈ lw_all, w.before args s = true) (hK : KK Γ s) (hS : va_S (Gz Γ) s.heap H locs) (hM : Mt l Γ y (ws_ y bytes maxL none) d mc ms (.ref b :: As) H Post) (cw : CallB R s args own index y bytes maxL none (ws_ y bytes maxL none) (rmd d mc ms) mc ms n ∧ y.name = "<init>" ∧ (Cond.instanceMethod y).before args s = true)
    (hn : As.length = n) (hsize : ls.size = nL) (hst : st0 = As.reverse ++ .ref b :: rest) (hW : (rest.map fun v => v.category).sum ≤ 8) (hdg : decode cc pc = .ok (.invokespecial index, 3)) (hf : cells + mc ≤ R.cells ∧ slots + ms ≤ R.slots)
    (kk : ∀ (v : Option Value) (H1 : Heap) (locs1 : List Loc), Post v H1 → va_S (Gz Γ) s.heap H1 locs1 → W p l e R s m args below meth c H1 locs1 (cells + mc) (slots + ms) Q (F0 m (pc + 3) ls (v.toList ++ rest))) : W p l e R s m args below meth c H locs cells slots Q (F0 m pc ls st0) := by
  intro T hT X
  obtain ⟨v, st₀, t, T', L, h0, X', hL, e1, e2, hq, st⟩ := va_runI (g := F0 m pc ls st0) ⟨hx, hb, hml, hown, hts⟩ hM cw ⟨Pn.blind, fun U hU hW => ⟨rfl, hU, hK.call hS U hU hW⟩⟩ rfl hn hsize hst (lv_room hW) hdg hf T hT X
  exact run_go (g2 := fun v => F0 m (pc + 3) ls (v.toList ++ rest)) hS ⟨v, st₀, t, T', L, h0, X', hL, e1, e2, ⟨_, hq⟩, st⟩ kk
/-- through an interface -/
theorem hc_F {own C : String} {cC : ClassId} {index count maxL mc ms n d : Nat} {x y : MethodName} {bytes : ByteArray} {ret : Option FieldType} {As : List Value} {Post : Option Value → Heap → Prop} (hx : p.tables.exec = Jvm.exec) (hb : c.code = cc) (hml : c.maxLocals = nL) (hown : s.vm.findClass own = some m.cls) (hts : ∀ w ∈ lw_all, w.before args s = true) (hK : KK Γ s) (hS : va_S (Gz Γ) s.heap H locs) (hat : ClassAt s C cC) (hM : Mt l Γ y (ws_ y bytes maxL ret) d mc ms (.ref b :: As) H Post) (cw : va_CI R s args own C index x y bytes maxL ret (ws_ y bytes maxL ret) (rmd d mc ms) mc ms n) (hrec : ∃ cell : Cell, H[b]? = some cell ∧ cell.vm.isStatics = false ∧ s.vm.findClass C = some cell.cls)
    (hn : As.length = n) (hsize : ls.size = nL) (hst : st0 = As.reverse ++ .ref b :: rest) (hW : (rest.map fun v => v.category).sum ≤ 8) (hdg : decode cc pc = .ok (.invokeinterface index count, 5)) (hf : cells + mc ≤ R.cells ∧ slots + ms ≤ R.slots)
    (kk : ∀ (v : Option Value) (H1 : Heap) (locs1 : List Loc), Post v H1 → va_S (Gz Γ) s.heap H1 locs1 → W p l e R s m args below meth c H1 locs1 (cells + mc) (slots + ms) Q (F0 m (pc + 5) ls (v.toList ++ rest))) : W p l e R s m args below meth c H locs cells slots Q (F0 m pc ls st0) := by
  intro T hT X
  have hr := va_runF (g := F0 m pc ls st0) hat ⟨hx, hb, hml, hown, hts⟩ hM cw ⟨Pn.blind, hrec, fun U hU hW => ⟨rfl, hU, hK.call hS U hU hW⟩⟩ rfl hn hsize hst (lv_room hW) hdg hf T hT X
  obtain ⟨v, st₀, t, T', L, h0, X', hL, e1, e2, hq, st⟩ := hr
  exact run_go (g2 := fun v => F0 m (pc + 5) ls (v.toList ++ rest)) hS ⟨v, st₀, t, T', L, h0, X', hL, e1, e2, ⟨_, hq⟩, st⟩ kk
/-- an inherited method -/
theorem hc_U {own C owner : String} {index maxL mc ms n d : Nat} {x y : MethodName} {bytes : ByteArray} {ret : Option FieldType} {As : List Value} {Post : Option Value → Heap → Prop} (hx : p.tables.exec = Jvm.exec) (hb : c.code = cc) (hml : c.maxLocals = nL) (hown : s.vm.findClass own = some m.cls) (hts : ∀ w ∈ lw_all, w.before args s = true) (hK : KK Γ s) (hS : va_S (Gz Γ) s.heap H locs) (hM : Mt l Γ y (ws_ y bytes maxL ret) d mc ms (.ref b :: As) H Post) (cw : va_CU R s args own C owner index x y bytes maxL ret (ws_ y bytes maxL ret) (rmd d mc ms) mc ms n) (hrec : ∃ cell : Cell, H[b]? = some cell ∧ cell.vm.isStatics = false ∧ s.vm.findClass C = some cell.cls)
    (hn : As.length = n) (hsize : ls.size = nL) (hst : st0 = As.reverse ++ .ref b :: rest) (hW : (rest.map fun v => v.category).sum ≤ 8) (hdg : decode cc pc = .ok (.invokevirtual index, 3)) (hf : cells + mc ≤ R.cells ∧ slots + ms ≤ R.slots)
    (kk : ∀ (v : Option Value) (H1 : Heap) (locs1 : List Loc), Post v H1 → va_S (Gz Γ) s.heap H1 locs1 → W p l e R s m args below meth c H1 locs1 (cells + mc) (slots + ms) Q (F0 m (pc + 3) ls (v.toList ++ rest))) : W p l e R s m args below meth c H locs cells slots Q (F0 m pc ls st0) := by
  intro T hT X
  have hr := va_runU (g := F0 m pc ls st0) ⟨hx, hb, hml, hown, hts⟩ hM cw ⟨Pn.blind, hrec, fun U hU hW => ⟨rfl, hU, hK.call hS U hU hW⟩⟩ rfl hn hsize hst (lv_room hW) hdg hf T hT X
  obtain ⟨v, st₀, t, T', L, h0, X', hL, e1, e2, hq, st⟩ := hr
  exact run_go (g2 := fun v => F0 m (pc + 3) ls (v.toList ++ rest)) hS ⟨v, st₀, t, T', L, h0, X', hL, e1, e2, ⟨_, hq⟩, st⟩ kk
end HC
