/-! more rows; the words of calls; functions of two arguments; numbers -/
set_option maxRecDepth 100000
section HM
variable {p : Program} {l : Launch} {e : Env} {R : Room} {s : State} {m : MethodId} {args : Array Value} {below : List Frame} {meth : Method} {c : Code} {H : Heap} {locs : List Loc} {cells slots : Nat} {Q : State → Prop}
variable {cc : ByteArray} {pc : Nat} {ls : Array Slot} {rest : List Value} {Γ : Cx} {a : Nat}
theorem hw_iinc (hexec : p.tables.exec = Jvm.exec) (hb : c.code = cc) {i nL : Nat} {n : Int} {x v : Int32} {lv : List (Nat × Value)} (hdg : decode cc pc = .ok (.iinc i n, 3)) (h : lv_has ls nL lv) (hk : ls[i]? = some (.val (.int x))) (hv : x + Int32.ofInt n = v) (hn : i < nL)
    (kk : ∀ ls' : Array Slot, lv_has ls' nL ((i, Value.int v) :: lv.filter (fun q => !(q.1 == i) && !(q.1 + 1 == i && q.2.category == 2))) → W p l e R s m args below meth c H locs cells slots Q (F0 m (pc + 3) ls' rest)) : W p l e R s m args below meth c H locs cells slots Q (F0 m pc ls rest) := by
  refine lv_iinc hexec hb hdg (lv_c hk h) (k := 0) rfl hv hn rfl (fun ls' hl => kk ls' ?_)
  refine ⟨hl.1, hl.2.1, fun q hq => hl.2.2 q ?_⟩
  rcases List.mem_cons.mp hq with e | e
  · exact e ▸ List.mem_cons_self
  · refine List.mem_cons_of_mem _ ?_
    rw [List.filter_cons]
    split
    · exact List.mem_cons_of_mem _ e
    · exact e
theorem hr_d {mc ms : Nat} {Post : Option Value → Heap → Prop} {r : UInt64} (hQ : Q = MQ below (Qn Γ Post) args s mc ms (Gz Γ)) (hexec : p.tables.exec = Jvm.exec) (hb : c.code = cc) (hr : meth.sig.returnType = some .double) (hlocks : meth.locks = false) (hS : va_S (Gz Γ) s.heap H locs) (hc : cells ≤ mc) (hs : slots ≤ ms) (hp : Post (some (.double r)) H) (hdg : decode cc pc = .ok (.dreturn, 1)) :
    W p l e R s m args below meth c H locs cells slots Q (F0 m pc ls [.double r]) := by
  subst hQ
  exact W.widen hc hs (W.dret hexec hb hr (fun t ht hW => ⟨⟨_, rfl, by rw [ht]; exact hp⟩, hS.F ht⟩) hS.2.2 hdg hlocks)
theorem hr_f {mc ms : Nat} {Post : Option Value → Heap → Prop} {r : UInt32} (hQ : Q = MQ below (Qn Γ Post) args s mc ms (Gz Γ)) (hexec : p.tables.exec = Jvm.exec) (hb : c.code = cc) (hr : meth.sig.returnType = some .float) (hlocks : meth.locks = false) (hS : va_S (Gz Γ) s.heap H locs) (hc : cells ≤ mc) (hs : slots ≤ ms) (hp : Post (some (.float r)) H) (hdg : decode cc pc = .ok (.freturn, 1)) :
    W p l e R s m args below meth c H locs cells slots Q (F0 m pc ls [.float r]) := by
  subst hQ
  exact W.widen hc hs (W.fret hexec hb hr (fun t ht hW => ⟨⟨_, rfl, by rw [ht]; exact hp⟩, hS.F ht⟩) hS.2.2 hdg hlocks)
theorem hw_putN (hexec : p.tables.exec = Jvm.exec) (hb : c.code = cc) {own ref C host : String} {T : u_T} {N ci index : Nat} (hts : ∀ w ∈ lw_all, w.before args s = true) (hin : ∀ w ∈ u_ws C T N, w ∈ lw_all) {ty0 : Nat → FieldType} (hty : ∀ k, k < N → parseFieldDescriptor (T k).2.2.1 = some (ty0 k)) (hnm : ∀ a, a < N → ∀ b, b < N → a ≠ b → (T a).2.1 ≠ (T b).2.1) (hown : s.vm.findClass own = some m.cls) (hK : KK Γ s) {fs : List Value} (hp : pt Γ H a (.inr (ci, fs))) (ha : Gz Γ a) (hS0 : va_S (Gz Γ) s.heap H locs) (hc : cls[ci]? = some (C, T, N)) (k : Nat) (hk : k < N) (hw : Cond.fieldLinkNest own index ref (T k).2.1 (T k).2.2.1 host ∈ lw_tbl) (hsame : ∀ x, s.fieldFound? (T k).1 (T k).2.1 (T k).2.2.1 = some x → s.fieldFound? ref (T k).2.1 (T k).2.2.1 = some x) (hfin : (T k).2.2.2 = false) {ty : FieldType} {v : Value} (hd : parseFieldDescriptor (T k).2.2.1 = some ty) (hn : narrow ty v = v) (hfit : fits ty v = true) (hl : k < fs.length)
    (hdg : decode cc pc = .ok (.putfield index, 3)) (kk : ∀ (H1 : Heap) (locs1 : List Loc), pt Γ H1 a (.inr (ci, fs.set k v)) → H1.size = H.size → (∀ q : Nat, q ≠ a → H1[q]? = H[q]?) → va_S (Gz Γ) s.heap H1 locs1 → W p l e R s m args below meth c H1 locs1 cells slots Q (F0 m (pc + 3) ls rest)) : W p l e R s m args below meth c H locs cells slots Q (F0 m pc ls (v :: .ref a :: rest)) := by
  have hap := va_apart (own := own) hts hin ty0 hty hnm hK.1 hc
  obtain ⟨r, h1, cell, q1, q2, q3, q4⟩ := hp
  have hr : r = (C, T, N) := Option.some.inj (h1.symm.trans hc)
  subst hr
  obtain ⟨hSl, hfc, kC, hkC, hkind⟩ := hK.1.1 ci _ hc
  obtain ⟨cf, kf, fi, f, hi, hsl⟩ := hSl k hk
  have hlay := hts _ (hin _ (u_in_lay hk))
  unfold u_lay at hlay
  rw [if_neg (by rw [hfin]; decide)] at hlay
  have hst := (u_facts hfc hkC (u_lays hts hin hk) hi).1
  have h6 := u_store hfc hkC hkind hlay hi hd hn hfit
  refine va_WputK hexec hb (f := f) hown ((hK.2.1.1 _ hw rfl).use rfl) (hsame _ hi) hst (by rw [q2]; exact h6) q1 q3 (by rw [hsl]; exact k2_hasslot (q4 k hk)) rfl rfl hdg fun H' e1 e2 e3 => ?_
  rw [hsl] at e1 ⊢
  exact kk H' _ ⟨_, hc, t_OB.to (V := updV (vp_V fs) k v) ⟨_, e1, q2, q3, t_set q4 hap hk v⟩ (fun j _ => vp_updV_set hl v j)⟩ e2 e3 (hS0.put e2 e3 ha)
end HM
/-- what a call through an interface, and of an inherited method, asks -/
theorem lw_F {own : String} {idx : Nat} {C : String} {x y : MethodName} {b : ByteArray} {L : Nat} {r : Option FieldType} (h1 : Cond.methodLink own idx x ∈ lw_all) (h2 : Cond.selects C x y ∈ lw_all) (h3 : Cond.instanceMethod y ∈ lw_all) (h4 : Cond.initialized y.cls ∈ lw_all) (h5 : Cond.code y b L r ∈ lw_all) : GoodIn lw_all (va_wsF own idx C x y (ws_ y b L r)) := by
  refine lw_app ?_ (lw_meth h5)
  intro w hw
  simp only [List.mem_cons, List.not_mem_nil, or_false] at hw
  rcases hw with e | e | e | e
  · rw [e]; exact h1
  · rw [e]; exact h2
  · rw [e]; exact h3
  · rw [e]; exact h4
theorem lw_U {own owner : String} {idx : Nat} {C : String} {x y : MethodName} {b : ByteArray} {L : Nat} {r : Option FieldType} (h1 : Cond.methodLink own idx x ∈ lw_all) (h0 : Cond.sameMethod x.cls owner x.name x.desc ∈ lw_all) (h2 : Cond.selects C x y ∈ lw_all) (h3 : Cond.instanceMethod y ∈ lw_all) (h4 : Cond.initialized y.cls ∈ lw_all) (h5 : Cond.code y b L r ∈ lw_all) : GoodIn lw_all (va_wsU own idx C owner x y (ws_ y b L r)) := by
  refine lw_app ?_ (lw_meth h5)
  intro w hw
  simp only [List.mem_cons, List.not_mem_nil, or_false] at hw
  rcases hw with e | e | e | e | e
  · rw [e]; exact h1
  · rw [e]; exact h0
  · rw [e]; exact h2
  · rw [e]; exact h3
  · rw [e]; exact h4
/-- the system's pure state: by field and place -/
abbrev Sx : Type := Nat → Nat → Nat
def up2 (S : Sx) (f i v : Nat) : Sx := fun f' i' => if f' = f ∧ i' = i then v else S f' i'
theorem up2_s {S : Sx} {f i v : Nat} : up2 S f i v f i = v := by simp [up2]
theorem up2_f {S : Sx} {f i v f' i' : Nat} (h : f' ≠ f) : up2 S f i v f' i' = S f' i' := by simp [up2, h]
theorem up2_i {S : Sx} {f i v f' i' : Nat} (h : i' ≠ i) : up2 S f i v f' i' = S f' i' := by simp [up2, h]
theorem up2_row {S : Sx} {f i v f' : Nat} (h : f' ≠ f) : up2 S f i v f' = S f' := by funext j; exact up2_f h
theorem nI_up2 {S : Sx} {f i v : Nat} : upd (fun j => nI (S f j)) i (nI v) = fun j => nI (up2 S f i v f j) := by
  funext j
  simp only [upd, up2, true_and]
  split <;> rfl
theorem nI_up2m {S : Sx} {f i v : Nat} : upd (fun j => nI (S f j) - 1) i (nI v - 1) = fun j => nI (up2 S f i v f j) - 1 := by
  funext j
  simp only [upd, up2, true_and]
  split <;> rfl
abbrev b01 (b : Bool) : Int32 := if b then 1 else 0
theorem b01_z (b : Bool) : narrow .boolean (.int (b01 b)) = .int (b01 b) := by cases b <;> rfl
theorem nI_lt31 {a : Nat} (h : a ≤ 200000) : a < 2 ^ 31 := by omega
