/-! contracts of what may throw: start, ends, calls -/
set_option maxRecDepth 100000
abbrev Mx (l : Launch) (Γ : Cx) (y : MethodName) (ws : List Cond) (d mc ms : Nat) (av : List Value) (H : Heap) (Post : Option Value → Heap → Prop) (PX : String → Addr → Heap → Prop) : Prop := vx_Met l y ws (rmd d mc ms) (Pn Γ av H) (Qn Γ Post) (Qx Γ PX) mc ms (Gz Γ)
theorem mx_of {l : Launch} {Γ : Cx} {y : MethodName} {cc : ByteArray} {maxL : Nat} {ret : Option FieldType} {d mc ms : Nat} {av : List Value} {H : Heap} {Post : Option Value → Heap → Prop} {PX : String → Addr → Heap → Prop} (hy : plainName y.cls = true) (hlen : (lg_sl av).length ≤ maxL)
    (body : ∀ (p : Program) (e : Env) (s : State) (m : MethodId) (args : Array Value) (below : List Frame) (meth : Method) (c : Code) (ls : Array Slot) (Q : State → Prop), p.tables.exec = Jvm.exec → c.code = cc → meth.sig.returnType = ret → meth.locks = false → c.maxLocals = maxL → (∀ w ∈ lw_all, w.before args s = true) → s.vm.findClass y.cls = some m.cls → meth.name = y.name → KK Γ s → va_S (Gz Γ) s.heap H [] → lv_has ls maxL (lv_args 0 av) → (∀ x ∈ c.exceptionTable.toList, False) → Q = vx_MQ below (Qn Γ Post) (Qx Γ PX) args s mc ms (Gz Γ) →
      W p l e (rmd d mc ms) s m args below meth c H [] 0 0 Q (F0 m 0 ls [])) : Mx l Γ y (ws_ y cc maxL ret) d mc ms av H Post PX := by
  refine vx_ofW (cc := cc) (maxL := maxL) (ret := ret) hy rfl ?_
  intro p e s m args below meth c s₁ B hml ht hv
  obtain ⟨rfl, hh, hK⟩ := hv
  subst hh
  have hts := atoms_spec (ws := ws_ y cc maxL ret) B.pre
  rw [lg_entry_eq]
  exact body p e s m _ below meth c _ _ B.exec B.bytes B.returns B.notSynchronized hml (fun w h => hts w (List.mem_cons_of_mem _ h)) (findClass_of_methodNamed B.named) (name_of_methodNamed B.named B.method).1 hK va_S.rf (lv_entry av hlen) ht rfl
theorem mx_ofH {l : Launch} {Γ : Cx} {y : MethodName} {cc : ByteArray} {maxL : Nat} {ret : Option FieldType} {hh : List (Nat × Nat × Nat × Nat)} {d mc ms : Nat} {av : List Value} {H : Heap} {Post : Option Value → Heap → Prop} {PX : String → Addr → Heap → Prop} (hy : plainName y.cls = true) (hlen : (lg_sl av).length ≤ maxL)
    (body : ∀ (p : Program) (e : Env) (s : State) (m : MethodId) (args : Array Value) (below : List Frame) (meth : Method) (c : Code) (ls : Array Slot) (Q : State → Prop), p.tables.exec = Jvm.exec → c.code = cc → meth.sig.returnType = ret → meth.locks = false → c.maxLocals = maxL → (∀ w ∈ lw_all, w.before args s = true) → s.vm.findClass y.cls = some m.cls → meth.name = y.name → KK Γ s → va_S (Gz Γ) s.heap H [] → lv_has ls maxL (lv_args 0 av) → c.exceptionTable.toList = tableOf hh → Q = vx_MQ below (Qn Γ Post) (Qx Γ PX) args s mc ms (Gz Γ) →
      W p l e (rmd d mc ms) s m args below meth c H [] 0 0 Q (F0 m 0 ls [])) : Mx l Γ y (wsW_ y cc maxL ret hh) d mc ms av H Post PX := by
  refine vx_ofWH (cc := cc) (maxL := maxL) (ret := ret) (hh := hh) hy rfl ?_
  intro p e s m args below meth c s₁ B hml hv
  obtain ⟨rfl, hh9, hK⟩ := hv
  subst hh9
  have hts := atoms_spec (ws := wsW_ y cc maxL ret hh) B.pre
  have ht := vx_table (x := y) B (hts _ List.mem_cons_self)
  rw [lg_entry_eq]
  exact body p e s m _ below meth c _ _ B.exec B.bytes B.returns B.notSynchronized hml (fun w h => hts w (List.mem_cons_of_mem _ h)) (findClass_of_methodNamed B.named) (name_of_methodNamed B.named B.method).1 hK va_S.rf (lv_entry av hlen) ht rfl
section XC
variable {p : Program} {l : Launch} {e : Env} {R : Room} {s : State} {m : MethodId} {args : Array Value} {below : List Frame} {meth : Method} {c : Code} {H : Heap} {locs : List Loc} {cells slots : Nat} {Q : State → Prop}
variable {cc : ByteArray} {pc nL : Nat} {ls : Array Slot} {rest st0 : List Value} {Γ : Cx} {b : Nat}
/-- an end that returns -/
theorem xr {Post : Option Value → Heap → Prop} {PX : String → Addr → Heap → Prop} {mc ms : Nat} {g : JFrame} (hQ : Q = vx_MQ below (Qn Γ Post) (Qx Γ PX) args s mc ms (Gz Γ)) (k : W p l e R s m args below meth c H locs cells slots (MQ below (Qn Γ Post) args s mc ms (Gz Γ)) g) : W p l e R s m args below meth c H locs cells slots Q g := by
  subst hQ
  exact vx_ret k
/-- an end that throws -/
theorem xt {Post : Option Value → Heap → Prop} {PX : String → Addr → Heap → Prop} {mc ms : Nat} {E : String} {ce : Cell} {q : Addr} (hQ : Q = vx_MQ below (Qn Γ Post) (Qx Γ PX) args s mc ms (Gz Γ)) (hout : ∀ x ∈ c.exceptionTable.toList, covers x pc = false) (hlocks : meth.locks = false) (hS : va_S (Gz Γ) s.heap H locs) (hcell : H[q]? = some ce) (hv : ce.vm = .none) (hcl : s.vm.findClass E = some ce.cls) (hx : PX E q H) (hc : cells ≤ mc) (hs : slots ≤ ms) : vx_W p l e R s m args below meth c H locs cells slots Q (F0 m pc ls rest) q := by
  subst hQ
  exact vx_out hout hlocks hcell hv hcl (fun t ht _ => ⟨by rw [ht]; exact hx, hS.F ht⟩) hS.2.2 hc hs
abbrev KX (p : Program) (l : Launch) (e : Env) (R : Room) (s : State) (m : MethodId) (args : Array Value) (below : List Frame) (meth : Method) (c : Code) (cells slots : Nat) (Q : State → Prop) (Γ : Cx) (PX : String → Addr → Heap → Prop) (pc : Nat) (ls : Array Slot) (rest : List Value) : Prop :=
  ∀ (E : String) (ce : Cell) (q : Addr) (H1 : Heap) (locs1 : List Loc), PX E q H1 → va_S (Gz Γ) s.heap H1 locs1 → H1[q]? = some ce → ce.vm = .none → s.vm.findClass E = some ce.cls → vx_W p l e R s m args below meth c H1 locs1 cells slots Q (F0 m pc ls rest) q
theorem xrun {mc ms : Nat} {a : Array Value} {Post : Option Value → Heap → Prop} {PX : String → Addr → Heap → Prop} (hS : va_S (Gz Γ) s.heap H locs) (hr : vx_Run p l e R s m args below meth c H locs cells slots mc ms (F0 m pc ls st0) rest (Qn Γ Post a) (Qx Γ PX) (Gz Γ))
    (kx : KX p l e R s m args below meth c (cells + mc) (slots + ms) Q Γ PX pc ls rest)
    (kk : ∀ (v : Option Value) (H1 : Heap) (locs1 : List Loc), Post v H1 → va_S (Gz Γ) s.heap H1 locs1 → W p l e R s m args below meth c H1 locs1 (cells + mc) (slots + ms) Q (F0 m (pc + 3) ls (v.toList ++ rest))) : W p l e R s m args below meth c H locs cells slots Q (F0 m pc ls st0) := by
  intro T hT X
  have keep : ∀ {st₀ t T' : State} {L : List Loc}, st₀.heap = H → T'.heap = t.heap → (∀ q ∈ L, Gz Γ q.base) → va_F (Gz Γ) st₀ t → va_S (Gz Γ) s.heap T'.heap (locs ++ L) := by
    intro st₀ t T' L h0 e1 hL hF
    obtain ⟨hz, hk⟩ := hF
    rw [h0] at hz hk
    exact ⟨Nat.le_trans hS.1 (by rw [e1]; exact hz), fun q h1 h2 => by rw [e1, hk q (Nat.lt_of_lt_of_le h1 hS.1) h2]; exact hS.2.1 q h1 h2, fun q hq => by
      rcases List.mem_append.mp hq with h | h
      · exact hS.2.2 q h
      · exact hL q h⟩
  rcases hr T hT X with ⟨v, st₀, t, T', L, h0, X', hL, e1, e2, ⟨⟨v', hv, hp⟩, hF⟩, st⟩ | ⟨q, st₀, t, T', L, E, ce, h0, X', hL, e1, e2, ⟨hp, hF⟩, hce, hcv, hcl, st⟩
  · cases hv
    obtain ⟨t2, a1, b1⟩ := kk v T'.heap (locs ++ L) (by rw [e1]; exact hp) (keep h0 e1 hL hF) T' rfl X'
    exact ⟨t2, st t2 a1, b1⟩
  · obtain ⟨t2, a1, b1⟩ := kx E ce q T'.heap (locs ++ L) (by rw [e1]; exact hp) (keep h0 e1 hL hF) (by rw [e1]; exact hce) hcv hcl T' rfl X'
    exact ⟨t2, st.trans a1, b1⟩
theorem xc_V {own C : String} {index maxL mc ms n d : Nat} {y : MethodName} {bytes : ByteArray} {ret : Option FieldType} {As : List Value} {Post : Option Value → Heap → Prop} {PX : String → Addr → Heap → Prop} (hx : p.tables.exec = Jvm.exec) (hb : c.code = cc) (hml : c.maxLocals = nL) (hown : s.vm.findClass own = some m.cls) (hts : ∀ w ∈ lw_all, w.before args s = true) (hK : KK Γ s) (hS : va_S (Gz Γ) s.heap H locs) (hM : Mx l Γ y (ws_ y bytes maxL ret) d mc ms (.ref b :: As) H Post PX) (cw : CallW R s args own C index y bytes maxL ret (ws_ y bytes maxL ret) (rmd d mc ms) mc ms n) (hrec : ∃ cell : Cell, H[b]? = some cell ∧ cell.vm.isStatics = false ∧ s.vm.findClass C = some cell.cls)
    (hn : As.length = n) (hsize : ls.size = nL) (hst : st0 = As.reverse ++ .ref b :: rest) (hW : (rest.map fun v => v.category).sum ≤ 8) (hdg : decode cc pc = .ok (.invokevirtual index, 3)) (hf : cells + mc ≤ R.cells ∧ slots + ms ≤ R.slots)
    (kx : KX p l e R s m args below meth c (cells + mc) (slots + ms) Q Γ PX pc ls rest)
    (kk : ∀ (v : Option Value) (H1 : Heap) (locs1 : List Loc), Post v H1 → va_S (Gz Γ) s.heap H1 locs1 → W p l e R s m args below meth c H1 locs1 (cells + mc) (slots + ms) Q (F0 m (pc + 3) ls (v.toList ++ rest))) : W p l e R s m args below meth c H locs cells slots Q (F0 m pc ls st0) := 
  xrun hS (vx_runV (g := F0 m pc ls st0) ⟨hx, hb, hml, hown, hts⟩ hM cw ⟨Pn.blind, hrec, fun U hU hW => ⟨rfl, hU, hK.call hS U hU hW⟩⟩ rfl hn hsize hst (lv_room hW) hdg hf) kx kk
theorem xc_VW {own C : String} {index maxL mc ms n d : Nat} {y : MethodName} {bytes : ByteArray} {ret : Option FieldType} {hh : List (Nat × Nat × Nat × Nat)} {As : List Value} {Post : Option Value → Heap → Prop} {PX : String → Addr → Heap → Prop} (hx : p.tables.exec = Jvm.exec) (hb : c.code = cc) (hml : c.maxLocals = nL) (hown : s.vm.findClass own = some m.cls) (hts : ∀ w ∈ lw_all, w.before args s = true) (hK : KK Γ s) (hS : va_S (Gz Γ) s.heap H locs) (hM : Mx l Γ y (wsW_ y bytes maxL ret hh) d mc ms (.ref b :: As) H Post PX) (cw : vx_CVW R s args own C index y bytes maxL ret hh (wsW_ y bytes maxL ret hh) (rmd d mc ms) mc ms n) (hrec : ∃ cell : Cell, H[b]? = some cell ∧ cell.vm.isStatics = false ∧ s.vm.findClass C = some cell.cls)
    (hn : As.length = n) (hsize : ls.size = nL) (hst : st0 = As.reverse ++ .ref b :: rest) (hW : (rest.map fun v => v.category).sum ≤ 8) (hdg : decode cc pc = .ok (.invokevirtual index, 3)) (hf : cells + mc ≤ R.cells ∧ slots + ms ≤ R.slots)
    (kx : KX p l e R s m args below meth c (cells + mc) (slots + ms) Q Γ PX pc ls rest)
    (kk : ∀ (v : Option Value) (H1 : Heap) (locs1 : List Loc), Post v H1 → va_S (Gz Γ) s.heap H1 locs1 → W p l e R s m args below meth c H1 locs1 (cells + mc) (slots + ms) Q (F0 m (pc + 3) ls (v.toList ++ rest))) : W p l e R s m args below meth c H locs cells slots Q (F0 m pc ls st0) := 
  xrun hS (vx_runVX (g := F0 m pc ls st0) ⟨hx, hb, hml, hown, hts⟩ hM cw ⟨Pn.blind, hrec, fun U hU hW => ⟨rfl, hU, hK.call hS U hU hW⟩⟩ rfl hn hsize hst (lv_room hW) hdg hf) kx kk
theorem xc_S {own : String} {index maxL mc ms n d : Nat} {y : MethodName} {bytes : ByteArray} {ret : Option FieldType} {As : List Value} {Post : Option Value → Heap → Prop} {PX : String → Addr → Heap → Prop} (hx : p.tables.exec = Jvm.exec) (hb : c.code = cc) (hml : c.maxLocals = nL) (hown : s.vm.findClass own = some m.cls) (hts : ∀ w ∈ lw_all, w.before args s = true) (hK : KK Γ s) (hS : va_S (Gz Γ) s.heap H locs) (hM : Mx l Γ y (ws_ y bytes maxL ret) d mc ms As H Post PX) (cw : CallB R s args own index y bytes maxL ret (ws_ y bytes maxL ret) (rmd d mc ms) mc ms n ∧ (Cond.static y).before args s = true)
    (hn : As.length = n) (hsize : ls.size = nL) (hst : st0 = As.reverse ++ rest) (hW : (rest.map fun v => v.category).sum ≤ 8) (hdg : decode cc pc = .ok (.invokestatic index, 3)) (hf : cells + mc ≤ R.cells ∧ slots + ms ≤ R.slots)
    (kx : KX p l e R s m args below meth c (cells + mc) (slots + ms) Q Γ PX pc ls rest)
    (kk : ∀ (v : Option Value) (H1 : Heap) (locs1 : List Loc), Post v H1 → va_S (Gz Γ) s.heap H1 locs1 → W p l e R s m args below meth c H1 locs1 (cells + mc) (slots + ms) Q (F0 m (pc + 3) ls (v.toList ++ rest))) : W p l e R s m args below meth c H locs cells slots Q (F0 m pc ls st0) := 
  xrun hS (vx_runS (g := F0 m pc ls st0) ⟨hx, hb, hml, hown, hts⟩ hM cw ⟨Pn.blind, fun U hU hW => ⟨rfl, hU, hK.call hS U hU hW⟩⟩ rfl hn hsize hst (lv_room hW) hdg hf) kx kk
end XC
