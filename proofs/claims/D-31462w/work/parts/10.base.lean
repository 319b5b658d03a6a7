/-! BASE: worlds spoken of by the heap itself. cls: the classes whose objects are met; Γ: first own address, class numbers and slots, array classes, constants' addresses -/
set_option maxRecDepth 100000
def cls : List vw_C := [(RX1, TX1, 8), (RX2, TX2, 3), (RX3, TX3, 17), (RX4, TX4, 7), (RX6, TX6, 7), (RX7, TX7, 4), (RX11, TX11, 3), (RX12, TX12, 4), (RJ2, TJ2, 3), (RJ6, TJ6, 3), (RJ8, TJ8, 4), (RJ9, TJ9, 3), (RJ15, TJ15, 3), (RJ24, TJ24, 1), (RJ25, TJ25, 4), (RJ28, TJ28, 5), (RJ33, TJ33, 4), (RX5, TX5, 6), (RX10, TX10, 6)]
abbrev Cx : Type := Nat × va_G × (Nat → ClassId) × (Nat → Nat)
def tys (Γ : Cx) : List (ClassId × FieldType) := [(Γ.2.2.1 0, .int), (Γ.2.2.1 1, .boolean), (Γ.2.2.1 2, .long), (Γ.2.2.1 3, .object "java/lang/Object"), (Γ.2.2.1 4, .object "Coreplug$Step")]
def Gz (Γ : Cx) : Nat → Prop := fun q => Γ.1 ≤ q
def pt (Γ : Cx) (H : Heap) (a : Nat) (e : va_E) : Prop := va_at Γ.2.1 cls (a, e) H
abbrev ob (ci : Nat) (fs : List Value) : va_E := .inr (ci, fs)
abbrev ia (Γ : Cx) (n : Nat) (f : Nat → Int32) : va_E := .inl (Γ.2.2.1 0, n, .inl f)
abbrev za (Γ : Cx) (n : Nat) (f : Nat → Int32) : va_E := .inl (Γ.2.2.1 1, n, .inl f)
abbrev ja (Γ : Cx) (n : Nat) (f : Nat → Int64) : va_E := .inl (Γ.2.2.1 2, n, .inr (.inl f))
abbrev oa (Γ : Cx) (n : Nat) (f : Nat → Option Nat) : va_E := .inl (Γ.2.2.1 3, n, .inr (.inr (.inr (.inr f))))
abbrev sa (Γ : Cx) (n : Nat) (f : Nat → Option Nat) : va_E := .inl (Γ.2.2.1 4, n, .inr (.inr (.inr (.inr f))))
/-- all but the cells of S stay, none goes -/
def Off (S : Nat → Prop) (H H1 : Heap) : Prop := H.size ≤ H1.size ∧ ∀ q : Nat, q < H.size → ¬ S q → H1[q]? = H[q]?
theorem Off.rf {S : Nat → Prop} {H : Heap} : Off S H H := ⟨Nat.le_refl _, fun _ _ _ => rfl⟩
theorem Off.trans {S : Nat → Prop} {H H1 H2 : Heap} (h : Off S H H1) (h2 : Off S H1 H2) : Off S H H2 :=
  ⟨Nat.le_trans h.1 h2.1, fun q hq hs => (h2.2 q (Nat.lt_of_lt_of_le hq h.1) hs).trans (h.2 q hq hs)⟩
theorem Off.mono {S T : Nat → Prop} {H H1 : Heap} (h : Off S H H1) (hs : ∀ q, q < H.size → S q → T q) : Off T H H1 :=
  ⟨h.1, fun q hq ht => h.2 q hq (fun z => ht (hs q hq z))⟩
theorem Off.put {S : Nat → Prop} {H H1 : Heap} {a : Nat} (z : H1.size = H.size) (o : ∀ q : Nat, q ≠ a → H1[q]? = H[q]?) (ha : S a) : Off S H H1 :=
  ⟨Nat.le_of_eq z.symm, fun q _ hs => o q (fun e => hs (e ▸ ha))⟩
theorem Off.new {S : Nat → Prop} {H H1 : Heap} (z : H1.size = H.size + 1) (o : ∀ q : Nat, q < H.size → H1[q]? = H[q]?) : Off S H H1 :=
  ⟨by omega, fun q hq _ => o q hq⟩
theorem Off.size {S : Nat → Prop} {H H1 : Heap} (h : Off S H H1) : H.size ≤ H1.size := h.1
/-- nothing old is written -/
abbrev Grow (H H1 : Heap) : Prop := Off (fun _ => False) H H1
theorem Off.of {S : Nat → Prop} {H H1 : Heap} (h : Grow H H1) : Off S H H1 := h.mono (fun _ _ z => z.elim)
theorem pt.lt {Γ : Cx} {H : Heap} {a : Nat} {e : va_E} (h : pt Γ H a e) : a < H.size := va_at.lt (q := (a, e)) h
theorem pt.kept {Γ : Cx} {H H1 : Heap} {a : Nat} {e : va_E} (h : pt Γ H a e) (hq : H1[a]? = H[a]?) : pt Γ H1 a e := va_at.kept (q := (a, e)) h hq
theorem pt.off {Γ : Cx} {H H1 : Heap} {a : Nat} {e : va_E} {S : Nat → Prop} (h : pt Γ H a e) (ho : Off S H H1) (hs : ¬ S a) : pt Γ H1 a e := h.kept (ho.2 a h.lt hs)
theorem pt.ne {Γ : Cx} {H H1 : Heap} {a b : Nat} {e : va_E} (h : pt Γ H b e) (o : ∀ q : Nat, q ≠ a → H1[q]? = H[q]?) (hn : b ≠ a) : pt Γ H1 b e := h.kept (o b hn)
theorem pt.old {Γ : Cx} {H H1 : Heap} {b : Nat} {e : va_E} (h : pt Γ H b e) (o : ∀ q : Nat, q < H.size → H1[q]? = H[q]?) : pt Γ H1 b e := h.kept (o b h.lt)
theorem pt.grow {Γ : Cx} {H H1 : Heap} {b : Nat} {e : va_E} (h : pt Γ H b e) (o : Grow H H1) : pt Γ H1 b e := h.kept (o.2 b h.lt (fun z => z))
theorem pt.eq {Γ : Cx} {H : Heap} {a : Nat} {e e' : va_E} (h : pt Γ H a e) (he : e = e') : pt Γ H a e' := he ▸ h
theorem pt.P {Γ : Cx} {H : Heap} {a : Nat} {e : va_E} (h : pt Γ H a e) : va_P Γ.2.1 cls [(a, e)] H := by
  intro k q hk
  cases k with
  | zero => cases hk; exact h
  | succ k => simp at hk
theorem pt.P2 {Γ : Cx} {H : Heap} {a b : Nat} {e e' : va_E} (h : pt Γ H a e) (h2 : pt Γ H b e') : va_P Γ.2.1 cls [(a, e), (b, e')] H := by
  intro k q hk
  match k, hk with
  | 0, hk => cases hk; exact h
  | 1, hk => cases hk; exact h2
  | k + 2, hk => simp at hk
theorem pt.D {A : Nat → Prop} {a : Nat} {e : va_E} (h : A a) : va_D A [(a, e)] := by
  refine ⟨fun i j p q hi hj _ => ?_, fun k q hk => ?_⟩
  · cases i with
    | zero => cases j with
      | zero => rfl
      | succ j => simp at hj
    | succ i => simp at hi
  · cases k with
    | zero => cases hk; exact h
    | succ k => simp at hk
/-- the tables' words that ride in no list -/
def tk : Cond → Bool
  | .castable _ _ => true
  | .declares _ => true
  | .fieldLinkNest _ _ _ _ _ _ => true
  | _ => false
def TA (U : State) : Prop := (∀ w ∈ lw_tbl, tk w = true → va_Nw w U) ∧ va_AO "java/lang/Object" U ∧ va_AO "Coreplug$Step" U
theorem TA.warm {s U : State} (hW : s.WarmedH U.vm) (h : TA s) : TA U := by
  refine ⟨fun w hw ht => ?_, va_AO.moved hW.alike h.2.1, va_AO.moved hW.alike h.2.2⟩
  have h1 := h.1 w hw ht
  cases w <;> first | exact va_Nw.warmC hW h1 | exact va_Nw.warmD hW h1 | exact va_Nw.warmF hW h1 | (exfalso; revert ht; simp [tk])
/-- the calls through an interface -/
def fwl : List (String × MethodName × MethodName) := [
  (RJ2, ⟨"java/util/List", "size", "()I"⟩, yJ2_size), (RJ2, ⟨"java/util/List", "get", "(I)Ljava/lang/Object;"⟩, yJ2_get), (RJ2, ⟨"java/util/List", "add", "(Ljava/lang/Object;)Z"⟩, yJ2_add), (RJ2, ⟨"java/util/List", "clear", "()V"⟩, yJ2_clear), (RJ2, ⟨"java/util/List", "iterator", "()Ljava/util/Iterator;"⟩, yJ2_iterator),
  (RJ8, ⟨"java/util/List", "size", "()I"⟩, yJ8_size), (RJ8, ⟨"java/util/List", "get", "(I)Ljava/lang/Object;"⟩, yJ8_get), (RJ8, ⟨"java/util/List", "add", "(Ljava/lang/Object;)Z"⟩, yJ8_add), (RJ8, ⟨"java/util/List", "clear", "()V"⟩, yJ8_clear), (RJ8, ⟨"java/util/List", "iterator", "()Ljava/util/Iterator;"⟩, yJ7_iterator),
  (RJ25, ⟨"java/util/Iterator", "hasNext", "()Z"⟩, yJ25_hasNext), (RJ25, ⟨"java/util/Iterator", "next", "()Ljava/lang/Object;"⟩, yJ25_next),
  (RJ28, ⟨"java/util/Iterator", "hasNext", "()Z"⟩, yJ28_hasNext), (RJ28, ⟨"java/util/Iterator", "next", "()Ljava/lang/Object;"⟩, yJ28_next),
  (RJ33, ⟨"java/util/Iterator", "hasNext", "()Z"⟩, yJ33_hasNext), (RJ33, ⟨"java/util/Iterator", "next", "()Ljava/lang/Object;"⟩, yJ33_next),
  (RX7, ⟨"java/util/Iterator", "hasNext", "()Z"⟩, yX7_hasNext), (RX7, ⟨"java/util/Iterator", "next", "()Ljava/lang/Object;"⟩, yX7_next)]
theorem fwl_ok : ∀ q ∈ fwl, q.2.1.cls ≠ "java/lang/invoke/MethodHandle" ∧ q.2.1.cls ≠ "java/lang/invoke/VarHandle" := by decide +kernel
def TF (U : State) : Prop := ∀ q ∈ fwl, va_Fw q.1 q.2.1 q.2.2 U
theorem TF.warm {s U : State} (hW : s.WarmedH U.vm) (h : TF s) : TF U := fun q hq => va_Fw.moved (fwl_ok q hq) hW.alike (h q hq)
/-- classes that a handler passes by: said by the claim's own premises -/
def ncl : List (String × String) := [("java/lang/IllegalStateException", "java/lang/IllegalArgumentException"), ("java/lang/IllegalStateException", "java/lang/IndexOutOfBoundsException"), ("java/lang/IllegalArgumentException", "java/lang/IndexOutOfBoundsException"), ("java/lang/IndexOutOfBoundsException", "java/lang/IllegalArgumentException"), (RX10, RX6), (RX6, RX10)]
def NC (U : State) : Prop := ∀ q ∈ ncl, va_Nc q.1 q.2 U
theorem NC.warm {s U : State} (hW : s.WarmedH U.vm) (h : NC s) : NC U := fun q hq => va_Nc.moved hW.alike (h q hq)
/-- the lambdas' sites, by what the tables hold of them: method, pc, entry, shape; the class that is made: the constants' 4 + i -/
def lmU : Jvm.ClassFile.MethodDescriptor := { parameters := [], returnType := Option.none }
def lmS (cap par : List Jvm.ClassFile.FieldType) (nm : String) : Jvm.Lambda.Shape := { iface := "Coreplug$Undone", name := "run", sam := lmU, captured := cap, kind := 5, implClass := "Coreplug", implName := nm, implDesc := { parameters := par, returnType := Option.none }, implItf := false, inst := lmU }
def lmL : List (MethodName × Nat × Nat × Jvm.Lambda.Shape) := [
  (yX1_begins, 100, 262, lmS [.object "Coreplug", .object "java/util/ArrayDeque", .object "Coreplug$Step", .int] [.object "java/util/ArrayDeque", .object "Coreplug$Step", .int] "lambda$begins$2"),
  (yX1_ends, 4, 267, lmS [.object "Coreplug", .object "Coreplug$Step", .int] [.object "Coreplug$Step", .int] "lambda$ends$3"),
  (yX1_goAlong, 101, 109, lmS [.object "Coreplug", .object "Coreplug$Core", .object "Coreplug$Step", .object "Coreplug$Way", .int] [.object "Coreplug$Core", .object "Coreplug$Step", .object "Coreplug$Way", .int] "lambda$goAlong$0"),
  (yX1_go, 62, 147, lmS [.object "Coreplug", .object "Coreplug$Core", .int] [.object "Coreplug$Core", .int] "lambda$go$1")]
def LMc (U : State) (x : MethodName) (pc index : Nat) (σ : Jvm.Lambda.Shape) (c : ClassId) : Prop :=
  ∃ (m : MethodId) (k : Class) (cf : ClassFile) (i0 p0 : Nat), U.methodNamed? x = some m ∧ U.vm.classes[m.cls]? = some k ∧ k.cf = some cf ∧ Jvm.Lambda.shapeOf? cf index = some σ ∧
    (k.callSites.find? fun y => y.1 == m.idx && y.2.1 == pc) = some (i0, p0, .makes c) ∧ Jvm.Lambda.isMade { classPath := fun _ => none } U.vm m.cls σ c = true ∧ U.lambdaCallable σ c = true
theorem LMc.warm {s U : State} {x : MethodName} {pc index : Nat} {σ : Jvm.Lambda.Shape} {c : ClassId} (hW : s.WarmedH U.vm) (h : LMc s x pc index σ c) : LMc U x pc index σ c := by
  obtain ⟨m, k, cf, i0, p0, hm, hk, hcf, hsh, hfind, hmade, hcall⟩ := h
  obtain ⟨k', hk', he⟩ := hW.alike.2.2 _ _ hk
  refine ⟨m, k', cf, i0, p0, ?_, hk', by rw [he]; exact hcf, hsh, by rw [he]; exact hfind, Lambda.isMade_warmer hW hmade, ?_⟩
  · have := State.methodNamed?_setVm (s := s) hW.alike x
    rw [hm] at this
    exact this
  · have hA := hW.alike
    simp only [State.lambdaCallable, hA.findClass, hA.assignable, hA.superclasses, hA.declaredIn] at hcall ⊢
    exact hcall
def LM (Γ : Cx) (U : State) : Prop := ∀ (i : Nat) (q : MethodName × Nat × Nat × Jvm.Lambda.Shape), lmL[i]? = some q → LMc U q.1 q.2.1 q.2.2.1 q.2.2.2 (Γ.2.2.2 (4 + i))
/-- the constants that nobody writes: the two ways (0, 1), ArrayList's empty array (2), the Integers (3, 10 ..) -/
def CC (Γ : Cx) (U : State) (H : Heap) : Prop :=
  va_Ec "Coreplug$Way" RX8 "LCoreplug$Way;" ["STARTING"] [("java/lang/Enum", "ordinal", "I", [0])] (fun _ => Γ.2.2.2 0) (Gz Γ) U H ∧
  va_Ec "Coreplug$Way" RX9 "LCoreplug$Way;" ["STOPPING"] [("java/lang/Enum", "ordinal", "I", [1])] (fun _ => Γ.2.2.2 1) (Gz Γ) U H ∧
  va_Z RJ2 "DEFAULTCAPACITY_EMPTY_ELEMENTDATA" "[Ljava/lang/Object;" (.ref (Γ.2.2.2 2)) (Gz Γ) U H ∧
  va_T (.object "java/lang/Object") (Γ.2.2.2 2) 0 (fun _ => .null) (Gz Γ) U H ∧
  va_Z RJ15 "$assertionsDisabled" "Z" (.int 1) (Gz Γ) U H ∧
  vx_Zq Bundle.tN "UNASSIGNED_STACK" Bundle.steD (Gz Γ) U H ∧ vx_Zq Bundle.tN "SUPPRESSED_SENTINEL" Bundle.listD (Gz Γ) U H ∧
  va_Z "java/lang/Integer$IntegerCache" "high" "I" (.int 127) (Gz Γ) U H ∧
  va_Z "java/lang/Integer$IntegerCache" "cache" "[Ljava/lang/Integer;" (.ref (Γ.2.2.2 3)) (Gz Γ) U H ∧
  va_T (.object "java/lang/Integer") (Γ.2.2.2 3) 256 (fun j => .ref (Γ.2.2.2 (10 + j))) (Gz Γ) U H ∧
  vb_C (fun k => Γ.2.2.2 (10 + k)) (Gz Γ) U H
theorem CC.moved {Γ : Cx} {u U : State} {H : Heap} (hvm : u.vm.Alike U.vm) (h : CC Γ u H) : CC Γ U H := by
  obtain ⟨h1, h2, h3, h4, h5, h6, h7, h8, h9, h10, h11⟩ := h
  exact ⟨va_Ec.moved hvm h1, va_Ec.moved hvm h2, va_Z.moved hvm h3, va_T.moved hvm h4, va_Z.moved hvm h5, vx_Zq.moved hvm h6, vx_Zq.moved hvm h7, va_Z.moved hvm h8, va_Z.moved hvm h9, va_T.moved hvm h10, vb_C.moved hvm h11⟩
theorem CC.kept {Γ : Cx} {U : State} {H H1 : Heap} (h : CC Γ U H) (hq : ∀ a : Nat, a < H.size → ¬ Gz Γ a → H1[a]? = H[a]?) : CC Γ U H1 := by
  obtain ⟨h1, h2, h3, h4, h5, h6, h7, h8, h9, h10, h11⟩ := h
  exact ⟨h1.kept hq, h2.kept hq, h3.kept hq, h4.kept hq, h5.kept hq, h6.kept hq, h7.kept hq, h8.kept hq, h9.kept hq, h10.kept hq, h11.kept hq⟩
/-- what every method is given of the machine -/
def KK (Γ : Cx) (U : State) : Prop := va_K Γ.2.1 cls (tys Γ) U ∧ TA U ∧ TF U ∧ NC U ∧ LM Γ U ∧ CC Γ U U.heap ∧ Γ.1 ≤ U.heap.size
theorem KK.call {Γ : Cx} {s : State} {H : Heap} {locs : List Loc} (hK : KK Γ s) (hS : va_S (Gz Γ) s.heap H locs) : ∀ U : State, U.heap = H → s.WarmedH U.vm → KK Γ U := by
  intro U hU hW
  obtain ⟨h1, h2, h3, h4, h5, h6, h7⟩ := hK
  exact ⟨va_K.moved hW.alike h1, h2.warm hW, h3.warm hW, h4.warm hW, fun i q hq => (h5 i q hq).warm hW, CC.moved hW.alike (by rw [hU]; exact h6.kept hS.2.1), by rw [hU]; exact Nat.le_trans h7 hS.1⟩
theorem WarmedH.same_vm {s U : State} (h : s.vm = U.vm) : s.WarmedH U.vm := h ▸ State.WarmedH.refl s
theorem KK.same {Γ : Cx} {s U : State} (hv : s.vm = U.vm) (hh : U.heap = s.heap) (hK : KK Γ s) : KK Γ U := KK.call (locs := []) hK (by rw [← hh]; exact ⟨Nat.le_of_eq (by rw [hh]), fun q _ _ => by rw [hh], fun _ h => nomatch h⟩) U rfl (WarmedH.same_vm hv)
/-- a method's start: these arguments, this heap, the machine -/
def Pn (Γ : Cx) (av : List Value) (H : Heap) : Array Value → State → Prop := va_Pc av (fun U => U.heap = H ∧ KK Γ U)
def Qn (Γ : Cx) (Post : Option Value → Heap → Prop) : Array Value → State → Outcome → State → Prop := fun _ st o t => (∃ v, o = .returned v ∧ Post v t.heap) ∧ va_F (Gz Γ) st t
def Qx (Γ : Cx) (PX : String → Addr → Heap → Prop) : String → Addr → State → State → Prop := fun E q st t => PX E q t.heap ∧ va_F (Gz Γ) st t
theorem Pn.blind {Γ : Cx} {av : List Value} {H : Heap} : FrameBlind (Pn Γ av H) := by
  intro a U g mk h
  obtain ⟨h1, h2, h3⟩ := h
  exact ⟨h1, h2, KK.same (s := U) (U := U.calling g mk a) rfl rfl h3⟩
abbrev rmd (d mc ms : Nat) : Room := { frames := d, cells := mc, slots := ms, locals := 64 * d }
/-- contracts: what returns; what returns or throws -/
abbrev Mt (l : Launch) (Γ : Cx) (y : MethodName) (ws : List Cond) (d mc ms : Nat) (av : List Value) (H : Heap) (Post : Option Value → Heap → Prop) : Prop := Met l y ws (rmd d mc ms) (Pn Γ av H) (Qn Γ Post) mc ms (Gz Γ)
