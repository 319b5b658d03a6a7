/-! System.arraycopy of ints from the front of one array to the front of another -/
set_option maxRecDepth 100000
section CPY
variable {p : Program} {l : Launch} {e : Env} {R : Room} {s : State} {m : MethodId} {args : Array Value} {below : List Frame} {meth : Method} {c : Code} {H : Heap} {locs : List Loc} {cells slots : Nat} {Q : State → Prop}
variable {cc : ByteArray} {pc : Nat} {ls : Array Slot} {rest : List Value} {Γ : Cx}
theorem hw_copyi (hexec : p.tables.exec = Jvm.exec) (hb : c.code = cc) (hml : c.maxLocals = ls.size) {own : String} {index : Nat} (hown : s.vm.findClass own = some m.cls) (hlink : (Cond.methodLink own index arraycopyName).before args s = true) (hnat : (Cond.native arraycopyName).before args s = true) (hstat : (Cond.static arraycopyName).before args s = true) (hini : (Cond.initialized "java/lang/System").before args s = true)
    (hK : KK Γ s) {a0 a n0 n1 n : Nat} {f g : Nat → Int32} (hp0 : pt Γ H a0 (ia Γ n0 f)) (hp1 : pt Γ H a (ia Γ n1 g)) (hg : Gz Γ a) (hS : va_S (Gz Γ) s.heap H locs) (hn0 : n ≤ n0) (hn1 : n ≤ n1) (hn : n < 2 ^ 31) (hframes : 1 ≤ R.frames) (hlocals : (rest.map fun v => v.category).sum + (nativeFrameWords "java/lang/System" "arraycopy" 5 + 11) ≤ R.locals) (hdg : decode cc pc = .ok (.invokestatic index, 3))
    (kk : ∀ (H1 : Heap) (locs1 : List Loc), pt Γ H1 a (ia Γ n1 (fun k => if k < n then f k else g k)) → H1.size = H.size → (∀ q : Nat, q ≠ a → H1[q]? = H[q]?) → va_S (Gz Γ) s.heap H1 locs1 → W p l e R s m args below meth c H1 locs1 cells slots Q (F0 m (pc + 3) ls rest)) : W p l e R s m args below meth c H locs cells slots Q (F0 m pc ls (.int (nI n) :: .int (nI 0) :: .ref a :: .int (nI 0) :: .ref a0 :: rest)) := by
  have hc0n : (nI 0).toNatClampNeg = 0 := nI_clamp (by decide)
  have hcn : (nI n).toNatClampNeg = n := nI_clamp hn
  have t0 : (nI 0).toInt = 0 := nI_toInt (by decide)
  have tn9 : (nI n).toInt = n := nI_toInt hn
  intro T hT X
  have hc0 : H[a0]? = some (vp_cell (Γ.2.2.1 0) (n0, .inl f)) := hp0
  have hc1 : H[a]? = some (vp_cell (Γ.2.2.1 0) (n1, .inl g)) := hp1
  obtain ⟨-, k0, hk0, cm0, hkk0⟩ := (hK.1.2 0 _ rfl).1 n0 (fun j => .int (f j))
  obtain ⟨-, k1, hk1, cm1, hkk1⟩ := (hK.1.2 0 _ rfl).1 n1 (fun j => .int (g j))
  obtain ⟨vm', X', step⟩ := X.arraycopy hexec hown hlink hnat hstat hini (src := a0) (dst := a) (cs := vp_cell (Γ.2.2.1 0) (n0, .inl f)) (cd := vp_cell (Γ.2.2.1 0) (n1, .inl g)) (srcPos := nI 0) (destPos := nI 0) (n := nI n) (by rw [hT]; exact hc0) (by rw [hT]; exact hc1)
    (fun _ h => by cases h) (fun _ h => by cases h) (fun h => by cases h) (fun h => by cases h) hk0 hk1 hkk0 hkk1 rfl (nI_pos (by decide)) (nI_pos (by decide)) (nI_pos hn)
    (by rw [t0, tn9]; show ¬ _ > ((arrV _ n0 (fun j => .int (f j))).slots.size : Int); rw [arrV_size]; omega)
    (by rw [t0, tn9]; show ¬ _ > ((arrV _ n1 (fun j => .int (g j))).slots.size : Int); rw [arrV_size]; omega)
    (fun vm₁ _ i hi => by
      rw [hcn] at hi
      rw [hc0n]
      have e : (vp_cell (Γ.2.2.1 0) (n0, .inl f)).slots.getD (0 + i) .null = .int (f (0 + i)) := by
        show (arrV _ n0 (fun j => .int (f j))).slots.getD _ _ = _
        rw [Array.getD_eq_getD_getElem?, arrV_read _ _ (by omega)]
        rfl
      refine ⟨?_, ?_⟩
      · rw [e]
        exact rfl
      · rw [e]
        exact trivial)
    (g := F0 m pc ls (.int (nI n) :: .int (nI 0) :: .ref a :: .int (nI 0) :: .ref a0 :: rest)) rfl (by rw [hml]) (rest := rest) rfl (by rw [hb]; exact hdg) hframes (by show 2 * 0 + _ + _ ≤ _; omega)
  have e1 : copied (vp_cell (Γ.2.2.1 0) (n0, .inl f)) (vp_cell (Γ.2.2.1 0) (n1, .inl g)) (nI 0) (nI 0) (nI n) = vp_cell (Γ.2.2.1 0) (n1, .inl (fun k => if k < n then f k else g k)) := by
    have e2 := va_copied (fun z => .int z) (Γ.2.2.1 0) (Γ.2.2.1 0) (sp := (nI 0).toNatClampNeg) (dp := (nI 0).toNatClampNeg) (n := (nI n).toNatClampNeg) (n0 := n0) (n1 := n1) f g (by rw [hc0n, hcn]; omega)
    refine Eq.trans e2 ?_
    rw [vp_cell_i]
    refine arrV_ext (fun j _ => ?_)
    show Value.int (va_cpy f g _ _ _ j) = Value.int (if j < n then f j else g j)
    unfold va_cpy
    rw [hc0n, hcn]
    by_cases h : j < n
    · rw [if_pos h, if_pos ⟨by omega, by omega⟩]
      congr 2
      omega
    · rw [if_neg h, if_neg (by omega)]
  rw [e1] at X' step
  have hl : a < H.size := (Array.getElem?_eq_some_iff.mp hc1).1
  have hheap : ((T.setVm vm').setCell a (vp_cell (Γ.2.2.1 0) (n1, .inl (fun k => if k < n then f k else g k)))).heap = H.setIfInBounds a (vp_cell (Γ.2.2.1 0) (n1, .inl (fun k => if k < n then f k else g k))) := by rw [← hT]; rfl
  have oq : ∀ q : Nat, q ≠ a → (H.setIfInBounds a (vp_cell (Γ.2.2.1 0) (n1, .inl (fun k => if k < n then f k else g k))))[q]? = H[q]? := fun q hq => by simp [Array.getElem?_setIfInBounds, Ne.symm hq]
  obtain ⟨t, a1, b1⟩ := kk _ _ (show (H.setIfInBounds a _)[a]? = some _ by simp [Array.getElem?_setIfInBounds, hl]) (by simp) oq ⟨by simp; exact hS.1, fun q g1 g2 => by
      rw [oq q (fun e => g2 (by rw [e]; exact hg))]
      exact hS.2.1 q g1 g2, fun q hq => by
      rcases List.mem_append.mp hq with h | h
      · exact hS.2.2 q h
      · obtain ⟨z, -, hz⟩ := List.mem_map.mp h
        rw [← hz]
        exact hg⟩ _ hheap X'
  exact ⟨t, step t a1, b1⟩
end CPY
