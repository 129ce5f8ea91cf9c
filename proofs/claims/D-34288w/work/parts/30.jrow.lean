/-! rows over the world by labels for the JDK's own methods: a copy of references, a store of any object, a clone, statics, Math, casts -/
set_option maxRecDepth 100000
theorem eMx : prog_19_method_65_code = Lib.Math.max.code := by decide +kernel
theorem eMn : prog_19_method_69_code = Lib.Math.min.code := by decide +kernel
section JROW
variable {p : Program} {l : Launch} {e : Env} {R : Room} {s : State} {m : MethodId} {args : Array Value} {below : List Frame} {meth : Method} {c : Code} {H : Heap} {locs : List Loc} {cells slots : Nat} {Q : State → Prop}
variable {cc : ByteArray} {pc nL : Nat} {ls : Array Slot} {rest st : List Value} {own : String} {K : GK} {A : Nat → Prop} {G : GM} {x : Lb} {a : Nat}
theorem va_Anyc {C E : String} {H : Heap} {a : Nat} (hc : va_Nw (.castable C E) s) (hr : ∃ cell : Cell, H[a]? = some cell ∧ cell.vm.isStatics = false ∧ s.vm.findClass C = some cell.cls) : va_Any E s H a := by
  obtain ⟨cell, h1, h2, h3⟩ := hr
  obtain ⟨c0, t0, f1, f2, f3⟩ := Cond.castable_spec (va_Nw.use (A := #[]) rfl hc)
  cases h3.symm.trans f1
  obtain ⟨kC, hkC, -⟩ := Vm.findClass_spec f1
  exact ⟨cell, h1, h2, ⟨kC, hkC⟩, fun comp h => by cases h.symm.trans f2; exact f3⟩
/-- any object goes into a row of Object -/
theorem g_aastA (hC : CallFix p m c cc nL s args lw_all own) (hE : gE K A s s.heap) (hG : gG K A s.heap G H locs) {n v : Nat} {f : Nat → Option Nat} (he : G x = some (a, .inl (K.2.1 3, n, .inr (.inr (.inr (.inr f)))))) (hr : va_Any "java/lang/Object" s H v) {i : Int32} (hin : vp_in i n) (hdg : decode cc pc = .ok (.aastore, 1))
    (kk : ∀ (H1 : Heap) (locs1 : List Loc), gG K A s.heap (gup G x (a, .inl (K.2.1 3, n, .inr (.inr (.inr (.inr (va_up f i.toNatClampNeg (some v)))))))) H1 locs1 → W p l e R s m args below meth c H1 locs1 cells slots Q (F0 m (pc + 1) ls rest)) : W p l e R s m args below meth c H locs cells slots Q (F0 m pc ls (.ref v :: .int i :: .ref a :: rest)) := by
  have hlt : i.toNatClampNeg < n := Nat.not_le.mp fun q => hin (Or.inr q)
  have h0 : ¬ i < 0 := fun q => hin (Or.inl q)
  obtain ⟨cellV, g1, g3, ⟨kC, hkC⟩, hasg⟩ := hr
  obtain ⟨kA, comp, k1, k2, k3, -⟩ := (hE.1.2 3 _ rfl).2
  obtain ⟨kE, hkE, -⟩ := Vm.findClass_spec k3
  refine W.aast hC.1 hC.2.1 (hG.1 x _ he) (fun q h => by cases h) (fun h => by cases h) k1 k2 rfl hkE ⟨h0, by show _ < (arrV _ _ _).slots.size; rw [arrV_size]; exact hlt⟩ g1 (fun q h => by rw [h] at g3; cases g3) hkC (hasg _ k3) rfl rfl hdg fun H1 e z oq => ?_
  refine kk H1 _ ⟨hG.1.upd hG.2.1 he ?_ oq, hG.2.1.upd he, hG.2.2.1.put z oq (hG.2.1.2 x _ he), hG.2.2.2⟩
  show H1[a]? = some (vp_cell _ _)
  rw [e]
  rw [vp_cell_q, vp_cell_q, arrV_store]
  congr 2
  funext q
  by_cases hq : q = i.toNatClampNeg
  · subst hq
    simp [updV, va_up, va_rf]
  · simp [updV, va_up, hq]
/-- System.arraycopy between rows of Object, from the first place on -/
theorem g_copy (hC : CallFix p m c cc nL s args lw_all own) (hE : gE K A s s.heap) (hG : gG K A s.heap G H locs) {index : Nat} (hlink : Cond.methodLink own index arraycopyName ∈ lw_all)
    {y : Lb} {a0 n0 n1 : Nat} {f g : Nat → Option Nat} (he0 : G y = some (a0, .inl (K.2.1 3, n0, .inr (.inr (.inr (.inr f)))))) (he : G x = some (a, .inl (K.2.1 3, n1, .inr (.inr (.inr (.inr g))))))
    {k : Nat} (hk : k < 2 ^ 31) (h4 : k ≤ n0) (h5 : k ≤ n1) (hel : ∀ i : Nat, i < k → ∀ z : Nat, f i = some z → va_Any "java/lang/Object" s H z) (hsize : ls.size = nL)
    (hframes : 1 ≤ R.frames) (hlocals : (rest.map fun v => v.category).sum + (nativeFrameWords "java/lang/System" "arraycopy" 5 + 11) ≤ R.locals) (hdg : decode cc pc = .ok (.invokestatic index, 3))
    (kk : ∀ (H1 : Heap) (locs1 : List Loc), gG K A s.heap (gup G x (a, .inl (K.2.1 3, n1, .inr (.inr (.inr (.inr (va_cpy f g 0 0 k))))))) H1 locs1 → W p l e R s m args below meth c H1 locs1 cells slots Q (F0 m (pc + 3) ls rest)) : W p l e R s m args below meth c H locs cells slots Q (F0 m pc ls (.int (nI k) :: .int 0 :: .ref a :: .int 0 :: .ref a0 :: rest)) := by
  obtain ⟨hexec, hb, hml, hown, hts⟩ := hC
  have hkc : (nI k).toNatClampNeg = k := nI_clamp hk
  have hki : (nI k).toInt = (k : Int) := nI_toInt hk
  intro T hT X
  have hc0 : H[a0]? = some (vp_cell (K.2.1 3) (n0, .inr (.inr (.inr (.inr f))))) := hG.1 y _ he0
  have hc1 : H[a]? = some (vp_cell (K.2.1 3) (n1, .inr (.inr (.inr (.inr g))))) := hG.1 x _ he
  obtain ⟨-, k0, hk0, cm0, hkk0⟩ := (hE.1.2 3 _ rfl).1 n0 (fun j => va_rf (f j))
  obtain ⟨-, k1, hk1, cm1, hkk1⟩ := (hE.1.2 3 _ rfl).1 n1 (fun j => va_rf (g j))
  have e0 : (0 : Int32).toInt = 0 := by decide
  have e00 : (0 : Int32).toNatClampNeg = 0 := by decide
  obtain ⟨vm', X', step⟩ := X.arraycopy hexec hown (hts _ hlink) (hts _ q626) (hts _ q625) (hts _ q39) (src := a0) (dst := a) (cs := vp_cell (K.2.1 3) (n0, .inr (.inr (.inr (.inr f))))) (cd := vp_cell (K.2.1 3) (n1, .inr (.inr (.inr (.inr g))))) (srcPos := 0) (destPos := 0) (n := nI k) (by rw [hT]; exact hc0) (by rw [hT]; exact hc1)
    (fun _ h => by cases h) (fun _ h => by cases h) (fun h => by cases h) (fun h => by cases h) hk0 hk1 hkk0 hkk1 rfl (by decide) (by decide) (nI_pos hk)
    (by rw [e0, hki]; show ¬ _ > ((arrV _ n0 (fun j => va_rf (f j))).slots.size : Int); rw [arrV_size]; omega)
    (by rw [e0, hki]; show ¬ _ > ((arrV _ n1 (fun j => va_rf (g j))).slots.size : Int); rw [arrV_size]; omega)
    (fun vm₁ hal i hi => by
      rw [hkc] at hi
      have e : (vp_cell (K.2.1 3) (n0, .inr (.inr (.inr (.inr f))))).slots.getD ((0 : Int32).toNatClampNeg + i) .null = va_rf (f i) := by
        rw [e00, Nat.zero_add]
        show (arrV _ n0 (fun j => va_rf (f j))).slots.getD _ _ = _
        rw [Array.getD_eq_getD_getElem?, arrV_read _ _ (by omega)]
        rfl
      rw [e]
      cases hy : f i with
      | none => exact ⟨rfl, trivial⟩
      | some y =>
        obtain ⟨cellV, g1, g2, ⟨kC, hkC⟩, hasg⟩ := hel i hi y hy
        obtain ⟨kA, comp, r1, r2, r3, -⟩ := (hE.1.2 3 _ rfl).2
        cases hk1.symm.trans r1
        cases hkk1.symm.trans r2
        obtain ⟨kE, hkE, -⟩ := Vm.findClass_spec r3
        obtain ⟨kC', hkC', -⟩ := hal.2.2 _ _ hkC
        obtain ⟨kE', hkE', -⟩ := hal.2.2 _ _ hkE
        refine ⟨rfl, cellV, (show T.heap[y]? = some cellV by rw [hT]; exact g1), (fun q h => by rw [h] at g2; cases g2), ⟨kC', hkC'⟩, ?_, ?_⟩
        · exact ⟨kE', hkE'⟩
        · show vm₁.assignable _ _ = true
          rw [hal.assignable]
          exact hasg _ r3)
    (g := F0 m pc ls (.int (nI k) :: .int 0 :: .ref a :: .int 0 :: .ref a0 :: rest)) rfl (by rw [hml]; exact hsize) (rest := rest) rfl (by rw [hb]; exact hdg) hframes (by show 2 * 0 + _ + _ ≤ _; omega)
  have e1 : copied (vp_cell (K.2.1 3) (n0, .inr (.inr (.inr (.inr f))))) (vp_cell (K.2.1 3) (n1, .inr (.inr (.inr (.inr g))))) 0 0 (nI k) = vp_cell (K.2.1 3) (n1, .inr (.inr (.inr (.inr (va_cpy f g 0 0 k))))) := by
    rw [vp_cell_q, vp_cell_q, vp_cell_q]
    have h := va_copied (fun z => va_rf z) (K.2.1 3) (K.2.1 3) (n0 := n0) (n1 := n1) (sp := 0) (dp := 0) (n := k) f g (by omega)
    show (arrV _ _ _).storeRun ((0 : Int32).toNatClampNeg) ((arrV _ _ _).stretch ((0 : Int32).toNatClampNeg) ((nI k).toNatClampNeg)) = _
    rw [e00, hkc]
    exact h
  rw [e1] at X' step
  have hl : a < H.size := (Array.getElem?_eq_some_iff.mp hc1).1
  have hheap : ((T.setVm vm').setCell a (vp_cell (K.2.1 3) (n1, .inr (.inr (.inr (.inr (va_cpy f g 0 0 k))))))).heap = H.setIfInBounds a (vp_cell (K.2.1 3) (n1, .inr (.inr (.inr (.inr (va_cpy f g 0 0 k)))))) := by rw [← hT]; rfl
  have oq : ∀ q : Nat, q ≠ a → (H.setIfInBounds a (vp_cell (K.2.1 3) (n1, .inr (.inr (.inr (.inr (va_cpy f g 0 0 k)))))))[q]? = H[q]? := fun q hq => by simp [Array.getElem?_setIfInBounds, Ne.symm hq]
  obtain ⟨t, a1, b1⟩ := kk _ _ ⟨hG.1.upd hG.2.1 he (show (H.setIfInBounds a _)[a]? = some _ by simp [Array.getElem?_setIfInBounds, hl]) oq, hG.2.1.upd he, ⟨by simp; exact hG.2.2.1.1, fun q g1 g2 => by
      rw [oq q (fun e => g2 (by rw [e]; exact hG.2.1.2 x _ he))]
      exact hG.2.2.1.2.1 q g1 g2, fun q hq => by
      rcases List.mem_append.mp hq with h | h
      · exact hG.2.2.1.2.2 q h
      · obtain ⟨z, -, hz⟩ := List.mem_map.mp h
        rw [← hz]
        exact hG.2.1.2 x _ he⟩, hG.2.2.2⟩ _ hheap X'
  exact ⟨t, step t a1, b1⟩
theorem g_recvA (hE : gE K A s s.heap) (hG : gG K A s.heap G H locs) {ci : Nat} {fs : List Value} {C E : String} {T : u_T} {N : Nat} (he : G x = some (a, .inr (ci, fs))) (hc : clA[ci]? = some (C, T, N)) (hn : (C, E) ∈ nwC) : va_Any E s H a :=
  va_Anyc (hE.2.1.2.2.2.1 _ hn) (g_recv hE hG he hc)
theorem g_mmax (hC : CallFix p m c cc nL s args lw_all own) {index : Nat} (hlink : Cond.methodLink own index Lib.Math.max.name ∈ lw_all) (hsize : ls.size = nL) (hframes : 1 ≤ R.frames) (hlocals : (rest.map fun v => v.category).sum + 13 ≤ R.locals) (hf : cells ≤ R.cells ∧ slots ≤ R.slots) {x y z : Int32} (hz : (if x < y then y else x) = z) (hdg : decode cc pc = .ok (.invokestatic index, 3))
    (kk : W p l e R s m args below meth c H locs cells slots Q (F0 m (pc + 3) ls (.int z :: rest))) : W p l e R s m args below meth c H locs cells slots Q (F0 m pc ls (.int y :: .int x :: rest)) := by
  subst hz
  exact va_mmax hC.1 hC.2.1 (hC.2.2.1.trans hsize.symm) hC.2.2.2.1 (hC.2.2.2.2 _ hlink) (hC.2.2.2.2 _ q180) (hC.2.2.2.2 _ q37) (by rw [← eMx]; exact hC.2.2.2.2 _ q181) hframes hlocals hf.1 hf.2 hdg kk
theorem g_mmin (hC : CallFix p m c cc nL s args lw_all own) {index : Nat} (hlink : Cond.methodLink own index Lib.Math.min.name ∈ lw_all) (hsize : ls.size = nL) (hframes : 1 ≤ R.frames) (hlocals : (rest.map fun v => v.category).sum + 13 ≤ R.locals) (hf : cells ≤ R.cells ∧ slots ≤ R.slots) {x y z : Int32} (hz : (if y < x then y else x) = z) (hdg : decode cc pc = .ok (.invokestatic index, 3))
    (kk : W p l e R s m args below meth c H locs cells slots Q (F0 m (pc + 3) ls (.int z :: rest))) : W p l e R s m args below meth c H locs cells slots Q (F0 m pc ls (.int y :: .int x :: rest)) := by
  subst hz
  exact va_mmin hC.1 hC.2.1 (hC.2.2.1.trans hsize.symm) hC.2.2.2.1 (hC.2.2.2.2 _ hlink) (hC.2.2.2.2 _ q622) (hC.2.2.2.2 _ q37) (by rw [← eMn]; exact hC.2.2.2.2 _ q623) hframes hlocals hf.1 hf.2 hdg kk
end JROW
