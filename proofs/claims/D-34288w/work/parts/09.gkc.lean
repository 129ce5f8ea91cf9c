/-! CALLS and ENDS over the world by labels; numbers as names -/
set_option maxRecDepth 100000
section GKN
variable {p : Program} {l : Launch} {e : Env} {R : Room} {s : State} {m : MethodId} {args : Array Value} {below : List Frame} {meth : Method} {c : Code} {H : Heap} {locs : List Loc} {cells slots : Nat} {Q : State → Prop}
variable {cc : ByteArray} {pc nL : Nat} {ls : Array Slot} {rest : List Value} {own : String}
/-- arithmetic on numbers that are names -/
theorem n_add {a b d : Nat} (hC : CallFix p m c cc nL s args lw_all own) (h : a + b = d) (hdg : decode cc pc = .ok (.iadd, 1)) (k : W p l e R s m args below meth c H locs cells slots Q (F0 m (pc + 1) ls (.int (nI d) :: rest))) : W p l e R s m args below meth c H locs cells slots Q (F0 m pc ls (.int (nI b) :: .int (nI a) :: rest)) := by
  refine lv_iadd hC.1 hC.2.1 hdg ?_
  rw [nI_add, h]
  exact k
theorem n_mul {a b d : Nat} (hC : CallFix p m c cc nL s args lw_all own) (h : a * b = d) (hdg : decode cc pc = .ok (.imul, 1)) (k : W p l e R s m args below meth c H locs cells slots Q (F0 m (pc + 1) ls (.int (nI d) :: rest))) : W p l e R s m args below meth c H locs cells slots Q (F0 m pc ls (.int (nI b) :: .int (nI a) :: rest)) := by
  refine lv_imul hC.1 hC.2.1 hdg ?_
  rw [pk_mul, h]
  exact k
theorem n_sub {a b d : Nat} (hC : CallFix p m c cc nL s args lw_all own) (h : b ≤ a) (hd : a - b = d) (hdg : decode cc pc = .ok (.isub, 1)) (k : W p l e R s m args below meth c H locs cells slots Q (F0 m (pc + 1) ls (.int (nI d) :: rest))) : W p l e R s m args below meth c H locs cells slots Q (F0 m pc ls (.int (nI b) :: .int (nI a) :: rest)) := by
  refine lv_isub hC.1 hC.2.1 hdg ?_
  rw [pk_sub h, hd]
  exact k
theorem n_ge {a b : Nat} (hC : CallFix p m c cc nL s args lw_all own) (ha : a < 2 ^ 31) (hb : b < 2 ^ 31) {off : Int} {tgt : Nat} (hdg : decode cc pc = .ok (.if_icmp .ge off, 3)) (ht : (pc : Int) + off = (tgt : Int))
    (kt : b ≤ a → W p l e R s m args below meth c H locs cells slots Q (F0 m tgt ls rest)) (kf : a < b → W p l e R s m args below meth c H locs cells slots Q (F0 m (pc + 3) ls rest)) : W p l e R s m args below meth c H locs cells slots Q (F0 m pc ls (.int (nI b) :: .int (nI a) :: rest)) :=
  lv_icmp_ge hC.1 hC.2.1 hdg ht (fun h => kt ((nI_leI hb ha).mp h)) (fun h => kf (Nat.not_le.mp fun q => h ((nI_leI hb ha).mpr q)))
theorem n_inc (i : Nat) : nI i + Int32.ofInt 1 = nI (i + 1) := nI_1 i
theorem n_dec {i : Nat} : nI (i + 1) - 1 = nI i := nI_pred i
/-- yes or no -/
def bI (P : Prop) [Decidable P] : Int32 := if P then 1 else 0
theorem bI_t {P : Prop} [Decidable P] (h : P) : bI P = 1 := if_pos h
theorem bI_f {P : Prop} [Decidable P] (h : ¬ P) : bI P = 0 := if_neg h
theorem bI_0 {P : Prop} [Decidable P] : bI P = 0 ↔ ¬ P := by
  by_cases h : P
  · simp [bI, h]
  · simp [bI, h]
theorem bI_01 (P : Prop) [Decidable P] : bI P = 0 ∨ bI P = 1 := by
  by_cases h : P
  · exact Or.inr (if_pos h)
  · exact Or.inl (if_neg h)
theorem bI_c {P P' : Prop} [Decidable P] [Decidable P'] (h : P ↔ P') : bI P = bI P' := by
  by_cases g : P
  · rw [bI_t g, bI_t (h.mp g)]
  · rw [bI_f g, bI_f (fun q => g (h.mpr q))]
theorem nb01 {x : Int32} (h : x = 0 ∨ x = 1) : narrow .boolean (.int x) = .int x := by
  rcases h with rfl | rfl <;> rfl
theorem nz01 {x : Int32} (h : x = 0 ∨ x = 1) : vp_nar .boolean x = x := by
  rcases h with rfl | rfl <;> rfl
theorem b_eq {P : Prop} [Decidable P] (hC : CallFix p m c cc nL s args lw_all own) {off : Int} {tgt : Nat} (hdg : decode cc pc = .ok (.ifCond .eq off, 3)) (ht : (pc : Int) + off = (tgt : Int))
    (kt : ¬ P → W p l e R s m args below meth c H locs cells slots Q (F0 m tgt ls rest)) (kf : P → W p l e R s m args below meth c H locs cells slots Q (F0 m (pc + 3) ls rest)) : W p l e R s m args below meth c H locs cells slots Q (F0 m pc ls (.int (bI P) :: rest)) :=
  lv_if_eq hC.1 hC.2.1 hdg ht (fun h => kt (bI_0.mp h)) (fun h => kf (Decidable.byContradiction fun q => h (bI_0.mpr q)))
theorem b_ne {P : Prop} [Decidable P] (hC : CallFix p m c cc nL s args lw_all own) {off : Int} {tgt : Nat} (hdg : decode cc pc = .ok (.ifCond .ne off, 3)) (ht : (pc : Int) + off = (tgt : Int))
    (kt : P → W p l e R s m args below meth c H locs cells slots Q (F0 m tgt ls rest)) (kf : ¬ P → W p l e R s m args below meth c H locs cells slots Q (F0 m (pc + 3) ls rest)) : W p l e R s m args below meth c H locs cells slots Q (F0 m pc ls (.int (bI P) :: rest)) :=
  lv_if_ne hC.1 hC.2.1 hdg ht (fun h => kt (Decidable.byContradiction fun q => h (bI_0.mpr q))) (fun h => kf (bI_0.mp h))
end GKN
section GKC
variable {p : Program} {l : Launch} {e : Env} {R : Room} {s : State} {m : MethodId} {args : Array Value} {below : List Frame} {meth : Method} {c : Code} {H : Heap} {locs : List Loc} {cells slots : Nat} {Q : State → Prop}
variable {cc : ByteArray} {pc nL : Nat} {ls : Array Slot} {rest st : List Value} {own : String} {K : GK} {A : Nat → Prop} {G : GM} {x : Lb} {a : Nat}
theorem g_recv (hE : gE K A s s.heap) (hG : gG K A s.heap G H locs) {ci : Nat} {C : String} {T : u_T} {N : Nat} {fs : List Value} (he : G x = some (a, .inr (ci, fs))) (hc : clA[ci]? = some (C, T, N)) : ∃ cell : Cell, H[a]? = some cell ∧ cell.vm.isStatics = false ∧ s.vm.findClass C = some cell.cls := va_recv hE.1 (hG.1.one he) hc (q0 := 0) rfl
/-- a call that only reads: the heap stays -/
theorem g_ro {post : Int32 → Prop} {a9 : Array Value} (hr : va_Run p l e R s m args below meth c H locs cells slots 0 0 (F0 m pc ls st) rest (vp_Si post a9) (fun _ => False))
    (kk : ∀ r : Int32, post r → W p l e R s m args below meth c H locs cells slots Q (F0 m (pc + 3) ls (.int r :: rest))) : W p l e R s m args below meth c H locs cells slots Q (F0 m pc ls st) := by
  intro T hT X
  obtain ⟨v, st₀, t, T', L, h0, X', hL, e1, -, ⟨r, hv, hp, hh⟩, st⟩ := hr T hT X
  cases hv
  obtain ⟨t2, a1, b1⟩ := kk r hp T' (by rw [e1, hh, h0]) (Stand.forget X' (fun q h => (hL q h).elim))
  exact ⟨t2, st t2 a1, b1⟩
/-- static, no world asked, an int comes -/
theorem g_sP (hC : CallFix p m c cc nL s args lw_all own) {index n maxL : Nat} {y : MethodName} {bytes : ByteArray} {ret : Option FieldType} {rm : Room} {As : List Value} {post : Int32 → Prop} (hM : Met l y (ws_ y bytes maxL ret) rm (va_Pc As (fun _ => True)) (vp_Si post) 0 0 (fun _ => False))
    (cw : CallB R s args own index y bytes maxL ret (ws_ y bytes maxL ret) rm 0 0 n ∧ (Cond.static y).before args s = true) (hn : As.length = n) (hsize : ls.size = nL) (hst : st = As.reverse ++ rest) (hW : (rest.map fun v => v.category).sum ≤ 8) (hdg : decode cc pc = .ok (.invokestatic index, 3)) (hf : cells ≤ R.cells ∧ slots ≤ R.slots)
    (kk : ∀ r : Int32, post r → W p l e R s m args below meth c H locs cells slots Q (F0 m (pc + 3) ls (.int r :: rest))) : W p l e R s m args below meth c H locs cells slots Q (F0 m pc ls st) :=
  g_ro (va_runS (As := As) (rest := rest) hC hM cw ⟨fun _ _ _ _ q => ⟨q.1, trivial⟩, fun _ _ _ => ⟨rfl, trivial⟩⟩ rfl hn hsize hst (lv_room hW) hdg hf) kk
/-- of an object, reading the world, an int comes -/
theorem g_roV (hC : CallFix p m c cc nL s args lw_all own) (hE : gE K A s s.heap) (hG : gG K A s.heap G H locs) {index n maxL : Nat} {y : MethodName} {bytes : ByteArray} {ret : Option FieldType} {rm : Room} {As : List Value} {post : Int32 → Prop} (hM : Met l y (ws_ y bytes maxL ret) rm (va_Pc (.ref a :: As) (gW K A G)) (vp_Si post) 0 0 (fun _ => False))
    {C : String} {T : u_T} {N ci : Nat} (cw : CallW R s args own C index y bytes maxL ret (ws_ y bytes maxL ret) rm 0 0 n) {fs : List Value} (he : G x = some (a, .inr (ci, fs))) (hc : clA[ci]? = some (C, T, N)) (hn : As.length = n) (hsize : ls.size = nL) (hst : st = As.reverse ++ .ref a :: rest) (hW : (rest.map fun v => v.category).sum ≤ 8) (hdg : decode cc pc = .ok (.invokevirtual index, 3)) (hf : cells ≤ R.cells ∧ slots ≤ R.slots)
    (kk : ∀ r : Int32, post r → W p l e R s m args below meth c H locs cells slots Q (F0 m (pc + 3) ls (.int r :: rest))) : W p l e R s m args below meth c H locs cells slots Q (F0 m pc ls st) :=
  g_ro (va_runV (As := As) (rest := rest) hC hM cw ⟨gW.blind, g_recv hE hG he hc, fun U hU hW => ⟨rfl, gW.start hE hG hU hW⟩⟩ rfl hn hsize hst (lv_room hW) hdg hf) kk
/-- of an object, changing the world, an int comes -/
theorem g_cVi (hC : CallFix p m c cc nL s args lw_all own) (hE : gE K A s s.heap) (hG : gG K A s.heap G H locs) {index n maxL mc ms : Nat} {y : MethodName} {bytes : ByteArray} {ret : Option FieldType} {rm : Room} {As : List Value} {S : Type} {post : Int32 → S → Prop} {Gf : S → GM} (hM : Met l y (ws_ y bytes maxL ret) rm (va_Pc (.ref a :: As) (gW K A G)) (va_Qi post (fun u t => gB K A (Gf u) t) A) mc ms A)
    {C : String} {T : u_T} {N ci : Nat} (cw : CallW R s args own C index y bytes maxL ret (ws_ y bytes maxL ret) rm mc ms n) {fs : List Value} (he : G x = some (a, .inr (ci, fs))) (hc : clA[ci]? = some (C, T, N)) (hn : As.length = n) (hsize : ls.size = nL) (hst : st = As.reverse ++ .ref a :: rest) (hW : (rest.map fun v => v.category).sum ≤ 8) (hdg : decode cc pc = .ok (.invokevirtual index, 3)) (hf : cells + mc ≤ R.cells ∧ slots + ms ≤ R.slots)
    (kk : ∀ (r : Int32) (u : S) (H1 : Heap) (locs1 : List Loc), post r u → gG K A s.heap (Gf u) H1 locs1 → W p l e R s m args below meth c H1 locs1 (cells + mc) (slots + ms) Q (F0 m (pc + 3) ls (.int r :: rest))) : W p l e R s m args below meth c H locs cells slots Q (F0 m pc ls st) :=
  va_calli (va_runV (As := As) (rest := rest) hC hM cw ⟨gW.blind, g_recv hE hG he hc, fun U hU hW => ⟨rfl, gW.start hE hG hU hW⟩⟩ rfl hn hsize hst (lv_room hW) hdg hf) hG.2.2.1 (fun q _ h => h) (fun q h => h) (fun r u t H1 locs1 ht hvm hp hB hz hk hS => kk r u H1 locs1 hp ⟨by rw [← ht]; exact hB.1, hB.2, hS, hG.2.2.2⟩)
/-- of an object, changing the world, nothing comes -/
theorem g_cVv (hC : CallFix p m c cc nL s args lw_all own) (hE : gE K A s s.heap) (hG : gG K A s.heap G H locs) {index n maxL mc ms : Nat} {y : MethodName} {bytes : ByteArray} {ret : Option FieldType} {rm : Room} {As : List Value} {S : Type} {post : S → Prop} {Gf : S → GM} (hM : Met l y (ws_ y bytes maxL ret) rm (va_Pc (.ref a :: As) (gW K A G)) (va_Qv post (fun u t => gB K A (Gf u) t) A) mc ms A)
    {C : String} {T : u_T} {N ci : Nat} (cw : CallW R s args own C index y bytes maxL ret (ws_ y bytes maxL ret) rm mc ms n) {fs : List Value} (he : G x = some (a, .inr (ci, fs))) (hc : clA[ci]? = some (C, T, N)) (hn : As.length = n) (hsize : ls.size = nL) (hst : st = As.reverse ++ .ref a :: rest) (hW : (rest.map fun v => v.category).sum ≤ 8) (hdg : decode cc pc = .ok (.invokevirtual index, 3)) (hf : cells + mc ≤ R.cells ∧ slots + ms ≤ R.slots)
    (kk : ∀ (u : S) (H1 : Heap) (locs1 : List Loc), post u → gG K A s.heap (Gf u) H1 locs1 → W p l e R s m args below meth c H1 locs1 (cells + mc) (slots + ms) Q (F0 m (pc + 3) ls rest)) : W p l e R s m args below meth c H locs cells slots Q (F0 m pc ls st) :=
  va_callv (va_runV (As := As) (rest := rest) hC hM cw ⟨gW.blind, g_recv hE hG he hc, fun U hU hW => ⟨rfl, gW.start hE hG hU hW⟩⟩ rfl hn hsize hst (lv_room hW) hdg hf) hG.2.2.1 (fun q _ h => h) (fun q h => h) (fun u t H1 locs1 ht hvm hp hB hz hk hS => kk u H1 locs1 hp ⟨by rw [← ht]; exact hB.1, hB.2, hS, hG.2.2.2⟩)
/-- a constructor of a class that is no nest mate -/
theorem g_cI (hC : CallFix p m c cc nL s args lw_all own) (hE : gE K A s s.heap) (hG : gG K A s.heap G H locs) {index n maxL mc ms : Nat} {y : MethodName} {bytes : ByteArray} {rm : Room} {As : List Value} {S : Type} {post : S → Prop} {Gf : S → GM} (hM : Met l y (ws_ y bytes maxL none) rm (va_Pc (.ref a :: As) (gW K A G)) (va_Qv post (fun u t => gB K A (Gf u) t) A) mc ms A)
    (cw : CallB R s args own index y bytes maxL none (ws_ y bytes maxL none) rm mc ms n ∧ y.name = "<init>" ∧ (Cond.instanceMethod y).before args s = true) (hn : As.length = n) (hsize : ls.size = nL) (hst : st = As.reverse ++ .ref a :: rest) (hW : (rest.map fun v => v.category).sum ≤ 8) (hdg : decode cc pc = .ok (.invokespecial index, 3)) (hf : cells + mc ≤ R.cells ∧ slots + ms ≤ R.slots)
    (kk : ∀ (u : S) (H1 : Heap) (locs1 : List Loc), post u → gG K A s.heap (Gf u) H1 locs1 → W p l e R s m args below meth c H1 locs1 (cells + mc) (slots + ms) Q (F0 m (pc + 3) ls rest)) : W p l e R s m args below meth c H locs cells slots Q (F0 m pc ls st) :=
  va_callv (va_runI (As := As) (rest := rest) hC hM cw ⟨gW.blind, fun U hU hW => ⟨rfl, gW.start hE hG hU hW⟩⟩ rfl hn hsize hst (lv_room hW) hdg hf) hG.2.2.1 (fun q _ h => h) (fun q h => h) (fun u t H1 locs1 ht hvm hp hB hz hk hS => kk u H1 locs1 hp ⟨by rw [← ht]; exact hB.1, hB.2, hS, hG.2.2.2⟩)
/-- ends -/
theorem g_iret (hC : CallFix p m c cc nL s args lw_all own) (hG : gG K A s.heap G H locs) {rt : FieldType} (hr : meth.sig.returnType = some rt) {v : Int32} (hnv : narrow rt (.int v) = .int v) {S : Type} {post : Int32 → S → Prop} {Gf : S → GM} (u : S) (hu : Gf u = G) (hp : post v u) (hlocks : meth.locks = false) (hdg : decode cc pc = .ok (.ireturn, 1)) : W p l e R s m args below meth c H locs cells slots (MQ below (va_Qi post (fun u t => gB K A (Gf u) t) A) args s cells slots A) (F0 m pc ls [.int v]) := by
  subst hu
  exact W.zret hC.1 hC.2.1 hr hnv (fun t ht hW => ⟨⟨v, u, rfl, hp, by rw [ht]; exact hG.1, hG.2.1⟩, hG.2.2.1.F ht⟩) hG.2.2.1.2.2 hdg hlocks
theorem g_vret (hC : CallFix p m c cc nL s args lw_all own) (hG : gG K A s.heap G H locs) (hr : meth.sig.returnType = none) {S : Type} {post : S → Prop} {Gf : S → GM} (u : S) (hu : Gf u = G) (hp : post u) (hlocks : meth.locks = false) (hdg : decode cc pc = .ok (.return_, 1)) : W p l e R s m args below meth c H locs cells slots (MQ below (va_Qv post (fun u t => gB K A (Gf u) t) A) args s cells slots A) (F0 m pc ls []) := by
  subst hu
  exact W.vret hC.1 hC.2.1 hr (fun t ht hW => ⟨⟨u, rfl, hp, by rw [ht]; exact hG.1, hG.2.1⟩, hG.2.2.1.F ht⟩) hG.2.2.1.2.2 hdg hlocks
/-- the end of a method that only reads -/
theorem g_roret (hC : CallFix p m c cc nL s args lw_all own) {rt : FieldType} (hr : meth.sig.returnType = some rt) {v : Int32} (hnv : narrow rt (.int v) = .int v) {post : Int32 → Prop} (hp : post v) (hlocks : meth.locks = false) (hdg : decode cc pc = .ok (.ireturn, 1)) : W p l e R s m args below meth c s.heap [] 0 0 (MQ below (vp_Si post) args s 0 0 (fun _ => False)) (F0 m pc ls [.int v]) :=
  W.zret hC.1 hC.2.1 hr hnv (fun t ht hW => ⟨v, rfl, hp, ht⟩) (fun _ h => by cases h) hdg hlocks
end GKC
