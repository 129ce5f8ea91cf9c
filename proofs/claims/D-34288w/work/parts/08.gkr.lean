/-! ROWS over the world by labels -/
set_option maxRecDepth 100000
section GKA
variable {p : Program} {l : Launch} {e : Env} {R : Room} {s : State} {m : MethodId} {args : Array Value} {below : List Frame} {meth : Method} {c : Code} {H : Heap} {locs : List Loc} {cells slots : Nat} {Q : State → Prop}
variable {cc : ByteArray} {pc nL : Nat} {ls : Array Slot} {rest : List Value} {own : String} {K : GK} {A : Nat → Prop} {G : GM} {H0 : Heap} {x : Lb} {a : Nat}
theorem g_get (hC : CallFix p m c cc nL s args lw_all own) (hE : gE K A s s.heap) (hG : gG K A H0 G H locs) {ref C : String} {T : u_T} {N ci index : Nat} (hin : ∀ w ∈ u_ws C T N, w ∈ lw_all) {fs : List Value} (he : G x = some (a, .inr (ci, fs))) (hc : clA[ci]? = some (C, T, N)) (k : Nat) (hk : k < N) (hlink : Cond.fieldLink own index ref (T k).2.1 (T k).2.2.1 ∈ lw_all) (hsame : ∀ x, s.fieldFound? (T k).1 (T k).2.1 (T k).2.2.1 = some x → s.fieldFound? ref (T k).2.1 (T k).2.2.1 = some x) {v : Value} (hv : fs[k]? = some v) (hdg : decode cc pc = .ok (.getfield index, 3))
    (kk : W p l e R s m args below meth c H locs cells slots Q (F0 m (pc + 3) ls (v :: rest))) : W p l e R s m args below meth c H locs cells slots Q (F0 m pc ls (.ref a :: rest)) :=
  va_get (ws := [(a, .inr (ci, fs))]) hC.1 hC.2.1 hC.2.2.2.2 hin hC.2.2.2.1 hE.1 (hG.1.one he) 0 rfl hc k hk (hC.2.2.2.2 _ hlink) hsame hv hdg kk
theorem g_getN (hC : CallFix p m c cc nL s args lw_all own) (hE : gE K A s s.heap) (hG : gG K A H0 G H locs) {ref C host : String} {T : u_T} {N ci index : Nat} (hin : ∀ w ∈ u_ws C T N, w ∈ lw_all) {fs : List Value} (he : G x = some (a, .inr (ci, fs))) (hc : clA[ci]? = some (C, T, N)) (k : Nat) (hk : k < N) (j : Nat) (hlink : nwF[j]? = some (own, index, ref, (T k).2.1, (T k).2.2.1, host)) (hsame : ∀ x, s.fieldFound? (T k).1 (T k).2.1 (T k).2.2.1 = some x → s.fieldFound? ref (T k).2.1 (T k).2.2.1 = some x) {v : Value} (hv : fs[k]? = some v) (hdg : decode cc pc = .ok (.getfield index, 3))
    (kk : W p l e R s m args below meth c H locs cells slots Q (F0 m (pc + 3) ls (v :: rest))) : W p l e R s m args below meth c H locs cells slots Q (F0 m pc ls (.ref a :: rest)) :=
  va_getN (ws := [(a, .inr (ci, fs))]) (host := host) hC.1 hC.2.1 hC.2.2.2.2 hin hC.2.2.2.1 hE.1 (hG.1.one he) 0 rfl hc k hk (va_Nw.use rfl (hE.2.1.1 _ (List.mem_of_getElem? hlink))) hsame hv hdg kk
theorem g_put (hC : CallFix p m c cc nL s args lw_all own) (hE : gE K A s s.heap) (hG : gG K A H0 G H locs) {ref C : String} {T : u_T} {N ci index : Nat} (hin : ∀ w ∈ u_ws C T N, w ∈ lw_all) (ty0 : Nat → FieldType) (hty : ∀ k, k < N → parseFieldDescriptor (T k).2.2.1 = some (ty0 k)) (hnm : ∀ a, a < N → ∀ b, b < N → a ≠ b → (T a).2.1 ≠ (T b).2.1) {fs : List Value} (he : G x = some (a, .inr (ci, fs))) (hc : clA[ci]? = some (C, T, N)) (k : Nat) (hk : k < N) (hlink : Cond.fieldLink own index ref (T k).2.1 (T k).2.2.1 ∈ lw_all) (hsame : ∀ x, s.fieldFound? (T k).1 (T k).2.1 (T k).2.2.1 = some x → s.fieldFound? ref (T k).2.1 (T k).2.2.1 = some x) (hfin : (T k).2.2.2 = false) {ty : FieldType} {v : Value} (hd : parseFieldDescriptor (T k).2.2.1 = some ty) (hn : narrow ty v = v) (hfit : fits ty v = true) (hl : k < fs.length)
    (hdg : decode cc pc = .ok (.putfield index, 3)) (kk : ∀ (H1 : Heap) (locs1 : List Loc), gG K A H0 (gup G x (a, .inr (ci, fs.set k v))) H1 locs1 → W p l e R s m args below meth c H1 locs1 cells slots Q (F0 m (pc + 3) ls rest)) : W p l e R s m args below meth c H locs cells slots Q (F0 m pc ls (v :: .ref a :: rest)) := by
  obtain ⟨hexec, hb, -, hown, hts⟩ := hC
  have hK := hE.1
  have hap := va_apart (own := own) hts hin ty0 hty hnm hK hc
  obtain ⟨r, h1, cell, q1, q2, q3, q4⟩ := hG.1 x _ he
  have hr : r = (C, T, N) := Option.some.inj (h1.symm.trans hc)
  subst hr
  obtain ⟨hS, hfc, kC, hkC, hkind⟩ := hK.1 ci _ hc
  obtain ⟨cf, kf, fi, f, hi, hsl⟩ := hS k hk
  have hlay := hts _ (hin _ (u_in_lay hk))
  unfold u_lay at hlay
  rw [if_neg (by rw [hfin]; decide)] at hlay
  have hst := (u_facts hfc hkC (u_lays hts hin hk) hi).1
  have h6 := u_store hfc hkC hkind hlay hi hd hn hfit
  refine W.putK hexec hb (f := f) ⟨hown, hts _ hlink, ⟨_, _, _, hsame _ hi⟩, hst⟩ (by rw [q2]; exact h6) q1 q3 (by rw [hsl]; exact k2_hasslot (q4 k hk)) rfl rfl hdg fun H' e1 e2 e3 => ?_
  rw [hsl] at e1 ⊢
  exact kk H' _ ⟨hG.1.upd hG.2.1 he ⟨_, hc, t_OB.to (V := updV (vp_V fs) k v) ⟨_, e1, q2, q3, t_set q4 hap hk v⟩ (fun j _ => vp_updV_set hl v j)⟩ e3, hG.2.1.upd he, hG.2.2.1.put e2 e3 (hG.2.1.2 x _ he), hG.2.2.2⟩
theorem g_putN (hC : CallFix p m c cc nL s args lw_all own) (hE : gE K A s s.heap) (hG : gG K A H0 G H locs) {ref C host : String} {T : u_T} {N ci index : Nat} (hin : ∀ w ∈ u_ws C T N, w ∈ lw_all) (ty0 : Nat → FieldType) (hty : ∀ k, k < N → parseFieldDescriptor (T k).2.2.1 = some (ty0 k)) (hnm : ∀ a, a < N → ∀ b, b < N → a ≠ b → (T a).2.1 ≠ (T b).2.1) {fs : List Value} (he : G x = some (a, .inr (ci, fs))) (hc : clA[ci]? = some (C, T, N)) (k : Nat) (hk : k < N) (j : Nat) (hlink : nwF[j]? = some (own, index, ref, (T k).2.1, (T k).2.2.1, host)) (hsame : ∀ x, s.fieldFound? (T k).1 (T k).2.1 (T k).2.2.1 = some x → s.fieldFound? ref (T k).2.1 (T k).2.2.1 = some x) (hfin : (T k).2.2.2 = false) {ty : FieldType} {v : Value} (hd : parseFieldDescriptor (T k).2.2.1 = some ty) (hn : narrow ty v = v) (hfit : fits ty v = true) (hl : k < fs.length)
    (hdg : decode cc pc = .ok (.putfield index, 3)) (kk : ∀ (H1 : Heap) (locs1 : List Loc), gG K A H0 (gup G x (a, .inr (ci, fs.set k v))) H1 locs1 → W p l e R s m args below meth c H1 locs1 cells slots Q (F0 m (pc + 3) ls rest)) : W p l e R s m args below meth c H locs cells slots Q (F0 m pc ls (v :: .ref a :: rest)) := by
  obtain ⟨hexec, hb, -, hown, hts⟩ := hC
  have hK := hE.1
  have hap := va_apart (own := own) hts hin ty0 hty hnm hK hc
  obtain ⟨r, h1, cell, q1, q2, q3, q4⟩ := hG.1 x _ he
  have hr : r = (C, T, N) := Option.some.inj (h1.symm.trans hc)
  subst hr
  obtain ⟨hS, hfc, kC, hkC, hkind⟩ := hK.1 ci _ hc
  obtain ⟨cf, kf, fi, f, hi, hsl⟩ := hS k hk
  have hlay := hts _ (hin _ (u_in_lay hk))
  unfold u_lay at hlay
  rw [if_neg (by rw [hfin]; decide)] at hlay
  have hst := (u_facts hfc hkC (u_lays hts hin hk) hi).1
  have h6 := u_store hfc hkC hkind hlay hi hd hn hfit
  refine va_WputK hexec hb (f := f) (host := host) hown (va_Nw.use rfl (hE.2.1.1 _ (List.mem_of_getElem? hlink))) (hsame _ hi) hst (by rw [q2]; exact h6) q1 q3 (by rw [hsl]; exact k2_hasslot (q4 k hk)) rfl rfl hdg fun H' e1 e2 e3 => ?_
  rw [hsl] at e1 ⊢
  exact kk H' _ ⟨hG.1.upd hG.2.1 he ⟨_, hc, t_OB.to (V := updV (vp_V fs) k v) ⟨_, e1, q2, q3, t_set q4 hap hk v⟩ (fun j _ => vp_updV_set hl v j)⟩ e3, hG.2.1.upd he, hG.2.2.1.put e2 e3 (hG.2.1.2 x _ he), hG.2.2.2⟩
theorem g_putF (hC : CallFix p m c cc nL s args lw_all own) (hE : gE K A s s.heap) (hG : gG K A H0 G H locs) {ref C : String} {T : u_T} {N ci index : Nat} (hin : ∀ w ∈ u_ws C T N, w ∈ lw_all) (ty0 : Nat → FieldType) (hty : ∀ k, k < N → parseFieldDescriptor (T k).2.2.1 = some (ty0 k)) (hnm : ∀ a, a < N → ∀ b, b < N → a ≠ b → (T a).2.1 ≠ (T b).2.1) {fs : List Value} (he : G x = some (a, .inr (ci, fs))) (hc : clA[ci]? = some (C, T, N)) (k : Nat) (hk : k < N) (hlink : Cond.fieldLink own index ref (T k).2.1 (T k).2.2.1 ∈ lw_all) (hsame : ∀ x, s.fieldFound? (T k).1 (T k).2.1 (T k).2.2.1 = some x → s.fieldFound? ref (T k).2.1 (T k).2.2.1 = some x) (hfin : (T k).2.2.2 = true) (hin2 : meth.name = "<init>") (hdecl : (T k).1 = own) {ty : FieldType} {v : Value} (hd : parseFieldDescriptor (T k).2.2.1 = some ty) (hn : narrow ty v = v) (hfit : fits ty v = true) (hl : k < fs.length)
    (hdg : decode cc pc = .ok (.putfield index, 3)) (kk : ∀ (H1 : Heap) (locs1 : List Loc), gG K A H0 (gup G x (a, .inr (ci, fs.set k v))) H1 locs1 → W p l e R s m args below meth c H1 locs1 cells slots Q (F0 m (pc + 3) ls rest)) : W p l e R s m args below meth c H locs cells slots Q (F0 m pc ls (v :: .ref a :: rest)) := by
  obtain ⟨hexec, hb, -, hown, hts⟩ := hC
  have hK := hE.1
  have hap := va_apart (own := own) hts hin ty0 hty hnm hK hc
  obtain ⟨r, h1, cell, q1, q2, q3, q4⟩ := hG.1 x _ he
  have hr : r = (C, T, N) := Option.some.inj (h1.symm.trans hc)
  subst hr
  obtain ⟨hS, hfc, kC, hkC, hkind⟩ := hK.1 ci _ hc
  obtain ⟨cf, kf, fi, f, hi, hsl⟩ := hS k hk
  have hlay := hts _ (hin _ (u_in_lay hk))
  unfold u_lay at hlay
  rw [if_pos hfin] at hlay
  have hst := (u_facts hfc hkC (u_lays hts hin hk) hi).1
  have hcf : m.cls = cf := by
    obtain ⟨_, _, c', _, _, _, -, -, hf', -, -, -, hown2, -⟩ := Cond.laysFinal_spec hlay
    have e1 : c' = cf := by have := hi.symm.trans hf'; simp at this; exact this.1.symm
    rw [hdecl] at hown2
    rw [← e1]; exact Option.some.inj (hown.symm.trans hown2)
  have h6 := u_fits hfc hkC hkind (Or.inr hlay) hi hd hn hfit
  refine W.putFinK hexec hb hown (hts _ hlink) (hsame _ hi) hst hcf hin2 (by rw [q2]; exact h6) q1 q3 (by rw [hsl]; exact k2_hasslot (q4 k hk)) rfl rfl hdg fun H' e1 e2 e3 => ?_
  rw [hsl] at e1 ⊢
  exact kk H' _ ⟨hG.1.upd hG.2.1 he ⟨_, hc, t_OB.to (V := updV (vp_V fs) k v) ⟨_, e1, q2, q3, t_set q4 hap hk v⟩ (fun j _ => vp_updV_set hl v j)⟩ e3, hG.2.1.upd he, hG.2.2.1.put e2 e3 (hG.2.1.2 x _ he), hG.2.2.2⟩
theorem g_iald (hC : CallFix p m c cc nL s args lw_all own) (hE : gE K A s s.heap) (hG : gG K A H0 G H locs) {n : Nat} {f : Nat → Int32} (he : G x = some (a, .inl (K.2.1 0, n, .inl f))) {i : Int32} (hin : vp_in i n) (hdg : decode cc pc = .ok (.iaload, 1))
    (kk : W p l e R s m args below meth c H locs cells slots Q (F0 m (pc + 1) ls (.int (f i.toNatClampNeg) :: rest))) : W p l e R s m args below meth c H locs cells slots Q (F0 m pc ls (.int i :: .ref a :: rest)) :=
  va_iald hC.1 hC.2.1 hE.1 (hG.1.one he) 0 0 rfl rfl hin hdg kk
theorem g_zald (hC : CallFix p m c cc nL s args lw_all own) (hE : gE K A s s.heap) (hG : gG K A H0 G H locs) {n : Nat} {f : Nat → Int32} (he : G x = some (a, .inl (K.2.1 1, n, .inl f))) {i : Int32} (hin : vp_in i n) (hdg : decode cc pc = .ok (.baload, 1))
    (kk : W p l e R s m args below meth c H locs cells slots Q (F0 m (pc + 1) ls (.int (f i.toNatClampNeg) :: rest))) : W p l e R s m args below meth c H locs cells slots Q (F0 m pc ls (.int i :: .ref a :: rest)) :=
  va_zald hC.1 hC.2.1 hE.1 (hG.1.one he) 0 1 rfl rfl hin hdg kk
theorem g_lald (hC : CallFix p m c cc nL s args lw_all own) (hE : gE K A s s.heap) (hG : gG K A H0 G H locs) {n : Nat} {f : Nat → Int64} (he : G x = some (a, .inl (K.2.1 2, n, .inr (.inl f)))) {i : Int32} (hin : vp_in i n) (hdg : decode cc pc = .ok (.laload, 1))
    (kk : W p l e R s m args below meth c H locs cells slots Q (F0 m (pc + 1) ls (.long (f i.toNatClampNeg) :: rest))) : W p l e R s m args below meth c H locs cells slots Q (F0 m pc ls (.int i :: .ref a :: rest)) :=
  va_lald hC.1 hC.2.1 hE.1 (hG.1.one he) 0 2 rfl rfl hin hdg kk
/-- t0: 3 for arrays of Object, 4 for arrays of Record -/
theorem g_aald (hC : CallFix p m c cc nL s args lw_all own) (hE : gE K A s s.heap) (hG : gG K A H0 G H locs) (t0 : Nat) {cA : ClassId} {C : String} {n : Nat} {f : Nat → Option Nat} (he : G x = some (a, .inl (cA, n, .inr (.inr (.inr (.inr f)))))) (ht : (tyA K.2.1)[t0]? = some (cA, .object C)) {i : Int32} (hin : vp_in i n) (hdg : decode cc pc = .ok (.aaload, 1))
    (kk : W p l e R s m args below meth c H locs cells slots Q (F0 m (pc + 1) ls (va_rf (f i.toNatClampNeg) :: rest))) : W p l e R s m args below meth c H locs cells slots Q (F0 m pc ls (.int i :: .ref a :: rest)) :=
  va_aldq hC.1 hC.2.1 hE.1 (hG.1.one he) 0 t0 rfl ht hin hdg kk
theorem g_alen (hC : CallFix p m c cc nL s args lw_all own) (hE : gE K A s s.heap) (hG : gG K A H0 G H locs) (t0 : Nat) {cA : ClassId} {y : vp_A} (he : G x = some (a, .inl (cA, y))) {ty : FieldType} (ht : (tyA K.2.1)[t0]? = some (cA, ty)) {v : Int32} (hv : Int32.ofNat y.1 = v) (hdg : decode cc pc = .ok (.arraylength, 1))
    (kk : W p l e R s m args below meth c H locs cells slots Q (F0 m (pc + 1) ls (.int v :: rest))) : W p l e R s m args below meth c H locs cells slots Q (F0 m pc ls (.ref a :: rest)) :=
  va_alen hC.1 hC.2.1 hE.1 (hG.1.one he) 0 t0 rfl ht hv hdg kk
theorem g_iast (hC : CallFix p m c cc nL s args lw_all own) (hE : gE K A s s.heap) (hG : gG K A H0 G H locs) {n : Nat} {f : Nat → Int32} (he : G x = some (a, .inl (K.2.1 0, n, .inl f))) {i y : Int32} (hin : vp_in i n) (hdg : decode cc pc = .ok (.iastore, 1))
    (kk : ∀ (H1 : Heap) (locs1 : List Loc), gG K A H0 (gup G x (a, .inl (K.2.1 0, n, .inl (upd f i.toNatClampNeg y)))) H1 locs1 → W p l e R s m args below meth c H1 locs1 cells slots Q (F0 m (pc + 1) ls rest)) : W p l e R s m args below meth c H locs cells slots Q (F0 m pc ls (.int y :: .int i :: .ref a :: rest)) := by
  refine W.iast hC.1 hC.2.1 (hG.1 x _ he) ((hE.1.2 0 _ rfl).1 n (fun j => .int (f j))) (fun q => by cases q) (by show ¬ (i < 0 ∨ (arrV _ _ _).slots.size ≤ _); rw [arrV_size]; exact hin) rfl rfl hdg fun H1 e z oq => ?_
  refine kk H1 _ ⟨hG.1.upd hG.2.1 he ?_ oq, hG.2.1.upd he, hG.2.2.1.put z oq (hG.2.1.2 x _ he), hG.2.2.2⟩
  show H1[a]? = some (vp_cell _ _)
  rw [e]
  rw [vp_cell_i, vp_cell_i, arrV_store]
  congr 2
  funext q
  by_cases hq : q = i.toNatClampNeg
  · subst hq
    simp [updV, upd]
  · simp [updV, upd, hq]
theorem g_zast (hC : CallFix p m c cc nL s args lw_all own) (hE : gE K A s s.heap) (hG : gG K A H0 G H locs) {n : Nat} {f : Nat → Int32} (he : G x = some (a, .inl (K.2.1 1, n, .inl f))) {i y : Int32} (hin : vp_in i n) (hdg : decode cc pc = .ok (.bastore, 1))
    (kk : ∀ (H1 : Heap) (locs1 : List Loc), gG K A H0 (gup G x (a, .inl (K.2.1 1, n, .inl (upd f i.toNatClampNeg (vp_nar .boolean y))))) H1 locs1 → W p l e R s m args below meth c H1 locs1 cells slots Q (F0 m (pc + 1) ls rest)) : W p l e R s m args below meth c H locs cells slots Q (F0 m pc ls (.int y :: .int i :: .ref a :: rest)) := by
  refine W.zast hC.1 hC.2.1 (hG.1 x _ he) ((hE.1.2 1 _ rfl).1 n (fun j => .int (f j))) (fun q => by cases q) (by show ¬ (i < 0 ∨ (arrV _ _ _).slots.size ≤ _); rw [arrV_size]; exact hin) rfl rfl hdg fun H1 e z oq => ?_
  refine kk H1 _ ⟨hG.1.upd hG.2.1 he ?_ oq, hG.2.1.upd he, hG.2.2.1.put z oq (hG.2.1.2 x _ he), hG.2.2.2⟩
  show H1[a]? = some (vp_cell _ _)
  rw [e]
  rw [vp_cell_i, vp_cell_i, arrV_store]
  congr 2
  funext q
  by_cases hq : q = i.toNatClampNeg
  · subst hq
    simp [updV, upd, vp_nar]
    try rfl
  · simp [updV, upd, hq]
theorem g_last (hC : CallFix p m c cc nL s args lw_all own) (hE : gE K A s s.heap) (hG : gG K A H0 G H locs) {n : Nat} {f : Nat → Int64} (he : G x = some (a, .inl (K.2.1 2, n, .inr (.inl f)))) {i : Int32} {y : Int64} (hin : vp_in i n) (hdg : decode cc pc = .ok (.lastore, 1))
    (kk : ∀ (H1 : Heap) (locs1 : List Loc), gG K A H0 (gup G x (a, .inl (K.2.1 2, n, .inr (.inl (vp_updL f i.toNatClampNeg y))))) H1 locs1 → W p l e R s m args below meth c H1 locs1 cells slots Q (F0 m (pc + 1) ls rest)) : W p l e R s m args below meth c H locs cells slots Q (F0 m pc ls (.long y :: .int i :: .ref a :: rest)) := by
  refine W.last hC.1 hC.2.1 (hG.1 x _ he) ((hE.1.2 2 _ rfl).1 n (fun j => .long (f j))) (fun q => by cases q) (by show ¬ (i < 0 ∨ (arrV _ _ _).slots.size ≤ _); rw [arrV_size]; exact hin) rfl rfl hdg fun H1 e z oq => ?_
  refine kk H1 _ ⟨hG.1.upd hG.2.1 he ?_ oq, hG.2.1.upd he, hG.2.2.1.put z oq (hG.2.1.2 x _ he), hG.2.2.2⟩
  show H1[a]? = some (vp_cell _ _)
  rw [e]
  rw [vp_cell_l, vp_cell_l, arrV_store]
  congr 2
  funext q
  by_cases hq : q = i.toNatClampNeg
  · subst hq
    simp [updV, vp_updL]
  · simp [updV, vp_updL, hq]
/-- a Record into an array of Record -/
theorem g_aastR (hC : CallFix p m c cc nL s args lw_all own) (hE : gE K A s s.heap) (hG : gG K A H0 G H locs) {n v : Nat} {vs : List Value} {f : Nat → Option Nat} (he : G x = some (a, .inl (K.2.1 4, n, .inr (.inr (.inr (.inr f)))))) {y : Lb} (hv : G y = some (v, .inr (4, vs))) {i : Int32} (hin : vp_in i n) (hdg : decode cc pc = .ok (.aastore, 1))
    (kk : ∀ (H1 : Heap) (locs1 : List Loc), gG K A H0 (gup G x (a, .inl (K.2.1 4, n, .inr (.inr (.inr (.inr (va_up f i.toNatClampNeg (some v)))))))) H1 locs1 → W p l e R s m args below meth c H1 locs1 cells slots Q (F0 m (pc + 1) ls rest)) : W p l e R s m args below meth c H locs cells slots Q (F0 m pc ls (.ref v :: .int i :: .ref a :: rest)) := by
  have hlt : i.toNatClampNeg < n := Nat.not_le.mp fun q => hin (Or.inr q)
  have h0 : ¬ i < 0 := fun q => hin (Or.inl q)
  obtain ⟨r', hr', cellV, g1, g2, g3, -⟩ := hG.1 y _ hv
  have hcls := (hE.1.1 4 (RX5, TX5, 5) rfl).2
  obtain ⟨kA, comp, k1, k2, k3, -⟩ := (hE.1.2 4 _ rfl).2
  have hcomp : comp = K.1.1 4 := Option.some.inj (k3.symm.trans hcls.1)
  subst hcomp
  obtain ⟨kC, hkC, -⟩ := hcls.2
  refine W.aast hC.1 hC.2.1 (hG.1 x _ he) (fun q h => by cases h) (fun h => by cases h) k1 k2 rfl hkC ⟨h0, by show _ < (arrV _ _ _).slots.size; rw [arrV_size]; exact hlt⟩ g1 (fun q h => by rw [g3] at h; cases h) (by rw [g2]; exact hkC) (by rw [g2]; exact va_assign hcls) rfl rfl hdg fun H1 e z oq => ?_
  refine kk H1 _ ⟨hG.1.upd hG.2.1 he ?_ oq, hG.2.1.upd he, hG.2.2.1.put z oq (hG.2.1.2 x _ he), hG.2.2.2⟩
  show H1[a]? = some (vp_cell _ _)
  rw [e]
  rw [vp_cell_q, vp_cell_q, arrV_store]
  congr 2
  funext q
  by_cases hq : q = i.toNatClampNeg
  · subst hq
    simp [updV, va_up, va_rf]
  · simp [updV, va_up, hq]
/-- null into an array of references -/
theorem g_aastN (hC : CallFix p m c cc nL s args lw_all own) (hE : gE K A s s.heap) (hG : gG K A H0 G H locs) (t0 : Nat) {cA : ClassId} {C : String} {n : Nat} {f : Nat → Option Nat} (he : G x = some (a, .inl (cA, n, .inr (.inr (.inr (.inr f)))))) (ht : (tyA K.2.1)[t0]? = some (cA, .object C)) {i : Int32} (hin : vp_in i n) (hdg : decode cc pc = .ok (.aastore, 1))
    (kk : ∀ (H1 : Heap) (locs1 : List Loc), gG K A H0 (gup G x (a, .inl (cA, n, .inr (.inr (.inr (.inr (va_up f i.toNatClampNeg none))))))) H1 locs1 → W p l e R s m args below meth c H1 locs1 cells slots Q (F0 m (pc + 1) ls rest)) : W p l e R s m args below meth c H locs cells slots Q (F0 m pc ls (.null :: .int i :: .ref a :: rest)) := by
  refine va_WaastN (C := C) hC.1 hC.2.1 (hG.1 x _ he) ((hE.1.2 t0 _ ht).1 n (fun j => va_rf (f j))) (fun h => by cases h) (by show ¬ (i < 0 ∨ (arrV _ _ _).slots.size ≤ _); rw [arrV_size]; exact hin) rfl rfl hdg fun H1 e z oq => ?_
  refine kk H1 _ ⟨hG.1.upd hG.2.1 he ?_ oq, hG.2.1.upd he, hG.2.2.1.put z oq (hG.2.1.2 x _ he), hG.2.2.2⟩
  show H1[a]? = some (vp_cell _ _)
  rw [e]
  rw [vp_cell_q, vp_cell_q, arrV_store]
  congr 2
  funext q
  by_cases hq : q = i.toNatClampNeg
  · subst hq
    simp [updV, va_up, va_rf]
  · simp [updV, va_up, hq]
theorem gG.push {e1 : va_E} {H1 : Heap} (hG : gG K A H0 G H locs) (hz : H1.size = H.size + 1) (hn : va_at K.1 clA (H.size, e1) H1) (oq : ∀ q : Nat, q < H.size → H1[q]? = H[q]?) : gG K A H0 (gup G x (H.size, e1)) H1 locs :=
  ⟨hG.1.new hn oq, hG.2.1.new hG.1 hG.A, ⟨Nat.le_trans hG.2.2.1.1 (by omega), fun q h1 h2 => (oq q (Nat.lt_of_lt_of_le h1 hG.2.2.1.1)).trans (hG.2.2.1.2.1 q h1 h2), hG.2.2.1.2.2⟩, hG.2.2.2⟩
/-- a new object, at a label of your own -/
theorem g_new (hC : CallFix p m c cc nL s args lw_all own) (hE : gE K A s s.heap) (hG : gG K A H0 G H locs) (x : Lb) {C : String} {T : u_T} {N ci index : Nat} (hin : ∀ w ∈ u_ws C T N, w ∈ lw_all) (ty : Nat → FieldType) (hty : ∀ k, k < N → parseFieldDescriptor (T k).2.2.1 = some (ty k)) (hcl : Cond.classLink own index C ∈ lw_all) (hinst : Cond.instantiable C N ∈ lw_all) (hini : Cond.initialized C ∈ lw_all)
    (hc : clA[ci]? = some (C, T, N)) {fs : List Value} (hfs : ∀ j, j < N → defaultValue (ty j) = vp_V fs j) (hcells : cells + 1 ≤ R.cells) (hslots : slots + N ≤ R.slots) (hdg : decode cc pc = .ok (.new index, 3))
    (kk : ∀ (q : Nat) (H1 : Heap), q = H.size → gG K A H0 (gup G x (q, .inr (ci, fs))) H1 locs → W p l e R s m args below meth c H1 locs (cells + 1) (slots + N) Q (F0 m (pc + 3) ls (.ref q :: rest))) : W p l e R s m args below meth c H locs cells slots Q (F0 m pc ls rest) := by
  obtain ⟨hexec, hb, -, hown, hts⟩ := hC
  have hKn := hE.1.1 ci _ hc
  refine W.newcK hexec hb hown (hts _ hcl) (hts _ hinst) (hts _ hini) rfl hdg hcells hslots hKn.2.1 rfl fun H1 kC hkC e1 z1 o1 => ?_
  exact kk H.size H1 rfl (hG.push z1 ⟨_, hc, (u_born ty hts hin hKn hkC e1 hty).to hfs⟩ o1)
/-- a new array of ints, of booleans, of longs: t0 is its place in tyA -/
theorem g_newa (hC : CallFix p m c cc nL s args lw_all own) (hE : gE K A s s.heap) (hG : gG K A H0 G H locs) (x : Lb) (t0 : Nat) {atype : ArrayType} (harr : Cond.arrayClass (newarray.typeOf atype) ∈ lw_all) {ty : FieldType} (hty : newarray.typeOf atype = ty) {cA : ClassId} (ht : (tyA K.2.1)[t0]? = some (cA, ty)) (hp : ∀ U : State, va_RA U cA ty → U.vm.findClass ("[" ++ ty.toString) = some cA)
    {n : Int32} {N' : Nat} {a0 : vp_A} (ha : ∀ cA : ClassId, vp_cell cA a0 = arrV cA N' (fun _ => defaultValue ty)) (hn : ¬ n < 0) (hN : n.toNatClampNeg = N') (hbytes : N' * componentBytes ty ≤ 536870912) (hcells : cells + 1 ≤ R.cells) (hslots : slots + N' ≤ R.slots) (hdg : decode cc pc = .ok (.newarray atype, 2))
    (kk : ∀ (q : Nat) (H1 : Heap), q = H.size → gG K A H0 (gup G x (q, .inl (cA, a0))) H1 locs → W p l e R s m args below meth c H1 locs (cells + 1) (slots + N') Q (F0 m (pc + 2) ls (.ref q :: rest))) : W p l e R s m args below meth c H locs cells slots Q (F0 m pc ls (.int n :: rest)) := by
  subst hty
  refine va_newaK hC.1 hC.2.1 (hC.2.2.2.2 _ harr) rfl hdg rfl hn hN hbytes hcells hslots rfl fun H1 cB e1 z1 o1 hAr hNm => ?_
  have hcB : cB = cA := Option.some.inj (hNm.symm.trans (hp s (hE.1.2 t0 _ ht).2))
  subst hcB
  refine kk H.size H1 rfl (hG.push z1 ?_ o1)
  show H1[H.size]? = some (vp_cell _ _)
  rw [ha]
  exact e1
/-- a new array of references -/
theorem g_newq (hC : CallFix p m c cc nL s args lw_all own) (hE : gE K A s s.heap) (hG : gG K A H0 G H locs) (x : Lb) (t0 : Nat) {C : String} {index : Nat} (hclink : Cond.classLink own index C ∈ lw_all) (hover : va_AO C s) {cA : ClassId} (ht : (tyA K.2.1)[t0]? = some (cA, .object C))
    {n : Int32} {N' : Nat} (hn : ¬ n < 0) (hN : n.toNatClampNeg = N') (hbytes : N' * 4 ≤ 536870912) (hcells : cells + 1 ≤ R.cells) (hslots : slots + N' ≤ R.slots) (hdg : decode cc pc = .ok (.anewarray index, 3))
    (kk : ∀ (q : Nat) (H1 : Heap), q = H.size → gG K A H0 (gup G x (q, .inl (cA, N', .inr (.inr (.inr (.inr (fun _ => none))))))) H1 locs → W p l e R s m args below meth c H1 locs (cells + 1) (slots + N') Q (F0 m (pc + 3) ls (.ref q :: rest))) : W p l e R s m args below meth c H locs cells slots Q (F0 m pc ls (.int n :: rest)) := by
  subst hN
  refine W.anew hC.1 hC.2.1 hC.2.2.2.1 (hC.2.2.2.2 _ hclink) (va_AO.use hover) rfl hdg rfl hn hbytes hcells hslots fun cB kA comp f1 f2 f3 f4 => ?_
  obtain ⟨kA2, comp2, k1, k2, k3, k4⟩ := (hE.1.2 t0 _ ht).2
  have hcB : cB = cA := Option.some.inj (by first | exact f4.symm.trans k4 | exact f1.symm.trans k4)
  subst hcB
  generalize hH1 : H.push ({ cls := cB, slots := Array.replicate n.toNatClampNeg .null, vm := .none } : Cell) = H1
  have z1 : H1.size = H.size + 1 := by rw [← hH1, Array.size_push]
  have e1 : H1[H.size]? = some (arrV cB n.toNatClampNeg (fun _ => .null)) := by rw [← hH1, Array.getElem?_push_size, ← arrV_new]
  have o1 : ∀ q : Nat, q < H.size → H1[q]? = H[q]? := fun q hq => by rw [← hH1, Array.getElem?_push, if_neg (Nat.ne_of_lt hq)]
  refine kk H.size H1 rfl (hG.push z1 ?_ o1)
  show H1[H.size]? = some (vp_cell _ _)
  rw [vp_cell_q]
  exact e1
end GKA
