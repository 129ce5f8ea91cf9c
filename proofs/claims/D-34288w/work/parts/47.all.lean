/-! all events done anew; calls that answer a known reference -/
set_option maxRecDepth 100000
def okL : Nat → List Ev → Prop
  | _, [] => True
  | N, e :: es => eOk N e ∧ okL (eN N e) es
def kAll (x : MS) (es : List Ev) (κ : KS) : KS := es.foldl (fun κ e => kDo x e κ) κ
def nAll (es : List Ev) (N : Nat) : Nat := es.foldl eN N
theorem okL.at {es : List Ev} : ∀ {N i : Nat} {e : Ev}, okL N es → es[i]? = some e → eOk (nAll (es.take i) N) e := by
  induction es with
  | nil => intro N i e _ h; cases h
  | cons d es ih =>
    intro N i e h hi
    cases i with
    | zero => cases hi; exact h.1
    | succ i => exact ih h.2 hi
theorem okL.take {es : List Ev} : ∀ {N : Nat} (i : Nat), okL N es → okL N (es.take i) := by
  induction es with
  | nil => intro N i _; rw [List.take_nil]; trivial
  | cons d es ih =>
    intro N i h
    cases i with
    | zero => trivial
    | succ i => exact ⟨h.1, ih i h.2⟩
theorem kIv.all {x : MS} {es : List Ev} : ∀ {N : Nat} {κ : KS}, okL N es → kIv κ N → kIv (kAll x es κ) (nAll es N) := by
  induction es with
  | nil => intro N κ _ h; exact h
  | cons d es ih => intro N κ h hk; exact ih h.2 (hk.step x h.1)
theorem okL.app {es : List Ev} {e : Ev} : ∀ {N : Nat}, okL N es → eOk (nAll es N) e → okL N (es ++ [e]) := by
  induction es with
  | nil => intro N _ h; exact ⟨h, trivial⟩
  | cons d es ih => intro N h he; exact ⟨h.1, ih h.2 he⟩
theorem kAll_app {x : MS} {es : List Ev} {e : Ev} {κ : KS} : kAll x (es ++ [e]) κ = kDo x e (kAll x es κ) := by
  unfold kAll
  rw [List.foldl_append]
  rfl
theorem nAll_app {es : List Ev} {e : Ev} {N : Nat} : nAll (es ++ [e]) N = eN (nAll es N) e := by
  unfold nAll
  rw [List.foldl_append]
  rfl
theorem kAll_take {x : MS} {es : List Ev} {i : Nat} {e : Ev} {κ : KS} (h : es[i]? = some e) : kAll x (es.take (i + 1)) κ = kDo x e (kAll x (es.take i) κ) := by
  obtain ⟨hi, he⟩ := List.getElem?_eq_some_iff.mp h
  rw [← kAll_app, List.take_succ, h]
  rfl
theorem evAt.ev {ac : Nat → ClassId} {G : GM} {lo i : Nat} {q : Nat → Nat} {e : Ev} (h : evAt ac lo i q e G) : ∃ (x : Lb) (ci : Nat) (fs : List Value) (r : vw_C), G x = some (q 0, .inr (ci, fs)) ∧ clA[ci]? = some r ∧ (r.1, "CatalogueLoader$Event") ∈ nwC ∧ x.1 = 2 := by
  rcases e with ⟨n, bt, u, O, F⟩ | ⟨n, f, z⟩ | n | ⟨a, d⟩
  · exact ⟨(2, i, 0), 3, _, _, h.1, rfl, (by decide), rfl⟩
  · exact ⟨(2, i, 0), 5, _, _, h, rfl, (by decide), rfl⟩
  · exact ⟨(2, i, 0), 6, _, _, h, rfl, (by decide), rfl⟩
  · exact ⟨(2, i, 0), 7, _, _, h, rfl, (by decide), rfl⟩
section GQ
variable {p : Program} {l : Launch} {e : Env} {R : Room} {s : State} {m : MethodId} {args : Array Value} {below : List Frame} {meth : Method} {c : Code} {H : Heap} {locs : List Loc} {cells slots : Nat} {Q : State → Prop}
variable {cc : ByteArray} {pc nL : Nat} {ls : Array Slot} {rest st : List Value} {own : String} {K : GK} {A : Nat → Prop} {G : GM} {x : Lb} {a : Nat}
theorem g_cVq (hC : CallFix p m c cc nL s args lw_all own) (hE : gE K A s s.heap) (hG : gG K A s.heap G H locs) {index n maxL mc ms : Nat} {y : MethodName} {bytes : ByteArray} {ret : Option FieldType} {rm : Room} {As : List Value} {S : Type} {post : Option Nat → S → Prop} {Gf : S → GM} (hM : Met l y (ws_ y bytes maxL ret) rm (va_Pc (.ref a :: As) (gW K A G)) (va_Qq post (fun u t => gB K A (Gf u) t) A) mc ms A)
    {C : String} {T : u_T} {N ci : Nat} (cw : CallW R s args own C index y bytes maxL ret (ws_ y bytes maxL ret) rm mc ms n) {fs : List Value} (he : G x = some (a, .inr (ci, fs))) (hc : clA[ci]? = some (C, T, N)) (hn : As.length = n) (hsize : ls.size = nL) (hst : st = As.reverse ++ .ref a :: rest) (hW : (rest.map fun v => v.category).sum ≤ 8) (hdg : decode cc pc = .ok (.invokevirtual index, 3)) (hf : cells + mc ≤ R.cells ∧ slots + ms ≤ R.slots)
    (kk : ∀ (r : Option Nat) (u : S) (H1 : Heap) (locs1 : List Loc), post r u → gG K A s.heap (Gf u) H1 locs1 → W p l e R s m args below meth c H1 locs1 (cells + mc) (slots + ms) Q (F0 m (pc + 3) ls (va_rf r :: rest))) : W p l e R s m args below meth c H locs cells slots Q (F0 m pc ls st) :=
  va_callq (va_runV (As := As) (rest := rest) hC hM cw ⟨gW.blind, g_recv hE hG he hc, fun U hU hW => ⟨rfl, gW.start hE hG hU hW⟩⟩ rfl hn hsize hst (lv_room hW) hdg hf) hG.2.2.1 (fun q _ h => h) (fun q h => h) (fun r u t H1 locs1 ht hvm hp hB hz hk hS => kk r u H1 locs1 hp ⟨by rw [← ht]; exact hB.1, hB.2, hS, hG.2.2.2⟩)
theorem g_cFq (hC : CallFix p m c cc nL s args lw_all own) (hE : gE K A s s.heap) (hG : gG K A s.heap G H locs) {index count n maxL mc ms : Nat} {C : String} {z y : MethodName} {bytes : ByteArray} {ret : Option FieldType} {rm : Room} {As : List Value} {S : Type} {post : Option Nat → S → Prop} {Gf : S → GM} (hM : Met l y (ws_ y bytes maxL ret) rm (va_Pc (.ref a :: As) (gW K A G)) (va_Qq post (fun u t => gB K A (Gf u) t) A) mc ms A)
    (cw : va_CI R s args own C index z y bytes maxL ret (ws_ y bytes maxL ret) rm mc ms n) {T : u_T} {N ci : Nat} {fs : List Value} (he : G x = some (a, .inr (ci, fs))) (hc : clA[ci]? = some (C, T, N)) (hn : As.length = n) (hsize : ls.size = nL) (hst : st = As.reverse ++ .ref a :: rest) (hW : (rest.map fun v => v.category).sum ≤ 8) (hdg : decode cc pc = .ok (.invokeinterface index count, 5)) (hf : cells + mc ≤ R.cells ∧ slots + ms ≤ R.slots)
    (kk : ∀ (r : Option Nat) (u : S) (H1 : Heap) (locs1 : List Loc), post r u → gG K A s.heap (Gf u) H1 locs1 → W p l e R s m args below meth c H1 locs1 (cells + mc) (slots + ms) Q (F0 m (pc + 5) ls (va_rf r :: rest))) : W p l e R s m args below meth c H locs cells slots Q (F0 m pc ls st) :=
  va_callFq (va_runF (As := As) (rest := rest) (hE.1.1 ci _ hc).2 hC hM cw ⟨gW.blind, g_recv hE hG he hc, fun U hU hW => ⟨rfl, gW.start hE hG hU hW⟩⟩ rfl hn hsize hst (lv_room hW) hdg hf) hG.2.2.1 (fun q _ h => h) (fun q h => h) (fun r u t H1 locs1 ht hvm hp hB hz hk hS => kk r u H1 locs1 hp ⟨by rw [← ht]; exact hB.1, hB.2, hS, hG.2.2.2⟩)
end GQ
