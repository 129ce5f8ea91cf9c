/-! THE REFERENCE's world: one object (label 0 25 0), its arrays (label 0 k 0, k the number of the field); the state: numbers and arrays -/
set_option maxRecDepth 100000
theorem g_ofW {l : Launch} {y : MethodName} {own : String} {rm : Room} {av : List Value} {K : GK} {A : Nat → Prop} {G : GM} {Qc : Array Value → State → Outcome → State → Prop} {mc ms : Nat} {free : Addr → Prop} {cc : ByteArray} {maxL : Nat} {ret : Option FieldType} (hy : plainName y.cls = true) (hown : y.cls = own) (hlen : (lg_sl av).length ≤ maxL)
    (body : ∀ (p : Program) (e : Env) (s : State) (m : MethodId) (below : List Frame) (meth : Method) (c : Code), CallFix p m c cc maxL s av.toArray lw_all own → meth.sig.returnType = ret → meth.locks = false → meth.name = y.name → gE K A s s.heap → gG K A s.heap G s.heap [] → ∀ ls : Array Slot, lv_has ls maxL (lv_args 0 av) →
      W p l e rm s m av.toArray below meth c s.heap [] 0 0 (MQ below Qc av.toArray s mc ms free) (F0 m 0 ls [])) : Met l y (ws_ y cc maxL ret) rm (va_Pc av (gW K A G)) Qc mc ms free := by
  subst hown
  refine Met.ofW (cc := cc) (maxL := maxL) (ret := ret) hy rfl ?_
  intro p e s m args below meth c s₁ B hml hv
  obtain ⟨rfl, hE, h1, h2, h3⟩ := hv
  have hts0 := atoms_spec (ws := ws_ y cc maxL ret) B.pre
  rw [lg_entry_eq]
  exact body p e s m below meth c ⟨B.exec, B.bytes, hml, findClass_of_methodNamed B.named, fun w h => hts0 w (List.mem_cons_of_mem _ h)⟩ B.returns B.notSynchronized (name_of_methodNamed B.named B.method).1 hE ⟨h1, h2, va_S.rf, h3⟩ _ (lv_entry av hlen)
/-- a static method that asks no world -/
theorem g_ofP {l : Launch} {y : MethodName} {own : String} {rm : Room} {av : List Value} {Qc : Array Value → State → Outcome → State → Prop} {mc ms : Nat} {free : Addr → Prop} {cc : ByteArray} {maxL : Nat} {ret : Option FieldType} (hy : plainName y.cls = true) (hown : y.cls = own) (hlen : (lg_sl av).length ≤ maxL)
    (body : ∀ (p : Program) (e : Env) (s : State) (m : MethodId) (below : List Frame) (meth : Method) (c : Code), CallFix p m c cc maxL s av.toArray lw_all own → meth.sig.returnType = ret → meth.locks = false → ∀ ls : Array Slot, lv_has ls maxL (lv_args 0 av) →
      W p l e rm s m av.toArray below meth c s.heap [] 0 0 (MQ below Qc av.toArray s mc ms free) (F0 m 0 ls [])) : Met l y (ws_ y cc maxL ret) rm (va_Pc av (fun _ => True)) Qc mc ms free := by
  subst hown
  refine Met.ofW (cc := cc) (maxL := maxL) (ret := ret) hy rfl ?_
  intro p e s m args below meth c s₁ B hml hv
  obtain ⟨rfl, -⟩ := hv
  have hts0 := atoms_spec (ws := ws_ y cc maxL ret) B.pre
  rw [lg_entry_eq]
  exact body p e s m below meth c ⟨B.exec, B.bytes, hml, findClass_of_methodNamed B.named, fun w h => hts0 w (List.mem_cons_of_mem _ h)⟩ B.returns B.notSynchronized _ (lv_entry av hlen)
/-- the state: numbers, arrays, by the number of the field -/
abbrev MS : Type := (Nat → Int32) × (Nat → Nat → Int32)
abbrev tN (x : Int32) : Nat := x.toNatClampNeg
def sU (σ : MS) (k i : Nat) (x : Int32) : MS := (σ.1, va_up σ.2 k (upd (σ.2 k) i x))
def sS (σ : MS) (k : Nat) (v : Int32) : MS := (va_up σ.1 k v, σ.2)
def mLen (k : Nat) : Nat := match k with
  | 0 => 5
  | 1 => 4
  | 2 => 3
  | 3 => 3
  | 4 => 4
  | 6 => 10
  | 8 => 80
  | 9 => 80
  | 10 => 240
  | 11 => 320
  | 12 => 80
  | 15 => 180
  | 16 => 180
  | 17 => 180
  | 18 => 80
  | 19 => 240
  | 20 => 320
  | 21 => 320
  | 22 => 320
  | 23 => 80
  | _ => 0
/-- 0 a number, 1 an array of ints, 2 of booleans -/
def mKd (k : Nat) : Nat := if k = 5 ∨ k = 7 ∨ k = 13 ∨ k = 14 ∨ k = 24 then 0 else if k = 6 ∨ k = 18 ∨ k = 22 then 2 else 1
def mfs (h : Nat → Nat) (f : Nat → Int32) : List Value := [.ref (h 0), .ref (h 1), .ref (h 2), .ref (h 3), .ref (h 4), .int (f 5), .ref (h 6), .int (f 7), .ref (h 8), .ref (h 9), .ref (h 10), .ref (h 11), .ref (h 12), .int (f 13), .int (f 14), .ref (h 15), .ref (h 16), .ref (h 17), .ref (h 18), .ref (h 19), .ref (h 20), .ref (h 21), .ref (h 22), .ref (h 23), .int (f 24)]
def mcell (ac : Nat → ClassId) (h : Nat → Nat) (σ : MS) (k : Nat) : Option (Nat × va_E) := if k = 25 then some (h 25, .inr (2, mfs h σ.1)) else if mKd k = 0 then none else if mKd k = 1 then some (h k, .inl (ac 0, mLen k, .inl (σ.2 k))) else some (h k, .inl (ac 1, mLen k, .inl (σ.2 k)))
def mput (ac : Nat → ClassId) (h : Nat → Nat) (σ : MS) (G : GM) : GM := fun y => if y.1 = 0 ∧ y.2.2 = 0 ∧ y.2.1 < 26 then mcell ac h σ y.2.1 else G y
theorem mput_at (ac : Nat → ClassId) (h : Nat → Nat) (σ : MS) (G : GM) {k : Nat} (hk : k < 26) : mput ac h σ G (0, k, 0) = mcell ac h σ k := if_pos ⟨rfl, rfl, hk⟩
theorem mput_o (ac : Nat → ClassId) (h : Nat → Nat) (σ : MS) (G : GM) : mput ac h σ G (0, 25, 0) = some (h 25, .inr (2, mfs h σ.1)) := rfl
theorem mput_i (ac : Nat → ClassId) (h : Nat → Nat) (σ : MS) (G : GM) {k : Nat} (hk : k < 25) (h1 : mKd k = 1) : mput ac h σ G (0, k, 0) = some (h k, .inl (ac 0, mLen k, .inl (σ.2 k))) := by
  rw [mput_at _ _ _ _ (by omega)]
  unfold mcell
  rw [if_neg (by omega), if_neg (by omega), if_pos h1]
theorem mput_z (ac : Nat → ClassId) (h : Nat → Nat) (σ : MS) (G : GM) {k : Nat} (hk : k < 25) (h1 : mKd k = 2) : mput ac h σ G (0, k, 0) = some (h k, .inl (ac 1, mLen k, .inl (σ.2 k))) := by
  rw [mput_at _ _ _ _ (by omega)]
  unfold mcell
  rw [if_neg (by omega), if_neg (by omega), if_neg (by omega)]
theorem mput_n (ac : Nat → ClassId) (h : Nat → Nat) (σ : MS) (G : GM) {y : Lb} (hy : ¬ (y.1 = 0 ∧ y.2.2 = 0 ∧ y.2.1 < 26)) : mput ac h σ G y = G y := if_neg hy
theorem mput_upd {ac : Nat → ClassId} {h : Nat → Nat} {σ σ' : MS} {G : GM} {k : Nat} {q : Nat × va_E} (hk : k < 26) (hq : mcell ac h σ' k = some q) (hn : ∀ j, j < 26 → j ≠ k → mcell ac h σ' j = mcell ac h σ j) : gup (mput ac h σ G) (0, k, 0) q = mput ac h σ' G := by
  funext y
  by_cases hy : y = (0, k, 0)
  · subst hy
    rw [gup_s, mput_at _ _ _ _ hk, hq]
  · rw [gup_n _ _ hy]
    by_cases hc : y.1 = 0 ∧ y.2.2 = 0 ∧ y.2.1 < 26
    · have hj : y.2.1 ≠ k := fun e => hy (Prod.ext hc.1 (Prod.ext e hc.2.1))
      show (if _ then _ else _) = (if _ then _ else _)
      rw [if_pos hc, if_pos hc, hn _ hc.2.2 hj]
    · rw [mput_n _ _ _ _ hc, mput_n _ _ _ _ hc]
theorem mcell_sU {ac : Nat → ClassId} {h : Nat → Nat} {σ : MS} {k i : Nat} {x : Int32} {j : Nat} (hj : j ≠ k) : mcell ac h (sU σ k i x) j = mcell ac h σ j := by
  unfold mcell sU
  simp only [va_up_ne _ _ hj]
theorem mput_sUi {ac : Nat → ClassId} {h : Nat → Nat} {σ : MS} {G : GM} {k i : Nat} {x : Int32} (hk : k < 25) (h1 : mKd k = 1) : gup (mput ac h σ G) (0, k, 0) (h k, .inl (ac 0, mLen k, .inl (upd (σ.2 k) i x))) = mput ac h (sU σ k i x) G := by
  refine mput_upd (by omega) ?_ (fun j _ hj => mcell_sU hj)
  unfold mcell sU
  rw [if_neg (by omega), if_neg (by omega), if_pos h1]
  simp only [va_up_self]
theorem mput_sUz {ac : Nat → ClassId} {h : Nat → Nat} {σ : MS} {G : GM} {k i : Nat} {x : Int32} (hk : k < 25) (h1 : mKd k = 2) : gup (mput ac h σ G) (0, k, 0) (h k, .inl (ac 1, mLen k, .inl (upd (σ.2 k) i x))) = mput ac h (sU σ k i x) G := by
  refine mput_upd (by omega) ?_ (fun j _ hj => mcell_sU hj)
  unfold mcell sU
  rw [if_neg (by omega), if_neg (by omega), if_neg (by omega)]
  simp only [va_up_self]
theorem mfs_set {h : Nat → Nat} {f : Nat → Int32} {k : Nat} {v : Int32} (hk : k = 5 ∨ k = 7 ∨ k = 13 ∨ k = 14 ∨ k = 24) : (mfs h f).set k (.int v) = mfs h (va_up f k v) := by
  rcases hk with rfl | rfl | rfl | rfl | rfl <;> rfl
theorem mput_sS {ac : Nat → ClassId} {h : Nat → Nat} {σ : MS} {G : GM} {k : Nat} {v : Int32} (hk : k = 5 ∨ k = 7 ∨ k = 13 ∨ k = 14 ∨ k = 24) : gup (mput ac h σ G) (0, 25, 0) (h 25, .inr (2, (mfs h σ.1).set k (.int v))) = mput ac h (sS σ k v) G := by
  refine mput_upd (by omega) ?_ (fun j _ hj => ?_)
  · unfold mcell sS
    rw [if_pos rfl, mfs_set hk]
  · unfold mcell sS
    rw [if_neg hj, if_neg hj]
section MRW
variable {p : Program} {l : Launch} {e : Env} {R : Room} {s : State} {m : MethodId} {args : Array Value} {below : List Frame} {meth : Method} {c : Code} {H : Heap} {locs : List Loc} {cells slots : Nat} {Q : State → Prop}
variable {cc : ByteArray} {pc nL : Nat} {ls : Array Slot} {rest : List Value} {K : GK} {A : Nat → Prop} {G0 : GM} {h : Nat → Nat} {σ : MS}
theorem m_geta (hC : CallFix p m c cc nL s args lw_all RX3) (hE : gE K A s s.heap) (hG : gG K A s.heap (mput K.2.1 h σ G0) H locs) (k : Nat) (hk : k < 25) (hf : ∀ f, (mfs h f)[k]? = some (.ref (h k))) {index : Nat} (hlink : Cond.fieldLink RX3 index RX3 (TX3 k).2.1 (TX3 k).2.2.1 ∈ lw_all) (hsame : (TX3 k).1 = RX3) (hdg : decode cc pc = .ok (.getfield index, 3))
    (kk : W p l e R s m args below meth c H locs cells slots Q (F0 m (pc + 3) ls (.ref (h k) :: rest))) : W p l e R s m args below meth c H locs cells slots Q (F0 m pc ls (.ref (h 25) :: rest)) :=
  g_get hC hE hG in_X3 (mput_o _ _ _ _) (ci := 2) rfl k hk hlink (by rw [hsame]; exact fun _ z => z) (hf σ.1) hdg kk
theorem m_gets (hC : CallFix p m c cc nL s args lw_all RX3) (hE : gE K A s s.heap) (hG : gG K A s.heap (mput K.2.1 h σ G0) H locs) (k : Nat) (hk : k < 25) (hf : ∀ f, (mfs h f)[k]? = some (.int (f k))) {v : Int32} (hv : σ.1 k = v) {index : Nat} (hlink : Cond.fieldLink RX3 index RX3 (TX3 k).2.1 (TX3 k).2.2.1 ∈ lw_all) (hsame : (TX3 k).1 = RX3) (hdg : decode cc pc = .ok (.getfield index, 3))
    (kk : W p l e R s m args below meth c H locs cells slots Q (F0 m (pc + 3) ls (.int v :: rest))) : W p l e R s m args below meth c H locs cells slots Q (F0 m pc ls (.ref (h 25) :: rest)) :=
  g_get hC hE hG in_X3 (mput_o _ _ _ _) (ci := 2) rfl k hk hlink (by rw [hsame]; exact fun _ z => z) (by rw [hf σ.1, hv]) hdg kk
theorem m_puts (hC : CallFix p m c cc nL s args lw_all RX3) (hE : gE K A s s.heap) (hG : gG K A s.heap (mput K.2.1 h σ G0) H locs) (k : Nat) (hk : k = 5 ∨ k = 7 ∨ k = 13 ∨ k = 14 ∨ k = 24) {v : Int32} {index : Nat} (hlink : Cond.fieldLink RX3 index RX3 (TX3 k).2.1 (TX3 k).2.2.1 ∈ lw_all) (hdg : decode cc pc = .ok (.putfield index, 3))
    (kk : ∀ (H : Heap) (locs : List Loc), gG K A s.heap (mput K.2.1 h (sS σ k v) G0) H locs → W p l e R s m args below meth c H locs cells slots Q (F0 m (pc + 3) ls rest)) : W p l e R s m args below meth c H locs cells slots Q (F0 m pc ls (.int v :: .ref (h 25) :: rest)) := by
  refine g_put hC hE hG in_X3 tyX3 tyX3_ok nmX3 (mput_o _ _ _ _) (ci := 2) rfl k (by omega) hlink ?_ ?_ (ty := .int) ?_ rfl rfl ?_ hdg (fun H1 locs1 hG1 => kk H1 locs1 (hG1.eq (mput_sS hk)))
  · rcases hk with rfl | rfl | rfl | rfl | rfl <;> exact fun _ z => z
  · rcases hk with rfl | rfl | rfl | rfl | rfl <;> rfl
  · rcases hk with rfl | rfl | rfl | rfl | rfl <;> exact tyX3_ok _ (by omega)
  · rcases hk with rfl | rfl | rfl | rfl | rfl <;> exact Nat.le_of_ble_eq_true rfl
theorem m_iald (hC : CallFix p m c cc nL s args lw_all RX3) (hE : gE K A s s.heap) (hG : gG K A s.heap (mput K.2.1 h σ G0) H locs) (k : Nat) (hk : k < 25) (h1 : mKd k = 1) {N : Nat} (hN : mLen k = N) {i v : Int32} (hin : vp_in i N) (hv : σ.2 k (tN i) = v) (hdg : decode cc pc = .ok (.iaload, 1))
    (kk : W p l e R s m args below meth c H locs cells slots Q (F0 m (pc + 1) ls (.int v :: rest))) : W p l e R s m args below meth c H locs cells slots Q (F0 m pc ls (.int i :: .ref (h k) :: rest)) := by
  subst hN
  subst hv
  exact g_iald hC hE hG (mput_i _ _ _ _ hk h1) hin hdg kk
theorem m_zald (hC : CallFix p m c cc nL s args lw_all RX3) (hE : gE K A s s.heap) (hG : gG K A s.heap (mput K.2.1 h σ G0) H locs) (k : Nat) (hk : k < 25) (h1 : mKd k = 2) {N : Nat} (hN : mLen k = N) {i v : Int32} (hin : vp_in i N) (hv : σ.2 k (tN i) = v) (hdg : decode cc pc = .ok (.baload, 1))
    (kk : W p l e R s m args below meth c H locs cells slots Q (F0 m (pc + 1) ls (.int v :: rest))) : W p l e R s m args below meth c H locs cells slots Q (F0 m pc ls (.int i :: .ref (h k) :: rest)) := by
  subst hN
  subst hv
  exact g_zald hC hE hG (mput_z _ _ _ _ hk h1) hin hdg kk
theorem m_ild (hC : CallFix p m c cc nL s args lw_all RX3) (hE : gE K A s s.heap) (hG : gG K A s.heap (mput K.2.1 h σ G0) H locs) (k : Nat) (hk : k < 25) (h1 : mKd k = 1) {N : Nat} (hN : mLen k = N) (hN2 : N < 1000) {j : Nat} {v : Int32} (hj : j < N) (hv : σ.2 k j = v) (hdg : decode cc pc = .ok (.iaload, 1))
    (kk : W p l e R s m args below meth c H locs cells slots Q (F0 m (pc + 1) ls (.int v :: rest))) : W p l e R s m args below meth c H locs cells slots Q (F0 m pc ls (.int (nI j) :: .ref (h k) :: rest)) :=
  m_iald hC hE hG k hk h1 hN (vp_in_nI hj (by omega)) (by rw [show tN (nI j) = j from nI_clamp (by omega)]; exact hv) hdg kk
theorem m_zld (hC : CallFix p m c cc nL s args lw_all RX3) (hE : gE K A s s.heap) (hG : gG K A s.heap (mput K.2.1 h σ G0) H locs) (k : Nat) (hk : k < 25) (h1 : mKd k = 2) {N : Nat} (hN : mLen k = N) (hN2 : N < 1000) {j : Nat} {v : Int32} (hj : j < N) (hv : σ.2 k j = v) (hdg : decode cc pc = .ok (.baload, 1))
    (kk : W p l e R s m args below meth c H locs cells slots Q (F0 m (pc + 1) ls (.int v :: rest))) : W p l e R s m args below meth c H locs cells slots Q (F0 m pc ls (.int (nI j) :: .ref (h k) :: rest)) :=
  m_zald hC hE hG k hk h1 hN (vp_in_nI hj (by omega)) (by rw [show tN (nI j) = j from nI_clamp (by omega)]; exact hv) hdg kk
theorem m_iast (hC : CallFix p m c cc nL s args lw_all RX3) (hE : gE K A s s.heap) (hG : gG K A s.heap (mput K.2.1 h σ G0) H locs) (k : Nat) (hk : k < 25) (h1 : mKd k = 1) {N : Nat} (hN : mLen k = N) {i v : Int32} (hin : vp_in i N) (hdg : decode cc pc = .ok (.iastore, 1))
    (kk : ∀ (H : Heap) (locs : List Loc), gG K A s.heap (mput K.2.1 h (sU σ k (tN i) v) G0) H locs → W p l e R s m args below meth c H locs cells slots Q (F0 m (pc + 1) ls rest)) : W p l e R s m args below meth c H locs cells slots Q (F0 m pc ls (.int v :: .int i :: .ref (h k) :: rest)) := by
  subst hN
  exact g_iast hC hE hG (mput_i _ _ _ _ hk h1) hin hdg (fun H1 locs1 hG1 => kk H1 locs1 (hG1.eq (mput_sUi hk h1)))
theorem m_zast (hC : CallFix p m c cc nL s args lw_all RX3) (hE : gE K A s s.heap) (hG : gG K A s.heap (mput K.2.1 h σ G0) H locs) (k : Nat) (hk : k < 25) (h1 : mKd k = 2) {N : Nat} (hN : mLen k = N) {i v : Int32} (hin : vp_in i N) (hv : vp_nar .boolean v = v) (hdg : decode cc pc = .ok (.bastore, 1))
    (kk : ∀ (H : Heap) (locs : List Loc), gG K A s.heap (mput K.2.1 h (sU σ k (tN i) v) G0) H locs → W p l e R s m args below meth c H locs cells slots Q (F0 m (pc + 1) ls rest)) : W p l e R s m args below meth c H locs cells slots Q (F0 m pc ls (.int v :: .int i :: .ref (h k) :: rest)) := by
  subst hN
  exact g_zast hC hE hG (mput_z _ _ _ _ hk h1) hin hdg (fun H1 locs1 hG1 => kk H1 locs1 (hG1.eq (by rw [hv]; exact mput_sUz hk h1)))
theorem m_ist (hC : CallFix p m c cc nL s args lw_all RX3) (hE : gE K A s s.heap) (hG : gG K A s.heap (mput K.2.1 h σ G0) H locs) (k : Nat) (hk : k < 25) (h1 : mKd k = 1) {N : Nat} (hN : mLen k = N) (hN2 : N < 1000) {j : Nat} {v : Int32} (hj : j < N) (hdg : decode cc pc = .ok (.iastore, 1))
    (kk : ∀ (H : Heap) (locs : List Loc), gG K A s.heap (mput K.2.1 h (sU σ k j v) G0) H locs → W p l e R s m args below meth c H locs cells slots Q (F0 m (pc + 1) ls rest)) : W p l e R s m args below meth c H locs cells slots Q (F0 m pc ls (.int v :: .int (nI j) :: .ref (h k) :: rest)) :=
  m_iast hC hE hG k hk h1 hN (vp_in_nI hj (by omega)) hdg (by rw [show tN (nI j) = j from nI_clamp (by omega)]; exact kk)
theorem m_zst (hC : CallFix p m c cc nL s args lw_all RX3) (hE : gE K A s s.heap) (hG : gG K A s.heap (mput K.2.1 h σ G0) H locs) (k : Nat) (hk : k < 25) (h1 : mKd k = 2) {N : Nat} (hN : mLen k = N) (hN2 : N < 1000) {j : Nat} {v : Int32} (hj : j < N) (hv : vp_nar .boolean v = v) (hdg : decode cc pc = .ok (.bastore, 1))
    (kk : ∀ (H : Heap) (locs : List Loc), gG K A s.heap (mput K.2.1 h (sU σ k j v) G0) H locs → W p l e R s m args below meth c H locs cells slots Q (F0 m (pc + 1) ls rest)) : W p l e R s m args below meth c H locs cells slots Q (F0 m pc ls (.int v :: .int (nI j) :: .ref (h k) :: rest)) :=
  m_zast hC hE hG k hk h1 hN (vp_in_nI hj (by omega)) hv hdg (by rw [show tN (nI j) = j from nI_clamp (by omega)]; exact kk)
end MRW
