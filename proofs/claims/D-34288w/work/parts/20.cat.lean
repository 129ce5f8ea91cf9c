/-! THE CATALOGUE's world: label t 0 j its object, the array of records, the hits; label t (k+1) j record k: object, keys, fields, sources, isProtected -/
set_option maxRecDepth 100000
/-- a record: its arrays 1..4, its holdings -/
abbrev RS : Type := (Nat → Nat → Int32) × Int32
/-- a catalogue: its records, its hits -/
abbrev KS : Type := (Nat → Option RS) × (Nat → Int32)
def rA (r : RS) (j : Nat) (f : Nat → Int32) : RS := (va_up r.1 j f, r.2)
def rV (r : RS) (v : Int32) : RS := (r.1, v)
def kSet (κ : KS) (k : Nat) (r : RS) : KS := (va_up κ.1 k (some r), κ.2)
def kDel (κ : KS) (k : Nat) : KS := (va_up κ.1 k none, κ.2)
def kH (κ : KS) (n : Nat) (v : Int32) : KS := (κ.1, upd κ.2 n v)
def crow (ad : Nat → Nat → Nat) (κ : KS) : Nat → Option Nat := fun k => (κ.1 k).map (fun _ => ad (k + 1) 0)
def rLen (j : Nat) : Nat := if j = 1 then 3 else 4
def robj (ad : Nat → Nat → Nat) (x : Nat) (v : Int32) : List Value := [.ref (ad x 1), .ref (ad x 2), .ref (ad x 3), .ref (ad x 4), .int v]
def rcell (ac : Nat → ClassId) (ad : Nat → Nat → Nat) (x : Nat) (r : RS) (j : Nat) : Option (Nat × va_E) := if j = 0 then some (ad x 0, .inr (4, robj ad x r.2)) else if 4 < j then none else some (ad x j, .inl (if j = 4 then ac 1 else ac 0, rLen j, .inl (r.1 j)))
def ccell (ac : Nat → ClassId) (lo : Nat) (ad : Nat → Nat → Nat) (κ : KS) (x j : Nat) : Option (Nat × va_E) :=
  if x = 0 then (if j = 0 then some (ad 0 0, .inr (1, [.ref (ad 0 1), .ref (ad 0 2), .ref lo])) else if j = 1 then some (ad 0 1, .inl (ac 4, 80, .inr (.inr (.inr (.inr (crow ad κ)))))) else if j = 2 then some (ad 0 2, .inl (ac 0, 80, .inl κ.2)) else none)
  else match κ.1 (x - 1) with
    | none => none
    | some r => rcell ac ad x r j
def cput (ac : Nat → ClassId) (t lo : Nat) (ad : Nat → Nat → Nat) (κ : KS) (G : GM) : GM := fun y => if y.1 = t then ccell ac lo ad κ y.2.1 y.2.2 else G y
section CPUT
variable {ac : Nat → ClassId} {t lo : Nat} {ad : Nat → Nat → Nat} {κ : KS} {G : GM}
theorem cput_at (x j : Nat) : cput ac t lo ad κ G (t, x, j) = ccell ac lo ad κ x j := if_pos rfl
theorem cput_n {y : Lb} (h : y.1 ≠ t) : cput ac t lo ad κ G y = G y := if_neg h
theorem cput_o : cput ac t lo ad κ G (t, 0, 0) = some (ad 0 0, .inr (1, [.ref (ad 0 1), .ref (ad 0 2), .ref lo])) := cput_at 0 0
theorem cput_r : cput ac t lo ad κ G (t, 0, 1) = some (ad 0 1, .inl (ac 4, 80, .inr (.inr (.inr (.inr (crow ad κ)))))) := cput_at 0 1
theorem cput_h : cput ac t lo ad κ G (t, 0, 2) = some (ad 0 2, .inl (ac 0, 80, .inl κ.2)) := cput_at 0 2
theorem ccell_s {k : Nat} {r : RS} (hk : κ.1 k = some r) (j : Nat) : ccell ac lo ad κ (k + 1) j = rcell ac ad (k + 1) r j := by
  unfold ccell
  rw [if_neg (by omega), Nat.add_sub_cancel, hk]
theorem ccell_e {k : Nat} (hk : κ.1 k = none) (j : Nat) : ccell ac lo ad κ (k + 1) j = none := by
  unfold ccell
  rw [if_neg (by omega), Nat.add_sub_cancel, hk]
theorem cput_s {k : Nat} {r : RS} (hk : κ.1 k = some r) (j : Nat) : cput ac t lo ad κ G (t, k + 1, j) = rcell ac ad (k + 1) r j := (cput_at _ _).trans (ccell_s hk j)
theorem cput_ro {k : Nat} {r : RS} (hk : κ.1 k = some r) : cput ac t lo ad κ G (t, k + 1, 0) = some (ad (k + 1) 0, .inr (4, robj ad (k + 1) r.2)) := cput_s hk 0
theorem cput_r1 {k : Nat} {r : RS} (hk : κ.1 k = some r) : cput ac t lo ad κ G (t, k + 1, 1) = some (ad (k + 1) 1, .inl (ac 0, 3, .inl (r.1 1))) := cput_s hk 1
theorem cput_r2 {k : Nat} {r : RS} (hk : κ.1 k = some r) : cput ac t lo ad κ G (t, k + 1, 2) = some (ad (k + 1) 2, .inl (ac 0, 4, .inl (r.1 2))) := cput_s hk 2
theorem cput_r3 {k : Nat} {r : RS} (hk : κ.1 k = some r) : cput ac t lo ad κ G (t, k + 1, 3) = some (ad (k + 1) 3, .inl (ac 0, 4, .inl (r.1 3))) := cput_s hk 3
theorem cput_r4 {k : Nat} {r : RS} (hk : κ.1 k = some r) : cput ac t lo ad κ G (t, k + 1, 4) = some (ad (k + 1) 4, .inl (ac 1, 4, .inl (r.1 4))) := cput_s hk 4
theorem crow_e {k : Nat} (hk : κ.1 k = none) : crow ad κ k = none := by unfold crow; rw [hk]; rfl
theorem crow_s {k : Nat} {r : RS} (hk : κ.1 k = some r) : crow ad κ k = some (ad (k + 1) 0) := by unfold crow; rw [hk]; rfl
/-- one cell of the catalogue is written -/
theorem cput_upd {κ' : KS} {x j : Nat} {q : Nat × va_E} (hq : ccell ac lo ad κ' x j = some q) (hn : ∀ x1 j1, ¬ (x1 = x ∧ j1 = j) → ccell ac lo ad κ' x1 j1 = ccell ac lo ad κ x1 j1) : gup (cput ac t lo ad κ G) (t, x, j) q = cput ac t lo ad κ' G := by
  funext y
  by_cases hy : y = (t, x, j)
  · subst hy
    rw [gup_s, cput_at, hq]
  · rw [gup_n _ _ hy]
    by_cases hc : y.1 = t
    · have hj : ¬ (y.2.1 = x ∧ y.2.2 = j) := fun e => hy (Prod.ext hc (Prod.ext e.1 e.2))
      show (if _ then _ else _) = (if _ then _ else _)
      rw [if_pos hc, if_pos hc, hn _ _ hj]
    · rw [cput_n hc, cput_n hc]
theorem ccell_H {n : Nat} {v : Int32} {x j : Nat} (h : ¬ (x = 0 ∧ j = 2)) : ccell ac lo ad (kH κ n v) x j = ccell ac lo ad κ x j := by
  unfold ccell kH crow
  by_cases h0 : x = 0
  · rw [if_pos h0, if_pos h0]
    have hj : ¬ j = 2 := fun e => h ⟨h0, e⟩
    simp only [if_neg hj]
  · rw [if_neg h0, if_neg h0]
theorem cput_kH {n : Nat} {v : Int32} : gup (cput ac t lo ad κ G) (t, 0, 2) (ad 0 2, .inl (ac 0, 80, .inl (upd κ.2 n v))) = cput ac t lo ad (kH κ n v) G := cput_upd rfl (fun _ _ h => ccell_H h)
theorem crow_set {k : Nat} {r r' : RS} (hk : κ.1 k = some r) : crow ad (kSet κ k r') = crow ad κ := by
  funext i
  unfold crow kSet
  by_cases h : i = k
  · subst h
    show Option.map _ (va_up κ.1 i (some r') i) = _
    rw [va_up_self, hk]
    rfl
  · show Option.map _ (va_up κ.1 k (some r') i) = _
    rw [va_up_ne _ _ h]
theorem kSet_at {k : Nat} {r : RS} : (kSet κ k r).1 k = some r := va_up_self _ _ _
theorem kSet_n {k i : Nat} {r : RS} (h : i ≠ k) : (kSet κ k r).1 i = κ.1 i := va_up_ne _ _ h
theorem kSet_2 {k : Nat} {r : RS} : (kSet κ k r).2 = κ.2 := rfl
theorem kSet_set {k : Nat} {r r' : RS} : kSet (kSet κ k r) k r' = kSet κ k r' := by
  unfold kSet
  refine Prod.ext ?_ rfl
  funext i
  by_cases h : i = k
  · subst h
    show va_up (va_up κ.1 i (some r)) i (some r') i = va_up κ.1 i (some r') i
    rw [va_up_self, va_up_self]
  · show va_up (va_up κ.1 k (some r)) k (some r') i = va_up κ.1 k (some r') i
    rw [va_up_ne _ _ h, va_up_ne _ _ h, va_up_ne _ _ h]
theorem ccell_set0 {k : Nat} {r r' : RS} (hk : κ.1 k = some r) (j : Nat) : ccell ac lo ad (kSet κ k r') 0 j = ccell ac lo ad κ 0 j := by
  unfold ccell
  rw [crow_set hk, kSet_2]
  rfl
theorem ccell_setn {k : Nat} {r' : RS} {x : Nat} (hx : x ≠ 0) (h : x ≠ k + 1) (j : Nat) : ccell ac lo ad (kSet κ k r') x j = ccell ac lo ad κ x j := by
  unfold ccell
  rw [if_neg hx, if_neg hx, kSet_n (by omega)]
theorem cput_set {k : Nat} {r r' : RS} (hk : κ.1 k = some r) {j : Nat} {q : Nat × va_E} (hq : rcell ac ad (k + 1) r' j = some q) (hn : ∀ i, i ≠ j → rcell ac ad (k + 1) r' i = rcell ac ad (k + 1) r i) : gup (cput ac t lo ad κ G) (t, k + 1, j) q = cput ac t lo ad (kSet κ k r') G := by
  refine cput_upd ((ccell_s kSet_at j).trans hq) (fun x1 j1 h => ?_)
  by_cases h0 : x1 = 0
  · subst h0
    exact ccell_set0 hk j1
  · by_cases h1 : x1 = k + 1
    · subst h1
      rw [ccell_s kSet_at, ccell_s hk]
      exact hn j1 (fun e => h ⟨rfl, e⟩)
    · exact ccell_setn h0 h1 j1
theorem rcell_A {x : Nat} {r : RS} {j i : Nat} {f : Nat → Int32} (h : i ≠ j) : rcell ac ad x (rA r j f) i = rcell ac ad x r i := by
  unfold rcell rA
  simp only [va_up_ne _ _ h]
theorem cput_rA {k : Nat} {r : RS} (hk : κ.1 k = some r) {j : Nat} (hj : 1 ≤ j ∧ j ≤ 4) {f : Nat → Int32} : gup (cput ac t lo ad κ G) (t, k + 1, j) (ad (k + 1) j, .inl (if j = 4 then ac 1 else ac 0, rLen j, .inl f)) = cput ac t lo ad (kSet κ k (rA r j f)) G := by
  refine cput_set hk ?_ (fun i h => rcell_A h)
  unfold rcell rA
  rw [if_neg (by omega), if_neg (by omega)]
  simp only [va_up_self]
theorem cput_rV {k : Nat} {r : RS} (hk : κ.1 k = some r) {v : Int32} : gup (cput ac t lo ad κ G) (t, k + 1, 0) (ad (k + 1) 0, .inr (4, robj ad (k + 1) v)) = cput ac t lo ad (kSet κ k (rV r v)) G := by
  refine cput_set hk rfl (fun i h => ?_)
  unfold rcell
  rw [if_neg h, if_neg h]
  rfl
/-- a record leaves: its place is null, its cells are forgotten -/
theorem cput_del {k : Nat} : gle (cput ac t lo ad (kDel κ k) G) (gup (cput ac t lo ad κ G) (t, 0, 1) (ad 0 1, .inl (ac 4, 80, .inr (.inr (.inr (.inr (va_up (crow ad κ) k none))))))) := by
  intro y q hy
  by_cases h1 : y = (t, 0, 1)
  · subst h1
    rw [gup_s]
    rw [cput_r] at hy
    rw [← hy]
    have e9 : va_up (crow ad κ) k none = crow ad (kDel κ k) := by
      funext i
      by_cases h : i = k
      · subst h
        rw [va_up_self]
        exact (crow_e (va_up_self _ _ _)).symm
      · rw [va_up_ne _ _ h]
        show Option.map _ (κ.1 i) = Option.map _ (va_up κ.1 k none i)
        rw [va_up_ne _ _ h]
    rw [e9]
  · rw [gup_n _ _ h1]
    by_cases hc : y.1 = t
    · have e1 : y = (t, y.2.1, y.2.2) := Prod.ext hc rfl
      rw [e1, cput_at] at hy ⊢
      rw [← hy]
      unfold ccell kDel at hy ⊢
      by_cases h0 : y.2.1 = 0
      · rw [if_pos h0, if_pos h0]
        have hj : ¬ y.2.2 = 1 := fun e => h1 (Prod.ext hc (Prod.ext h0 e))
        simp only [if_neg hj]
      · rw [if_neg h0] at hy ⊢
        rw [if_neg h0]
        by_cases h : y.2.1 - 1 = k
        · simp only [h, va_up_self] at hy
          cases hy
        · simp only [va_up_ne _ _ h]
    · rw [cput_n hc] at hy ⊢
      exact hy
end CPUT
/-! the loader's world: label 1 k 0 its arrays (k the number of the field), label 1 11 0 its object; its list of events and the catalogue of now are elsewhere -/
def lLen (k : Nat) : Nat := match k with
  | 0 => 5
  | 1 => 4
  | 2 => 3
  | 3 => 3
  | 4 => 4
  | _ => 10
def lfs (b : Nat → Nat) (f : Nat → Int32) (cn : Nat) : List Value := [.ref (b 0), .ref (b 1), .ref (b 2), .ref (b 3), .ref (b 4), .ref (b 5), .int (f 6), .int (f 7), .int (f 8), .ref (b 9), .ref cn]
/-- the loader's object and arrays are there: state x (numbers 6 7 8, arrays 0..5), the catalogue of now at cn -/
def lAt (ac : Nat → ClassId) (b : Nat → Nat) (x : MS) (cn : Nat) (G : GM) : Prop := G (1, 11, 0) = some (b 11, .inr (0, lfs b x.1 cn)) ∧ (∀ k, k < 5 → G (1, k, 0) = some (b k, .inl (ac 0, lLen k, .inl (x.2 k)))) ∧ G (1, 5, 0) = some (b 5, .inl (ac 1, 10, .inl (x.2 5)))
theorem lAt.c {ac : Nat → ClassId} {b : Nat → Nat} {x : MS} {cn t lo : Nat} {ad : Nat → Nat → Nat} {κ : KS} {G : GM} (h : lAt ac b x cn G) (ht : 3 ≤ t) : lAt ac b x cn (cput ac t lo ad κ G) := by
  refine ⟨?_, fun k hk => ?_, ?_⟩
  · rw [cput_n (by show (1 : Nat) ≠ t; omega)]; exact h.1
  · rw [cput_n (by show (1 : Nat) ≠ t; omega)]; exact h.2.1 k hk
  · rw [cput_n (by show (1 : Nat) ≠ t; omega)]; exact h.2.2
section CROW
variable {p : Program} {l : Launch} {e : Env} {R : Room} {s : State} {m : MethodId} {args : Array Value} {below : List Frame} {meth : Method} {c : Code} {H : Heap} {locs : List Loc} {cells slots : Nat} {Q : State → Prop}
variable {cc : ByteArray} {pc nL : Nat} {ls : Array Slot} {rest : List Value} {own : String} {K : GK} {A : Nat → Prop} {G : GM} {H0 : Heap} {x : Lb} {a : Nat}
/-- reads and writes at a number that is a name -/
theorem g_ild (hC : CallFix p m c cc nL s args lw_all own) (hE : gE K A s s.heap) (hG : gG K A H0 G H locs) {n : Nat} {f : Nat → Int32} (he : G x = some (a, .inl (K.2.1 0, n, .inl f))) (hn : n < 1000) {j : Nat} (hj : j < n) {v : Int32} (hv : f j = v) (hdg : decode cc pc = .ok (.iaload, 1))
    (kk : W p l e R s m args below meth c H locs cells slots Q (F0 m (pc + 1) ls (.int v :: rest))) : W p l e R s m args below meth c H locs cells slots Q (F0 m pc ls (.int (nI j) :: .ref a :: rest)) := by
  subst hv
  refine g_iald hC hE hG he (vp_in_nI hj (by omega)) hdg ?_
  rw [nI_clamp (by omega)]
  exact kk
theorem g_zld (hC : CallFix p m c cc nL s args lw_all own) (hE : gE K A s s.heap) (hG : gG K A H0 G H locs) {n : Nat} {f : Nat → Int32} (he : G x = some (a, .inl (K.2.1 1, n, .inl f))) (hn : n < 1000) {j : Nat} (hj : j < n) {v : Int32} (hv : f j = v) (hdg : decode cc pc = .ok (.baload, 1))
    (kk : W p l e R s m args below meth c H locs cells slots Q (F0 m (pc + 1) ls (.int v :: rest))) : W p l e R s m args below meth c H locs cells slots Q (F0 m pc ls (.int (nI j) :: .ref a :: rest)) := by
  subst hv
  refine g_zald hC hE hG he (vp_in_nI hj (by omega)) hdg ?_
  rw [nI_clamp (by omega)]
  exact kk
theorem g_qld (hC : CallFix p m c cc nL s args lw_all own) (hE : gE K A s s.heap) (hG : gG K A H0 G H locs) (t0 : Nat) {cA : ClassId} {C : String} {n : Nat} {f : Nat → Option Nat} (he : G x = some (a, .inl (cA, n, .inr (.inr (.inr (.inr f)))))) (ht : (tyA K.2.1)[t0]? = some (cA, .object C)) (hn : n < 1000) {j : Nat} (hj : j < n) {v : Value} (hv : va_rf (f j) = v) (hdg : decode cc pc = .ok (.aaload, 1))
    (kk : W p l e R s m args below meth c H locs cells slots Q (F0 m (pc + 1) ls (v :: rest))) : W p l e R s m args below meth c H locs cells slots Q (F0 m pc ls (.int (nI j) :: .ref a :: rest)) := by
  subst hv
  refine g_aald hC hE hG t0 he ht (vp_in_nI hj (by omega)) hdg ?_
  rw [nI_clamp (by omega)]
  exact kk
theorem g_ist (hC : CallFix p m c cc nL s args lw_all own) (hE : gE K A s s.heap) (hG : gG K A H0 G H locs) {n : Nat} {f : Nat → Int32} (he : G x = some (a, .inl (K.2.1 0, n, .inl f))) (hn : n < 1000) {j : Nat} {y : Int32} (hj : j < n) (hdg : decode cc pc = .ok (.iastore, 1))
    (kk : ∀ (H1 : Heap) (locs1 : List Loc), gG K A H0 (gup G x (a, .inl (K.2.1 0, n, .inl (upd f j y)))) H1 locs1 → W p l e R s m args below meth c H1 locs1 cells slots Q (F0 m (pc + 1) ls rest)) : W p l e R s m args below meth c H locs cells slots Q (F0 m pc ls (.int y :: .int (nI j) :: .ref a :: rest)) := by
  refine g_iast hC hE hG he (vp_in_nI hj (by omega)) hdg ?_
  rw [nI_clamp (by omega)]
  exact kk
theorem g_zst (hC : CallFix p m c cc nL s args lw_all own) (hE : gE K A s s.heap) (hG : gG K A H0 G H locs) {n : Nat} {f : Nat → Int32} (he : G x = some (a, .inl (K.2.1 1, n, .inl f))) (hn : n < 1000) {j : Nat} {y : Int32} (hj : j < n) (hy : vp_nar .boolean y = y) (hdg : decode cc pc = .ok (.bastore, 1))
    (kk : ∀ (H1 : Heap) (locs1 : List Loc), gG K A H0 (gup G x (a, .inl (K.2.1 1, n, .inl (upd f j y)))) H1 locs1 → W p l e R s m args below meth c H1 locs1 cells slots Q (F0 m (pc + 1) ls rest)) : W p l e R s m args below meth c H locs cells slots Q (F0 m pc ls (.int y :: .int (nI j) :: .ref a :: rest)) := by
  refine g_zast hC hE hG he (vp_in_nI hj (by omega)) hdg ?_
  rw [nI_clamp (by omega), hy]
  exact kk
end CROW
