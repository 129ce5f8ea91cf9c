/-! THE WORLD BY LABELS: a cell is found by a label (three numbers), not by a place in a list; a method's contract is over the whole world, so that no frame rule is asked for. -/
set_option maxRecDepth 100000
abbrev Lb : Type := Nat × Nat × Nat
abbrev GM : Type := Lb → Option (Nat × va_E)
def gup (G : GM) (x : Lb) (q : Nat × va_E) : GM := fun y => if y = x then some q else G y
theorem gup_s (G : GM) (x : Lb) (q : Nat × va_E) : gup G x q x = some q := by simp [gup]
theorem gup_n (G : GM) {x y : Lb} (q : Nat × va_E) (h : y ≠ x) : gup G x q y = G y := by simp [gup, h]
def gP (D : va_G) (cl : List vw_C) (G : GM) (H : Heap) : Prop := ∀ (x : Lb) (q : Nat × va_E), G x = some q → va_at D cl q H
def gD (A : Nat → Prop) (G : GM) : Prop := (∀ (x y : Lb) (p q : Nat × va_E), G x = some p → G y = some q → p.1 = q.1 → x = y) ∧ ∀ (x : Lb) (q : Nat × va_E), G x = some q → A q.1
theorem gP.one {D : va_G} {cl : List vw_C} {G : GM} {H : Heap} (h : gP D cl G H) {x : Lb} {q : Nat × va_E} (hx : G x = some q) : va_P D cl [q] H := by
  intro k r hk
  have h1 : k < 1 := (List.getElem?_eq_some_iff.mp hk).1
  rw [show k = 0 by omega] at hk
  cases hk
  exact h x q hx
theorem gP.lt {D : va_G} {cl : List vw_C} {G : GM} {H : Heap} (h : gP D cl G H) {x : Lb} {q : Nat × va_E} (hx : G x = some q) : q.1 < H.size := (h x q hx).lt
theorem gP.upd {D : va_G} {cl : List vw_C} {A : Nat → Prop} {G : GM} {H H1 : Heap} (h : gP D cl G H) (hD : gD A G) {x : Lb} {a : Nat} {e e1 : va_E} (hx : G x = some (a, e)) (hn : va_at D cl (a, e1) H1) (oq : ∀ q : Nat, q ≠ a → H1[q]? = H[q]?) : gP D cl (gup G x (a, e1)) H1 := by
  intro y q hy
  by_cases hyx : y = x
  · subst hyx
    rw [gup_s] at hy
    cases hy
    exact hn
  · rw [gup_n _ _ hyx] at hy
    exact (h y q hy).kept (oq q.1 (fun e => hyx (hD.1 y x q (a, _) hy hx e)))
theorem gD.upd {A : Nat → Prop} {G : GM} (hD : gD A G) {x : Lb} {a : Nat} {e e1 : va_E} (hx : G x = some (a, e)) : gD A (gup G x (a, e1)) := by
  refine ⟨fun y z p q hy hz hpq => ?_, fun y q hy => ?_⟩
  · by_cases h1 : y = x <;> by_cases h2 : z = x
    · rw [h1, h2]
    · subst h1
      rw [gup_s] at hy
      rw [gup_n _ _ h2] at hz
      cases hy
      exact hD.1 y z (a, e) q hx hz hpq
    · subst h2
      rw [gup_s] at hz
      rw [gup_n _ _ h1] at hy
      cases hz
      exact hD.1 y z p (a, e) hy hx hpq
    · rw [gup_n _ _ h1] at hy
      rw [gup_n _ _ h2] at hz
      exact hD.1 y z p q hy hz hpq
  · by_cases h1 : y = x
    · subst h1
      rw [gup_s] at hy
      cases hy
      exact hD.2 y (a, e) hx
    · rw [gup_n _ _ h1] at hy
      exact hD.2 y q hy
theorem gP.new {D : va_G} {cl : List vw_C} {G : GM} {H H1 : Heap} (h : gP D cl G H) {x : Lb} {a : Nat} {e1 : va_E} (hn : va_at D cl (a, e1) H1) (oq : ∀ q : Nat, q < H.size → H1[q]? = H[q]?) : gP D cl (gup G x (a, e1)) H1 := by
  intro y q hy
  by_cases hyx : y = x
  · subst hyx
    rw [gup_s] at hy
    cases hy
    exact hn
  · rw [gup_n _ _ hyx] at hy
    exact (h y q hy).kept (oq q.1 (h.lt hy))
theorem gD.new {D : va_G} {cl : List vw_C} {A : Nat → Prop} {G : GM} {H : Heap} (hD : gD A G) (hP : gP D cl G H) {x : Lb} {e1 : va_E} (hA : A H.size) : gD A (gup G x (H.size, e1)) := by
  refine ⟨fun y z p q hy hz hpq => ?_, fun y q hy => ?_⟩
  · by_cases h1 : y = x <;> by_cases h2 : z = x
    · rw [h1, h2]
    · subst h1
      rw [gup_s] at hy
      rw [gup_n _ _ h2] at hz
      cases hy
      exact absurd (hP.lt hz) (by rw [← hpq]; exact Nat.lt_irrefl _)
    · subst h2
      rw [gup_s] at hz
      rw [gup_n _ _ h1] at hy
      cases hz
      exact absurd (hP.lt hy) (by rw [hpq]; exact Nat.lt_irrefl _)
    · rw [gup_n _ _ h1] at hy
      rw [gup_n _ _ h2] at hz
      exact hD.1 y z p q hy hz hpq
  · by_cases h1 : y = x
    · subst h1
      rw [gup_s] at hy
      cases hy
      exact hA
    · rw [gup_n _ _ h1] at hy
      exact hD.2 y q hy
/-- fewer labels -/
def gle (G1 G : GM) : Prop := ∀ (x : Lb) (q : Nat × va_E), G1 x = some q → G x = some q
theorem gP.le {D : va_G} {cl : List vw_C} {G G1 : GM} {H : Heap} (h : gP D cl G H) (hl : gle G1 G) : gP D cl G1 H := fun x q hx => h x q (hl x q hx)
theorem gD.le {A : Nat → Prop} {G G1 : GM} (h : gD A G) (hl : gle G1 G) : gD A G1 := ⟨fun x y p q hx hy e => h.1 x y p q (hl x p hx) (hl y q hy) e, fun x q hx => h.2 x q (hl x q hx)⟩
/-! what holds all through: the known types of objects, of arrays, the words that ride in no list, the statics -/
def clA : List vw_C := [(RX1, TX1, 11), (RX2, TX2, 3), (RX3, TX3, 25), (RX4, TX4, 6), (RX5, TX5, 5), (RX6, TX6, 3), (RX7, TX7, 1), (RX8, TX8, 2), (RJ2, TJ2, 3), (RJ14, TJ14, 4)]
def tyA (a : Nat → ClassId) : List (ClassId × FieldType) := [(a 0, .int), (a 1, .boolean), (a 2, .long), (a 3, .object "java/lang/Object"), (a 4, .object "CatalogueLoader$Record")]
/-- words of fields of nest mates -/
def nwF : List (String × Nat × String × String × String × String) := [("java/util/ArrayList$Itr", 28, "java/util/ArrayList", "size", "I", "java/util/ArrayList"),
  ("CatalogueLoader", 62, "CatalogueLoader$Catalogue", "records", "[LCatalogueLoader$Record;", "CatalogueLoader"),
  ("CatalogueLoader", 118, "CatalogueLoader$Catalogue", "hits", "[I", "CatalogueLoader"),
  ("CatalogueLoader", 174, "CatalogueLoader$Record", "keys", "[I", "CatalogueLoader"),
  ("CatalogueLoader", 177, "CatalogueLoader$Record", "fields", "[I", "CatalogueLoader"),
  ("CatalogueLoader", 180, "CatalogueLoader$Record", "sources", "[I", "CatalogueLoader"),
  ("CatalogueLoader", 128, "CatalogueLoader$Record", "isProtected", "[Z", "CatalogueLoader"),
  ("CatalogueLoader", 145, "CatalogueLoader$Record", "holdings", "I", "CatalogueLoader"),
  ("CatalogueLoader$Catalogue", 41, "CatalogueLoader", "ranks", "[I", "CatalogueLoader"),
  ("CatalogueLoader$Catalogue", 38, "CatalogueLoader", "rules", "[I", "CatalogueLoader"),
  ("CatalogueLoader$Catalogue", 28, "CatalogueLoader", "order", "[I", "CatalogueLoader"),
  ("CatalogueLoader$Catalogue", 25, "CatalogueLoader$Record", "keys", "[I", "CatalogueLoader"),
  ("CatalogueLoader$Catalogue", 35, "CatalogueLoader$Record", "fields", "[I", "CatalogueLoader"),
  ("CatalogueLoader$Catalogue", 44, "CatalogueLoader$Record", "sources", "[I", "CatalogueLoader"),
  ("CatalogueLoader$Catalogue", 55, "CatalogueLoader$Record", "isProtected", "[Z", "CatalogueLoader"),
  ("CatalogueLoader$Catalogue", 76, "CatalogueLoader$Record", "holdings", "I", "CatalogueLoader"),
  ("CatalogueLoader$Catalogue", 59, "CatalogueLoader$Load", "source", "I", "CatalogueLoader"),
  ("CatalogueLoader$Catalogue", 47, "CatalogueLoader$Load", "keys", "[I", "CatalogueLoader"),
  ("CatalogueLoader$Catalogue", 54, "CatalogueLoader$Load", "fields", "[I", "CatalogueLoader"),
  ("CatalogueLoader$Load", 45, "CatalogueLoader$Catalogue", "records", "[LCatalogueLoader$Record;", "CatalogueLoader"),
  ("CatalogueLoader$Load", 36, "CatalogueLoader$Catalogue", "hits", "[I", "CatalogueLoader"),
  ("CatalogueLoader$Load", 32, "CatalogueLoader", "isUndone", "[Z", "CatalogueLoader"),
  ("CatalogueLoader$Protecting", 26, "CatalogueLoader$Catalogue", "records", "[LCatalogueLoader$Record;", "CatalogueLoader"),
  ("CatalogueLoader$Protecting", 30, "CatalogueLoader$Record", "isProtected", "[Z", "CatalogueLoader"),
  ("CatalogueLoader$Holding", 19, "CatalogueLoader$Catalogue", "records", "[LCatalogueLoader$Record;", "CatalogueLoader"),
  ("CatalogueLoader$Holding", 23, "CatalogueLoader$Record", "holdings", "I", "CatalogueLoader"),
  ("CatalogueLoader$Merging", 24, "CatalogueLoader$Catalogue", "records", "[LCatalogueLoader$Record;", "CatalogueLoader"),
  ("CatalogueLoader$Merging", 33, "CatalogueLoader$Record", "keys", "[I", "CatalogueLoader"),
  ("CatalogueLoader$Merging", 41, "CatalogueLoader$Record", "fields", "[I", "CatalogueLoader"),
  ("CatalogueLoader$Merging", 44, "CatalogueLoader$Record", "sources", "[I", "CatalogueLoader"),
  ("CatalogueLoader$Merging", 28, "CatalogueLoader$Record", "holdings", "I", "CatalogueLoader")]
def nwc (q : String × Nat × String × String × String × String) : Cond := .fieldLinkNest q.1 q.2.1 q.2.2.1 q.2.2.2.1 q.2.2.2.2.1 q.2.2.2.2.2
/-- words of constructors of nest mates -/
def nwM : List (String × Nat × MethodName × String) := [("CatalogueLoader", 38, yX2_init, "CatalogueLoader"), ("CatalogueLoader$Load", 51, yX5_init, "CatalogueLoader")]
def nwm (q : String × Nat × MethodName × String) : Cond := .methodLinkNest q.1 q.2.1 q.2.2.1 q.2.2.2
def yE_doTo : MethodName := ⟨"CatalogueLoader$Event", "doTo", "(LCatalogueLoader$Catalogue;)V"⟩
def yI_hasNext : MethodName := ⟨"java/util/Iterator", "hasNext", "()Z"⟩
def yI_next : MethodName := ⟨"java/util/Iterator", "next", "()Ljava/lang/Object;"⟩
/-- words of calls through an interface -/
def nwI : List (String × MethodName × MethodName) := [(RX4, yE_doTo, yX4_doTo), (RX6, yE_doTo, yX6_doTo), (RX7, yE_doTo, yX7_doTo), (RX8, yE_doTo, yX8_doTo), (RJ14, yI_hasNext, yJ14_hasNext), (RJ14, yI_next, yJ14_next)]
/-- words of casts -/
def nwC : List (String × String) := [(RX4, "CatalogueLoader$Event"), (RX6, "CatalogueLoader$Event"), (RX7, "CatalogueLoader$Event"), (RX8, "CatalogueLoader$Event"), (RX4, "java/lang/Object"), (RX6, "java/lang/Object"), (RX7, "java/lang/Object"), (RX8, "java/lang/Object"), (RX5, "java/lang/Object"), ("java/lang/IndexOutOfBoundsException", "java/lang/IndexOutOfBoundsException"), ("java/lang/IllegalArgumentException", "java/lang/IllegalArgumentException"), ("java/lang/IllegalStateException", "java/lang/IllegalStateException"), ("[I", "java/lang/Cloneable")]
/-- exceptions of which one is not another -/
def nwN : List (String × String) := [("java/lang/IllegalArgumentException", "java/lang/IndexOutOfBoundsException"), ("java/lang/IllegalStateException", "java/lang/IndexOutOfBoundsException"), ("java/lang/IndexOutOfBoundsException", "java/lang/IllegalArgumentException"), ("java/lang/IllegalStateException", "java/lang/IllegalArgumentException"), ("java/lang/IndexOutOfBoundsException", "java/lang/IllegalStateException"), ("java/lang/IllegalArgumentException", "java/lang/IllegalStateException")]
/-- words 'is declared' -/
def nwD : List MethodName := [⟨"java/lang/RuntimeException", "<init>", "()V"⟩, ⟨"java/lang/Exception", "<init>", "()V"⟩, ⟨"java/lang/Throwable", "<init>", "()V"⟩, ⟨"java/lang/Object", "getClass", "()Ljava/lang/Class;"⟩]
def NW (U : State) : Prop := (∀ q ∈ nwF, va_Nw (nwc q) U) ∧ (∀ q ∈ nwM, va_Nw (nwm q) U) ∧ (∀ q ∈ nwI, va_Fw q.1 q.2.1 q.2.2 U) ∧ (∀ q ∈ nwC, va_Nw (.castable q.1 q.2) U) ∧ va_AO "CatalogueLoader$Record" U ∧ va_AO "java/lang/Object" U ∧ (∀ q ∈ nwD, va_Nw (.declares q) U) ∧ ∀ q ∈ nwN, va_Nc q.1 q.2 U
theorem nwI_ok : ∀ q ∈ nwI, q.2.1.cls ≠ "java/lang/invoke/MethodHandle" ∧ q.2.1.cls ≠ "java/lang/invoke/VarHandle" := by decide +kernel
theorem va_Nw.warmC' {a b : String} {s U : State} (hW : s.WarmedH U.vm) (hZ : va_Nw (.castable a b) s) : va_Nw (.castable a b) U := va_tabs rfl (rfl : (s.setVm U.vm).vm = U.vm) (by rw [Cond.castable_setVm hW.alike]; exact hZ)
theorem NW.warm {s U : State} (hW : s.WarmedH U.vm) (h : NW s) : NW U :=
  ⟨fun q hq => va_Nw.warmF hW (h.1 q hq), fun q hq => va_Nw.warmM hW (h.2.1 q hq), fun q hq => va_Fw.moved (nwI_ok q hq) hW.alike (h.2.2.1 q hq), fun q hq => va_Nw.warmC' hW (h.2.2.2.1 q hq), va_AO.moved hW.alike h.2.2.2.2.1, va_AO.moved hW.alike h.2.2.2.2.2.1, fun q hq => va_Nw.warmD hW (h.2.2.2.2.2.2.1 q hq), fun q hq => va_Nc.moved hW.alike (h.2.2.2.2.2.2.2 q hq)⟩
theorem NW.same {u U : State} (e : u.vm = U.vm) (h : NW u) : NW U :=
  ⟨fun q hq => va_Nw.same rfl e (h.1 q hq), fun q hq => va_Nw.same rfl e (h.2.1 q hq), fun q hq => va_Fw.moved (nwI_ok q hq) (by rw [e]; exact Vm.Alike.refl _) (h.2.2.1 q hq), fun q hq => va_Nw.same rfl e (h.2.2.2.1 q hq), va_AO.moved (by rw [e]; exact Vm.Alike.refl _) h.2.2.2.2.1, va_AO.moved (by rw [e]; exact Vm.Alike.refl _) h.2.2.2.2.2.1, fun q hq => va_Nw.same rfl e (h.2.2.2.2.2.2.1 q hq), fun q hq => va_Nc.moved (by rw [e]; exact Vm.Alike.refl _) (h.2.2.2.2.2.2.2 q hq)⟩
/-- the tables' side of a claim's world: K.1 the types' numbers, K.2.1 the arrays' types, K.2.2.1 the shared empty array, K.2.2.2 the mirror of Object's rows -/
abbrev GK : Type := va_G × (Nat → ClassId) × Nat × Nat
def sT (K : GK) (A : Nat → Prop) (U : State) (H : Heap) : Prop := va_Z "java/util/ArrayList" "DEFAULTCAPACITY_EMPTY_ELEMENTDATA" "[Ljava/lang/Object;" (.ref K.2.2.1) A U H ∧ va_T (.object "java/lang/Object") K.2.2.1 0 (fun _ => .null) A U H ∧ vx_Zq "java/lang/Throwable" "UNASSIGNED_STACK" "[Ljava/lang/StackTraceElement;" A U H ∧ vx_Zq "java/lang/Throwable" "SUPPRESSED_SENTINEL" "Ljava/util/List;" A U H ∧ va_Mi "[Ljava/lang/Object;" K.2.2.2 U
def gE (K : GK) (A : Nat → Prop) (U : State) (H : Heap) : Prop := va_K K.1 clA (tyA K.2.1) U ∧ NW U ∧ sT K A U H
theorem gE.kept {K : GK} {A : Nat → Prop} {U : State} {H H1 : Heap} (h : gE K A U H) (hq : ∀ a : Nat, a < H.size → ¬ A a → H1[a]? = H[a]?) : gE K A U H1 := ⟨h.1, h.2.1, h.2.2.1.kept hq, h.2.2.2.1.kept hq, h.2.2.2.2.1.kept hq, h.2.2.2.2.2.1.kept hq, h.2.2.2.2.2.2⟩
theorem gE.warm {K : GK} {A : Nat → Prop} {s U : State} {H : Heap} (hW : s.WarmedH U.vm) (h : gE K A s H) : gE K A U H := ⟨h.1.moved hW.alike, h.2.1.warm hW, h.2.2.1.moved hW.alike, h.2.2.2.1.moved hW.alike, h.2.2.2.2.1.moved hW.alike, h.2.2.2.2.2.1.moved hW.alike, va_Mi.moved hW.alike h.2.2.2.2.2.2⟩
theorem gE.same {K : GK} {A : Nat → Prop} {u U : State} {H : Heap} (e : u.vm = U.vm) (h : gE K A u H) : gE K A U H := ⟨h.1.moved (by rw [e]; exact Vm.Alike.refl _), h.2.1.same e, h.2.2.1.moved (by rw [e]; exact Vm.Alike.refl _), h.2.2.2.1.moved (by rw [e]; exact Vm.Alike.refl _), h.2.2.2.2.1.moved (by rw [e]; exact Vm.Alike.refl _), h.2.2.2.2.2.1.moved (by rw [e]; exact Vm.Alike.refl _), va_Mi.moved (by rw [e]; exact Vm.Alike.refl _) h.2.2.2.2.2.2⟩
/-- a method's start -/
def gW (K : GK) (A : Nat → Prop) (G : GM) (U : State) : Prop := gE K A U U.heap ∧ gP K.1 clA G U.heap ∧ gD A G ∧ ∀ q : Nat, U.heap.size ≤ q → A q
/-- a method's end -/
def gB (K : GK) (A : Nat → Prop) (G : GM) (t : State) : Prop := gP K.1 clA G t.heap ∧ gD A G
/-- on the way -/
def gG (K : GK) (A : Nat → Prop) (H0 : Heap) (G : GM) (H : Heap) (locs : List Loc) : Prop := gP K.1 clA G H ∧ gD A G ∧ va_S A H0 H locs ∧ ∀ q : Nat, H0.size ≤ q → A q
theorem gW.blind {K : GK} {A : Nat → Prop} {G : GM} {av : List Value} : FrameBlind (va_Pc av (gW K A G)) := by
  intro a U g mk h
  obtain ⟨h1, h2, h3, h4, h5⟩ := h
  exact ⟨h1, gE.same (u := U) (U := U.calling g mk a) rfl h2, h3, h4, h5⟩
theorem gW.start {K : GK} {A : Nat → Prop} {G : GM} {s U : State} {H : Heap} {locs : List Loc} (hE : gE K A s s.heap) (hG : gG K A s.heap G H locs) (hU : U.heap = H) (hW : s.WarmedH U.vm) : gW K A G U := by
  subst hU
  exact ⟨(hE.kept hG.2.2.1.2.1).warm hW, hG.1, hG.2.1, fun q h => hG.2.2.2 q (Nat.le_trans hG.2.2.1.1 h)⟩
theorem gW.gG {K : GK} {A : Nat → Prop} {G : GM} {s : State} (h : gW K A G s) : gG K A s.heap G s.heap [] := ⟨h.2.1, h.2.2.1, va_S.rf, h.2.2.2⟩
theorem gG.le {K : GK} {A : Nat → Prop} {H0 H : Heap} {G G1 : GM} {locs : List Loc} (h : gG K A H0 G H locs) (hl : gle G1 G) : gG K A H0 G1 H locs := ⟨h.1.le hl, h.2.1.le hl, h.2.2⟩
theorem gG.eq {K : GK} {A : Nat → Prop} {H0 H : Heap} {G G1 : GM} {locs : List Loc} (h : gG K A H0 G H locs) (e : G = G1) : gG K A H0 G1 H locs := e ▸ h
theorem gG.A {K : GK} {A : Nat → Prop} {H0 H : Heap} {G : GM} {locs : List Loc} (h : gG K A H0 G H locs) : A H.size := h.2.2.2 _ h.2.2.1.1
