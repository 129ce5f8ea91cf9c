/-! EVENTS: what the list holds, and what each does to a catalogue -/
set_option maxRecDepth 100000
/-- a load (number, batch, source, keys, fields), a protecting (record, field, yes), a holding, a merging -/
abbrev Ev : Type := (Nat × Int32 × Int32 × (Nat → Int32) × (Nat → Int32)) ⊕ (Nat × Nat × Int32) ⊕ Nat ⊕ (Nat × Nat)
/-- event e is the i-th, at the cells q -/
def evAt (ac : Nat → ClassId) (lo i : Nat) (q : Nat → Nat) (e : Ev) (G : GM) : Prop := match e with
  | .inl (n, bt, u, O, F) => dAt ac i q n bt u O F lo G
  | .inr (.inl (n, f, z)) => pAt i (q 0) n f z G
  | .inr (.inr (.inl n)) => hAt i (q 0) n G
  | .inr (.inr (.inr (a, b))) => jAt i (q 0) a b G
def kDo (x : MS) (e : Ev) (κ : KS) : KS := match e with
  | .inl (n, bt, u, O, F) => kLoad x n bt u O F κ
  | .inr (.inl (n, f, z)) => kProt n f z κ
  | .inr (.inr (.inl n)) => kHold n κ
  | .inr (.inr (.inr (a, b))) => kJoin a b κ
/-- an event that may come after N loads -/
def eOk (N : Nat) (e : Ev) : Prop := match e with
  | .inl (n, bt, u, _, _) => n = N ∧ n < 80 ∧ vp_in bt 10 ∧ vp_in u 5
  | .inr (.inl (n, f, z)) => n < 80 ∧ f < 4 ∧ (z = 0 ∨ z = 1)
  | .inr (.inr (.inl n)) => n < 80
  | .inr (.inr (.inr (a, b))) => a < 80 ∧ b < 80 ∧ a ≠ b
def eN (N : Nat) (e : Ev) : Nat := match e with
  | .inl _ => N + 1
  | _ => N
/-- whose addresses stay -/
def eAd (e : Ev) (y : Nat) : Prop := match e with
  | .inl (n, _, _, _, _) => y ≠ n + 1
  | _ => True
theorem eAd0 (e : Ev) : eAd e 0 := by
  rcases e with ⟨n, bt, u, O, F⟩ | ⟨n, f, z⟩ | n | ⟨a, b⟩
  · show 0 ≠ n + 1
    omega
  · exact trivial
  · exact trivial
  · exact trivial
/-- a catalogue after N loads -/
def kIv (κ : KS) (N : Nat) : Prop := (∀ j, N ≤ j → κ.1 j = none) ∧ ∀ j r, κ.1 j = some r → rOk r
theorem kIv.mono {κ : KS} {N M : Nat} (h : kIv κ N) (hNM : N ≤ M) : kIv κ M := ⟨fun j hj => h.1 j (by omega), h.2⟩
theorem kIv.zero : kIv kZero 0 := ⟨fun _ _ => rfl, fun _ _ h => by cases h⟩
theorem kIv.H {κ : KS} {N n : Nat} {v : Int32} (h : kIv κ N) : kIv (kH κ n v) N := h
theorem kIv.set {κ : KS} {N k : Nat} {r : RS} (h : kIv κ N) (hk : k < N) (hr : rOk r) : kIv (kSet κ k r) N := by
  refine ⟨fun j hj => ?_, fun j r' hj => ?_⟩
  · show va_up κ.1 k (some r) j = none
    unfold va_up
    rw [if_neg (by omega)]
    exact h.1 j hj
  · have hj : va_up κ.1 k (some r) j = some r' := hj
    unfold va_up at hj
    by_cases e : j = k
    · rw [if_pos e] at hj
      cases hj
      exact hr
    · rw [if_neg e] at hj
      exact h.2 j r' hj
theorem kIv.del {κ : KS} {N k : Nat} (h : kIv κ N) : kIv (kDel κ k) N := by
  refine ⟨fun j hj => ?_, fun j r' hj => ?_⟩
  · show va_up κ.1 k none j = none
    unfold va_up
    split
    · rfl
    · exact h.1 j hj
  · have hj : va_up κ.1 k none j = some r' := hj
    unfold va_up at hj
    by_cases e : j = k
    · rw [if_pos e] at hj
      cases hj
    · rw [if_neg e] at hj
      exact h.2 j r' hj
theorem kIv.lt {κ : KS} {N k : Nat} {r : RS} (h : kIv κ N) (hk : κ.1 k = some r) : k < N := by
  rcases Nat.lt_or_ge k N with g | g
  · exact g
  · rw [h.1 k g] at hk
    cases hk
theorem rOk.gfn {r ra : RS} (h : rOk r) (ha : rOk ra) : ∀ i, rOk (gFn ra i r)
  | 0 => h
  | i + 1 => by
    show rOk (gFs ra i (gFn ra i r))
    unfold gFs
    split
    · split
      · exact rOk.gfn h ha i
      · rename_i e
        exact (rOk.gfn h ha i).put ((ha i).resolve_left e)
    · exact rOk.gfn h ha i
theorem rOk.rv {r : RS} {v : Int32} (h : rOk r) : rOk (rV r v) := h
theorem rOk.ra4 {r : RS} {f : Nat → Int32} (h : rOk r) : rOk (rA r 4 f) := fun i => h i
theorem kIv.step {κ : KS} {N : Nat} {e : Ev} (x : MS) (h : kIv κ N) (he : eOk N e) : kIv (kDo x e κ) (eN N e) := by
  rcases e with ⟨n, bt, u, O, F⟩ | ⟨n, f, z⟩ | n | ⟨a, b⟩
  · obtain ⟨rfl, h1, h2, h3⟩ := he
    have h' := h.mono (Nat.le_succ n)
    show kIv (kLoad x n bt u O F κ) (n + 1)
    unfold kLoad
    split
    · split
      · exact (h'.set (Nat.lt_succ_self n) (rOk.New.lay x O F h3)).H
      · split
        · exact h'.H
        · split
          · exact h'
          · rename_i r hr
            exact (h'.set (Nat.lt_succ_of_lt (h.lt hr)) ((h.2 _ _ hr).lay x O F h3)).H
    · exact h'.H
  · show kIv (kProt n f z κ) N
    unfold kProt
    split
    · exact h
    · rename_i r hr
      exact h.set (h.lt hr) (h.2 _ _ hr).ra4
  · show kIv (kHold n κ) N
    unfold kHold
    split
    · exact h
    · rename_i r hr
      exact h.set (h.lt hr) (h.2 _ _ hr).rv
  · show kIv (kJoin a b κ) N
    unfold kJoin
    split
    · exact h
    · split
      · exact h
      · rename_i ra ha z9 rb hb
        exact (h.set (h.lt hb) (((h.2 _ _ hb).rv.fil _).gfn (h.2 _ _ ha) 4)).del
section GEV
variable {p : Program} {l : Launch} {e : Env} {R : Room} {s : State} {m : MethodId} {args : Array Value} {below : List Frame} {meth : Method} {c : Code} {H : Heap} {locs : List Loc} {cells slots : Nat} {Q : State → Prop}
variable {cc : ByteArray} {pc nL : Nat} {ls : Array Slot} {rest st : List Value} {K : GK} {A : Nat → Prop} {G0 : GM}
/-- event.doTo(catalogue), whatever the event is -/
theorem g_ev {count t i N cn : Nat} {ad : Nat → Nat → Nat} {κ : KS} {b : Nat → Nat} {x : MS} {q : Nat → Nat} {ev : Ev} (hC : CallFix p m c cc nL s args lw_all RX1) (hE : gE K A s s.heap) (hG : gG K A s.heap (cput K.2.1 t (b 11) ad κ G0) H locs) (ht : 3 ≤ t) (hlo : lAt K.2.1 b x cn G0) (hev : evAt K.2.1 (b 11) i q ev G0) (hok : eOk N ev) (hki : kIv κ N) (hO : wO x)
    (hR : 3 ≤ R.frames ∧ 100 ≤ R.locals) (hsize : ls.size = nL) (hst : st = .ref (ad 0 0) :: .ref (q 0) :: rest) (hW : (rest.map fun v => v.category).sum ≤ 8) (hdg : decode cc pc = .ok (.invokeinterface 88 count, 5)) (hf : cells + 5 ≤ R.cells ∧ slots + 20 ≤ R.slots)
    (kk : ∀ (ad' : Nat → Nat → Nat) (H1 : Heap) (locs1 : List Loc), (∀ y, eAd ev y → ad' y = ad y) → gG K A s.heap (cput K.2.1 t (b 11) ad' (kDo x ev κ) G0) H1 locs1 → W p l e R s m args below meth c H1 locs1 (cells + 5) (slots + 20) Q (F0 m (pc + 5) ls rest)) : W p l e R s m args below meth c H locs cells slots Q (F0 m pc ls st) := by
  rcases ev with ⟨n, bt, u, O, F⟩ | ⟨n, f, z⟩ | n | ⟨a, d⟩
  · obtain ⟨rfl, h1, h2, h3⟩ := hok
    refine g_cFv (As := [.ref (ad 0 0)]) (rest := rest) (S := (Nat → Nat → Nat) × KS) hC hE hG (xt_doTo4 l K A G0 t ad κ b x cn ht hlo i q n bt u O F hev h1 (hki.1 n (Nat.le_refl _)) h2 h3 hO hki.2) (g_Fcw (n := 1) hC hE 0 rfl q238 q249 q251 q35 q253 rfl rfl (by decide +kernel) ⟨hR.1, Nat.le_trans (by decide) hR.2⟩) (cput_e ht hev.1) (ci := 3) rfl rfl hsize hst hW hdg hf (fun u9 H1 locs1 hu9 hG1 => ?_)
    have hG2 : gG K A s.heap (cput K.2.1 t (b 11) u9.1 (kLoad x n bt u O F κ) G0) H1 locs1 := by rw [← hu9.1]; exact hG1
    exact kk u9.1 H1 locs1 (fun y hy => hu9.2 y hy) hG2
  · obtain ⟨h1, h2, h3⟩ := hok
    refine g_cFv (As := [.ref (ad 0 0)]) (rest := rest) (S := KS) hC hE hG (xt_doTo6 l K A G0 t (b 11) ad κ ht i (q 0) n f z h1 h2 h3 hev) (g_Fcw (n := 1) hC hE 1 rfl q238 q325 q327 q41 q329 rfl rfl (by decide +kernel) ⟨Nat.le_trans (by decide) hR.1, Nat.le_trans (by decide) hR.2⟩) (cput_e ht hev) (ci := 5) rfl rfl hsize hst hW hdg ⟨Nat.le_trans (by omega) hf.1, Nat.le_trans (by omega) hf.2⟩ (fun u9 H1 locs1 hu9 hG1 => ?_)
    subst hu9
    exact W.widen (by omega) (by omega) (kk ad H1 locs1 (fun _ _ => rfl) hG1)
  · refine g_cFv (As := [.ref (ad 0 0)]) (rest := rest) (S := KS) hC hE hG (xt_doTo7 l K A G0 t (b 11) ad κ ht i (q 0) n hok hev) (g_Fcw (n := 1) hC hE 2 rfl q238 q242 q244 q42 q246 rfl rfl (by decide +kernel) ⟨Nat.le_trans (by decide) hR.1, Nat.le_trans (by decide) hR.2⟩) (cput_e ht hev) (ci := 6) rfl rfl hsize hst hW hdg ⟨Nat.le_trans (by omega) hf.1, Nat.le_trans (by omega) hf.2⟩ (fun u9 H1 locs1 hu9 hG1 => ?_)
    subst hu9
    exact W.widen (by omega) (by omega) (kk ad H1 locs1 (fun _ _ => rfl) hG1)
  · obtain ⟨h1, h2, h3⟩ := hok
    refine g_cFv (As := [.ref (ad 0 0)]) (rest := rest) (S := KS) hC hE hG (xt_doTo8 l K A G0 t (b 11) ad κ ht i (q 0) a d h1 h2 h3 hev) (g_Fcw (n := 1) hC hE 3 rfl q238 q316 q318 q43 q320 rfl rfl (by decide +kernel) ⟨Nat.le_trans (by decide) hR.1, Nat.le_trans (by decide) hR.2⟩) (cput_e ht hev) (ci := 7) rfl rfl hsize hst hW hdg ⟨Nat.le_trans (by omega) hf.1, Nat.le_trans (by omega) hf.2⟩ (fun u9 H1 locs1 hu9 hG1 => ?_)
    subst hu9
    exact W.widen (by omega) (by omega) (kk ad H1 locs1 (fun _ _ => rfl) hG1)
end GEV
