/-! the loader's taken: a clone, and a draft emptied -/
set_option maxRecDepth 100000
section CLN
variable {p : Program} {l : Launch} {e : Env} {R : Room} {s : State} {m : MethodId} {args : Array Value} {below : List Frame} {meth : Method} {c : Code} {H : Heap} {locs : List Loc} {cells slots : Nat} {Q : State → Prop}
variable {cc : ByteArray} {pc nL : Nat} {ls : Array Slot} {rest : List Value} {own : String} {K : GK} {A : Nat → Prop} {G : GM} {H0 : Heap} {a : Nat}
theorem g_clone (hC : CallFix p m c cc nL s args lw_all RX1) (hE : gE K A s s.heap) (hG : gG K A H0 G H locs) (x : Lb) {y : Lb} {n : Nat} {f : Nat → Int32} (he : G y = some (a, .inl (K.2.1 0, n, .inl f))) (hsize : ls.size = nL) (hframes : 1 ≤ R.frames) (hlocals : (rest.map fun v => v.category).sum + 14 ≤ R.locals) (hcells : cells + 1 ≤ R.cells) (hslots : slots + n ≤ R.slots) (hdg : decode cc pc = .ok (.invokevirtual 100, 3))
    (kk : ∀ (q : Nat) (H1 : Heap), q = H.size → gG K A H0 (gup G x (q, .inl (K.2.1 0, n, .inl f))) H1 locs → W p l e R s m args below meth c H1 locs (cells + 1) (slots + n) Q (F0 m (pc + 3) ls (.ref q :: rest))) : W p l e R s m args below meth c H locs cells slots Q (F0 m pc ls (.ref a :: rest)) := by
  obtain ⟨hexec, hb, hml, hown, hts⟩ := hC
  have hcl := hE.2.1.2.2.2.1 ("[I", "java/lang/Cloneable") (by decide)
  have hnm := va_nm_int (hE.1.2 0 _ rfl).2
  obtain ⟨c0, t0', f1, f2, f3⟩ := Cond.castable_spec (va_Nw.use (A := args) rfl hcl)
  cases hnm.symm.trans f1
  intro T hT X
  have hsz : (vp_cell (K.2.1 0) (n, .inl f)).slots.size = n := arrV_size _ _ _
  have hcellT : T.heap[a]? = some (vp_cell (K.2.1 0) (n, .inl f)) := by rw [hT]; exact hG.1 y _ he
  obtain ⟨-, kA, hkA, comp, hkind⟩ := State.isArrayOf_alike X.warmed.alike ((hE.1.2 0 _ rfl).1 0 (fun _ => .null))
  obtain ⟨-, kS, hkS, compS, hkindS⟩ := (hE.1.2 0 _ rfl).1 0 (fun _ => .null)
  obtain ⟨vm', X', st⟩ := X.cloneArray hexec hown (hts _ q533) (hts _ q534) (hts _ q535) (hts _ q536) (hts _ q537) (a := a) (cell := vp_cell (K.2.1 0) (n, .inl f)) hcellT (fun k h => by cases h) (fun h => by cases h) hnm f2 f3
    (fun i v hv => by
      have hk' : T.vm.classes[K.2.1 0]? = some kA := hkA
      rw [show (vp_cell (K.2.1 0) (n, .inl f)).cls = K.2.1 0 from rfl]
      simpa [State.fitsSlot, State.slotType?, hk', hkind] using va_fit (ty := .int) (fun i _ => rfl) i v hv)
    (g := F0 m pc ls (.ref a :: rest)) rfl (by rw [hml]; exact hsize) rfl (by rw [hb]; exact hdg) hframes (by show 2 * 0 + _ + 14 ≤ _; omega) hcells (by rw [hsz]; exact hslots) (hloader := Vm.clonesLoader_of_array hkS hkindS)
  have hcellE : ({ cls := (vp_cell (K.2.1 0) (n, .inl f)).cls, slots := (vp_cell (K.2.1 0) (n, .inl f)).slots } : Cell) = vp_cell (K.2.1 0) (n, .inl f) := rfl
  rw [hcellE, hsz] at X'
  generalize hH1 : H.push (vp_cell (K.2.1 0) (n, .inl f)) = H1
  have z1 : H1.size = H.size + 1 := by rw [← hH1, Array.size_push]
  have e1 : H1[H.size]? = some (vp_cell (K.2.1 0) (n, .inl f)) := by rw [← hH1, Array.getElem?_push_size]
  have o1 : ∀ q : Nat, q < H.size → H1[q]? = H[q]? := fun q hq => by rw [← hH1, Array.getElem?_push, if_neg (Nat.ne_of_lt hq)]
  obtain ⟨t, b1, b2⟩ := kk H.size H1 rfl (hG.push z1 e1 o1) ((T.setVm vm').pushCell (vp_cell (K.2.1 0) (n, .inl f))) (by rw [← hH1, ← hT]; rfl) X'
  refine ⟨t, st t ?_, b2⟩
  rw [hcellE, hT]
  exact b1
end CLN
/-- the first places emptied -/
def fM1 (f : Nat → Int32) : Nat → Nat → Int32
  | 0 => f
  | i + 1 => upd (fM1 f i) i (-1)
set_option maxHeartbeats 4000000 in
theorem xt_taken (l : Launch) (K : GK) (A : Nat → Prop) (V : GM) (y yN : Lb) (a n : Nat) (f : Nat → Int32) (hy : V y = some (a, .inl (K.2.1 0, n, .inl f))) (hyN : yN ≠ y) (hn : n ≤ 4) : Met l yX1_taken (ws_ yX1_taken cX1_taken 3 (some (.array .int))) ({ frames := 1, cells := 1, slots := 4, locals := 40 }) (va_Pc [.ref a] (gW K A V)) (va_Qr (fun _ : Unit => True) (fun _ q t => gB K A (gup (gup V yN (q, .inl (K.2.1 0, n, .inl f))) y (a, .inl (K.2.1 0, n, .inl (fM1 f n)))) t) A) 1 4 A := by
  refine g_ofW (cc := cX1_taken) (by decide) (own := RX1) rfl (Nat.le_of_ble_eq_true rfl) ?_
  intro p e s m below meth c hC hr hlocks hnm hE hG ls hl
  have hl : lv_has ls 3 [(0, .ref a)] := hl
  refine lv_aload_n hC.1 hC.2.1 dX1_taken_0 rfl (lv_at hl 0 rfl) ?_
  refine g_clone hC hE hG yN hy hl.1 (Nat.le_of_ble_eq_true rfl) (Nat.le_of_ble_eq_true rfl) (Nat.le_of_ble_eq_true rfl) (by show 0 + n ≤ 4; omega) dX1_taken_1 (fun q H hq hG => ?_)
  refine va_castA (D := K.1) (cl := clA) hC.1 hC.2.1 hC.2.2.2.1 (hC.2.2.2.2 _ q539) (hG.1.one (gup_s _ _ _)) 0 rfl (va_nm_int (hE.1.2 0 _ rfl).2) dX1_taken_4 ?_
  refine lv_astore_n (lv' := [(1, .ref q), (0, .ref a)]) hC.1 hC.2.1 dX1_taken_7 rfl hl (by decide) rfl (fun ls hl => ?_)
  refine lv_iconst (v := 0) hC.1 hC.2.1 dX1_taken_8 (by decide) ?_
  refine lv_istore_n (lv' := [(2, .int (nI 0)), (1, .ref q), (0, .ref a)]) hC.1 hC.2.1 dX1_taken_9 rfl hl (by decide) rfl (fun ls hl => ?_)
  have lp : ∀ (nn i : Nat), i + nn = n → ∀ (H : Heap) (locs : List Loc), gG K A s.heap (gup (gup V yN (q, .inl (K.2.1 0, n, .inl f))) y (a, .inl (K.2.1 0, n, .inl (fM1 f i)))) H locs → ∀ ls : Array Slot, lv_has ls 3 [(2, .int (nI i)), (1, .ref q), (0, .ref a)] →
      W p l e ({ frames := 1, cells := 1, slots := 4, locals := 40 }) s m #[.ref a] below meth c H locs (0 + 1) (0 + n) (MQ below (va_Qr (fun _ : Unit => True) (fun _ q t => gB K A (gup (gup V yN (q, .inl (K.2.1 0, n, .inl f))) y (a, .inl (K.2.1 0, n, .inl (fM1 f n)))) t) A) #[.ref a] s 1 4 A) (F0 m 10 ls []) := by
    intro nn
    induction nn with
    | zero =>
      intro i hi H locs hG ls hl
      obtain rfl : n = i := by omega
      refine lv_iload_n hC.1 hC.2.1 dX1_taken_10 rfl (lv_at hl 0 rfl) ?_
      refine lv_aload_n hC.1 hC.2.1 dX1_taken_11 rfl (lv_at hl 2 rfl) ?_
      refine g_alen hC hE hG 0 (gup_s _ _ _) rfl (v := nI n) rfl dX1_taken_12 ?_
      refine n_ge (a := n) (b := n) hC (by omega) (by omega) (tgt := 26) dX1_taken_13 (by decide) (fun _ => ?_) (fun c1 => absurd c1 (by omega))
      refine lv_aload_n hC.1 hC.2.1 dX1_taken_26 rfl (lv_at hl 1 rfl) ?_
      refine W.widen (k := 1) (n := 4) (by decide) (by omega) ?_
      exact g_rret hC hG hr (Or.inr ⟨_, rfl⟩) () rfl (by trivial) hlocks dX1_taken_27
    | succ nn ih =>
      intro i hi H locs hG ls hl
      refine lv_iload_n hC.1 hC.2.1 dX1_taken_10 rfl (lv_at hl 0 rfl) ?_
      refine lv_aload_n hC.1 hC.2.1 dX1_taken_11 rfl (lv_at hl 2 rfl) ?_
      refine g_alen hC hE hG 0 (gup_s _ _ _) rfl (v := nI n) rfl dX1_taken_12 ?_
      refine n_ge (a := i) (b := n) hC (by omega) (by omega) (tgt := 26) dX1_taken_13 (by decide) (fun c1 => absurd c1 (by omega)) (fun _ => ?_)
      refine lv_aload_n hC.1 hC.2.1 dX1_taken_16 rfl (lv_at hl 2 rfl) ?_
      refine lv_iload_n hC.1 hC.2.1 dX1_taken_17 rfl (lv_at hl 0 rfl) ?_
      refine lv_iconst (v := -1) hC.1 hC.2.1 dX1_taken_18 (by decide) ?_
      refine g_ist hC hE hG (n := n) (gup_s _ _ _) (by omega) (j := i) (by omega) dX1_taken_19 (fun H locs hG => ?_)
      refine lv_iinc (v := nI (i + 1)) (lv' := [(2, .int (nI (i + 1))), (1, .ref q), (0, .ref a)]) hC.1 hC.2.1 dX1_taken_20 hl (k := 0) rfl (n_inc _) (by decide) rfl (fun ls hl => ?_)
      refine lv_goto (tgt := 10) hC.1 hC.2.1 dX1_taken_23 (by decide) ?_
      exact ih (i + 1) (by omega) _ _ (hG.eq (gup_gup _ _ _ _)) ls hl
  refine lp n 0 (by omega) _ _ (hG.eq ?_) ls hl
  exact (gup_id ((gup_n _ _ hyN.symm).trans hy)).symm
