/-! ArrayList.add and what it calls: the list at (1,12,0), its row at (1,13,0); (5,0,0) is free -/
set_option maxRecDepth 100000
/-- all that the row holds are objects that may lie in it -/
def evOk (V : GM) (n : Nat) (f : Nat → Option Nat) : Prop := ∀ i, i < n → ∀ z, f i = some z → ∃ (x : Lb) (ci : Nat) (fs : List Value) (r : vw_C), V x = some (z, .inr (ci, fs)) ∧ clA[ci]? = some r ∧ (r.1, "java/lang/Object") ∈ nwC ∧ x.1 = 2
theorem evOk.any {K : GK} {A : Nat → Prop} {s : State} {H : Heap} {locs : List Loc} {V : GM} {n : Nat} {f : Nat → Option Nat} (h : evOk V n f) (hE : gE K A s s.heap) (hG : gG K A s.heap V H locs) : ∀ i, i < n → ∀ z, f i = some z → va_Any "java/lang/Object" s H z := fun i hi z hz => by
  obtain ⟨x, ci, fs, ⟨C, T, N⟩, h1, h2, h3, -⟩ := h i hi z hz
  exact g_recvA hE hG h1 h2 h3
theorem evOk.gup {V : GM} {n : Nat} {f : Nat → Option Nat} (h : evOk V n f) {x : Lb} {q : Nat × va_E} (hx : x.1 ≠ 2) : evOk (gup V x q) n f := fun i hi z hz => by
  obtain ⟨y, ci, fs, r, h1, h2, h3, h4⟩ := h i hi z hz
  exact ⟨y, ci, fs, r, (gup_n _ _ (fun e => hx (by rw [← e]; exact h4))).trans h1, h2, h3, h4⟩
/-- Arrays.copyOf to a longer row: the new row at (5,0,0) -/
theorem xt_copyOf2 (l : Launch) (K : GK) (A : Nat → Prop) (V : GM) (y : Lb) (a0 n n1 : Nat) (f : Nat → Option Nat) (hy : V y = some (a0, .inl (K.2.1 3, n, .inr (.inr (.inr (.inr f)))))) (hyt : y ≠ (5, 0, 0)) (hn : n ≤ n1) (hn1 : n1 ≤ 100) (hev : evOk V n f)
    : Met l yJ13_copyOf_2 (ws_ yJ13_copyOf_2 cJ13_copyOf_2 4 (some (.array (.object "java/lang/Object")))) ({ frames := 1, cells := 1, slots := 100, locals := 40 }) (va_Pc [.ref a0, .int (nI n1), .ref K.2.2.2] (gW K A V)) (va_Qr (fun _ : Unit => True) (fun _ q t => gB K A (gup V (5, 0, 0) (q, .inl (K.2.1 3, n1, .inr (.inr (.inr (.inr (va_cpy f (fun _ => none) 0 0 n))))))) t) A) 1 100 A := by
  refine g_ofW (cc := cJ13_copyOf_2) (by decide) (own := RJ13) rfl (Nat.le_of_ble_eq_true rfl) ?_
  intro p e s m below meth c hC hr hlocks hnm hE hG ls hl
  have hl : lv_has ls 4 [(0, .ref a0), (1, .int (nI n1)), (2, .ref K.2.2.2)] := hl
  refine lv_aload_n hC.1 hC.2.1 dJ13_copyOf_2_0 rfl (lv_at hl 2 rfl) ?_
  refine va_ldcM hC.1 hC.2.1 hC.2.2.2.1 (hC.2.2.2.2 _ q618) hE.2.2.2.2.2.2 dJ13_copyOf_2_1 ?_
  refine lv_acmp_ne (rx := some K.2.2.2) (ry := some K.2.2.2) (tgt := 13) hC.1 hC.2.1 dJ13_copyOf_2_3 (by decide) (fun c1 => absurd rfl c1) (fun _ => ?_)
  refine lv_iload_n hC.1 hC.2.1 dJ13_copyOf_2_6 rfl (lv_at hl 1 rfl) ?_
  refine g_newq hC hE hG (5, 0, 0) 3 q620 hE.2.1.2.2.2.2.2.1 rfl (N' := n1) (nI_pos (by omega)) (nI_clamp (by omega)) (by omega) (Nat.le_of_ble_eq_true rfl) (by show 0 + n1 ≤ 100; omega) dJ13_copyOf_2_7 (fun q H hq hG => ?_)
  refine lv_goto (tgt := 24) hC.1 hC.2.1 dJ13_copyOf_2_10 (by decide) ?_
  refine lv_astore_n (lv' := [(3, .ref q), (0, .ref a0), (1, .int (nI n1)), (2, .ref K.2.2.2)]) hC.1 hC.2.1 dJ13_copyOf_2_24 rfl hl (by decide) rfl (fun ls hl => ?_)
  refine lv_aload_n hC.1 hC.2.1 dJ13_copyOf_2_25 rfl (lv_at hl 1 rfl) ?_
  refine lv_iconst (v := 0) hC.1 hC.2.1 dJ13_copyOf_2_26 (by decide) ?_
  refine lv_aload_n hC.1 hC.2.1 dJ13_copyOf_2_27 rfl (lv_at hl 0 rfl) ?_
  refine lv_iconst (v := 0) hC.1 hC.2.1 dJ13_copyOf_2_28 (by decide) ?_
  refine lv_aload_n hC.1 hC.2.1 dJ13_copyOf_2_29 rfl (lv_at hl 1 rfl) ?_
  refine g_alen hC hE hG 3 ((gup_n _ _ hyt).trans hy) rfl (v := nI n) rfl dJ13_copyOf_2_30 ?_
  refine lv_iload_n hC.1 hC.2.1 dJ13_copyOf_2_31 rfl (lv_at hl 2 rfl) ?_
  refine g_mmin hC q621 hl.1 (Nat.le_of_ble_eq_true rfl) (Nat.le_of_ble_eq_true rfl) ⟨Nat.le_of_ble_eq_true rfl, by show 0 + n1 ≤ 100; omega⟩ (z := nI n) (if_neg (nI_nlt hn (by omega))) dJ13_copyOf_2_32 ?_
  refine g_copy (rest := []) hC hE hG q624 ((gup_n _ _ hyt).trans hy) (gup_s _ _ _) (by omega) (Nat.le_refl _) hn ((hev.gup (by decide)).any hE hG) hl.1 (Nat.le_of_ble_eq_true rfl) (Nat.le_of_ble_eq_true rfl) dJ13_copyOf_2_35 (fun H locs hG => ?_)
  refine lv_aload_n hC.1 hC.2.1 dJ13_copyOf_2_38 rfl (lv_at hl 0 rfl) ?_
  refine W.widen (k := 1) (n := 100) (Nat.le_refl _) (by show 0 + n1 ≤ 100; omega) ?_
  exact g_rret hC (hG.eq (gup_gup _ _ _ _)) hr (Or.inr ⟨_, rfl⟩) () rfl (by trivial) hlocks dJ13_copyOf_2_39
theorem xt_copyOf (l : Launch) (K : GK) (A : Nat → Prop) (V : GM) (y : Lb) (a0 n n1 : Nat) (f : Nat → Option Nat) (hy : V y = some (a0, .inl (K.2.1 3, n, .inr (.inr (.inr (.inr f)))))) (hyt : y ≠ (5, 0, 0)) (hn : n ≤ n1) (hn1 : n1 ≤ 100) (hev : evOk V n f)
    : Met l yJ13_copyOf (ws_ yJ13_copyOf cJ13_copyOf 2 (some (.array (.object "java/lang/Object")))) ({ frames := 2, cells := 1, slots := 100, locals := 80 }) (va_Pc [.ref a0, .int (nI n1)] (gW K A V)) (va_Qr (fun _ : Unit => True) (fun _ q t => gB K A (gup V (5, 0, 0) (q, .inl (K.2.1 3, n1, .inr (.inr (.inr (.inr (va_cpy f (fun _ => none) 0 0 n))))))) t) A) 1 100 A := by
  refine g_ofW (cc := cJ13_copyOf) (by decide) (own := RJ13) rfl (Nat.le_of_ble_eq_true rfl) ?_
  intro p e s m below meth c hC hr hlocks hnm hE hG ls hl
  have hl : lv_has ls 2 [(0, .ref a0), (1, .int (nI n1))] := hl
  refine lv_aload_n hC.1 hC.2.1 dJ13_copyOf_0 rfl (lv_at hl 0 rfl) ?_
  refine lv_iload_n hC.1 hC.2.1 dJ13_copyOf_1 rfl (lv_at hl 1 rfl) ?_
  refine lv_aload_n hC.1 hC.2.1 dJ13_copyOf_2 rfl (lv_at hl 0 rfl) ?_
  have hcell := hG.1 y _ hy
  refine va_getC hC.1 hC.2.1 (hC.2.2.1.trans hl.1.symm) hC.2.2.2.1 (hC.2.2.2.2 _ q597) (va_Nw.use rfl (hE.2.1.2.2.2.2.2.2.1 _ (List.mem_of_getElem? (i := 3) rfl))) (C := "[Ljava/lang/Object;") (hC.2.2.2.2 _ q996) (hC.2.2.2.2 _ q598) (hC.2.2.2.2 _ q614) hE.2.2.2.2.2.2 ⟨_, hcell, rfl, va_nmO (hE.1.2 3 _ rfl).2 rfl⟩ (Nat.le_of_ble_eq_true rfl) (Nat.le_of_ble_eq_true rfl) dJ13_copyOf_3 ?_
  refine g_cSr (As := [.ref a0, .int (nI n1), .ref K.2.2.2]) (rest := []) hC hE hG (xt_copyOf2 l K A V y a0 n n1 f hy hyt hn hn1 hev) (va_cwS 3 hC.2.2.2.2 (lw_S q615 q616 q38 q617) rfl rfl rfl (by decide +kernel) ⟨Nat.le_of_ble_eq_true rfl, Nat.le_of_ble_eq_true rfl⟩) rfl hl.1 rfl (Nat.le_of_ble_eq_true rfl) dJ13_copyOf_6 ⟨Nat.le_of_ble_eq_true rfl, Nat.le_of_ble_eq_true rfl⟩ (fun _ q H locs _ hG => ?_)
  exact g_rret hC hG hr (Or.inr ⟨_, rfl⟩) () rfl (by trivial) hlocks dJ13_copyOf_9
