/-! the JDK's own methods: ArrayList's constructor and add, Arrays.copyOf, ArraysSupport.newLength -/
set_option maxRecDepth 100000
theorem gup_gup4 (G : GM) (x y : Lb) (h : x ≠ y) (p q r : Nat × va_E) : gup (gup (gup G x p) y q) x r = gup (gup G x r) y q := by
  rw [gup_cm _ _ _ (fun e => h e.symm), gup_gup]
/-- a world seen under other labels -/
theorem gG.ren {K : GK} {A : Nat → Prop} {H0 H : Heap} {G G1 : GM} {locs : List Loc} (h : gG K A H0 G H locs) (σ : Lb → Lb) (hσ : ∀ x q, G1 x = some q → G (σ x) = some q) (hi : ∀ x y p q, G1 x = some p → G1 y = some q → σ x = σ y → x = y) : gG K A H0 G1 H locs :=
  ⟨fun x q hx => h.1 (σ x) q (hσ x q hx), ⟨fun x y p q hx hy e => hi x y p q hx hy (h.2.1.1 (σ x) (σ y) p q (hσ x p hx) (hσ y q hy) e), fun x q hx => h.2.1.2 (σ x) q (hσ x q hx)⟩, h.2.2⟩
/-- a cell made aside comes in another's place -/
theorem gG.swap {K : GK} {A : Nat → Prop} {H0 H : Heap} {W : GM} {locs : List Loc} {x y : Lb} {q : Nat × va_E} (h : gG K A H0 (gup W y q) H locs) (hy : W y = none) (hxy : x ≠ y) : gG K A H0 (gup W x q) H locs := by
  have hz : ∀ (z : Lb) (p : Nat × va_E), gup W x q z = some p → z ≠ y := fun z p hz e => by
    rw [e, gup_n _ _ (fun e => hxy e.symm), hy] at hz
    cases hz
  refine h.ren (fun z => if z = x then y else z) (fun z p hp => ?_) (fun z w p r hp hr e => ?_)
  · show gup W y q (if z = x then y else z) = some p
    by_cases e : z = x
    · rw [if_pos e, gup_s]
      rw [e, gup_s] at hp
      exact hp
    · rw [if_neg e, gup_n _ _ (hz z p hp)]
      rw [gup_n _ _ e] at hp
      exact hp
  · have e : (if z = x then y else z) = (if w = x then y else w) := e
    by_cases e1 : z = x <;> by_cases e2 : w = x
    · rw [e1, e2]
    · rw [if_pos e1, if_neg e2] at e
      exact absurd e.symm (hz w r hr)
    · rw [if_neg e1, if_pos e2] at e
      exact absurd e (hz z p hp)
    · rwa [if_neg e1, if_neg e2] at e
theorem xt_J0 (l : Launch) (K : GK) (A : Nat → Prop) (G : GM) (q : Nat) : Met l yJ0_init (ws_ yJ0_init cJ0_init 1 none) ({ frames := 1, cells := 0, slots := 0, locals := 20 }) (va_Pc [.ref q] (gW K A G)) (va_Qv (fun _ : Unit => True) (fun _ t => gB K A G t) A) 0 0 A := by
  refine g_ofW (cc := cJ0_init) (by decide) (own := RJ0) rfl (Nat.le_of_ble_eq_true rfl) ?_
  intro p e s m below meth c hC hr hlocks hnm hE hG ls hl
  have hl : lv_has ls 1 [(0, .ref q)] := hl
  refine lv_aload_n hC.1 hC.2.1 dJ0_init_0 rfl (lv_at hl 0 rfl) ?_
  refine W.objInit hC.1 hC.2.1 hC.2.2.2.1 (hC.2.2.2.2 _ q64) (hC.2.2.2.2 _ q51) (hC.2.2.2.2 _ q52) rfl (by rw [hC.2.2.1]; exact hl.1) rfl dJ0_init_1 (Nat.le_of_ble_eq_true rfl) (Nat.le_of_ble_eq_true rfl) ?_
  refine W.eq (g2 := F0 m 4 ls []) rfl ?_
  exact g_vret hC hG hr () rfl (by trivial) hlocks dJ0_init_4
theorem xt_J1 (l : Launch) (K : GK) (A : Nat → Prop) (G : GM) (y : Lb) (q : Nat) (m0 : Int32) (v w : Value) (hy : G y = some (q, .inr (8, [.int m0, v, w]))) : Met l yJ1_init (ws_ yJ1_init cJ1_init 1 none) ({ frames := 2, cells := 0, slots := 0, locals := 60 }) (va_Pc [.ref q] (gW K A G)) (va_Qv (fun _ : Unit => True) (fun _ t => gB K A (gup G y (q, .inr (8, [.int 0, v, w]))) t) A) 0 0 A := by
  refine g_ofW (cc := cJ1_init) (by decide) (own := RJ1) rfl (Nat.le_of_ble_eq_true rfl) ?_
  intro p e s m below meth c hC hr hlocks hnm hE hG ls hl
  have hl : lv_has ls 1 [(0, .ref q)] := hl
  refine lv_aload_n hC.1 hC.2.1 dJ1_init_0 rfl (lv_at hl 0 rfl) ?_
  refine g_cI (As := []) (rest := []) hC hE hG (xt_J0 l K A G q) (cwI 0 hC.2.2.2.2 (lw_meth q63) rfl rfl rfl (hC.2.2.2.2 _ q22) (hC.2.2.2.2 _ q61) (hC.2.2.2.2 _ q62) rfl (by decide +kernel) ⟨Nat.le_of_ble_eq_true rfl, Nat.le_of_ble_eq_true rfl⟩) rfl hl.1 rfl (Nat.le_of_ble_eq_true rfl) dJ1_init_1 ⟨Nat.le_of_ble_eq_true rfl, Nat.le_of_ble_eq_true rfl⟩ (fun _ H locs _ hG => ?_)
  refine lv_aload_n hC.1 hC.2.1 dJ1_init_4 rfl (lv_at hl 0 rfl) ?_
  refine lv_iconst (v := 0) hC.1 hC.2.1 dJ1_init_5 (by decide) ?_
  refine g_put hC hE hG in_J2 tyJ2 tyJ2_ok nmJ2 hy (ci := 8) rfl 0 (by decide) q71 (fun _ z => z) rfl (tyJ2_ok 0 (by decide)) rfl rfl (Nat.le_of_ble_eq_true rfl) dJ1_init_6 (fun H locs hG => ?_)
  exact g_vret hC hG hr () rfl (by trivial) hlocks dJ1_init_9
theorem xt_initJ2 (l : Launch) (K : GK) (A : Nat → Prop) (G : GM) (y : Lb) (q : Nat) (hy : G y = some (q, .inr (8, [.int 0, .null, .int 0]))) : Met l yJ2_init (ws_ yJ2_init cJ2_init 1 none) ({ frames := 3, cells := 0, slots := 0, locals := 100 }) (va_Pc [.ref q] (gW K A G)) (va_Qv (fun _ : Unit => True) (fun _ t => gB K A (gup G y (q, .inr (8, [.int 0, .ref K.2.2.1, .int 0]))) t) A) 0 0 A := by
  refine g_ofW (cc := cJ2_init) (by decide) (own := RJ2) rfl (Nat.le_of_ble_eq_true rfl) ?_
  intro p e s m below meth c hC hr hlocks hnm hE hG ls hl
  have hl : lv_has ls 1 [(0, .ref q)] := hl
  refine lv_aload_n hC.1 hC.2.1 dJ2_init_0 rfl (lv_at hl 0 rfl) ?_
  refine g_cI (As := []) (rest := []) hC hE hG (xt_J1 l K A G y q 0 .null (.int 0) hy) (cwI 0 hC.2.2.2.2 (lw_meth q60) rfl rfl rfl (hC.2.2.2.2 _ q23) (hC.2.2.2.2 _ q58) (hC.2.2.2.2 _ q59) rfl (by decide +kernel) ⟨Nat.le_of_ble_eq_true rfl, Nat.le_of_ble_eq_true rfl⟩) rfl hl.1 rfl (Nat.le_of_ble_eq_true rfl) dJ2_init_1 ⟨Nat.le_of_ble_eq_true rfl, Nat.le_of_ble_eq_true rfl⟩ (fun _ H locs _ hG => ?_)
  refine lv_aload_n hC.1 hC.2.1 dJ2_init_4 rfl (lv_at hl 0 rfl) ?_
  refine va_gets hC.1 hC.2.1 hE.2.2.1 hG.2.2.1 hC.2.2.2.1 (hC.2.2.2.2 _ q65) (fun _ z => z) dJ2_init_5 ?_
  refine g_put hC hE hG in_J2 tyJ2 tyJ2_ok nmJ2 (gup_s _ _ _) (ci := 8) rfl 1 (by decide) q67 (fun _ z => z) rfl (tyJ2_ok 1 (by decide)) rfl rfl (Nat.le_of_ble_eq_true rfl) dJ2_init_8 (fun H locs hG => ?_)
  exact g_vret hC (hG.eq (gup_gup _ _ _ _)) hr () rfl (by trivial) hlocks dJ2_init_11
/-- newLength, where it doesn't run over -/
theorem xt_newLength (l : Launch) (a b d n : Int32) (hn : a + (if b < d then d else b) = n) (h0 : 0 < n) (h1 : ¬ 2147483639 < n) : Met l yJ11_newLength (ws_ yJ11_newLength cJ11_newLength 4 (some .int)) ({ frames := 1, cells := 0, slots := 0, locals := 20 }) (va_Pc [.int a, .int b, .int d] (fun _ => True)) (vp_Si (fun r => r = n)) 0 0 (fun _ => False) := by
  refine g_ofP (cc := cJ11_newLength) (by decide) (own := RJ11) rfl (Nat.le_of_ble_eq_true rfl) ?_
  intro p e s m below meth c hC hr hlocks ls hl
  have hl : lv_has ls 4 [(0, .int a), (1, .int b), (2, .int d)] := hl
  refine lv_iload_n hC.1 hC.2.1 dJ11_newLength_0 rfl (lv_at hl 0 rfl) ?_
  refine lv_iload_n hC.1 hC.2.1 dJ11_newLength_1 rfl (lv_at hl 1 rfl) ?_
  refine lv_iload_n hC.1 hC.2.1 dJ11_newLength_2 rfl (lv_at hl 2 rfl) ?_
  refine g_mmax hC q589 hl.1 (Nat.le_of_ble_eq_true rfl) (Nat.le_of_ble_eq_true rfl) ⟨Nat.le_of_ble_eq_true rfl, Nat.le_of_ble_eq_true rfl⟩ rfl dJ11_newLength_3 ?_
  refine lv_iadd hC.1 hC.2.1 dJ11_newLength_6 ?_
  rw [hn]
  refine lv_istore_n (lv' := [(3, .int n), (0, .int a), (1, .int b), (2, .int d)]) hC.1 hC.2.1 dJ11_newLength_7 rfl hl (by decide) rfl (fun ls hl => ?_)
  refine lv_iconst (v := 0) hC.1 hC.2.1 dJ11_newLength_8 (by decide) ?_
  refine lv_iload_n hC.1 hC.2.1 dJ11_newLength_9 rfl (lv_at hl 0 rfl) ?_
  refine lv_icmp_ge (tgt := 21) hC.1 hC.2.1 dJ11_newLength_10 (by decide) (fun c1 => absurd h0 (Int32.not_lt.mpr c1)) (fun c1 => ?_)
  refine lv_iload_n hC.1 hC.2.1 dJ11_newLength_13 rfl (lv_at hl 0 rfl) ?_
  refine lv_ldc hC.1 hC.2.1 hC.2.2.2.1 (hC.2.2.2.2 _ q590) dJ11_newLength_14 ?_
  refine lv_icmp_gt (tgt := 21) hC.1 hC.2.1 dJ11_newLength_16 (by decide) (fun c2 => absurd c2 h1) (fun c2 => ?_)
  refine lv_iload_n hC.1 hC.2.1 dJ11_newLength_19 rfl (lv_at hl 0 rfl) ?_
  exact g_roret hC hr rfl rfl hlocks dJ11_newLength_20
