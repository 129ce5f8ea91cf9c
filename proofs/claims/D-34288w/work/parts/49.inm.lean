/-! the reference's constructor (written by tools/mkinit.py) -/
set_option maxRecDepth 100000
def fvm (h : Nat → Nat) (m k : Nat) : Value := if k = 5 ∨ k = 7 ∨ k = 13 ∨ k = 14 ∨ k = 24 then .int 0 else if k < m then .ref (h k) else .null
def mfm (h : Nat → Nat) (m : Nat) : List Value := [fvm h m 0, fvm h m 1, fvm h m 2, fvm h m 3, fvm h m 4, fvm h m 5, fvm h m 6, fvm h m 7, fvm h m 8, fvm h m 9, fvm h m 10, fvm h m 11, fvm h m 12, fvm h m 13, fvm h m 14, fvm h m 15, fvm h m 16, fvm h m 17, fvm h m 18, fvm h m 19, fvm h m 20, fvm h m 21, fvm h m 22, fvm h m 23, fvm h m 24]
def sig0 : MS := (fun _ => 0, fun _ _ => 0)
/-- the first m fields are made; the object lies at o -/
def mini (ac : Nat → ClassId) (h : Nat → Nat) (o m : Nat) (G : GM) : GM := fun y => if y.1 = 0 ∧ y.2.2 = 0 ∧ y.2.1 < 26 then (if y.2.1 = 25 then some (o, .inr (2, mfm h m)) else if y.2.1 < m ∧ mKd y.2.1 ≠ 0 then mcell ac h sig0 y.2.1 else G y) else G y
theorem mini_o {ac : Nat → ClassId} {h : Nat → Nat} {o m : Nat} {G : GM} : mini ac h o m G (0, 25, 0) = some (o, .inr (2, mfm h m)) := rfl
theorem mini_0 {ac : Nat → ClassId} {h : Nat → Nat} {o : Nat} {G : GM} (hG : G (0, 25, 0) = some (o, .inr (2, mfm h 0))) : mini ac h o 0 G = G := by
  funext y
  unfold mini
  by_cases c : y.1 = 0 ∧ y.2.2 = 0 ∧ y.2.1 < 26
  · rw [if_pos c]
    by_cases e : y.2.1 = 25
    · rw [if_pos e, ← hG, show y = (0, 25, 0) from Prod.ext c.1 (Prod.ext e c.2.1)]
    · rw [if_neg e, if_neg (by omega)]
  · rw [if_neg c]
theorem mcell_h {ac : Nat → ClassId} {h : Nat → Nat} {σ : MS} {k j q : Nat} (nk : j ≠ k) (n25 : j ≠ 25) : mcell ac (va_up h k q) σ j = mcell ac h σ j := by
  unfold mcell
  rw [if_neg n25, if_neg n25, va_up_ne _ _ nk]
theorem mini_s {ac : Nat → ClassId} {h : Nat → Nat} {o m k q : Nat} {G : GM} {ce : Nat × va_E} {l : List Value} (hk : k < 25) (hm : m ≤ k) (hs : ∀ j, j < k → m ≤ j → mKd j = 0) (hk0 : mKd k ≠ 0) (hc : mcell ac (va_up h k q) sig0 k = some ce) (hl : l = mfm (va_up h k q) (k + 1)) : gup (gup (mini ac h o m G) (0, k, 0) ce) (0, 25, 0) (o, .inr (2, l)) = mini ac (va_up h k q) o (k + 1) G := by
  subst hl
  funext y
  by_cases e25 : y = (0, 25, 0)
  · subst e25
    rw [gup_s]
    rfl
  rw [gup_n _ _ e25]
  by_cases ek : y = (0, k, 0)
  · subst ek
    rw [gup_s]
    unfold mini
    rw [if_pos ⟨rfl, rfl, (by omega : k < 26)⟩, if_neg (by show ¬ k = 25; omega), if_pos ⟨Nat.lt_succ_self k, hk0⟩]
    exact hc.symm
  rw [gup_n _ _ ek]
  unfold mini
  by_cases c : y.1 = 0 ∧ y.2.2 = 0 ∧ y.2.1 < 26
  · rw [if_pos c, if_pos c]
    have n25 : ¬ y.2.1 = 25 := fun e => e25 (Prod.ext c.1 (Prod.ext e c.2.1))
    have nk : ¬ y.2.1 = k := fun e => ek (Prod.ext c.1 (Prod.ext e c.2.1))
    rw [if_neg n25, if_neg n25]
    by_cases d : y.2.1 < m ∧ mKd y.2.1 ≠ 0
    · rw [if_pos d, if_pos ⟨by omega, d.2⟩]
      exact (mcell_h nk n25).symm
    · rw [if_neg d, if_neg (fun d2 => d ⟨Nat.lt_of_not_le (fun g => d2.2 (hs _ (by omega) g)), d2.2⟩)]
  · rw [if_neg c, if_neg c]
theorem mini_e {ac : Nat → ClassId} {h : Nat → Nat} {o : Nat} {G : GM} : gle (mput ac (va_up h 25 o) sig0 G) (mini ac h o 24 G) := by
  intro y q hy
  unfold mini
  by_cases c : y.1 = 0 ∧ y.2.2 = 0 ∧ y.2.1 < 26
  · have e : y = (0, y.2.1, 0) := Prod.ext c.1 (Prod.ext rfl c.2.1)
    rw [e, mput_at _ _ _ _ c.2.2] at hy
    rw [if_pos c]
    by_cases e25 : y.2.1 = 25
    · rw [if_pos e25]
      rw [e25] at hy
      rw [← hy]
      rfl
    · rw [if_neg e25]
      by_cases d : mKd y.2.1 = 0
      · unfold mcell at hy
        rw [if_neg e25, if_pos d] at hy
        cases hy
      · have e24 : ¬ y.2.1 = 24 := fun e => d (by rw [e]; rfl)
        rw [if_pos ⟨by omega, d⟩, ← hy]
        exact (mcell_h e25 e25).symm
  · rw [mput_n _ _ _ _ c] at hy
    rw [if_neg c]
    exact hy
set_option maxHeartbeats 8000000 in
theorem mt_init (l : Launch) (K : GK) (A : Nat → Prop) (G : GM) (o : Nat) (hy : G (0, 25, 0) = some (o, .inr (2, mfm (fun _ => 0) 0))) : Met l yX3_init (ws_ yX3_init cX3_init 2 none) ({ frames := 1, cells := 20, slots := 2729, locals := 30 }) (va_Pc [.ref o] (gW K A G)) (va_Qv (fun h9 : Nat → Nat => h9 25 = o) (fun h9 t9 => gB K A (mput K.2.1 h9 (mInit sig0) G) t9) A) 20 2729 A := by
  refine g_ofW (cc := cX3_init) (by decide) (own := RX3) rfl (Nat.le_of_ble_eq_true rfl) ?_
  intro p e s m below meth c hC hr hlocks hnm hE hG ls hl
  have hl : lv_has ls 2 [(0, .ref o)] := hl
  have hG : gG K A s.heap (mini K.2.1 (fun _ => 0) o 0 G) s.heap [] := hG.eq (mini_0 hy).symm
  generalize (fun _ => 0 : Nat → Nat) = h at hG
  refine lv_aload_n hC.1 hC.2.1 dX3_init_0 rfl (lv_at hl 0 rfl) ?_
  refine W.objInit hC.1 hC.2.1 hC.2.2.2.1 (hC.2.2.2.2 _ q751) (hC.2.2.2.2 _ q51) (hC.2.2.2.2 _ q52) rfl (by rw [hC.2.2.1]; exact hl.1) rfl dX3_init_1 (Nat.le_of_ble_eq_true rfl) (Nat.le_of_ble_eq_true rfl) ?_
  refine W.eq (g2 := F0 m 4 ls []) rfl ?_
  refine lv_aload_n hC.1 hC.2.1 dX3_init_4 rfl (lv_at hl 0 rfl) ?_
  refine lv_iconst (v := 5) hC.1 hC.2.1 dX3_init_5 (by decide) ?_
  refine g_newa hC hE hG (0, 0, 0) 0 (atype := .int) q82 rfl (ty := .int) rfl (fun _ h => h) (N' := 5) (a0 := (5, .inl (fun _ => 0))) (fun _ => rfl) (by decide) (by decide) (by decide) (Nat.le_of_ble_eq_true rfl) (Nat.le_of_ble_eq_true rfl) dX3_init_6 (fun q0 H hq0 hG => ?_)
  refine g_putF hC hE hG in_X3 tyX3 tyX3_ok nmX3 ((gup_n _ _ (show ((0, 25, 0) : Lb) ≠ (0, 0, 0) by decide)).trans mini_o) (ci := 2) rfl 0 (by decide) q756 (fun _ z => z) rfl hnm rfl (tyX3_ok 0 (by decide)) rfl rfl (Nat.le_of_ble_eq_true rfl) dX3_init_8 (fun H locs hG => ?_)
  replace hG := hG.eq (mini_s (h := h) (m := 0) (k := 0) (q := q0) (by decide) (by decide) (by decide) (by decide) rfl rfl)
  generalize va_up h 0 q0 = h at hG
  refine lv_aload_n hC.1 hC.2.1 dX3_init_11 rfl (lv_at hl 0 rfl) ?_
  refine lv_iconst (v := 4) hC.1 hC.2.1 dX3_init_12 (by decide) ?_
  refine g_newa hC hE hG (0, 1, 0) 0 (atype := .int) q82 rfl (ty := .int) rfl (fun _ h => h) (N' := 4) (a0 := (4, .inl (fun _ => 0))) (fun _ => rfl) (by decide) (by decide) (by decide) (Nat.le_of_ble_eq_true rfl) (Nat.le_of_ble_eq_true rfl) dX3_init_13 (fun q1 H hq1 hG => ?_)
  refine g_putF hC hE hG in_X3 tyX3 tyX3_ok nmX3 ((gup_n _ _ (show ((0, 25, 0) : Lb) ≠ (0, 1, 0) by decide)).trans mini_o) (ci := 2) rfl 1 (by decide) q757 (fun _ z => z) rfl hnm rfl (tyX3_ok 1 (by decide)) rfl rfl (Nat.le_of_ble_eq_true rfl) dX3_init_15 (fun H locs hG => ?_)
  replace hG := hG.eq (mini_s (h := h) (m := 1) (k := 1) (q := q1) (by decide) (by decide) (by decide) (by decide) rfl rfl)
  generalize va_up h 1 q1 = h at hG
  refine lv_aload_n hC.1 hC.2.1 dX3_init_18 rfl (lv_at hl 0 rfl) ?_
  refine lv_iconst (v := 3) hC.1 hC.2.1 dX3_init_19 (by decide) ?_
  refine g_newa hC hE hG (0, 2, 0) 0 (atype := .int) q82 rfl (ty := .int) rfl (fun _ h => h) (N' := 3) (a0 := (3, .inl (fun _ => 0))) (fun _ => rfl) (by decide) (by decide) (by decide) (Nat.le_of_ble_eq_true rfl) (Nat.le_of_ble_eq_true rfl) dX3_init_20 (fun q2 H hq2 hG => ?_)
  refine g_putF hC hE hG in_X3 tyX3 tyX3_ok nmX3 ((gup_n _ _ (show ((0, 25, 0) : Lb) ≠ (0, 2, 0) by decide)).trans mini_o) (ci := 2) rfl 2 (by decide) q758 (fun _ z => z) rfl hnm rfl (tyX3_ok 2 (by decide)) rfl rfl (Nat.le_of_ble_eq_true rfl) dX3_init_22 (fun H locs hG => ?_)
  replace hG := hG.eq (mini_s (h := h) (m := 2) (k := 2) (q := q2) (by decide) (by decide) (by decide) (by decide) rfl rfl)
  generalize va_up h 2 q2 = h at hG
  refine lv_aload_n hC.1 hC.2.1 dX3_init_25 rfl (lv_at hl 0 rfl) ?_
  refine lv_iconst (v := 3) hC.1 hC.2.1 dX3_init_26 (by decide) ?_
  refine g_newa hC hE hG (0, 3, 0) 0 (atype := .int) q82 rfl (ty := .int) rfl (fun _ h => h) (N' := 3) (a0 := (3, .inl (fun _ => 0))) (fun _ => rfl) (by decide) (by decide) (by decide) (Nat.le_of_ble_eq_true rfl) (Nat.le_of_ble_eq_true rfl) dX3_init_27 (fun q3 H hq3 hG => ?_)
  refine g_putF hC hE hG in_X3 tyX3 tyX3_ok nmX3 ((gup_n _ _ (show ((0, 25, 0) : Lb) ≠ (0, 3, 0) by decide)).trans mini_o) (ci := 2) rfl 3 (by decide) q759 (fun _ z => z) rfl hnm rfl (tyX3_ok 3 (by decide)) rfl rfl (Nat.le_of_ble_eq_true rfl) dX3_init_29 (fun H locs hG => ?_)
  replace hG := hG.eq (mini_s (h := h) (m := 3) (k := 3) (q := q3) (by decide) (by decide) (by decide) (by decide) rfl rfl)
  generalize va_up h 3 q3 = h at hG
  refine lv_aload_n hC.1 hC.2.1 dX3_init_32 rfl (lv_at hl 0 rfl) ?_
  refine lv_iconst (v := 4) hC.1 hC.2.1 dX3_init_33 (by decide) ?_
  refine g_newa hC hE hG (0, 4, 0) 0 (atype := .int) q82 rfl (ty := .int) rfl (fun _ h => h) (N' := 4) (a0 := (4, .inl (fun _ => 0))) (fun _ => rfl) (by decide) (by decide) (by decide) (Nat.le_of_ble_eq_true rfl) (Nat.le_of_ble_eq_true rfl) dX3_init_34 (fun q4 H hq4 hG => ?_)
  refine g_putF hC hE hG in_X3 tyX3 tyX3_ok nmX3 ((gup_n _ _ (show ((0, 25, 0) : Lb) ≠ (0, 4, 0) by decide)).trans mini_o) (ci := 2) rfl 4 (by decide) q760 (fun _ z => z) rfl hnm rfl (tyX3_ok 4 (by decide)) rfl rfl (Nat.le_of_ble_eq_true rfl) dX3_init_36 (fun H locs hG => ?_)
  replace hG := hG.eq (mini_s (h := h) (m := 4) (k := 4) (q := q4) (by decide) (by decide) (by decide) (by decide) rfl rfl)
  generalize va_up h 4 q4 = h at hG
  refine lv_aload_n hC.1 hC.2.1 dX3_init_39 rfl (lv_at hl 0 rfl) ?_
  refine lv_bipush (v := 10) hC.1 hC.2.1 dX3_init_40 (by decide) ?_
  refine g_newa hC hE hG (0, 6, 0) 1 (atype := .boolean) q83 rfl (ty := .boolean) rfl (fun _ h => h) (N' := 10) (a0 := (10, .inl (fun _ => 0))) (fun _ => rfl) (by decide) (by decide) (by decide) (Nat.le_of_ble_eq_true rfl) (Nat.le_of_ble_eq_true rfl) dX3_init_42 (fun q6 H hq6 hG => ?_)
  refine g_putF hC hE hG in_X3 tyX3 tyX3_ok nmX3 ((gup_n _ _ (show ((0, 25, 0) : Lb) ≠ (0, 6, 0) by decide)).trans mini_o) (ci := 2) rfl 6 (by decide) q762 (fun _ z => z) rfl hnm rfl (tyX3_ok 6 (by decide)) rfl rfl (Nat.le_of_ble_eq_true rfl) dX3_init_44 (fun H locs hG => ?_)
  replace hG := hG.eq (mini_s (h := h) (m := 5) (k := 6) (q := q6) (by decide) (by decide) (by decide) (by decide) rfl rfl)
  generalize va_up h 6 q6 = h at hG
  refine lv_aload_n hC.1 hC.2.1 dX3_init_47 rfl (lv_at hl 0 rfl) ?_
  refine lv_bipush (v := 80) hC.1 hC.2.1 dX3_init_48 (by decide) ?_
  refine g_newa hC hE hG (0, 8, 0) 0 (atype := .int) q82 rfl (ty := .int) rfl (fun _ h => h) (N' := 80) (a0 := (80, .inl (fun _ => 0))) (fun _ => rfl) (by decide) (by decide) (by decide) (Nat.le_of_ble_eq_true rfl) (Nat.le_of_ble_eq_true rfl) dX3_init_50 (fun q8 H hq8 hG => ?_)
  refine g_putF hC hE hG in_X3 tyX3 tyX3_ok nmX3 ((gup_n _ _ (show ((0, 25, 0) : Lb) ≠ (0, 8, 0) by decide)).trans mini_o) (ci := 2) rfl 8 (by decide) q764 (fun _ z => z) rfl hnm rfl (tyX3_ok 8 (by decide)) rfl rfl (Nat.le_of_ble_eq_true rfl) dX3_init_52 (fun H locs hG => ?_)
  replace hG := hG.eq (mini_s (h := h) (m := 7) (k := 8) (q := q8) (by decide) (by decide) (by decide) (by decide) rfl rfl)
  generalize va_up h 8 q8 = h at hG
  refine lv_aload_n hC.1 hC.2.1 dX3_init_55 rfl (lv_at hl 0 rfl) ?_
  refine lv_bipush (v := 80) hC.1 hC.2.1 dX3_init_56 (by decide) ?_
  refine g_newa hC hE hG (0, 9, 0) 0 (atype := .int) q82 rfl (ty := .int) rfl (fun _ h => h) (N' := 80) (a0 := (80, .inl (fun _ => 0))) (fun _ => rfl) (by decide) (by decide) (by decide) (Nat.le_of_ble_eq_true rfl) (Nat.le_of_ble_eq_true rfl) dX3_init_58 (fun q9 H hq9 hG => ?_)
  refine g_putF hC hE hG in_X3 tyX3 tyX3_ok nmX3 ((gup_n _ _ (show ((0, 25, 0) : Lb) ≠ (0, 9, 0) by decide)).trans mini_o) (ci := 2) rfl 9 (by decide) q765 (fun _ z => z) rfl hnm rfl (tyX3_ok 9 (by decide)) rfl rfl (Nat.le_of_ble_eq_true rfl) dX3_init_60 (fun H locs hG => ?_)
  replace hG := hG.eq (mini_s (h := h) (m := 9) (k := 9) (q := q9) (by decide) (by decide) (by decide) (by decide) rfl rfl)
  generalize va_up h 9 q9 = h at hG
  refine lv_aload_n hC.1 hC.2.1 dX3_init_63 rfl (lv_at hl 0 rfl) ?_
  refine lv_sipush (v := 240) hC.1 hC.2.1 dX3_init_64 (by decide) ?_
  refine g_newa hC hE hG (0, 10, 0) 0 (atype := .int) q82 rfl (ty := .int) rfl (fun _ h => h) (N' := 240) (a0 := (240, .inl (fun _ => 0))) (fun _ => rfl) (by decide) (by decide) (by decide) (Nat.le_of_ble_eq_true rfl) (Nat.le_of_ble_eq_true rfl) dX3_init_67 (fun q10 H hq10 hG => ?_)
  refine g_putF hC hE hG in_X3 tyX3 tyX3_ok nmX3 ((gup_n _ _ (show ((0, 25, 0) : Lb) ≠ (0, 10, 0) by decide)).trans mini_o) (ci := 2) rfl 10 (by decide) q766 (fun _ z => z) rfl hnm rfl (tyX3_ok 10 (by decide)) rfl rfl (Nat.le_of_ble_eq_true rfl) dX3_init_69 (fun H locs hG => ?_)
  replace hG := hG.eq (mini_s (h := h) (m := 10) (k := 10) (q := q10) (by decide) (by decide) (by decide) (by decide) rfl rfl)
  generalize va_up h 10 q10 = h at hG
  refine lv_aload_n hC.1 hC.2.1 dX3_init_72 rfl (lv_at hl 0 rfl) ?_
  refine lv_sipush (v := 320) hC.1 hC.2.1 dX3_init_73 (by decide) ?_
  refine g_newa hC hE hG (0, 11, 0) 0 (atype := .int) q82 rfl (ty := .int) rfl (fun _ h => h) (N' := 320) (a0 := (320, .inl (fun _ => 0))) (fun _ => rfl) (by decide) (by decide) (by decide) (Nat.le_of_ble_eq_true rfl) (Nat.le_of_ble_eq_true rfl) dX3_init_76 (fun q11 H hq11 hG => ?_)
  refine g_putF hC hE hG in_X3 tyX3 tyX3_ok nmX3 ((gup_n _ _ (show ((0, 25, 0) : Lb) ≠ (0, 11, 0) by decide)).trans mini_o) (ci := 2) rfl 11 (by decide) q767 (fun _ z => z) rfl hnm rfl (tyX3_ok 11 (by decide)) rfl rfl (Nat.le_of_ble_eq_true rfl) dX3_init_78 (fun H locs hG => ?_)
  replace hG := hG.eq (mini_s (h := h) (m := 11) (k := 11) (q := q11) (by decide) (by decide) (by decide) (by decide) rfl rfl)
  generalize va_up h 11 q11 = h at hG
  refine lv_aload_n hC.1 hC.2.1 dX3_init_81 rfl (lv_at hl 0 rfl) ?_
  refine lv_bipush (v := 80) hC.1 hC.2.1 dX3_init_82 (by decide) ?_
  refine g_newa hC hE hG (0, 12, 0) 0 (atype := .int) q82 rfl (ty := .int) rfl (fun _ h => h) (N' := 80) (a0 := (80, .inl (fun _ => 0))) (fun _ => rfl) (by decide) (by decide) (by decide) (Nat.le_of_ble_eq_true rfl) (Nat.le_of_ble_eq_true rfl) dX3_init_84 (fun q12 H hq12 hG => ?_)
  refine g_putF hC hE hG in_X3 tyX3 tyX3_ok nmX3 ((gup_n _ _ (show ((0, 25, 0) : Lb) ≠ (0, 12, 0) by decide)).trans mini_o) (ci := 2) rfl 12 (by decide) q768 (fun _ z => z) rfl hnm rfl (tyX3_ok 12 (by decide)) rfl rfl (Nat.le_of_ble_eq_true rfl) dX3_init_86 (fun H locs hG => ?_)
  replace hG := hG.eq (mini_s (h := h) (m := 12) (k := 12) (q := q12) (by decide) (by decide) (by decide) (by decide) rfl rfl)
  generalize va_up h 12 q12 = h at hG
  refine lv_aload_n hC.1 hC.2.1 dX3_init_89 rfl (lv_at hl 0 rfl) ?_
  refine lv_sipush (v := 180) hC.1 hC.2.1 dX3_init_90 (by decide) ?_
  refine g_newa hC hE hG (0, 15, 0) 0 (atype := .int) q82 rfl (ty := .int) rfl (fun _ h => h) (N' := 180) (a0 := (180, .inl (fun _ => 0))) (fun _ => rfl) (by decide) (by decide) (by decide) (Nat.le_of_ble_eq_true rfl) (Nat.le_of_ble_eq_true rfl) dX3_init_93 (fun q15 H hq15 hG => ?_)
  refine g_putF hC hE hG in_X3 tyX3 tyX3_ok nmX3 ((gup_n _ _ (show ((0, 25, 0) : Lb) ≠ (0, 15, 0) by decide)).trans mini_o) (ci := 2) rfl 15 (by decide) q771 (fun _ z => z) rfl hnm rfl (tyX3_ok 15 (by decide)) rfl rfl (Nat.le_of_ble_eq_true rfl) dX3_init_95 (fun H locs hG => ?_)
  replace hG := hG.eq (mini_s (h := h) (m := 13) (k := 15) (q := q15) (by decide) (by decide) (by decide) (by decide) rfl rfl)
  generalize va_up h 15 q15 = h at hG
  refine lv_aload_n hC.1 hC.2.1 dX3_init_98 rfl (lv_at hl 0 rfl) ?_
  refine lv_sipush (v := 180) hC.1 hC.2.1 dX3_init_99 (by decide) ?_
  refine g_newa hC hE hG (0, 16, 0) 0 (atype := .int) q82 rfl (ty := .int) rfl (fun _ h => h) (N' := 180) (a0 := (180, .inl (fun _ => 0))) (fun _ => rfl) (by decide) (by decide) (by decide) (Nat.le_of_ble_eq_true rfl) (Nat.le_of_ble_eq_true rfl) dX3_init_102 (fun q16 H hq16 hG => ?_)
  refine g_putF hC hE hG in_X3 tyX3 tyX3_ok nmX3 ((gup_n _ _ (show ((0, 25, 0) : Lb) ≠ (0, 16, 0) by decide)).trans mini_o) (ci := 2) rfl 16 (by decide) q772 (fun _ z => z) rfl hnm rfl (tyX3_ok 16 (by decide)) rfl rfl (Nat.le_of_ble_eq_true rfl) dX3_init_104 (fun H locs hG => ?_)
  replace hG := hG.eq (mini_s (h := h) (m := 16) (k := 16) (q := q16) (by decide) (by decide) (by decide) (by decide) rfl rfl)
  generalize va_up h 16 q16 = h at hG
  refine lv_aload_n hC.1 hC.2.1 dX3_init_107 rfl (lv_at hl 0 rfl) ?_
  refine lv_sipush (v := 180) hC.1 hC.2.1 dX3_init_108 (by decide) ?_
  refine g_newa hC hE hG (0, 17, 0) 0 (atype := .int) q82 rfl (ty := .int) rfl (fun _ h => h) (N' := 180) (a0 := (180, .inl (fun _ => 0))) (fun _ => rfl) (by decide) (by decide) (by decide) (Nat.le_of_ble_eq_true rfl) (Nat.le_of_ble_eq_true rfl) dX3_init_111 (fun q17 H hq17 hG => ?_)
  refine g_putF hC hE hG in_X3 tyX3 tyX3_ok nmX3 ((gup_n _ _ (show ((0, 25, 0) : Lb) ≠ (0, 17, 0) by decide)).trans mini_o) (ci := 2) rfl 17 (by decide) q773 (fun _ z => z) rfl hnm rfl (tyX3_ok 17 (by decide)) rfl rfl (Nat.le_of_ble_eq_true rfl) dX3_init_113 (fun H locs hG => ?_)
  replace hG := hG.eq (mini_s (h := h) (m := 17) (k := 17) (q := q17) (by decide) (by decide) (by decide) (by decide) rfl rfl)
  generalize va_up h 17 q17 = h at hG
  refine lv_aload_n hC.1 hC.2.1 dX3_init_116 rfl (lv_at hl 0 rfl) ?_
  refine lv_bipush (v := 80) hC.1 hC.2.1 dX3_init_117 (by decide) ?_
  refine g_newa hC hE hG (0, 18, 0) 1 (atype := .boolean) q83 rfl (ty := .boolean) rfl (fun _ h => h) (N' := 80) (a0 := (80, .inl (fun _ => 0))) (fun _ => rfl) (by decide) (by decide) (by decide) (Nat.le_of_ble_eq_true rfl) (Nat.le_of_ble_eq_true rfl) dX3_init_119 (fun q18 H hq18 hG => ?_)
  refine g_putF hC hE hG in_X3 tyX3 tyX3_ok nmX3 ((gup_n _ _ (show ((0, 25, 0) : Lb) ≠ (0, 18, 0) by decide)).trans mini_o) (ci := 2) rfl 18 (by decide) q774 (fun _ z => z) rfl hnm rfl (tyX3_ok 18 (by decide)) rfl rfl (Nat.le_of_ble_eq_true rfl) dX3_init_121 (fun H locs hG => ?_)
  replace hG := hG.eq (mini_s (h := h) (m := 18) (k := 18) (q := q18) (by decide) (by decide) (by decide) (by decide) rfl rfl)
  generalize va_up h 18 q18 = h at hG
  refine lv_aload_n hC.1 hC.2.1 dX3_init_124 rfl (lv_at hl 0 rfl) ?_
  refine lv_sipush (v := 240) hC.1 hC.2.1 dX3_init_125 (by decide) ?_
  refine g_newa hC hE hG (0, 19, 0) 0 (atype := .int) q82 rfl (ty := .int) rfl (fun _ h => h) (N' := 240) (a0 := (240, .inl (fun _ => 0))) (fun _ => rfl) (by decide) (by decide) (by decide) (Nat.le_of_ble_eq_true rfl) (Nat.le_of_ble_eq_true rfl) dX3_init_128 (fun q19 H hq19 hG => ?_)
  refine g_putF hC hE hG in_X3 tyX3 tyX3_ok nmX3 ((gup_n _ _ (show ((0, 25, 0) : Lb) ≠ (0, 19, 0) by decide)).trans mini_o) (ci := 2) rfl 19 (by decide) q775 (fun _ z => z) rfl hnm rfl (tyX3_ok 19 (by decide)) rfl rfl (Nat.le_of_ble_eq_true rfl) dX3_init_130 (fun H locs hG => ?_)
  replace hG := hG.eq (mini_s (h := h) (m := 19) (k := 19) (q := q19) (by decide) (by decide) (by decide) (by decide) rfl rfl)
  generalize va_up h 19 q19 = h at hG
  refine lv_aload_n hC.1 hC.2.1 dX3_init_133 rfl (lv_at hl 0 rfl) ?_
  refine lv_sipush (v := 320) hC.1 hC.2.1 dX3_init_134 (by decide) ?_
  refine g_newa hC hE hG (0, 20, 0) 0 (atype := .int) q82 rfl (ty := .int) rfl (fun _ h => h) (N' := 320) (a0 := (320, .inl (fun _ => 0))) (fun _ => rfl) (by decide) (by decide) (by decide) (Nat.le_of_ble_eq_true rfl) (Nat.le_of_ble_eq_true rfl) dX3_init_137 (fun q20 H hq20 hG => ?_)
  refine g_putF hC hE hG in_X3 tyX3 tyX3_ok nmX3 ((gup_n _ _ (show ((0, 25, 0) : Lb) ≠ (0, 20, 0) by decide)).trans mini_o) (ci := 2) rfl 20 (by decide) q776 (fun _ z => z) rfl hnm rfl (tyX3_ok 20 (by decide)) rfl rfl (Nat.le_of_ble_eq_true rfl) dX3_init_139 (fun H locs hG => ?_)
  replace hG := hG.eq (mini_s (h := h) (m := 20) (k := 20) (q := q20) (by decide) (by decide) (by decide) (by decide) rfl rfl)
  generalize va_up h 20 q20 = h at hG
  refine lv_aload_n hC.1 hC.2.1 dX3_init_142 rfl (lv_at hl 0 rfl) ?_
  refine lv_sipush (v := 320) hC.1 hC.2.1 dX3_init_143 (by decide) ?_
  refine g_newa hC hE hG (0, 21, 0) 0 (atype := .int) q82 rfl (ty := .int) rfl (fun _ h => h) (N' := 320) (a0 := (320, .inl (fun _ => 0))) (fun _ => rfl) (by decide) (by decide) (by decide) (Nat.le_of_ble_eq_true rfl) (Nat.le_of_ble_eq_true rfl) dX3_init_146 (fun q21 H hq21 hG => ?_)
  refine g_putF hC hE hG in_X3 tyX3 tyX3_ok nmX3 ((gup_n _ _ (show ((0, 25, 0) : Lb) ≠ (0, 21, 0) by decide)).trans mini_o) (ci := 2) rfl 21 (by decide) q777 (fun _ z => z) rfl hnm rfl (tyX3_ok 21 (by decide)) rfl rfl (Nat.le_of_ble_eq_true rfl) dX3_init_148 (fun H locs hG => ?_)
  replace hG := hG.eq (mini_s (h := h) (m := 21) (k := 21) (q := q21) (by decide) (by decide) (by decide) (by decide) rfl rfl)
  generalize va_up h 21 q21 = h at hG
  refine lv_aload_n hC.1 hC.2.1 dX3_init_151 rfl (lv_at hl 0 rfl) ?_
  refine lv_sipush (v := 320) hC.1 hC.2.1 dX3_init_152 (by decide) ?_
  refine g_newa hC hE hG (0, 22, 0) 1 (atype := .boolean) q83 rfl (ty := .boolean) rfl (fun _ h => h) (N' := 320) (a0 := (320, .inl (fun _ => 0))) (fun _ => rfl) (by decide) (by decide) (by decide) (Nat.le_of_ble_eq_true rfl) (Nat.le_of_ble_eq_true rfl) dX3_init_155 (fun q22 H hq22 hG => ?_)
  refine g_putF hC hE hG in_X3 tyX3 tyX3_ok nmX3 ((gup_n _ _ (show ((0, 25, 0) : Lb) ≠ (0, 22, 0) by decide)).trans mini_o) (ci := 2) rfl 22 (by decide) q778 (fun _ z => z) rfl hnm rfl (tyX3_ok 22 (by decide)) rfl rfl (Nat.le_of_ble_eq_true rfl) dX3_init_157 (fun H locs hG => ?_)
  replace hG := hG.eq (mini_s (h := h) (m := 22) (k := 22) (q := q22) (by decide) (by decide) (by decide) (by decide) rfl rfl)
  generalize va_up h 22 q22 = h at hG
  refine lv_aload_n hC.1 hC.2.1 dX3_init_160 rfl (lv_at hl 0 rfl) ?_
  refine lv_bipush (v := 80) hC.1 hC.2.1 dX3_init_161 (by decide) ?_
  refine g_newa hC hE hG (0, 23, 0) 0 (atype := .int) q82 rfl (ty := .int) rfl (fun _ h => h) (N' := 80) (a0 := (80, .inl (fun _ => 0))) (fun _ => rfl) (by decide) (by decide) (by decide) (Nat.le_of_ble_eq_true rfl) (Nat.le_of_ble_eq_true rfl) dX3_init_163 (fun q23 H hq23 hG => ?_)
  refine g_putF hC hE hG in_X3 tyX3 tyX3_ok nmX3 ((gup_n _ _ (show ((0, 25, 0) : Lb) ≠ (0, 23, 0) by decide)).trans mini_o) (ci := 2) rfl 23 (by decide) q779 (fun _ z => z) rfl hnm rfl (tyX3_ok 23 (by decide)) rfl rfl (Nat.le_of_ble_eq_true rfl) dX3_init_165 (fun H locs hG => ?_)
  replace hG := hG.eq (mini_s (h := h) (m := 23) (k := 23) (q := q23) (by decide) (by decide) (by decide) (by decide) rfl rfl)
  generalize va_up h 23 q23 = h at hG
  obtain ⟨h, rfl, hGm⟩ : ∃ h9 : Nat → Nat, h9 25 = o ∧ gG K A s.heap (mput K.2.1 h9 sig0 G) H locs := ⟨va_up h 25 o, va_up_self _ _ _, hG.le mini_e⟩
  have hG := hGm
  refine lv_iconst (v := 0) hC.1 hC.2.1 dX3_init_168 (by decide) ?_
  refine lv_istore_n (lv' := [(1, .int ((0))), (0, .ref (h 25))]) hC.1 hC.2.1 dX3_init_169 rfl hl (by decide) rfl (fun ls hl => ?_)
  have lp170 : ∀ (nn i170 : Nat), i170 + nn = 5 → ∀ (H : Heap) (locs : List Loc), gG K A s.heap (mput K.2.1 h (mI1 (i170) sig0) G) H locs → ∀ ls : Array Slot, lv_has ls 2 [(1, .int (nI (i170))), (0, .ref (h 25))] → W p l e ({ frames := 1, cells := 20, slots := 2729, locals := 30 }) s m ([.ref (h 25)] : List Value).toArray below meth c H locs 20 2729 (MQ below (va_Qv (fun h9 : Nat → Nat => h9 25 = h 25) (fun h9 t9 => gB K A (mput K.2.1 h9 (mInit sig0) G) t9) A) ([.ref (h 25)] : List Value).toArray s 20 2729 (A)) (F0 m 170 ls []) := by
    intro nn
    induction nn with
    | zero =>
      intro i170 hi170 H locs hG ls hl
      obtain rfl : 5 = i170 := by omega
      refine lv_iload_n hC.1 hC.2.1 dX3_init_170 rfl (lv_at hl 0 rfl) ?_
      refine lv_iconst (v := 5) hC.1 hC.2.1 dX3_init_171 (by decide) ?_
      refine n_ge (a := 5) (b := 5) hC (by omega) (by omega) (tgt := 188) dX3_init_172 (by decide) (fun c_172 => ?_) (fun c_172 => absurd c_172 (by omega))
      refine lv_iconst (v := 0) hC.1 hC.2.1 dX3_init_188 (by decide) ?_
      refine lv_istore_n (lv' := [(1, .int ((0))), (0, .ref (h 25))]) hC.1 hC.2.1 dX3_init_189 rfl hl (by decide) rfl (fun ls hl => ?_)
      have lp190 : ∀ (nn i190 : Nat), i190 + nn = 4 → ∀ (H : Heap) (locs : List Loc), gG K A s.heap (mput K.2.1 h (mI2 (i190) (mI1 5 sig0)) G) H locs → ∀ ls : Array Slot, lv_has ls 2 [(1, .int (nI (i190))), (0, .ref (h 25))] → W p l e ({ frames := 1, cells := 20, slots := 2729, locals := 30 }) s m ([.ref (h 25)] : List Value).toArray below meth c H locs 20 2729 (MQ below (va_Qv (fun h9 : Nat → Nat => h9 25 = h 25) (fun h9 t9 => gB K A (mput K.2.1 h9 (mInit sig0) G) t9) A) ([.ref (h 25)] : List Value).toArray s 20 2729 (A)) (F0 m 190 ls []) := by
        intro nn
        induction nn with
        | zero =>
          intro i190 hi190 H locs hG ls hl
          obtain rfl : 4 = i190 := by omega
          refine lv_iload_n hC.1 hC.2.1 dX3_init_190 rfl (lv_at hl 0 rfl) ?_
          refine lv_iconst (v := 4) hC.1 hC.2.1 dX3_init_191 (by decide) ?_
          refine n_ge (a := 4) (b := 4) hC (by omega) (by omega) (tgt := 208) dX3_init_192 (by decide) (fun c_192 => ?_) (fun c_192 => absurd c_192 (by omega))
          refine lv_iconst (v := 0) hC.1 hC.2.1 dX3_init_208 (by decide) ?_
          refine lv_istore_n (lv' := [(1, .int ((0))), (0, .ref (h 25))]) hC.1 hC.2.1 dX3_init_209 rfl hl (by decide) rfl (fun ls hl => ?_)
          have lp210 : ∀ (nn i210 : Nat), i210 + nn = 3 → ∀ (H : Heap) (locs : List Loc), gG K A s.heap (mput K.2.1 h (mI3 (i210) (mI2 4 (mI1 5 sig0))) G) H locs → ∀ ls : Array Slot, lv_has ls 2 [(1, .int (nI (i210))), (0, .ref (h 25))] → W p l e ({ frames := 1, cells := 20, slots := 2729, locals := 30 }) s m ([.ref (h 25)] : List Value).toArray below meth c H locs 20 2729 (MQ below (va_Qv (fun h9 : Nat → Nat => h9 25 = h 25) (fun h9 t9 => gB K A (mput K.2.1 h9 (mInit sig0) G) t9) A) ([.ref (h 25)] : List Value).toArray s 20 2729 (A)) (F0 m 210 ls []) := by
            intro nn
            induction nn with
            | zero =>
              intro i210 hi210 H locs hG ls hl
              obtain rfl : 3 = i210 := by omega
              refine lv_iload_n hC.1 hC.2.1 dX3_init_210 rfl (lv_at hl 0 rfl) ?_
              refine lv_iconst (v := 3) hC.1 hC.2.1 dX3_init_211 (by decide) ?_
              refine n_ge (a := 3) (b := 3) hC (by omega) (by omega) (tgt := 228) dX3_init_212 (by decide) (fun c_212 => ?_) (fun c_212 => absurd c_212 (by omega))
              refine lv_aload_n hC.1 hC.2.1 dX3_init_228 rfl (lv_at hl 1 rfl) ?_
              refine g_cVv (As := []) (rest := []) (S := MS) hC hE hG (mt_emptyDraft l K A G h (mI3 (3) (mI2 4 (mI1 5 sig0))) ) (cwV 0 hC.2.2.2.2 (lw_V q752 q754 qs8 q26 q755) rfl rfl rfl (by decide +kernel) ⟨Nat.le_of_ble_eq_true rfl, Nat.le_of_ble_eq_true rfl⟩) (mput_o _ _ _ _) rfl rfl hl.1 rfl (Nat.le_of_ble_eq_true rfl) dX3_init_229 ⟨Nat.le_of_ble_eq_true rfl, Nat.le_of_ble_eq_true rfl⟩ (fun u H locs hu9 hG => ?_)
              subst hu9
              exact g_vret hC hG hr h rfl rfl hlocks dX3_init_232
            | succ nn ih210 =>
              intro i210 hi210 H locs hG ls hl
              have hlt210 : i210 < 3 := by omega
              refine lv_iload_n hC.1 hC.2.1 dX3_init_210 rfl (lv_at hl 0 rfl) ?_
              refine lv_iconst (v := 3) hC.1 hC.2.1 dX3_init_211 (by decide) ?_
              refine n_ge (a := i210) (b := 3) hC (by omega) (by omega) (tgt := 228) dX3_init_212 (by decide) (fun c_212 => absurd c_212 (by omega)) (fun c_212 => ?_)
              refine lv_aload_n hC.1 hC.2.1 dX3_init_215 rfl (lv_at hl 1 rfl) ?_
              refine m_geta hC hE hG 2 (by decide) (fun _ => rfl) q758 rfl dX3_init_216 ?_
              refine lv_iload_n hC.1 hC.2.1 dX3_init_219 rfl (lv_at hl 0 rfl) ?_
              refine lv_iload_n hC.1 hC.2.1 dX3_init_220 rfl (lv_at hl 0 rfl) ?_
              refine m_ist hC hE hG 2 (by decide) rfl (N := 3) rfl (by decide) (j := i210) (by omega) dX3_init_221 (fun H locs hG => ?_)
              refine lv_iinc (v := nI (i210 + 1)) (lv' := [(1, .int (nI (i210 + 1))), (0, .ref (h 25))]) hC.1 hC.2.1 dX3_init_222 hl (k := 0) rfl (n_inc _) (by decide) rfl (fun ls hl => ?_)
              refine lv_goto (tgt := 210) hC.1 hC.2.1 dX3_init_225 (by decide) ?_
              have hσ : sU (mI3 (i210) (mI2 4 (mI1 5 sig0))) 2 (i210) (nI (i210)) = mI3 (i210 + 1) (mI2 4 (mI1 5 sig0)) := by
                simp only [mI3, if_true, if_false]
              exact ih210 (i210 + 1) (by omega) _ _ (hG.eq (by rw [hσ])) ls (lv_sub hl [0, 1] rfl)
          exact lp210 3 0 (by omega) _ _ hG ls (lv_sub hl [0, 1] rfl)
        | succ nn ih190 =>
          intro i190 hi190 H locs hG ls hl
          have hlt190 : i190 < 4 := by omega
          refine lv_iload_n hC.1 hC.2.1 dX3_init_190 rfl (lv_at hl 0 rfl) ?_
          refine lv_iconst (v := 4) hC.1 hC.2.1 dX3_init_191 (by decide) ?_
          refine n_ge (a := i190) (b := 4) hC (by omega) (by omega) (tgt := 208) dX3_init_192 (by decide) (fun c_192 => absurd c_192 (by omega)) (fun c_192 => ?_)
          refine lv_aload_n hC.1 hC.2.1 dX3_init_195 rfl (lv_at hl 1 rfl) ?_
          refine m_geta hC hE hG 1 (by decide) (fun _ => rfl) q757 rfl dX3_init_196 ?_
          refine lv_iload_n hC.1 hC.2.1 dX3_init_199 rfl (lv_at hl 0 rfl) ?_
          refine lv_iconst (v := 1) hC.1 hC.2.1 dX3_init_200 (by decide) ?_
          refine m_ist hC hE hG 1 (by decide) rfl (N := 4) rfl (by decide) (j := i190) (by omega) dX3_init_201 (fun H locs hG => ?_)
          refine lv_iinc (v := nI (i190 + 1)) (lv' := [(1, .int (nI (i190 + 1))), (0, .ref (h 25))]) hC.1 hC.2.1 dX3_init_202 hl (k := 0) rfl (n_inc _) (by decide) rfl (fun ls hl => ?_)
          refine lv_goto (tgt := 190) hC.1 hC.2.1 dX3_init_205 (by decide) ?_
          have hσ : sU (mI2 (i190) (mI1 5 sig0)) 1 (i190) ((1)) = mI2 (i190 + 1) (mI1 5 sig0) := by
            simp only [mI2, if_true, if_false]
          exact ih190 (i190 + 1) (by omega) _ _ (hG.eq (by rw [hσ])) ls (lv_sub hl [0, 1] rfl)
      exact lp190 4 0 (by omega) _ _ hG ls (lv_sub hl [0, 1] rfl)
    | succ nn ih170 =>
      intro i170 hi170 H locs hG ls hl
      have hlt170 : i170 < 5 := by omega
      refine lv_iload_n hC.1 hC.2.1 dX3_init_170 rfl (lv_at hl 0 rfl) ?_
      refine lv_iconst (v := 5) hC.1 hC.2.1 dX3_init_171 (by decide) ?_
      refine n_ge (a := i170) (b := 5) hC (by omega) (by omega) (tgt := 188) dX3_init_172 (by decide) (fun c_172 => absurd c_172 (by omega)) (fun c_172 => ?_)
      refine lv_aload_n hC.1 hC.2.1 dX3_init_175 rfl (lv_at hl 1 rfl) ?_
      refine m_geta hC hE hG 0 (by decide) (fun _ => rfl) q756 rfl dX3_init_176 ?_
      refine lv_iload_n hC.1 hC.2.1 dX3_init_179 rfl (lv_at hl 0 rfl) ?_
      refine lv_iload_n hC.1 hC.2.1 dX3_init_180 rfl (lv_at hl 0 rfl) ?_
      refine m_ist hC hE hG 0 (by decide) rfl (N := 5) rfl (by decide) (j := i170) (by omega) dX3_init_181 (fun H locs hG => ?_)
      refine lv_iinc (v := nI (i170 + 1)) (lv' := [(1, .int (nI (i170 + 1))), (0, .ref (h 25))]) hC.1 hC.2.1 dX3_init_182 hl (k := 0) rfl (n_inc _) (by decide) rfl (fun ls hl => ?_)
      refine lv_goto (tgt := 170) hC.1 hC.2.1 dX3_init_185 (by decide) ?_
      have hσ : sU (mI1 (i170) sig0) 0 (i170) (nI (i170)) = mI1 (i170 + 1) sig0 := by
        simp only [mI1, if_true, if_false]
      exact ih170 (i170 + 1) (by omega) _ _ (hG.eq (by rw [hσ])) ls (lv_sub hl [0, 1] rfl)
  exact lp170 5 0 (by omega) _ _ hG ls (lv_sub hl [0, 1] rfl)
