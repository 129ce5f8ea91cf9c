/-! the loader's constructor (written by tools/mkinl.py) -/
set_option maxRecDepth 100000
def fbm (b : Nat → Nat) (m k : Nat) : Value := if k < m then .ref (b k) else .null
def lfm (b : Nat → Nat) (m : Nat) : List Value := [fbm b m 0, fbm b m 1, fbm b m 2, fbm b m 3, fbm b m 4, fbm b m 5, .int 0, .int 0, .int 0, .null, .null]
/-- the first m arrays are made; the object lies at o -/
def lin (ac : Nat → ClassId) (b : Nat → Nat) (x : MS) (o m : Nat) (G : GM) : GM := fun y => if y.1 = 1 ∧ y.2.2 = 0 ∧ (y.2.1 < 6 ∨ y.2.1 = 11) then (if y.2.1 = 11 then some (o, .inr (0, lfm b m)) else if y.2.1 < m then lcell ac b x 0 y.2.1 else G y) else G y
section LIN
variable {ac : Nat → ClassId} {b : Nat → Nat} {x : MS} {o m : Nat} {G : GM}
theorem lin_o : lin ac b x o m G (1, 11, 0) = some (o, .inr (0, lfm b m)) := rfl
theorem lin_0 (hG : G (1, 11, 0) = some (o, .inr (0, lfm b 0))) : lin ac b x o 0 G = G := by
  funext y
  unfold lin
  by_cases c : y.1 = 1 ∧ y.2.2 = 0 ∧ (y.2.1 < 6 ∨ y.2.1 = 11)
  · rw [if_pos c]
    by_cases e : y.2.1 = 11
    · rw [if_pos e, ← hG, show y = (1, 11, 0) from Prod.ext c.1 (Prod.ext e c.2.1)]
    · rw [if_neg e, if_neg (by omega)]
  · rw [if_neg c]
theorem lcell_h {k j q : Nat} {f : Nat → Int32} (hj : j < k) (hk : k < 6) : lcell ac (va_up b k q) (sA x k f) 0 j = lcell ac b x 0 j := by
  unfold lcell
  rw [if_pos (by omega), if_pos (by omega), va_up_ne _ _ (by omega)]
  show some (b j, Sum.inl (ac 0, lLen j, Sum.inl (va_up x.2 k f j))) = _
  rw [va_up_ne _ _ (by omega)]
theorem lin_s {k q : Nat} {f : Nat → Int32} {ce : Nat × va_E} {l : List Value} (hk : k < 6) (hc : lcell ac (va_up b k q) (sA x k f) 0 k = some ce) (hl : l = lfm (va_up b k q) (k + 1)) : gup (gup (lin ac b x o k G) (1, k, 0) ce) (1, 11, 0) (o, .inr (0, l)) = lin ac (va_up b k q) (sA x k f) o (k + 1) G := by
  subst hl
  funext y
  by_cases e11 : y = (1, 11, 0)
  · subst e11
    rw [gup_s]
    rfl
  rw [gup_n _ _ e11]
  by_cases ek : y = (1, k, 0)
  · subst ek
    rw [gup_s]
    unfold lin
    rw [if_pos ⟨rfl, rfl, (Or.inl hk : k < 6 ∨ k = 11)⟩, if_neg (by show ¬ k = 11; omega), if_pos (Nat.lt_succ_self k)]
    exact hc.symm
  rw [gup_n _ _ ek]
  unfold lin
  by_cases c : y.1 = 1 ∧ y.2.2 = 0 ∧ (y.2.1 < 6 ∨ y.2.1 = 11)
  · rw [if_pos c, if_pos c]
    have n11 : ¬ y.2.1 = 11 := fun e => e11 (Prod.ext c.1 (Prod.ext e c.2.1))
    have nk : ¬ y.2.1 = k := fun e => ek (Prod.ext c.1 (Prod.ext e c.2.1))
    rw [if_neg n11, if_neg n11]
    by_cases d : y.2.1 < k
    · rw [if_pos d, if_pos (by omega)]
      exact (lcell_h d hk).symm
    · rw [if_neg d, if_neg (by omega)]
  · rw [if_neg c, if_neg c]
theorem lin_e {L p1 : Nat × va_E} {qL cn : Nat} {l : List Value} (hl : l = lfs (va_up (va_up b 9 qL) 11 o) x.1 cn) : gup (gup (gup (lin ac b x o 6 G) (1, 12, 0) L) (1, 11, 0) p1) (1, 11, 0) (o, .inr (0, l)) = lop ac (va_up (va_up b 9 qL) 11 o) x cn (gup G (1, 12, 0) L) := by
  subst hl
  rw [gup_gup]
  funext y
  by_cases e11 : y = (1, 11, 0)
  · subst e11
    rw [gup_s]
    rfl
  rw [gup_n _ _ e11]
  unfold lop
  by_cases c : y.1 = 1 ∧ y.2.2 = 0 ∧ (y.2.1 < 6 ∨ y.2.1 = 11)
  · have n11 : ¬ y.2.1 = 11 := fun e => e11 (Prod.ext c.1 (Prod.ext e c.2.1))
    rw [if_pos c, gup_n _ _ (fun e => by rw [e] at c; exact absurd c.2.2 (by decide))]
    unfold lin
    rw [if_pos c, if_neg n11, if_pos (by omega)]
    unfold lcell
    by_cases h5 : y.2.1 < 5
    · rw [if_pos h5, if_pos h5, va_up_ne _ _ (by omega), va_up_ne _ _ (by omega)]
    · rw [if_neg h5, if_neg h5, if_pos (by omega), if_pos (by omega), va_up_ne _ _ (by decide), va_up_ne _ _ (by decide)]
  · rw [if_neg c]
    by_cases e12 : y = (1, 12, 0)
    · subst e12
      rw [gup_s, gup_s]
    · rw [gup_n _ _ e12, gup_n _ _ e12]
      unfold lin
      rw [if_neg c]
end LIN
theorem EV.ini {K : GK} {b : Nat → Nat} {G : GM} {qL : Nat} (hb : b 9 = qL) (h0 : ∀ y : Lb, 2 ≤ y.1 → G y = none) : EV K b [] (gup G (1, 12, 0) (qL, .inr (8, [.int 0, .ref K.2.2.1, .int 0]))) := by
  subst hb
  refine ⟨0, K.2.2.1, 0, fun _ => none, fun _ _ => 0, ⟨gup_s _ _ _, Or.inl ⟨rfl, rfl, rfl⟩, Nat.le_refl 0, Nat.zero_le _, fun i hi => absurd hi (Nat.not_lt_zero i), ?_⟩, fun i e hi => ?_, fun y hy => ?_⟩
  · exact (gup_n _ _ (show ((5, 0, 0) : Lb) ≠ (1, 12, 0) by decide)).trans (h0 (5, 0, 0) (by decide))
  · cases hi
  · refine (gup_n _ _ (fun e => ?_)).trans (h0 y ?_)
    · rw [e] at hy
      rcases hy with g | g
      · exact absurd g (by decide)
      · exact absurd g.1 (by decide)
    · rcases hy with g | g <;> omega
def xIni : MS := sA (sA (sA (sA (sA (sA (sig0) 0 (upd (upd (upd (upd (upd (fun _ => 0) 0 (0)) 1 (1)) 2 (2)) 3 (3)) 4 (4))) 1 (upd (upd (upd (upd (fun _ => 0) 0 (1)) 1 (1)) 2 (1)) 3 (1))) 2 (upd (upd (upd (fun _ => 0) 0 (0)) 1 (1)) 2 (2))) 3 (upd (upd (upd (fun _ => 0) 0 (-1)) 1 (-1)) 2 (-1))) 4 (upd (upd (upd (upd (fun _ => 0) 0 (-1)) 1 (-1)) 2 (-1)) 3 (-1))) 5 (fun _ => 0)
theorem lin_3 {ac : Nat → ClassId} {b : Nat → Nat} {x : MS} {o m : Nat} {G : GM} {y : Lb} (h : 2 ≤ y.1) : lin ac b x o m G y = G y := if_neg (fun c => by omega)
set_option maxHeartbeats 8000000 in
theorem xl_init (l : Launch) (K : GK) (A : Nat → Prop) (G : GM) (o : Nat) (hy : G (1, 11, 0) = some (o, .inr (0, lfm (fun _ => 0) 0))) (h0 : ∀ y : Lb, 2 ≤ y.1 → G y = none) : Met l yX1_init (ws_ yX1_init cX1_init 1 none) ({ frames := 5, cells := 10, slots := 195, locals := 200 }) (va_Pc [.ref o] (gW K A G)) (va_Qv (fun u : (Nat → Nat) × (Nat → Nat → Nat) × GM => u.1 11 = o ∧ EV K u.1 [] u.2.2 ∧ g0 u.2.2 G) (fun u t => gB K A (LW K.2.1 u.1 xIni u.2.1 kZero u.2.2) t) A) 10 195 A := by
  refine g_ofW (cc := cX1_init) (by decide) (own := RX1) rfl (Nat.le_of_ble_eq_true rfl) ?_
  intro p e s m below meth c hC hr hlocks hnm hE hG ls hl
  have hl : lv_has ls 1 [(0, .ref o)] := hl
  have hG : gG K A s.heap (lin K.2.1 (fun _ => 0) sig0 o 0 G) s.heap [] := hG.eq (lin_0 hy).symm
  generalize (fun _ => 0 : Nat → Nat) = b at hG
  refine lv_aload_n hC.1 hC.2.1 dX1_init_0 rfl (lv_at hl 0 rfl) ?_
  refine W.objInit hC.1 hC.2.1 hC.2.2.2.1 (hC.2.2.2.2 _ q50) (hC.2.2.2.2 _ q51) (hC.2.2.2.2 _ q52) rfl (by rw [hC.2.2.1]; exact hl.1) rfl dX1_init_1 (Nat.le_of_ble_eq_true rfl) (Nat.le_of_ble_eq_true rfl) ?_
  refine W.eq (g2 := F0 m 4 ls []) rfl ?_
  refine lv_aload_n hC.1 hC.2.1 dX1_init_4 rfl (lv_at hl 0 rfl) ?_
  refine lv_iconst (v := 5) hC.1 hC.2.1 dX1_init_5 (by decide) ?_
  refine g_newa hC hE hG (1, 0, 0) 0 (atype := .int) q82 rfl (ty := .int) rfl (fun _ h => h) (N' := 5) (a0 := (5, .inl (fun _ => 0))) (fun _ => rfl) (by decide) (by decide) (by decide) (Nat.le_of_ble_eq_true rfl) (Nat.le_of_ble_eq_true rfl) dX1_init_6 (fun q0 H hq0 hG => ?_)
  refine lv_dup hC.1 hC.2.1 dX1_init_8 rfl ?_
  refine lv_iconst (v := 0) hC.1 hC.2.1 dX1_init_9 (by decide) ?_
  refine lv_iconst (v := 0) hC.1 hC.2.1 dX1_init_10 (by decide) ?_
  refine g_ist hC hE hG (n := 5) (gup_s _ _ _) (by decide) (j := 0) (by decide) dX1_init_11 (fun H locs hG => ?_)
  replace hG := hG.eq (gup_gup _ _ _ _)
  refine lv_dup hC.1 hC.2.1 dX1_init_12 rfl ?_
  refine lv_iconst (v := 1) hC.1 hC.2.1 dX1_init_13 (by decide) ?_
  refine lv_iconst (v := 1) hC.1 hC.2.1 dX1_init_14 (by decide) ?_
  refine g_ist hC hE hG (n := 5) (gup_s _ _ _) (by decide) (j := 1) (by decide) dX1_init_15 (fun H locs hG => ?_)
  replace hG := hG.eq (gup_gup _ _ _ _)
  refine lv_dup hC.1 hC.2.1 dX1_init_16 rfl ?_
  refine lv_iconst (v := 2) hC.1 hC.2.1 dX1_init_17 (by decide) ?_
  refine lv_iconst (v := 2) hC.1 hC.2.1 dX1_init_18 (by decide) ?_
  refine g_ist hC hE hG (n := 5) (gup_s _ _ _) (by decide) (j := 2) (by decide) dX1_init_19 (fun H locs hG => ?_)
  replace hG := hG.eq (gup_gup _ _ _ _)
  refine lv_dup hC.1 hC.2.1 dX1_init_20 rfl ?_
  refine lv_iconst (v := 3) hC.1 hC.2.1 dX1_init_21 (by decide) ?_
  refine lv_iconst (v := 3) hC.1 hC.2.1 dX1_init_22 (by decide) ?_
  refine g_ist hC hE hG (n := 5) (gup_s _ _ _) (by decide) (j := 3) (by decide) dX1_init_23 (fun H locs hG => ?_)
  replace hG := hG.eq (gup_gup _ _ _ _)
  refine lv_dup hC.1 hC.2.1 dX1_init_24 rfl ?_
  refine lv_iconst (v := 4) hC.1 hC.2.1 dX1_init_25 (by decide) ?_
  refine lv_iconst (v := 4) hC.1 hC.2.1 dX1_init_26 (by decide) ?_
  refine g_ist hC hE hG (n := 5) (gup_s _ _ _) (by decide) (j := 4) (by decide) dX1_init_27 (fun H locs hG => ?_)
  replace hG := hG.eq (gup_gup _ _ _ _)
  refine g_putF hC hE hG in_X1 tyX1 tyX1_ok nmX1 ((gup_n _ _ (show ((1, 11, 0) : Lb) ≠ (1, 0, 0) by decide)).trans lin_o) (ci := 0) rfl 0 (by decide) q109 (fun _ z => z) rfl hnm rfl (tyX1_ok 0 (by decide)) rfl rfl (Nat.le_of_ble_eq_true rfl) dX1_init_28 (fun H locs hG => ?_)
  replace hG := hG.eq (lin_s (b := b) (k := 0) (q := q0) (f := (upd (upd (upd (upd (upd (fun _ => 0) 0 (0)) 1 (1)) 2 (2)) 3 (3)) 4 (4))) (by decide) rfl rfl)
  generalize va_up b 0 q0 = b at hG
  refine lv_aload_n hC.1 hC.2.1 dX1_init_31 rfl (lv_at hl 0 rfl) ?_
  refine lv_iconst (v := 4) hC.1 hC.2.1 dX1_init_32 (by decide) ?_
  refine g_newa hC hE hG (1, 1, 0) 0 (atype := .int) q82 rfl (ty := .int) rfl (fun _ h => h) (N' := 4) (a0 := (4, .inl (fun _ => 0))) (fun _ => rfl) (by decide) (by decide) (by decide) (Nat.le_of_ble_eq_true rfl) (Nat.le_of_ble_eq_true rfl) dX1_init_33 (fun q1 H hq1 hG => ?_)
  refine lv_dup hC.1 hC.2.1 dX1_init_35 rfl ?_
  refine lv_iconst (v := 0) hC.1 hC.2.1 dX1_init_36 (by decide) ?_
  refine lv_iconst (v := 1) hC.1 hC.2.1 dX1_init_37 (by decide) ?_
  refine g_ist hC hE hG (n := 4) (gup_s _ _ _) (by decide) (j := 0) (by decide) dX1_init_38 (fun H locs hG => ?_)
  replace hG := hG.eq (gup_gup _ _ _ _)
  refine lv_dup hC.1 hC.2.1 dX1_init_39 rfl ?_
  refine lv_iconst (v := 1) hC.1 hC.2.1 dX1_init_40 (by decide) ?_
  refine lv_iconst (v := 1) hC.1 hC.2.1 dX1_init_41 (by decide) ?_
  refine g_ist hC hE hG (n := 4) (gup_s _ _ _) (by decide) (j := 1) (by decide) dX1_init_42 (fun H locs hG => ?_)
  replace hG := hG.eq (gup_gup _ _ _ _)
  refine lv_dup hC.1 hC.2.1 dX1_init_43 rfl ?_
  refine lv_iconst (v := 2) hC.1 hC.2.1 dX1_init_44 (by decide) ?_
  refine lv_iconst (v := 1) hC.1 hC.2.1 dX1_init_45 (by decide) ?_
  refine g_ist hC hE hG (n := 4) (gup_s _ _ _) (by decide) (j := 2) (by decide) dX1_init_46 (fun H locs hG => ?_)
  replace hG := hG.eq (gup_gup _ _ _ _)
  refine lv_dup hC.1 hC.2.1 dX1_init_47 rfl ?_
  refine lv_iconst (v := 3) hC.1 hC.2.1 dX1_init_48 (by decide) ?_
  refine lv_iconst (v := 1) hC.1 hC.2.1 dX1_init_49 (by decide) ?_
  refine g_ist hC hE hG (n := 4) (gup_s _ _ _) (by decide) (j := 3) (by decide) dX1_init_50 (fun H locs hG => ?_)
  replace hG := hG.eq (gup_gup _ _ _ _)
  refine g_putF hC hE hG in_X1 tyX1 tyX1_ok nmX1 ((gup_n _ _ (show ((1, 11, 0) : Lb) ≠ (1, 1, 0) by decide)).trans lin_o) (ci := 0) rfl 1 (by decide) q111 (fun _ z => z) rfl hnm rfl (tyX1_ok 1 (by decide)) rfl rfl (Nat.le_of_ble_eq_true rfl) dX1_init_51 (fun H locs hG => ?_)
  replace hG := hG.eq (lin_s (b := b) (k := 1) (q := q1) (f := (upd (upd (upd (upd (fun _ => 0) 0 (1)) 1 (1)) 2 (1)) 3 (1))) (by decide) rfl rfl)
  generalize va_up b 1 q1 = b at hG
  refine lv_aload_n hC.1 hC.2.1 dX1_init_54 rfl (lv_at hl 0 rfl) ?_
  refine lv_iconst (v := 3) hC.1 hC.2.1 dX1_init_55 (by decide) ?_
  refine g_newa hC hE hG (1, 2, 0) 0 (atype := .int) q82 rfl (ty := .int) rfl (fun _ h => h) (N' := 3) (a0 := (3, .inl (fun _ => 0))) (fun _ => rfl) (by decide) (by decide) (by decide) (Nat.le_of_ble_eq_true rfl) (Nat.le_of_ble_eq_true rfl) dX1_init_56 (fun q2 H hq2 hG => ?_)
  refine lv_dup hC.1 hC.2.1 dX1_init_58 rfl ?_
  refine lv_iconst (v := 0) hC.1 hC.2.1 dX1_init_59 (by decide) ?_
  refine lv_iconst (v := 0) hC.1 hC.2.1 dX1_init_60 (by decide) ?_
  refine g_ist hC hE hG (n := 3) (gup_s _ _ _) (by decide) (j := 0) (by decide) dX1_init_61 (fun H locs hG => ?_)
  replace hG := hG.eq (gup_gup _ _ _ _)
  refine lv_dup hC.1 hC.2.1 dX1_init_62 rfl ?_
  refine lv_iconst (v := 1) hC.1 hC.2.1 dX1_init_63 (by decide) ?_
  refine lv_iconst (v := 1) hC.1 hC.2.1 dX1_init_64 (by decide) ?_
  refine g_ist hC hE hG (n := 3) (gup_s _ _ _) (by decide) (j := 1) (by decide) dX1_init_65 (fun H locs hG => ?_)
  replace hG := hG.eq (gup_gup _ _ _ _)
  refine lv_dup hC.1 hC.2.1 dX1_init_66 rfl ?_
  refine lv_iconst (v := 2) hC.1 hC.2.1 dX1_init_67 (by decide) ?_
  refine lv_iconst (v := 2) hC.1 hC.2.1 dX1_init_68 (by decide) ?_
  refine g_ist hC hE hG (n := 3) (gup_s _ _ _) (by decide) (j := 2) (by decide) dX1_init_69 (fun H locs hG => ?_)
  replace hG := hG.eq (gup_gup _ _ _ _)
  refine g_putF hC hE hG in_X1 tyX1 tyX1_ok nmX1 ((gup_n _ _ (show ((1, 11, 0) : Lb) ≠ (1, 2, 0) by decide)).trans lin_o) (ci := 0) rfl 2 (by decide) q113 (fun _ z => z) rfl hnm rfl (tyX1_ok 2 (by decide)) rfl rfl (Nat.le_of_ble_eq_true rfl) dX1_init_70 (fun H locs hG => ?_)
  replace hG := hG.eq (lin_s (b := b) (k := 2) (q := q2) (f := (upd (upd (upd (fun _ => 0) 0 (0)) 1 (1)) 2 (2))) (by decide) rfl rfl)
  generalize va_up b 2 q2 = b at hG
  refine lv_aload_n hC.1 hC.2.1 dX1_init_73 rfl (lv_at hl 0 rfl) ?_
  refine lv_iconst (v := 3) hC.1 hC.2.1 dX1_init_74 (by decide) ?_
  refine g_newa hC hE hG (1, 3, 0) 0 (atype := .int) q82 rfl (ty := .int) rfl (fun _ h => h) (N' := 3) (a0 := (3, .inl (fun _ => 0))) (fun _ => rfl) (by decide) (by decide) (by decide) (Nat.le_of_ble_eq_true rfl) (Nat.le_of_ble_eq_true rfl) dX1_init_75 (fun q3 H hq3 hG => ?_)
  refine lv_dup hC.1 hC.2.1 dX1_init_77 rfl ?_
  refine lv_iconst (v := 0) hC.1 hC.2.1 dX1_init_78 (by decide) ?_
  refine lv_iconst (v := -1) hC.1 hC.2.1 dX1_init_79 (by decide) ?_
  refine g_ist hC hE hG (n := 3) (gup_s _ _ _) (by decide) (j := 0) (by decide) dX1_init_80 (fun H locs hG => ?_)
  replace hG := hG.eq (gup_gup _ _ _ _)
  refine lv_dup hC.1 hC.2.1 dX1_init_81 rfl ?_
  refine lv_iconst (v := 1) hC.1 hC.2.1 dX1_init_82 (by decide) ?_
  refine lv_iconst (v := -1) hC.1 hC.2.1 dX1_init_83 (by decide) ?_
  refine g_ist hC hE hG (n := 3) (gup_s _ _ _) (by decide) (j := 1) (by decide) dX1_init_84 (fun H locs hG => ?_)
  replace hG := hG.eq (gup_gup _ _ _ _)
  refine lv_dup hC.1 hC.2.1 dX1_init_85 rfl ?_
  refine lv_iconst (v := 2) hC.1 hC.2.1 dX1_init_86 (by decide) ?_
  refine lv_iconst (v := -1) hC.1 hC.2.1 dX1_init_87 (by decide) ?_
  refine g_ist hC hE hG (n := 3) (gup_s _ _ _) (by decide) (j := 2) (by decide) dX1_init_88 (fun H locs hG => ?_)
  replace hG := hG.eq (gup_gup _ _ _ _)
  refine g_putF hC hE hG in_X1 tyX1 tyX1_ok nmX1 ((gup_n _ _ (show ((1, 11, 0) : Lb) ≠ (1, 3, 0) by decide)).trans lin_o) (ci := 0) rfl 3 (by decide) q115 (fun _ z => z) rfl hnm rfl (tyX1_ok 3 (by decide)) rfl rfl (Nat.le_of_ble_eq_true rfl) dX1_init_89 (fun H locs hG => ?_)
  replace hG := hG.eq (lin_s (b := b) (k := 3) (q := q3) (f := (upd (upd (upd (fun _ => 0) 0 (-1)) 1 (-1)) 2 (-1))) (by decide) rfl rfl)
  generalize va_up b 3 q3 = b at hG
  refine lv_aload_n hC.1 hC.2.1 dX1_init_92 rfl (lv_at hl 0 rfl) ?_
  refine lv_iconst (v := 4) hC.1 hC.2.1 dX1_init_93 (by decide) ?_
  refine g_newa hC hE hG (1, 4, 0) 0 (atype := .int) q82 rfl (ty := .int) rfl (fun _ h => h) (N' := 4) (a0 := (4, .inl (fun _ => 0))) (fun _ => rfl) (by decide) (by decide) (by decide) (Nat.le_of_ble_eq_true rfl) (Nat.le_of_ble_eq_true rfl) dX1_init_94 (fun q4 H hq4 hG => ?_)
  refine lv_dup hC.1 hC.2.1 dX1_init_96 rfl ?_
  refine lv_iconst (v := 0) hC.1 hC.2.1 dX1_init_97 (by decide) ?_
  refine lv_iconst (v := -1) hC.1 hC.2.1 dX1_init_98 (by decide) ?_
  refine g_ist hC hE hG (n := 4) (gup_s _ _ _) (by decide) (j := 0) (by decide) dX1_init_99 (fun H locs hG => ?_)
  replace hG := hG.eq (gup_gup _ _ _ _)
  refine lv_dup hC.1 hC.2.1 dX1_init_100 rfl ?_
  refine lv_iconst (v := 1) hC.1 hC.2.1 dX1_init_101 (by decide) ?_
  refine lv_iconst (v := -1) hC.1 hC.2.1 dX1_init_102 (by decide) ?_
  refine g_ist hC hE hG (n := 4) (gup_s _ _ _) (by decide) (j := 1) (by decide) dX1_init_103 (fun H locs hG => ?_)
  replace hG := hG.eq (gup_gup _ _ _ _)
  refine lv_dup hC.1 hC.2.1 dX1_init_104 rfl ?_
  refine lv_iconst (v := 2) hC.1 hC.2.1 dX1_init_105 (by decide) ?_
  refine lv_iconst (v := -1) hC.1 hC.2.1 dX1_init_106 (by decide) ?_
  refine g_ist hC hE hG (n := 4) (gup_s _ _ _) (by decide) (j := 2) (by decide) dX1_init_107 (fun H locs hG => ?_)
  replace hG := hG.eq (gup_gup _ _ _ _)
  refine lv_dup hC.1 hC.2.1 dX1_init_108 rfl ?_
  refine lv_iconst (v := 3) hC.1 hC.2.1 dX1_init_109 (by decide) ?_
  refine lv_iconst (v := -1) hC.1 hC.2.1 dX1_init_110 (by decide) ?_
  refine g_ist hC hE hG (n := 4) (gup_s _ _ _) (by decide) (j := 3) (by decide) dX1_init_111 (fun H locs hG => ?_)
  replace hG := hG.eq (gup_gup _ _ _ _)
  refine g_putF hC hE hG in_X1 tyX1 tyX1_ok nmX1 ((gup_n _ _ (show ((1, 11, 0) : Lb) ≠ (1, 4, 0) by decide)).trans lin_o) (ci := 0) rfl 4 (by decide) q116 (fun _ z => z) rfl hnm rfl (tyX1_ok 4 (by decide)) rfl rfl (Nat.le_of_ble_eq_true rfl) dX1_init_112 (fun H locs hG => ?_)
  replace hG := hG.eq (lin_s (b := b) (k := 4) (q := q4) (f := (upd (upd (upd (upd (fun _ => 0) 0 (-1)) 1 (-1)) 2 (-1)) 3 (-1))) (by decide) rfl rfl)
  generalize va_up b 4 q4 = b at hG
  refine lv_aload_n hC.1 hC.2.1 dX1_init_115 rfl (lv_at hl 0 rfl) ?_
  refine lv_bipush (v := 10) hC.1 hC.2.1 dX1_init_116 (by decide) ?_
  refine g_newa hC hE hG (1, 5, 0) 1 (atype := .boolean) q83 rfl (ty := .boolean) rfl (fun _ h => h) (N' := 10) (a0 := (10, .inl (fun _ => 0))) (fun _ => rfl) (by decide) (by decide) (by decide) (Nat.le_of_ble_eq_true rfl) (Nat.le_of_ble_eq_true rfl) dX1_init_118 (fun q5 H hq5 hG => ?_)
  refine g_putF hC hE hG in_X1 tyX1 tyX1_ok nmX1 ((gup_n _ _ (show ((1, 11, 0) : Lb) ≠ (1, 5, 0) by decide)).trans lin_o) (ci := 0) rfl 5 (by decide) q117 (fun _ z => z) rfl hnm rfl (tyX1_ok 5 (by decide)) rfl rfl (Nat.le_of_ble_eq_true rfl) dX1_init_120 (fun H locs hG => ?_)
  replace hG := hG.eq (lin_s (b := b) (k := 5) (q := q5) (f := (fun _ => 0)) (by decide) rfl rfl)
  generalize va_up b 5 q5 = b at hG
  refine lv_aload_n hC.1 hC.2.1 dX1_init_123 rfl (lv_at hl 0 rfl) ?_
  refine g_new hC hE hG (1, 12, 0) in_J2 tyJ2 tyJ2_ok q53 q54 q24 (ci := 8) rfl (fs := [.int 0, .null, .int 0]) (by decide) (Nat.le_of_ble_eq_true rfl) (Nat.le_of_ble_eq_true rfl) dX1_init_124 (fun qL H hqL hG => ?_)
  refine lv_dup hC.1 hC.2.1 dX1_init_127 rfl ?_
  refine g_cI (As := []) (rest := [.ref qL, .ref o]) hC hE hG (xt_initJ2 l K A _ (1, 12, 0) qL (gup_s _ _ _)) (cwI 0 hC.2.2.2.2 (lw_meth q57) rfl rfl rfl (hC.2.2.2.2 _ q24) (hC.2.2.2.2 _ q55) (hC.2.2.2.2 _ q56) rfl (by decide +kernel) ⟨Nat.le_of_ble_eq_true rfl, Nat.le_of_ble_eq_true rfl⟩) rfl hl.1 rfl (Nat.le_of_ble_eq_true rfl) dX1_init_128 ⟨Nat.le_of_ble_eq_true rfl, Nat.le_of_ble_eq_true rfl⟩ (fun _ H locs _ hG => ?_)
  replace hG := hG.eq (gup_gup _ _ _ _)
  refine g_putF hC hE hG in_X1 tyX1 tyX1_ok nmX1 ((gup_n _ _ (show ((1, 11, 0) : Lb) ≠ (1, 12, 0) by decide)).trans lin_o) (ci := 0) rfl 9 (by decide) q122 (fun _ z => z) rfl hnm rfl (tyX1_ok 9 (by decide)) rfl rfl (Nat.le_of_ble_eq_true rfl) dX1_init_131 (fun H locs hG => ?_)
  refine lv_aload_n hC.1 hC.2.1 dX1_init_134 rfl (lv_at hl 0 rfl) ?_
  refine g_new hC hE hG (3, 0, 0) in_X2 tyX2 tyX2_ok q84 q85 q25 (ci := 1) rfl (fs := [.null, .null, .null]) (by decide) (Nat.le_of_ble_eq_true rfl) (Nat.le_of_ble_eq_true rfl) dX1_init_135 (fun qC H hqC hG => ?_)
  refine lv_dup hC.1 hC.2.1 dX1_init_138 rfl ?_
  refine lv_aload_n hC.1 hC.2.1 dX1_init_139 rfl (lv_at hl 0 rfl) ?_
  refine g_cIN (n := 1) (S := Nat → Nat) (As := [.ref o]) (rest := [.ref qC, .ref o]) hC hE hG (xt_init2 l K A _ 3 qC o (gup_s _ _ _)) 0 rfl q88 q25 q87 rfl rfl (by decide +kernel) rfl ⟨Nat.le_of_ble_eq_true rfl, Nat.le_of_ble_eq_true rfl⟩ rfl hl.1 rfl (Nat.le_of_ble_eq_true rfl) dX1_init_140 ⟨Nat.le_of_ble_eq_true rfl, Nat.le_of_ble_eq_true rfl⟩ (fun a9 H locs _ hG => ?_)
  replace hG := hG.eq (catput (fun y j => (gup_n _ _ (fun e => by cases e)).trans ((gup_n _ _ (fun e => by cases e)).trans ((lin_3 (by show 2 ≤ 3; decide)).trans (h0 _ (by show 2 ≤ 3; decide))))))
  refine g_put hC hE hG in_X1 tyX1 tyX1_ok nmX1 ((cput_n (by show (1 : Nat) ≠ 3; decide)).trans (gup_s _ _ _)) (ci := 0) rfl 10 (by decide) q123 (fun _ z => z) rfl (tyX1_ok 10 (by decide)) rfl rfl (Nat.le_of_ble_eq_true rfl) dX1_init_143 (fun H locs hG => ?_)
  replace hG := hG.eq ((cput_gup (show (1 : Nat) ≠ 3 by decide)).trans (congrArg (cput K.2.1 3 o (catAd qC a9) kZero) (lin_e (qL := qL) (cn := qC) rfl)))
  refine g_vret hC hG hr (va_up (va_up b 9 qL) 11 o, catAd qC a9, gup G (1, 12, 0) (qL, .inr (8, [.int 0, .ref K.2.2.1, .int 0]))) ?_ ⟨show va_up (va_up b 9 qL) 11 o 11 = o from va_up_self _ _ _, ?_, fun y hy => gup_n _ _ (fun e => by rw [e] at hy; exact absurd hy (by decide))⟩ hlocks dX1_init_146
  · show cput K.2.1 3 (va_up (va_up b 9 qL) 11 o 11) (catAd qC a9) kZero (lop K.2.1 (va_up (va_up b 9 qL) 11 o) xIni (catAd qC a9 0 0) _) = _
    rw [va_up_self]
    rfl
  · exact EV.ini (show va_up (va_up b 9 qL) 11 o 9 = qL from (va_up_ne _ _ (show (9 : Nat) ≠ 11 by decide)).trans (va_up_self _ _ _)) h0
