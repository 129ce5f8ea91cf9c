/-! constructors, walked (written by tools/mkctor.py) -/
set_option maxRecDepth 100000
set_option maxHeartbeats 4000000 in
theorem xt_init4 (l : Launch) (K : GK) (A : Nat → Prop) (G : GM) (y : Lb) (q lo ka fa : Nat) (n : Nat) (bt u : Int32) (hy : G y = some (q, .inr (3, [.int 0, .int 0, .int 0, .null, .null, .null]))) : Met l yX4_init (ws_ yX4_init cX4_init 7 none) ({ frames := 1, cells := 0, slots := 0, locals := 20 }) (va_Pc ([.ref (q), .ref (lo), .int (nI (n)), .int (bt), .int (u), .ref (ka), .ref (fa)]) (gW K A (G))) (va_Qv (fun u9 : Unit => True) (fun u9 t9 => gB K A (gup G y (q, .inr (3, [.int (nI n), .int bt, .int u, .ref ka, .ref fa, .ref lo]))) t9) A) 0 0 (A) := by
  refine g_ofW (cc := cX4_init) (by decide) (own := RX4) rfl (Nat.le_of_ble_eq_true rfl) ?_
  intro p e s m below meth c hC hr hlocks hnm hE hG ls hl
  have hl : lv_has ls 7 [(0, .ref (q)), (1, .ref (lo)), (2, .int (nI (n))), (3, .int (bt)), (4, .int (u)), (5, .ref (ka)), (6, .ref (fa))] := hl
  have hG : gG K A s.heap (gup (G) y (q, .inr (3, [.int ((0)), .int ((0)), .int ((0)), .null, .null, .null]))) s.heap [] := hG.eq (gup_id hy).symm
  refine lv_aload_n hC.1 hC.2.1 dX4_init_0 rfl (lv_at hl 0 rfl) ?_
  refine lv_aload_n hC.1 hC.2.1 dX4_init_1 rfl (lv_at hl 1 rfl) ?_
  refine g_putF hC hE hG in_X4 tyX4 tyX4_ok nmX4 (gup_s _ _ _) (ci := 3) rfl 5 (by decide) q552 (fun _ z => z) rfl hnm rfl (tyX4_ok 5 (by decide)) (rfl) (rfl) (Nat.le_of_ble_eq_true rfl) dX4_init_2 (fun H locs hG => ?_)
  have hG : gG K A s.heap (gup (G) y (q, .inr (3, [.int ((0)), .int ((0)), .int ((0)), .null, .null, .ref (lo)]))) H locs := hG.eq (gup_gup _ _ _ _)
  refine lv_aload_n hC.1 hC.2.1 dX4_init_5 rfl (lv_at hl 0 rfl) ?_
  refine W.objInit hC.1 hC.2.1 hC.2.2.2.1 (hC.2.2.2.2 _ q543) (hC.2.2.2.2 _ q51) (hC.2.2.2.2 _ q52) rfl (by rw [hC.2.2.1]; exact hl.1) rfl dX4_init_6 (Nat.le_of_ble_eq_true rfl) (Nat.le_of_ble_eq_true rfl) ?_
  refine W.eq (g2 := F0 m 9 ls []) rfl ?_
  refine lv_aload_n hC.1 hC.2.1 dX4_init_9 rfl (lv_at hl 0 rfl) ?_
  refine lv_iload_n hC.1 hC.2.1 dX4_init_10 rfl (lv_at hl 2 rfl) ?_
  refine g_putF hC hE hG in_X4 tyX4 tyX4_ok nmX4 (gup_s _ _ _) (ci := 3) rfl 0 (by decide) q544 (fun _ z => z) rfl hnm rfl (tyX4_ok 0 (by decide)) (rfl) (rfl) (Nat.le_of_ble_eq_true rfl) dX4_init_11 (fun H locs hG => ?_)
  have hG : gG K A s.heap (gup (G) y (q, .inr (3, [.int (nI (n)), .int ((0)), .int ((0)), .null, .null, .ref (lo)]))) H locs := hG.eq (gup_gup _ _ _ _)
  refine lv_aload_n hC.1 hC.2.1 dX4_init_14 rfl (lv_at hl 0 rfl) ?_
  refine lv_iload_n hC.1 hC.2.1 dX4_init_15 rfl (lv_at hl 3 rfl) ?_
  refine g_putF hC hE hG in_X4 tyX4 tyX4_ok nmX4 (gup_s _ _ _) (ci := 3) rfl 1 (by decide) q545 (fun _ z => z) rfl hnm rfl (tyX4_ok 1 (by decide)) (rfl) (rfl) (Nat.le_of_ble_eq_true rfl) dX4_init_16 (fun H locs hG => ?_)
  have hG : gG K A s.heap (gup (G) y (q, .inr (3, [.int (nI (n)), .int (bt), .int ((0)), .null, .null, .ref (lo)]))) H locs := hG.eq (gup_gup _ _ _ _)
  refine lv_aload_n hC.1 hC.2.1 dX4_init_19 rfl (lv_at hl 0 rfl) ?_
  refine lv_iload hC.1 hC.2.1 dX4_init_20 (lv_at hl 4 rfl) ?_
  refine g_putF hC hE hG in_X4 tyX4 tyX4_ok nmX4 (gup_s _ _ _) (ci := 3) rfl 2 (by decide) q546 (fun _ z => z) rfl hnm rfl (tyX4_ok 2 (by decide)) (rfl) (rfl) (Nat.le_of_ble_eq_true rfl) dX4_init_22 (fun H locs hG => ?_)
  have hG : gG K A s.heap (gup (G) y (q, .inr (3, [.int (nI (n)), .int (bt), .int (u), .null, .null, .ref (lo)]))) H locs := hG.eq (gup_gup _ _ _ _)
  refine lv_aload_n hC.1 hC.2.1 dX4_init_25 rfl (lv_at hl 0 rfl) ?_
  refine lv_aload hC.1 hC.2.1 dX4_init_26 (lv_at hl 5 rfl) ?_
  refine g_putF hC hE hG in_X4 tyX4 tyX4_ok nmX4 (gup_s _ _ _) (ci := 3) rfl 3 (by decide) q548 (fun _ z => z) rfl hnm rfl (tyX4_ok 3 (by decide)) (rfl) (rfl) (Nat.le_of_ble_eq_true rfl) dX4_init_28 (fun H locs hG => ?_)
  have hG : gG K A s.heap (gup (G) y (q, .inr (3, [.int (nI (n)), .int (bt), .int (u), .ref (ka), .null, .ref (lo)]))) H locs := hG.eq (gup_gup _ _ _ _)
  refine lv_aload_n hC.1 hC.2.1 dX4_init_31 rfl (lv_at hl 0 rfl) ?_
  refine lv_aload hC.1 hC.2.1 dX4_init_32 (lv_at hl 6 rfl) ?_
  refine g_putF hC hE hG in_X4 tyX4 tyX4_ok nmX4 (gup_s _ _ _) (ci := 3) rfl 4 (by decide) q550 (fun _ z => z) rfl hnm rfl (tyX4_ok 4 (by decide)) (rfl) (rfl) (Nat.le_of_ble_eq_true rfl) dX4_init_34 (fun H locs hG => ?_)
  have hG : gG K A s.heap (gup (G) y (q, .inr (3, [.int (nI (n)), .int (bt), .int (u), .ref (ka), .ref (fa), .ref (lo)]))) H locs := hG.eq (gup_gup _ _ _ _)
  exact g_vret hC hG hr (()) rfl (by trivial) hlocks dX4_init_37
set_option maxHeartbeats 4000000 in
theorem xt_init6 (l : Launch) (K : GK) (A : Nat → Prop) (G : GM) (y : Lb) (q : Nat) (n f : Nat) (z : Int32) (hz : z = 0 ∨ z = 1) (hy : G y = some (q, .inr (5, [.int 0, .int 0, .int 0]))) : Met l yX6_init (ws_ yX6_init cX6_init 4 none) ({ frames := 1, cells := 0, slots := 0, locals := 20 }) (va_Pc ([.ref (q), .int (nI (n)), .int (nI (f)), .int (z)]) (gW K A (G))) (va_Qv (fun u9 : Unit => True) (fun u9 t9 => gB K A (gup G y (q, .inr (5, [.int (nI n), .int (nI f), .int z]))) t9) A) 0 0 (A) := by
  refine g_ofW (cc := cX6_init) (by decide) (own := RX6) rfl (Nat.le_of_ble_eq_true rfl) ?_
  intro p e s m below meth c hC hr hlocks hnm hE hG ls hl
  have hl : lv_has ls 4 [(0, .ref (q)), (1, .int (nI (n))), (2, .int (nI (f))), (3, .int (z))] := hl
  have hG : gG K A s.heap (gup (G) y (q, .inr (5, [.int ((0)), .int ((0)), .int ((0))]))) s.heap [] := hG.eq (gup_id hy).symm
  refine lv_aload_n hC.1 hC.2.1 dX6_init_0 rfl (lv_at hl 0 rfl) ?_
  refine W.objInit hC.1 hC.2.1 hC.2.2.2.1 (hC.2.2.2.2 _ q645) (hC.2.2.2.2 _ q51) (hC.2.2.2.2 _ q52) rfl (by rw [hC.2.2.1]; exact hl.1) rfl dX6_init_1 (Nat.le_of_ble_eq_true rfl) (Nat.le_of_ble_eq_true rfl) ?_
  refine W.eq (g2 := F0 m 4 ls []) rfl ?_
  refine lv_aload_n hC.1 hC.2.1 dX6_init_4 rfl (lv_at hl 0 rfl) ?_
  refine lv_iload_n hC.1 hC.2.1 dX6_init_5 rfl (lv_at hl 1 rfl) ?_
  refine g_putF hC hE hG in_X6 tyX6 tyX6_ok nmX6 (gup_s _ _ _) (ci := 5) rfl 0 (by decide) q646 (fun _ z => z) rfl hnm rfl (tyX6_ok 0 (by decide)) (rfl) (rfl) (Nat.le_of_ble_eq_true rfl) dX6_init_6 (fun H locs hG => ?_)
  have hG : gG K A s.heap (gup (G) y (q, .inr (5, [.int (nI (n)), .int ((0)), .int ((0))]))) H locs := hG.eq (gup_gup _ _ _ _)
  refine lv_aload_n hC.1 hC.2.1 dX6_init_9 rfl (lv_at hl 0 rfl) ?_
  refine lv_iload_n hC.1 hC.2.1 dX6_init_10 rfl (lv_at hl 2 rfl) ?_
  refine g_putF hC hE hG in_X6 tyX6 tyX6_ok nmX6 (gup_s _ _ _) (ci := 5) rfl 1 (by decide) q647 (fun _ z => z) rfl hnm rfl (tyX6_ok 1 (by decide)) (rfl) (rfl) (Nat.le_of_ble_eq_true rfl) dX6_init_11 (fun H locs hG => ?_)
  have hG : gG K A s.heap (gup (G) y (q, .inr (5, [.int (nI (n)), .int (nI (f)), .int ((0))]))) H locs := hG.eq (gup_gup _ _ _ _)
  refine lv_aload_n hC.1 hC.2.1 dX6_init_14 rfl (lv_at hl 0 rfl) ?_
  refine lv_iload_n hC.1 hC.2.1 dX6_init_15 rfl (lv_at hl 3 rfl) ?_
  refine g_putF hC hE hG in_X6 tyX6 tyX6_ok nmX6 (gup_s _ _ _) (ci := 5) rfl 2 (by decide) q648 (fun _ z => z) rfl hnm rfl (tyX6_ok 2 (by decide)) (nb01 hz) (by rcases hz with rfl | rfl <;> rfl) (Nat.le_of_ble_eq_true rfl) dX6_init_16 (fun H locs hG => ?_)
  have hG : gG K A s.heap (gup (G) y (q, .inr (5, [.int (nI (n)), .int (nI (f)), .int (z)]))) H locs := hG.eq (gup_gup _ _ _ _)
  exact g_vret hC hG hr (()) rfl (by trivial) hlocks dX6_init_19
set_option maxHeartbeats 4000000 in
theorem xt_init7 (l : Launch) (K : GK) (A : Nat → Prop) (G : GM) (y : Lb) (q : Nat) (n : Nat) (hy : G y = some (q, .inr (6, [.int 0]))) : Met l yX7_init (ws_ yX7_init cX7_init 2 none) ({ frames := 1, cells := 0, slots := 0, locals := 20 }) (va_Pc ([.ref (q), .int (nI (n))]) (gW K A (G))) (va_Qv (fun u9 : Unit => True) (fun u9 t9 => gB K A (gup G y (q, .inr (6, [.int (nI n)]))) t9) A) 0 0 (A) := by
  refine g_ofW (cc := cX7_init) (by decide) (own := RX7) rfl (Nat.le_of_ble_eq_true rfl) ?_
  intro p e s m below meth c hC hr hlocks hnm hE hG ls hl
  have hl : lv_has ls 2 [(0, .ref (q)), (1, .int (nI (n)))] := hl
  have hG : gG K A s.heap (gup (G) y (q, .inr (6, [.int ((0))]))) s.heap [] := hG.eq (gup_id hy).symm
  refine lv_aload_n hC.1 hC.2.1 dX7_init_0 rfl (lv_at hl 0 rfl) ?_
  refine W.objInit hC.1 hC.2.1 hC.2.2.2.1 (hC.2.2.2.2 _ q672) (hC.2.2.2.2 _ q51) (hC.2.2.2.2 _ q52) rfl (by rw [hC.2.2.1]; exact hl.1) rfl dX7_init_1 (Nat.le_of_ble_eq_true rfl) (Nat.le_of_ble_eq_true rfl) ?_
  refine W.eq (g2 := F0 m 4 ls []) rfl ?_
  refine lv_aload_n hC.1 hC.2.1 dX7_init_4 rfl (lv_at hl 0 rfl) ?_
  refine lv_iload_n hC.1 hC.2.1 dX7_init_5 rfl (lv_at hl 1 rfl) ?_
  refine g_putF hC hE hG in_X7 tyX7 tyX7_ok nmX7 (gup_s _ _ _) (ci := 6) rfl 0 (by decide) q673 (fun _ z => z) rfl hnm rfl (tyX7_ok 0 (by decide)) (rfl) (rfl) (Nat.le_of_ble_eq_true rfl) dX7_init_6 (fun H locs hG => ?_)
  have hG : gG K A s.heap (gup (G) y (q, .inr (6, [.int (nI (n))]))) H locs := hG.eq (gup_gup _ _ _ _)
  exact g_vret hC hG hr (()) rfl (by trivial) hlocks dX7_init_9
set_option maxHeartbeats 4000000 in
theorem xt_init8 (l : Launch) (K : GK) (A : Nat → Prop) (G : GM) (y : Lb) (q : Nat) (a b : Nat) (hy : G y = some (q, .inr (7, [.int 0, .int 0]))) : Met l yX8_init (ws_ yX8_init cX8_init 3 none) ({ frames := 1, cells := 0, slots := 0, locals := 20 }) (va_Pc ([.ref (q), .int (nI (a)), .int (nI (b))]) (gW K A (G))) (va_Qv (fun u9 : Unit => True) (fun u9 t9 => gB K A (gup G y (q, .inr (7, [.int (nI a), .int (nI b)]))) t9) A) 0 0 (A) := by
  refine g_ofW (cc := cX8_init) (by decide) (own := RX8) rfl (Nat.le_of_ble_eq_true rfl) ?_
  intro p e s m below meth c hC hr hlocks hnm hE hG ls hl
  have hl : lv_has ls 3 [(0, .ref (q)), (1, .int (nI (a))), (2, .int (nI (b)))] := hl
  have hG : gG K A s.heap (gup (G) y (q, .inr (7, [.int ((0)), .int ((0))]))) s.heap [] := hG.eq (gup_id hy).symm
  refine lv_aload_n hC.1 hC.2.1 dX8_init_0 rfl (lv_at hl 0 rfl) ?_
  refine W.objInit hC.1 hC.2.1 hC.2.2.2.1 (hC.2.2.2.2 _ q689) (hC.2.2.2.2 _ q51) (hC.2.2.2.2 _ q52) rfl (by rw [hC.2.2.1]; exact hl.1) rfl dX8_init_1 (Nat.le_of_ble_eq_true rfl) (Nat.le_of_ble_eq_true rfl) ?_
  refine W.eq (g2 := F0 m 4 ls []) rfl ?_
  refine lv_aload_n hC.1 hC.2.1 dX8_init_4 rfl (lv_at hl 0 rfl) ?_
  refine lv_iload_n hC.1 hC.2.1 dX8_init_5 rfl (lv_at hl 1 rfl) ?_
  refine g_putF hC hE hG in_X8 tyX8 tyX8_ok nmX8 (gup_s _ _ _) (ci := 7) rfl 0 (by decide) q690 (fun _ z => z) rfl hnm rfl (tyX8_ok 0 (by decide)) (rfl) (rfl) (Nat.le_of_ble_eq_true rfl) dX8_init_6 (fun H locs hG => ?_)
  have hG : gG K A s.heap (gup (G) y (q, .inr (7, [.int (nI (a)), .int ((0))]))) H locs := hG.eq (gup_gup _ _ _ _)
  refine lv_aload_n hC.1 hC.2.1 dX8_init_9 rfl (lv_at hl 0 rfl) ?_
  refine lv_iload_n hC.1 hC.2.1 dX8_init_10 rfl (lv_at hl 2 rfl) ?_
  refine g_putF hC hE hG in_X8 tyX8 tyX8_ok nmX8 (gup_s _ _ _) (ci := 7) rfl 1 (by decide) q691 (fun _ z => z) rfl hnm rfl (tyX8_ok 1 (by decide)) (rfl) (rfl) (Nat.le_of_ble_eq_true rfl) dX8_init_11 (fun H locs hG => ?_)
  have hG : gG K A s.heap (gup (G) y (q, .inr (7, [.int (nI (a)), .int (nI (b))]))) H locs := hG.eq (gup_gup _ _ _ _)
  exact g_vret hC hG hr (()) rfl (by trivial) hlocks dX8_init_14
set_option maxHeartbeats 4000000 in
theorem xt_init5 (l : Launch) (K : GK) (A : Nat → Prop) (G : GM) (t x q : Nat) (hy : G (t, x, 0) = some (q, .inr (4, [.null, .null, .null, .null, .int 0]))) : Met l yX5_init (ws_ yX5_init cX5_init 1 none) ({ frames := 1, cells := 4, slots := 15, locals := 20 }) (va_Pc ([.ref (q)]) (gW K A (G))) (va_Qv (fun u9 : Nat → Nat => True) (fun u9 t9 => gB K A (recG K.2.1 G t x q u9) t9) A) 4 15 (A) := by
  refine g_ofW (cc := cX5_init) (by decide) (own := RX5) rfl (Nat.le_of_ble_eq_true rfl) ?_
  intro p e s m below meth c hC hr hlocks hnm hE hG ls hl
  have hl : lv_has ls 1 [(0, .ref (q))] := hl
  have hG : gG K A s.heap (gup (G) (t, x, 0) (q, .inr (4, [.null, .null, .null, .null, .int ((0))]))) s.heap [] := hG.eq (gup_id hy).symm
  refine lv_aload_n hC.1 hC.2.1 dX5_init_0 rfl (lv_at hl 0 rfl) ?_
  refine W.objInit hC.1 hC.2.1 hC.2.2.2.1 (hC.2.2.2.2 _ q267) (hC.2.2.2.2 _ q51) (hC.2.2.2.2 _ q52) rfl (by rw [hC.2.2.1]; exact hl.1) rfl dX5_init_1 (Nat.le_of_ble_eq_true rfl) (Nat.le_of_ble_eq_true rfl) ?_
  refine W.eq (g2 := F0 m 4 ls []) rfl ?_
  refine lv_aload_n hC.1 hC.2.1 dX5_init_4 rfl (lv_at hl 0 rfl) ?_
  refine lv_iconst (v := 3) hC.1 hC.2.1 dX5_init_5 (by decide) ?_
  refine g_newa hC hE hG (t, x, 1) 0 (atype := .int) q82 rfl (ty := .int) rfl (fun _ h => h) (N' := 3) (a0 := (3, .inl (fun _ => 0))) (fun _ => rfl) (by decide) (by decide) (by decide) (Nat.le_of_ble_eq_true rfl) (Nat.le_of_ble_eq_true rfl) dX5_init_6 (fun q_6 H hq6 hG => ?_)
  refine lv_dup hC.1 hC.2.1 dX5_init_8 rfl ?_
  refine lv_iconst (v := 0) hC.1 hC.2.1 dX5_init_9 (by decide) ?_
  refine lv_iconst (v := -1) hC.1 hC.2.1 dX5_init_10 (by decide) ?_
  refine g_ist hC hE hG (n := 3) (gup_s _ _ _) (by decide) (j := 0) (by omega) dX5_init_11 (fun H locs hG => ?_)
  have hG : gG K A s.heap (gup (gup (G) (t, x, 0) (q, .inr (4, [.null, .null, .null, .null, .int ((0))]))) (t, x, 1) (q_6, .inl (K.2.1 0, 3, .inl (upd (fun _ => 0) (0) ((-1)))))) H locs := hG.eq (gup_gup _ _ _ _)
  refine lv_dup hC.1 hC.2.1 dX5_init_12 rfl ?_
  refine lv_iconst (v := 1) hC.1 hC.2.1 dX5_init_13 (by decide) ?_
  refine lv_iconst (v := -1) hC.1 hC.2.1 dX5_init_14 (by decide) ?_
  refine g_ist hC hE hG (n := 3) (gup_s _ _ _) (by decide) (j := 1) (by omega) dX5_init_15 (fun H locs hG => ?_)
  have hG : gG K A s.heap (gup (gup (G) (t, x, 0) (q, .inr (4, [.null, .null, .null, .null, .int ((0))]))) (t, x, 1) (q_6, .inl (K.2.1 0, 3, .inl (upd (upd (fun _ => 0) (0) ((-1))) (1) ((-1)))))) H locs := hG.eq (gup_gup _ _ _ _)
  refine lv_dup hC.1 hC.2.1 dX5_init_16 rfl ?_
  refine lv_iconst (v := 2) hC.1 hC.2.1 dX5_init_17 (by decide) ?_
  refine lv_iconst (v := -1) hC.1 hC.2.1 dX5_init_18 (by decide) ?_
  refine g_ist hC hE hG (n := 3) (gup_s _ _ _) (by decide) (j := 2) (by omega) dX5_init_19 (fun H locs hG => ?_)
  have hG : gG K A s.heap (gup (gup (G) (t, x, 0) (q, .inr (4, [.null, .null, .null, .null, .int ((0))]))) (t, x, 1) (q_6, .inl (K.2.1 0, 3, .inl (upd (upd (upd (fun _ => 0) (0) ((-1))) (1) ((-1))) (2) ((-1)))))) H locs := hG.eq (gup_gup _ _ _ _)
  refine g_putF hC hE hG in_X5 tyX5 tyX5_ok nmX5 ((gup_n _ _ (show ((t, x, 0) : Lb) ≠ (t, x, 1) from lb_s (by decide))).trans (gup_s _ _ _)) (ci := 4) rfl 0 (by decide) q268 (fun _ z => z) rfl hnm rfl (tyX5_ok 0 (by decide)) (rfl) (rfl) (Nat.le_of_ble_eq_true rfl) dX5_init_20 (fun H locs hG => ?_)
  have hG : gG K A s.heap (gup (gup (G) (t, x, 1) (q_6, .inl (K.2.1 0, 3, .inl (upd (upd (upd (fun _ => 0) (0) ((-1))) (1) ((-1))) (2) ((-1)))))) (t, x, 0) (q, .inr (4, [.ref (q_6), .null, .null, .null, .int ((0))]))) H locs := hG.eq (by rw [gup_cm _ _ _ (show ((t, x, 0) : Lb) ≠ (t, x, 1) from lb_s (by decide)), gup_gup]; rfl)
  refine lv_aload_n hC.1 hC.2.1 dX5_init_23 rfl (lv_at hl 0 rfl) ?_
  refine lv_iconst (v := 4) hC.1 hC.2.1 dX5_init_24 (by decide) ?_
  refine g_newa hC hE hG (t, x, 2) 0 (atype := .int) q82 rfl (ty := .int) rfl (fun _ h => h) (N' := 4) (a0 := (4, .inl (fun _ => 0))) (fun _ => rfl) (by decide) (by decide) (by decide) (Nat.le_of_ble_eq_true rfl) (Nat.le_of_ble_eq_true rfl) dX5_init_25 (fun q_25 H hq25 hG => ?_)
  refine lv_dup hC.1 hC.2.1 dX5_init_27 rfl ?_
  refine lv_iconst (v := 0) hC.1 hC.2.1 dX5_init_28 (by decide) ?_
  refine lv_iconst (v := -1) hC.1 hC.2.1 dX5_init_29 (by decide) ?_
  refine g_ist hC hE hG (n := 4) (gup_s _ _ _) (by decide) (j := 0) (by omega) dX5_init_30 (fun H locs hG => ?_)
  have hG : gG K A s.heap (gup (gup (gup (G) (t, x, 1) (q_6, .inl (K.2.1 0, 3, .inl (upd (upd (upd (fun _ => 0) (0) ((-1))) (1) ((-1))) (2) ((-1)))))) (t, x, 0) (q, .inr (4, [.ref (q_6), .null, .null, .null, .int ((0))]))) (t, x, 2) (q_25, .inl (K.2.1 0, 4, .inl (upd (fun _ => 0) (0) ((-1)))))) H locs := hG.eq (gup_gup _ _ _ _)
  refine lv_dup hC.1 hC.2.1 dX5_init_31 rfl ?_
  refine lv_iconst (v := 1) hC.1 hC.2.1 dX5_init_32 (by decide) ?_
  refine lv_iconst (v := -1) hC.1 hC.2.1 dX5_init_33 (by decide) ?_
  refine g_ist hC hE hG (n := 4) (gup_s _ _ _) (by decide) (j := 1) (by omega) dX5_init_34 (fun H locs hG => ?_)
  have hG : gG K A s.heap (gup (gup (gup (G) (t, x, 1) (q_6, .inl (K.2.1 0, 3, .inl (upd (upd (upd (fun _ => 0) (0) ((-1))) (1) ((-1))) (2) ((-1)))))) (t, x, 0) (q, .inr (4, [.ref (q_6), .null, .null, .null, .int ((0))]))) (t, x, 2) (q_25, .inl (K.2.1 0, 4, .inl (upd (upd (fun _ => 0) (0) ((-1))) (1) ((-1)))))) H locs := hG.eq (gup_gup _ _ _ _)
  refine lv_dup hC.1 hC.2.1 dX5_init_35 rfl ?_
  refine lv_iconst (v := 2) hC.1 hC.2.1 dX5_init_36 (by decide) ?_
  refine lv_iconst (v := -1) hC.1 hC.2.1 dX5_init_37 (by decide) ?_
  refine g_ist hC hE hG (n := 4) (gup_s _ _ _) (by decide) (j := 2) (by omega) dX5_init_38 (fun H locs hG => ?_)
  have hG : gG K A s.heap (gup (gup (gup (G) (t, x, 1) (q_6, .inl (K.2.1 0, 3, .inl (upd (upd (upd (fun _ => 0) (0) ((-1))) (1) ((-1))) (2) ((-1)))))) (t, x, 0) (q, .inr (4, [.ref (q_6), .null, .null, .null, .int ((0))]))) (t, x, 2) (q_25, .inl (K.2.1 0, 4, .inl (upd (upd (upd (fun _ => 0) (0) ((-1))) (1) ((-1))) (2) ((-1)))))) H locs := hG.eq (gup_gup _ _ _ _)
  refine lv_dup hC.1 hC.2.1 dX5_init_39 rfl ?_
  refine lv_iconst (v := 3) hC.1 hC.2.1 dX5_init_40 (by decide) ?_
  refine lv_iconst (v := -1) hC.1 hC.2.1 dX5_init_41 (by decide) ?_
  refine g_ist hC hE hG (n := 4) (gup_s _ _ _) (by decide) (j := 3) (by omega) dX5_init_42 (fun H locs hG => ?_)
  have hG : gG K A s.heap (gup (gup (gup (G) (t, x, 1) (q_6, .inl (K.2.1 0, 3, .inl (upd (upd (upd (fun _ => 0) (0) ((-1))) (1) ((-1))) (2) ((-1)))))) (t, x, 0) (q, .inr (4, [.ref (q_6), .null, .null, .null, .int ((0))]))) (t, x, 2) (q_25, .inl (K.2.1 0, 4, .inl (upd (upd (upd (upd (fun _ => 0) (0) ((-1))) (1) ((-1))) (2) ((-1))) (3) ((-1)))))) H locs := hG.eq (gup_gup _ _ _ _)
  refine g_putF hC hE hG in_X5 tyX5 tyX5_ok nmX5 ((gup_n _ _ (show ((t, x, 0) : Lb) ≠ (t, x, 2) from lb_s (by decide))).trans (gup_s _ _ _)) (ci := 4) rfl 1 (by decide) q272 (fun _ z => z) rfl hnm rfl (tyX5_ok 1 (by decide)) (rfl) (rfl) (Nat.le_of_ble_eq_true rfl) dX5_init_43 (fun H locs hG => ?_)
  have hG : gG K A s.heap (gup (gup (gup (G) (t, x, 1) (q_6, .inl (K.2.1 0, 3, .inl (upd (upd (upd (fun _ => 0) (0) ((-1))) (1) ((-1))) (2) ((-1)))))) (t, x, 2) (q_25, .inl (K.2.1 0, 4, .inl (upd (upd (upd (upd (fun _ => 0) (0) ((-1))) (1) ((-1))) (2) ((-1))) (3) ((-1)))))) (t, x, 0) (q, .inr (4, [.ref (q_6), .ref (q_25), .null, .null, .int ((0))]))) H locs := hG.eq (by rw [gup_cm _ _ _ (show ((t, x, 0) : Lb) ≠ (t, x, 2) from lb_s (by decide)), gup_gup]; rfl)
  refine lv_aload_n hC.1 hC.2.1 dX5_init_46 rfl (lv_at hl 0 rfl) ?_
  refine lv_iconst (v := 4) hC.1 hC.2.1 dX5_init_47 (by decide) ?_
  refine g_newa hC hE hG (t, x, 3) 0 (atype := .int) q82 rfl (ty := .int) rfl (fun _ h => h) (N' := 4) (a0 := (4, .inl (fun _ => 0))) (fun _ => rfl) (by decide) (by decide) (by decide) (Nat.le_of_ble_eq_true rfl) (Nat.le_of_ble_eq_true rfl) dX5_init_48 (fun q_48 H hq48 hG => ?_)
  refine lv_dup hC.1 hC.2.1 dX5_init_50 rfl ?_
  refine lv_iconst (v := 0) hC.1 hC.2.1 dX5_init_51 (by decide) ?_
  refine lv_iconst (v := -1) hC.1 hC.2.1 dX5_init_52 (by decide) ?_
  refine g_ist hC hE hG (n := 4) (gup_s _ _ _) (by decide) (j := 0) (by omega) dX5_init_53 (fun H locs hG => ?_)
  have hG : gG K A s.heap (gup (gup (gup (gup (G) (t, x, 1) (q_6, .inl (K.2.1 0, 3, .inl (upd (upd (upd (fun _ => 0) (0) ((-1))) (1) ((-1))) (2) ((-1)))))) (t, x, 2) (q_25, .inl (K.2.1 0, 4, .inl (upd (upd (upd (upd (fun _ => 0) (0) ((-1))) (1) ((-1))) (2) ((-1))) (3) ((-1)))))) (t, x, 0) (q, .inr (4, [.ref (q_6), .ref (q_25), .null, .null, .int ((0))]))) (t, x, 3) (q_48, .inl (K.2.1 0, 4, .inl (upd (fun _ => 0) (0) ((-1)))))) H locs := hG.eq (gup_gup _ _ _ _)
  refine lv_dup hC.1 hC.2.1 dX5_init_54 rfl ?_
  refine lv_iconst (v := 1) hC.1 hC.2.1 dX5_init_55 (by decide) ?_
  refine lv_iconst (v := -1) hC.1 hC.2.1 dX5_init_56 (by decide) ?_
  refine g_ist hC hE hG (n := 4) (gup_s _ _ _) (by decide) (j := 1) (by omega) dX5_init_57 (fun H locs hG => ?_)
  have hG : gG K A s.heap (gup (gup (gup (gup (G) (t, x, 1) (q_6, .inl (K.2.1 0, 3, .inl (upd (upd (upd (fun _ => 0) (0) ((-1))) (1) ((-1))) (2) ((-1)))))) (t, x, 2) (q_25, .inl (K.2.1 0, 4, .inl (upd (upd (upd (upd (fun _ => 0) (0) ((-1))) (1) ((-1))) (2) ((-1))) (3) ((-1)))))) (t, x, 0) (q, .inr (4, [.ref (q_6), .ref (q_25), .null, .null, .int ((0))]))) (t, x, 3) (q_48, .inl (K.2.1 0, 4, .inl (upd (upd (fun _ => 0) (0) ((-1))) (1) ((-1)))))) H locs := hG.eq (gup_gup _ _ _ _)
  refine lv_dup hC.1 hC.2.1 dX5_init_58 rfl ?_
  refine lv_iconst (v := 2) hC.1 hC.2.1 dX5_init_59 (by decide) ?_
  refine lv_iconst (v := -1) hC.1 hC.2.1 dX5_init_60 (by decide) ?_
  refine g_ist hC hE hG (n := 4) (gup_s _ _ _) (by decide) (j := 2) (by omega) dX5_init_61 (fun H locs hG => ?_)
  have hG : gG K A s.heap (gup (gup (gup (gup (G) (t, x, 1) (q_6, .inl (K.2.1 0, 3, .inl (upd (upd (upd (fun _ => 0) (0) ((-1))) (1) ((-1))) (2) ((-1)))))) (t, x, 2) (q_25, .inl (K.2.1 0, 4, .inl (upd (upd (upd (upd (fun _ => 0) (0) ((-1))) (1) ((-1))) (2) ((-1))) (3) ((-1)))))) (t, x, 0) (q, .inr (4, [.ref (q_6), .ref (q_25), .null, .null, .int ((0))]))) (t, x, 3) (q_48, .inl (K.2.1 0, 4, .inl (upd (upd (upd (fun _ => 0) (0) ((-1))) (1) ((-1))) (2) ((-1)))))) H locs := hG.eq (gup_gup _ _ _ _)
  refine lv_dup hC.1 hC.2.1 dX5_init_62 rfl ?_
  refine lv_iconst (v := 3) hC.1 hC.2.1 dX5_init_63 (by decide) ?_
  refine lv_iconst (v := -1) hC.1 hC.2.1 dX5_init_64 (by decide) ?_
  refine g_ist hC hE hG (n := 4) (gup_s _ _ _) (by decide) (j := 3) (by omega) dX5_init_65 (fun H locs hG => ?_)
  have hG : gG K A s.heap (gup (gup (gup (gup (G) (t, x, 1) (q_6, .inl (K.2.1 0, 3, .inl (upd (upd (upd (fun _ => 0) (0) ((-1))) (1) ((-1))) (2) ((-1)))))) (t, x, 2) (q_25, .inl (K.2.1 0, 4, .inl (upd (upd (upd (upd (fun _ => 0) (0) ((-1))) (1) ((-1))) (2) ((-1))) (3) ((-1)))))) (t, x, 0) (q, .inr (4, [.ref (q_6), .ref (q_25), .null, .null, .int ((0))]))) (t, x, 3) (q_48, .inl (K.2.1 0, 4, .inl (upd (upd (upd (upd (fun _ => 0) (0) ((-1))) (1) ((-1))) (2) ((-1))) (3) ((-1)))))) H locs := hG.eq (gup_gup _ _ _ _)
  refine g_putF hC hE hG in_X5 tyX5 tyX5_ok nmX5 ((gup_n _ _ (show ((t, x, 0) : Lb) ≠ (t, x, 3) from lb_s (by decide))).trans (gup_s _ _ _)) (ci := 4) rfl 2 (by decide) q276 (fun _ z => z) rfl hnm rfl (tyX5_ok 2 (by decide)) (rfl) (rfl) (Nat.le_of_ble_eq_true rfl) dX5_init_66 (fun H locs hG => ?_)
  have hG : gG K A s.heap (gup (gup (gup (gup (G) (t, x, 1) (q_6, .inl (K.2.1 0, 3, .inl (upd (upd (upd (fun _ => 0) (0) ((-1))) (1) ((-1))) (2) ((-1)))))) (t, x, 2) (q_25, .inl (K.2.1 0, 4, .inl (upd (upd (upd (upd (fun _ => 0) (0) ((-1))) (1) ((-1))) (2) ((-1))) (3) ((-1)))))) (t, x, 3) (q_48, .inl (K.2.1 0, 4, .inl (upd (upd (upd (upd (fun _ => 0) (0) ((-1))) (1) ((-1))) (2) ((-1))) (3) ((-1)))))) (t, x, 0) (q, .inr (4, [.ref (q_6), .ref (q_25), .ref (q_48), .null, .int ((0))]))) H locs := hG.eq (by rw [gup_cm _ _ _ (show ((t, x, 0) : Lb) ≠ (t, x, 3) from lb_s (by decide)), gup_gup]; rfl)
  refine lv_aload_n hC.1 hC.2.1 dX5_init_69 rfl (lv_at hl 0 rfl) ?_
  refine lv_iconst (v := 4) hC.1 hC.2.1 dX5_init_70 (by decide) ?_
  refine g_newa hC hE hG (t, x, 4) 1 (atype := .boolean) q83 rfl (ty := .boolean) rfl (fun _ h => h) (N' := 4) (a0 := (4, .inl (fun _ => 0))) (fun _ => rfl) (by decide) (by decide) (by decide) (Nat.le_of_ble_eq_true rfl) (Nat.le_of_ble_eq_true rfl) dX5_init_71 (fun q_71 H hq71 hG => ?_)
  refine g_putF hC hE hG in_X5 tyX5 tyX5_ok nmX5 ((gup_n _ _ (show ((t, x, 0) : Lb) ≠ (t, x, 4) from lb_s (by decide))).trans (gup_s _ _ _)) (ci := 4) rfl 3 (by decide) q280 (fun _ z => z) rfl hnm rfl (tyX5_ok 3 (by decide)) (rfl) (rfl) (Nat.le_of_ble_eq_true rfl) dX5_init_73 (fun H locs hG => ?_)
  have hG : gG K A s.heap (gup (gup (gup (gup (gup (G) (t, x, 1) (q_6, .inl (K.2.1 0, 3, .inl (upd (upd (upd (fun _ => 0) (0) ((-1))) (1) ((-1))) (2) ((-1)))))) (t, x, 2) (q_25, .inl (K.2.1 0, 4, .inl (upd (upd (upd (upd (fun _ => 0) (0) ((-1))) (1) ((-1))) (2) ((-1))) (3) ((-1)))))) (t, x, 3) (q_48, .inl (K.2.1 0, 4, .inl (upd (upd (upd (upd (fun _ => 0) (0) ((-1))) (1) ((-1))) (2) ((-1))) (3) ((-1)))))) (t, x, 4) (q_71, .inl (K.2.1 1, 4, .inl (fun _ => 0)))) (t, x, 0) (q, .inr (4, [.ref (q_6), .ref (q_25), .ref (q_48), .ref (q_71), .int ((0))]))) H locs := hG.eq (by rw [gup_cm _ _ _ (show ((t, x, 0) : Lb) ≠ (t, x, 4) from lb_s (by decide)), gup_gup]; rfl)
  exact g_vret hC hG hr (fun j => if j = 1 then q_6 else if j = 2 then q_25 else if j = 3 then q_48 else q_71) rfl (by trivial) hlocks dX5_init_76
set_option maxHeartbeats 4000000 in
theorem xt_init2 (l : Launch) (K : GK) (A : Nat → Prop) (G : GM) (t q lo : Nat) (hy : G (t, 0, 0) = some (q, .inr (1, [.null, .null, .null]))) : Met l yX2_init (ws_ yX2_init cX2_init 2 none) ({ frames := 1, cells := 2, slots := 160, locals := 20 }) (va_Pc ([.ref (q), .ref (lo)]) (gW K A (G))) (va_Qv (fun u9 : Nat → Nat => True) (fun u9 t9 => gB K A (catG K.2.1 G t q lo u9) t9) A) 2 160 (A) := by
  refine g_ofW (cc := cX2_init) (by decide) (own := RX2) rfl (Nat.le_of_ble_eq_true rfl) ?_
  intro p e s m below meth c hC hr hlocks hnm hE hG ls hl
  have hl : lv_has ls 2 [(0, .ref (q)), (1, .ref (lo))] := hl
  have hG : gG K A s.heap (gup (G) (t, 0, 0) (q, .inr (1, [.null, .null, .null]))) s.heap [] := hG.eq (gup_id hy).symm
  refine lv_aload_n hC.1 hC.2.1 dX2_init_0 rfl (lv_at hl 0 rfl) ?_
  refine lv_aload_n hC.1 hC.2.1 dX2_init_1 rfl (lv_at hl 1 rfl) ?_
  refine g_putF hC hE hG in_X2 tyX2 tyX2_ok nmX2 (gup_s _ _ _) (ci := 1) rfl 2 (by decide) q101 (fun _ z => z) rfl hnm rfl (tyX2_ok 2 (by decide)) (rfl) (rfl) (Nat.le_of_ble_eq_true rfl) dX2_init_2 (fun H locs hG => ?_)
  have hG : gG K A s.heap (gup (G) (t, 0, 0) (q, .inr (1, [.null, .null, .ref (lo)]))) H locs := hG.eq (gup_gup _ _ _ _)
  refine lv_aload_n hC.1 hC.2.1 dX2_init_5 rfl (lv_at hl 0 rfl) ?_
  refine W.objInit hC.1 hC.2.1 hC.2.2.2.1 (hC.2.2.2.2 _ q89) (hC.2.2.2.2 _ q51) (hC.2.2.2.2 _ q52) rfl (by rw [hC.2.2.1]; exact hl.1) rfl dX2_init_6 (Nat.le_of_ble_eq_true rfl) (Nat.le_of_ble_eq_true rfl) ?_
  refine W.eq (g2 := F0 m 9 ls []) rfl ?_
  refine lv_aload_n hC.1 hC.2.1 dX2_init_9 rfl (lv_at hl 0 rfl) ?_
  refine lv_bipush (v := 80) hC.1 hC.2.1 dX2_init_10 (by decide) ?_
  refine g_newq hC hE hG (t, 0, 1) 4 q90 hE.2.1.2.2.2.2.1 rfl (N' := 80) (by decide) (by decide) (by decide) (Nat.le_of_ble_eq_true rfl) (Nat.le_of_ble_eq_true rfl) dX2_init_12 (fun q_12 H hq12 hG => ?_)
  refine g_putF hC hE hG in_X2 tyX2 tyX2_ok nmX2 ((gup_n _ _ (show ((t, 0, 0) : Lb) ≠ (t, 0, 1) from lb_s (by decide))).trans (gup_s _ _ _)) (ci := 1) rfl 0 (by decide) q92 (fun _ z => z) rfl hnm rfl (tyX2_ok 0 (by decide)) (rfl) (rfl) (Nat.le_of_ble_eq_true rfl) dX2_init_15 (fun H locs hG => ?_)
  have hG : gG K A s.heap (gup (gup (G) (t, 0, 1) (q_12, .inl (K.2.1 4, 80, .inr (.inr (.inr (.inr (fun _ => none))))))) (t, 0, 0) (q, .inr (1, [.ref (q_12), .null, .ref (lo)]))) H locs := hG.eq (by rw [gup_cm _ _ _ (show ((t, 0, 0) : Lb) ≠ (t, 0, 1) from lb_s (by decide)), gup_gup]; rfl)
  refine lv_aload_n hC.1 hC.2.1 dX2_init_18 rfl (lv_at hl 0 rfl) ?_
  refine lv_bipush (v := 80) hC.1 hC.2.1 dX2_init_19 (by decide) ?_
  refine g_newa hC hE hG (t, 0, 2) 0 (atype := .int) q82 rfl (ty := .int) rfl (fun _ h => h) (N' := 80) (a0 := (80, .inl (fun _ => 0))) (fun _ => rfl) (by decide) (by decide) (by decide) (Nat.le_of_ble_eq_true rfl) (Nat.le_of_ble_eq_true rfl) dX2_init_21 (fun q_21 H hq21 hG => ?_)
  refine g_putF hC hE hG in_X2 tyX2 tyX2_ok nmX2 ((gup_n _ _ (show ((t, 0, 0) : Lb) ≠ (t, 0, 2) from lb_s (by decide))).trans (gup_s _ _ _)) (ci := 1) rfl 1 (by decide) q98 (fun _ z => z) rfl hnm rfl (tyX2_ok 1 (by decide)) (rfl) (rfl) (Nat.le_of_ble_eq_true rfl) dX2_init_23 (fun H locs hG => ?_)
  have hG : gG K A s.heap (gup (gup (gup (G) (t, 0, 1) (q_12, .inl (K.2.1 4, 80, .inr (.inr (.inr (.inr (fun _ => none))))))) (t, 0, 2) (q_21, .inl (K.2.1 0, 80, .inl (fun _ => 0)))) (t, 0, 0) (q, .inr (1, [.ref (q_12), .ref (q_21), .ref (lo)]))) H locs := hG.eq (by rw [gup_cm _ _ _ (show ((t, 0, 0) : Lb) ≠ (t, 0, 2) from lb_s (by decide)), gup_gup]; rfl)
  exact g_vret hC hG hr (fun j => if j = 1 then q_12 else q_21) rfl (by trivial) hlocks dX2_init_26
