/-! the loader's load -/
set_option maxRecDepth 100000
/-- one of the arrays is another -/
def sA (x : MS) (k : Nat) (g : Nat → Int32) : MS := (x.1, va_up x.2 k g)
theorem LW_A {ac : Nat → ClassId} {b : Nat → Nat} {x : MS} {ad : Nat → Nat → Nat} {κ : KS} {G : GM} {k : Nat} {g : Nat → Int32} (hk : k < 5) : gup (LW ac b x ad κ G) (1, k, 0) (b k, .inl (ac 0, lLen k, .inl g)) = LW ac b (sA x k g) ad κ G := by
  unfold LW
  rw [cput_gup (show (1 : Nat) ≠ 3 by decide)]
  congr 1
  refine lop_gup (Or.inl (by omega)) ?_ (fun j hj hjk => ?_)
  · unfold lcell
    rw [if_pos hk]
    simp [sA, va_up]
  · unfold lcell
    simp only [sA, va_up, if_neg hjk]
    split
    · rfl
    · split
      · rename_i e5
        rw [if_neg (by omega)]
      · rfl
def cLoad (x : MS) (a : Int32) : Ex Unit := if inR a 0 4 then (if x.1 6 ≤ 0 then .error 3 else .ok ()) else .error 1
/-- the loader's numbers and drafts behind a load -/
def xLoad (x : MS) (Ld : Nat) : MS := sA (sA (sS x 7 (nI (Ld + 1))) 3 (fM1 (x.2 3) 3)) 4 (fM1 (x.2 4) 4)
set_option maxHeartbeats 4000000 in
theorem xl_load (l : Launch) (hst : l.stackTraces = false) (K : GK) (A : Nat → Prop) (b : Nat → Nat) (x : MS) (ad : Nat → Nat → Nat) (κ : KS) (G : GM) (es : List Ev) (hEV : EV K b es G) (hc : es.length ≤ 63) (hO : wO x) (B Ld : Nat) (hB : x.1 6 = nI B) (hB1 : B ≤ 10) (hLd : x.1 7 = nI Ld) (hLd1 : Ld < 80) (hki : kIv κ Ld) (a : Int32)
    : vx_Met l yX1_load (ws_ yX1_load cX1_load 2 (some .int)) ({ frames := 8, cells := 11, slots := 146, locals := 500 }) (va_Pc [.ref (b 11), .int a] (gW K A (LW K.2.1 b x ad κ G))) (va_Qi (fun (r : Int32) (u : GM × (Nat → Nat → Nat)) => (cLoad x a = .ok () ∧ r = (kDo (xLoad x Ld) (.inl (Ld, nI (B - 1), a, x.2 3, x.2 4)) κ).2 Ld) ∧ EV K b (es ++ [.inl (Ld, nI (B - 1), a, x.2 3, x.2 4)]) u.1 ∧ g0 u.1 G) (fun u t => gB K A (LW K.2.1 b (xLoad x Ld) u.2 (kDo (xLoad x Ld) (.inl (Ld, nI (B - 1), a, x.2 3, x.2 4)) κ) u.1) t) A) (gXC K A (LW K.2.1 b x ad κ G) (fun k => cLoad x a = .error k)) 11 146 A := by
  refine g_ofX (cc := cX1_load) (by decide) (own := RX1) rfl (Nat.le_of_ble_eq_true rfl) ?_
  intro p e s mm below meth cd hC hr hlocks hx0 hE hG ls hl
  have hl : lv_has ls 2 [(0, .ref (b 11)), (1, .int a)] := hl
  obtain ⟨m, da, n, f, qs, hL, h2, h3⟩ := hEV
  refine lv_iload_n hC.1 hC.2.1 dX1_load_0 rfl (lv_at hl 1 rfl) ?_
  refine lv_iconst (v := 0) hC.1 hC.2.1 dX1_load_1 (by decide) ?_
  refine lv_iconst (v := 4) hC.1 hC.2.1 dX1_load_2 (by decide) ?_
  refine g_sP (As := [.int a, .int 0, .int 4]) (rest := []) hC (xt_in l a 0 4) (va_cwS 3 hC.2.2.2.2 (lw_S q417 q418 q21 q419) rfl rfl rfl (by decide +kernel) ⟨Nat.le_of_ble_eq_true rfl, Nat.le_of_ble_eq_true rfl⟩) rfl hl.1 rfl (Nat.le_of_ble_eq_true rfl) dX1_load_3 ⟨Nat.le_of_ble_eq_true rfl, Nat.le_of_ble_eq_true rfl⟩ (fun r hr9 => ?_)
  subst hr9
  refine g_xSv (As := [.int (bI (inR a 0 4))]) (rest := []) hC hE hG (xt_needIndex l hst K A _ (inR a 0 4)) (va_cwS 1 hC.2.2.2.2 (lw_S q420 q421 q21 q422) rfl rfl rfl (by decide +kernel) ⟨Nat.le_of_ble_eq_true rfl, Nat.le_of_ble_eq_true rfl⟩) rfl hl.1 rfl (Nat.le_of_ble_eq_true rfl) dX1_load_6 ⟨Nat.le_of_ble_eq_true rfl, Nat.le_of_ble_eq_true rfl⟩ (g_out hC hx0 hlocks (fun k9 hk9 => ?_) ⟨by decide, by decide⟩) (fun H locs hu1 hG => ?_)
  · obtain ⟨rfl, hn⟩ := hk9
    exact if_neg hn
  refine lv_aload_n hC.1 hC.2.1 dX1_load_9 rfl (lv_at hl 0 rfl) ?_
  refine g_get hC hE hG in_X1 LW_at.1 (ci := 0) rfl 6 (by decide) q119 (fun _ z => z) (v := .int (x.1 6)) rfl dX1_load_10 ?_
  refine lv_if_le (tgt := 29) hC.1 hC.2.1 dX1_load_13 (by decide) (fun c1 => ?_) (fun c1 => ?_)
  · refine lv_iconst (v := 0) hC.1 hC.2.1 dX1_load_29 (by decide) ?_
    refine g_xSv (As := [.int (bI False)]) (rest := []) hC hE hG (xt_needState l hst K A _ False) (va_cwS 1 hC.2.2.2.2 (lw_S q462 q463 q21 q464) rfl rfl rfl (by decide +kernel) ⟨Nat.le_of_ble_eq_true rfl, Nat.le_of_ble_eq_true rfl⟩) rfl hl.1 rfl (Nat.le_of_ble_eq_true rfl) dX1_load_30 ⟨Nat.le_of_ble_eq_true rfl, Nat.le_of_ble_eq_true rfl⟩ (g_out hC hx0 hlocks (fun k9 hk9 => ?_) ⟨by decide, by decide⟩) (fun H locs hu3 hG => hu3.elim)
    obtain ⟨rfl, hn⟩ := hk9
    exact (if_pos hu1).trans (if_pos c1)
  have hB0 : 1 ≤ B := by
    rcases Nat.eq_zero_or_pos B with g | g
    · rw [hB, g] at c1
      exact absurd (by decide) c1
    · exact g
  refine lv_aload_n hC.1 hC.2.1 dX1_load_16 rfl (lv_at hl 0 rfl) ?_
  refine g_get hC hE hG in_X1 LW_at.1 (ci := 0) rfl 7 (by decide) q120 (fun _ z => z) (v := .int (nI Ld)) (by rw [← hLd]; rfl) dX1_load_17 ?_
  refine lv_bipush (v := 80) hC.1 hC.2.1 dX1_load_20 (by decide) ?_
  refine n_ge (a := Ld) (b := 80) hC (by omega) (by omega) (tgt := 29) dX1_load_22 (by decide) (fun c2 => absurd c2 (by omega)) (fun _ => ?_)
  refine lv_iconst (v := 1) hC.1 hC.2.1 dX1_load_25 (by decide) ?_
  refine lv_goto (tgt := 30) hC.1 hC.2.1 dX1_load_26 (by decide) ?_
  refine g_xSv (As := [.int (bI True)]) (rest := []) hC hE hG (xt_needState l hst K A _ True) (va_cwS 1 hC.2.2.2.2 (lw_S q462 q463 q21 q464) rfl rfl rfl (by decide +kernel) ⟨Nat.le_of_ble_eq_true rfl, Nat.le_of_ble_eq_true rfl⟩) rfl hl.1 rfl (Nat.le_of_ble_eq_true rfl) dX1_load_30 ⟨Nat.le_of_ble_eq_true rfl, Nat.le_of_ble_eq_true rfl⟩ (g_out hC hx0 hlocks (fun k9 hk9 => absurd trivial hk9.2) ⟨by decide, by decide⟩) (fun H locs _ hG => ?_)
  refine lv_aload_n hC.1 hC.2.1 dX1_load_33 rfl (lv_at hl 0 rfl) ?_
  refine lv_dup hC.1 hC.2.1 dX1_load_34 rfl ?_
  refine g_get hC hE hG in_X1 LW_at.1 (ci := 0) rfl 7 (by decide) q120 (fun _ z => z) (v := .int (nI Ld)) (by rw [← hLd]; rfl) dX1_load_35 ?_
  refine lv_iconst (v := 1) hC.1 hC.2.1 dX1_load_38 (by decide) ?_
  refine n_add (a := Ld) (b := 1) (d := Ld + 1) hC rfl dX1_load_39 ?_
  refine g_put hC hE hG in_X1 tyX1 tyX1_ok nmX1 LW_at.1 (ci := 0) rfl 7 (by decide) q120 (fun _ z => z) rfl (tyX1_ok 7 (by decide)) rfl rfl (Nat.le_of_ble_eq_true rfl) dX1_load_40 (fun H locs hG => ?_)
  have hG : gG K A s.heap (LW K.2.1 b (sS x 7 (nI (Ld + 1))) ad κ G) H locs := hG.eq (LW_S (by decide))
  refine lv_aload_n hC.1 hC.2.1 dX1_load_43 rfl (lv_at hl 0 rfl) ?_
  refine g_new hC hE hG (2, es.length, 0) in_X4 tyX4 tyX4_ok q528 q529 q35 (ci := 3) rfl (fs := [.int 0, .int 0, .int 0, .null, .null, .null]) (by decide) (Nat.le_of_ble_eq_true rfl) (Nat.le_of_ble_eq_true rfl) dX1_load_44 (fun q H hq hG => ?_)
  have hG : gG K A s.heap (LW K.2.1 b (sS x 7 (nI (Ld + 1))) ad κ (gup G (2, es.length, 0) (q, .inr (3, [.int 0, .int 0, .int 0, .null, .null, .null])))) H locs := hG.eq (LW_gup (by show (2 : Nat) ≠ 3; decide) (by show ¬ ((2 : Nat) = 1 ∧ _); omega))
  refine lv_dup hC.1 hC.2.1 dX1_load_47 rfl ?_
  refine lv_aload_n hC.1 hC.2.1 dX1_load_48 rfl (lv_at hl 0 rfl) ?_
  refine lv_aload_n hC.1 hC.2.1 dX1_load_49 rfl (lv_at hl 0 rfl) ?_
  refine g_get hC hE hG in_X1 LW_at.1 (ci := 0) rfl 7 (by decide) q120 (fun _ z => z) (v := .int (nI (Ld + 1))) rfl dX1_load_50 ?_
  refine lv_iconst (v := 1) hC.1 hC.2.1 dX1_load_53 (by decide) ?_
  refine n_sub (a := Ld + 1) (b := 1) (d := Ld) hC (by omega) (by omega) dX1_load_54 ?_
  refine lv_aload_n hC.1 hC.2.1 dX1_load_55 rfl (lv_at hl 0 rfl) ?_
  refine g_get hC hE hG in_X1 LW_at.1 (ci := 0) rfl 6 (by decide) q119 (fun _ z => z) (v := .int (nI B)) (by rw [← hB]; rfl) dX1_load_56 ?_
  refine lv_iconst (v := 1) hC.1 hC.2.1 dX1_load_59 (by decide) ?_
  refine n_sub (a := B) (b := 1) (d := B - 1) hC (by omega) rfl dX1_load_60 ?_
  refine lv_iload_n hC.1 hC.2.1 dX1_load_61 rfl (lv_at hl 1 rfl) ?_
  refine lv_aload_n hC.1 hC.2.1 dX1_load_62 rfl (lv_at hl 0 rfl) ?_
  refine g_get hC hE hG in_X1 LW_at.1 (ci := 0) rfl 3 (by decide) q115 (fun _ z => z) rfl dX1_load_63 ?_
  refine g_cSr (As := [.ref (b 3)]) (rest := [.int a, .int (nI (B - 1)), .int (nI Ld), .ref (b 11), .ref q, .ref q, .ref (b 11)]) hC hE hG (xt_taken l K A _ (1, 3, 0) (2, es.length, 1) (b 3) 3 (x.2 3) (LW_at.2.1 3 (by decide)) (fun e => by cases e) (by decide)) (va_cwS 1 hC.2.2.2.2 (lw_S q530 q531 q21 q532) rfl rfl rfl (by decide +kernel) ⟨Nat.le_of_ble_eq_true rfl, Nat.le_of_ble_eq_true rfl⟩) rfl hl.1 rfl (Nat.le_of_ble_eq_true rfl) dX1_load_66 ⟨Nat.le_of_ble_eq_true rfl, Nat.le_of_ble_eq_true rfl⟩ (fun _ q1 H locs _ hG => ?_)
  have hG : gG K A s.heap (LW K.2.1 b (sA (sS x 7 (nI (Ld + 1))) 3 (fM1 (x.2 3) 3)) ad κ (gup (gup G (2, es.length, 0) (q, .inr (3, [.int 0, .int 0, .int 0, .null, .null, .null]))) (2, es.length, 1) (q1, .inl (K.2.1 0, 3, .inl (x.2 3))))) H locs := hG.eq (by rw [LW_gup (by show (2 : Nat) ≠ 3; decide) (by show ¬ ((2 : Nat) = 1 ∧ _); omega)]; exact LW_A (by decide))
  refine lv_aload_n hC.1 hC.2.1 dX1_load_69 rfl (lv_at hl 0 rfl) ?_
  refine g_get hC hE hG in_X1 LW_at.1 (ci := 0) rfl 4 (by decide) q116 (fun _ z => z) rfl dX1_load_70 ?_
  refine g_cSr (As := [.ref (b 4)]) (rest := [.ref q1, .int a, .int (nI (B - 1)), .int (nI Ld), .ref (b 11), .ref q, .ref q, .ref (b 11)]) hC hE hG (xt_taken l K A _ (1, 4, 0) (2, es.length, 2) (b 4) 4 (x.2 4) (LW_at.2.1 4 (by decide)) (fun e => by cases e) (by decide)) (va_cwS 1 hC.2.2.2.2 (lw_S q530 q531 q21 q532) rfl rfl rfl (by decide +kernel) ⟨Nat.le_of_ble_eq_true rfl, Nat.le_of_ble_eq_true rfl⟩) rfl hl.1 rfl (Nat.le_of_ble_eq_true rfl) dX1_load_73 ⟨Nat.le_of_ble_eq_true rfl, Nat.le_of_ble_eq_true rfl⟩ (fun _ q2 H locs _ hG => ?_)
  have hG : gG K A s.heap (LW K.2.1 b (xLoad x Ld) ad κ (gup (gup (gup G (2, es.length, 0) (q, .inr (3, [.int 0, .int 0, .int 0, .null, .null, .null]))) (2, es.length, 1) (q1, .inl (K.2.1 0, 3, .inl (x.2 3)))) (2, es.length, 2) (q2, .inl (K.2.1 0, 4, .inl (x.2 4))))) H locs := hG.eq (by rw [LW_gup (by show (2 : Nat) ≠ 3; decide) (by show ¬ ((2 : Nat) = 1 ∧ _); omega)]; exact LW_A (by decide))
  have hn0 : ∀ j, ((2, es.length, j + 1) : Lb) ≠ (2, es.length, 0) := fun j e => by
    have := congrArg (fun z : Lb => z.2.2) e
    exact absurd this (Nat.succ_ne_zero j)
  have hn1 : ((2, es.length, 1) : Lb) ≠ (2, es.length, 2) := fun e => absurd (congrArg (fun z : Lb => z.2.2) e) (by show (1 : Nat) ≠ 2; decide)
  have hg0 : (gup (gup (gup G (2, es.length, 0) (q, .inr (3, [.int 0, .int 0, .int 0, .null, .null, .null]))) (2, es.length, 1) (q1, .inl (K.2.1 0, 3, .inl (x.2 3)))) (2, es.length, 2) (q2, .inl (K.2.1 0, 4, .inl (x.2 4)))) (2, es.length, 0) = some (q, .inr (3, [.int 0, .int 0, .int 0, .null, .null, .null])) := (gup_n _ _ (hn0 1).symm).trans ((gup_n _ _ (hn0 0).symm).trans (gup_s _ _ _))
  refine g_cI (As := [.ref (b 11), .int (nI Ld), .int (nI (B - 1)), .int a, .ref q1, .ref q2]) (rest := [.ref q, .ref (b 11)]) hC hE hG (xt_init4 l K A _ (2, es.length, 0) q (b 11) q1 q2 Ld (nI (B - 1)) a ((LW_g (by show (2 : Nat) ≠ 3; decide) (by show ¬ ((2 : Nat) = 1 ∧ _); omega)).trans hg0)) (cwI 6 hC.2.2.2.2 (lw_meth q542) rfl rfl rfl (hC.2.2.2.2 _ q35) (hC.2.2.2.2 _ q540) (hC.2.2.2.2 _ q541) rfl (by decide +kernel) ⟨Nat.le_of_ble_eq_true rfl, Nat.le_of_ble_eq_true rfl⟩) rfl hl.1 rfl (Nat.le_of_ble_eq_true rfl) dX1_load_76 ⟨Nat.le_of_ble_eq_true rfl, Nat.le_of_ble_eq_true rfl⟩ (fun _ H locs _ hG => ?_)
  generalize hGe : gup (gup (gup (gup G (2, es.length, 0) (q, .inr (3, [.int 0, .int 0, .int 0, .null, .null, .null]))) (2, es.length, 1) (q1, .inl (K.2.1 0, 3, .inl (x.2 3)))) (2, es.length, 2) (q2, .inl (K.2.1 0, 4, .inl (x.2 4)))) (2, es.length, 0) (q, .inr (3, [.int (nI Ld), .int (nI (B - 1)), .int a, .ref q1, .ref q2, .ref (b 11)])) = Ge
  have hG : gG K A s.heap (LW K.2.1 b (xLoad x Ld) ad κ Ge) H locs := hG.eq (by rw [← hGe]; exact LW_gup (by show (2 : Nat) ≠ 3; decide) (by show ¬ ((2 : Nat) = 1 ∧ _); omega))
  have hGG : ∀ z : Lb, z.1 ≠ 2 ∨ z.2.1 ≠ es.length → Ge z = G z := fun z hz => by
    have hne : ∀ j, z ≠ (2, es.length, j) := fun j e => by rw [e] at hz; rcases hz with g | g; exact g rfl; exact g rfl
    rw [← hGe, gup_n _ _ (hne 0), gup_n _ _ (hne 2), gup_n _ _ (hne 1), gup_n _ _ (hne 0)]
  have hev : evAt K.2.1 (b 11) es.length (fun j => if j = 0 then q else if j = 1 then q1 else q2) (.inl (Ld, nI (B - 1), a, x.2 3, x.2 4)) Ge := by
    rw [← hGe]
    exact ⟨gup_s _ _ _, (gup_n _ _ (hn0 0)).trans ((gup_n _ _ hn1).trans (gup_s _ _ _)), (gup_n _ _ (hn0 1)).trans (gup_s _ _ _)⟩
  have hLe : liF K Ge (b 9) m da es.length n f := by
    refine ⟨(hGG _ (Or.inl (by decide))).trans hL.1, hL.2.1.imp id (fun k => ⟨k.1, (hGG _ (Or.inl (by decide))).trans k.2⟩), hL.2.2.1, hL.2.2.2.1, fun i hi z hz => ?_, (hGG _ (Or.inl (by decide))).trans hL.2.2.2.2.2⟩
    obtain ⟨y, ci, fs, r, k1, k2, k3, k4⟩ := hL.2.2.2.2.1 i hi z hz
    refine ⟨y, ci, fs, r, (hGG y ?_).trans k1, k2, k3, k4⟩
    rcases Nat.lt_or_ge y.2.1 es.length with g | g
    · exact Or.inr (by omega)
    · rw [h3 y (Or.inr ⟨k4, g⟩)] at k1
      cases k1
  refine g_cVv (As := [.ref q]) (rest := []) hC hE hG (xl_happen l K A b (xLoad x Ld) ad κ Ge m da es.length n Ld f hLe (by omega) (fun j => if j = 0 then q else if j = 1 then q1 else q2) _ hev ⟨rfl, hLd1, vp_in_nI (by omega) (by omega), inR_in (n := 4) hu1 (by decide) rfl⟩ hki hO) (cwV 1 hC.2.2.2.2 (lw_V q566 q568 qs2 q21 q569) rfl rfl rfl (by decide +kernel) ⟨Nat.le_of_ble_eq_true rfl, Nat.le_of_ble_eq_true rfl⟩) LW_at.1 (ci := 0) rfl rfl hl.1 rfl (Nat.le_of_ble_eq_true rfl) dX1_load_79 ⟨Nat.le_of_ble_eq_true rfl, Nat.le_of_ble_eq_true rfl⟩ (fun u H locs hu hG => ?_)
  refine lv_aload_n hC.1 hC.2.1 dX1_load_82 rfl (lv_at hl 0 rfl) ?_
  refine g_get hC hE hG in_X1 LW_at.1 (ci := 0) rfl 10 (by decide) q123 (fun _ z => z) rfl dX1_load_83 ?_
  refine g_getN hC hE hG in_X2 cput_o (ci := 1) rfl 1 (by decide) 2 rfl (fun _ z => z) rfl dX1_load_86 ?_
  refine lv_aload_n hC.1 hC.2.1 dX1_load_89 rfl (lv_at hl 0 rfl) ?_
  refine g_get hC hE hG in_X1 LW_at.1 (ci := 0) rfl 7 (by decide) q120 (fun _ z => z) (v := .int (nI (Ld + 1))) rfl dX1_load_90 ?_
  refine lv_iconst (v := 1) hC.1 hC.2.1 dX1_load_93 (by decide) ?_
  refine n_sub (a := Ld + 1) (b := 1) (d := Ld) hC (by omega) (by omega) dX1_load_94 ?_
  refine g_ild hC hE hG (n := 80) (cput_h) (by decide) (j := Ld) (v := (kDo (xLoad x Ld) (.inl (Ld, nI (B - 1), a, x.2 3, x.2 4)) κ).2 Ld) (by omega) rfl dX1_load_95 ?_
  refine vx_ret ?_
  refine g_iret hC hG hr rfl (_, u.2) rfl ⟨⟨(if_pos hu1).trans (if_neg c1), rfl⟩, ?_, ?_⟩ hlocks dX1_load_96
  · exact EV.step h2 h3 hGG hev hu.1 hu.1.2.1
  · exact (show g0 Ge G from fun z hz => hGG z (Or.inl (by omega))).lput
