/-! the loader's happen and act -/
set_option maxRecDepth 100000
section LWG
variable {ac : Nat → ClassId} {b : Nat → Nat} {x : MS} {ad : Nat → Nat → Nat} {κ : KS} {G : GM} {K : GK}
theorem lop_gupn {cn : Nat} {y : Lb} {q : Nat × va_E} (h : ¬ (y.1 = 1 ∧ y.2.2 = 0 ∧ (y.2.1 < 6 ∨ y.2.1 = 11))) : gup (lop ac b x cn G) y q = lop ac b x cn (gup G y q) := by
  funext z
  by_cases e : z = y
  · subst e
    rw [gup_s, lop_n h, gup_s]
  · rw [gup_n _ _ e]
    unfold lop
    by_cases c : z.1 = 1 ∧ z.2.2 = 0 ∧ (z.2.1 < 6 ∨ z.2.1 = 11)
    · rw [if_pos c, if_pos c]
    · rw [if_neg c, if_neg c, gup_n _ _ e]
theorem LW_gup {y : Lb} {q : Nat × va_E} (h3 : y.1 ≠ 3) (h : ¬ (y.1 = 1 ∧ y.2.2 = 0 ∧ (y.2.1 < 6 ∨ y.2.1 = 11))) : gup (LW ac b x ad κ G) y q = LW ac b x ad κ (gup G y q) := by
  unfold LW
  rw [cput_gup h3, lop_gupn h]
theorem LW_lput {aL m c : Nat} {u : Nat × Nat × (Nat → Option Nat)} : lput K aL m c u (LW ac b x ad κ G) = LW ac b x ad κ (lput K aL m c u G) := by
  unfold lput
  rw [LW_gup (by decide) (by decide), LW_gup (by decide) (by decide)]
theorem evOk.lw {n : Nat} {f : Nat → Option Nat} (h : evOk G n f) : evOk (LW ac b x ad κ G) n f := fun i hi z hz => by
  obtain ⟨y, ci, fs, r, h1, h2, h3, h4⟩ := h i hi z hz
  exact ⟨y, ci, fs, r, (LW_g (by omega) (by omega)).trans h1, h2, h3, h4⟩
theorem evOk.oflw {n : Nat} {f : Nat → Option Nat} (h : evOk (LW ac b x ad κ G) n f) : evOk G n f := fun i hi z hz => by
  obtain ⟨y, ci, fs, r, h1, h2, h3, h4⟩ := h i hi z hz
  exact ⟨y, ci, fs, r, (LW_g (by omega) (by omega)).symm.trans h1, h2, h3, h4⟩
theorem liF.lw {aL m da c n : Nat} {f : Nat → Option Nat} (h : liF K G aL m da c n f) : liF K (LW ac b x ad κ G) aL m da c n f :=
  ⟨(LW_g (by decide) (by decide)).trans h.1, h.2.1.imp id (fun q => ⟨q.1, (LW_g (by decide) (by decide)).trans q.2⟩), h.2.2.1, h.2.2.2.1, h.2.2.2.2.1.lw, (LW_g (by decide) (by decide)).trans h.2.2.2.2.2⟩
theorem evAt.one {lo i : Nat} {q : Nat → Nat} {e : Ev} (h : evAt ac lo i q e G) : evOne G (q 0) := by
  rcases e with ⟨n, bt, u, O, F⟩ | ⟨n, f, z⟩ | n | ⟨a, d⟩
  · exact ⟨(2, i, 0), 3, _, _, h.1, rfl, (by decide), rfl⟩
  · exact ⟨(2, i, 0), 5, _, _, h, rfl, (by decide), rfl⟩
  · exact ⟨(2, i, 0), 6, _, _, h, rfl, (by decide), rfl⟩
  · exact ⟨(2, i, 0), 7, _, _, h, rfl, (by decide), rfl⟩
theorem evAt.to {G' : GM} {lo i : Nat} {q : Nat → Nat} {e : Ev} (h : evAt ac lo i q e G) (hg : ∀ j, G' (2, i, j) = G (2, i, j)) : evAt ac lo i q e G' := by
  rcases e with ⟨n, bt, u, O, F⟩ | ⟨n, f, z⟩ | n | ⟨a, d⟩
  · exact ⟨(hg 0).trans h.1, (hg 1).trans h.2.1, (hg 2).trans h.2.2⟩
  · exact (hg 0).trans h
  · exact (hg 0).trans h
  · exact (hg 0).trans h
theorem lput_2 {aL m c : Nat} {u : Nat × Nat × (Nat → Option Nat)} {i j : Nat} : lput K aL m c u G (2, i, j) = G (2, i, j) := (gup_n _ _ (fun e => by cases e)).trans (gup_n _ _ (fun e => by cases e))
end LWG
set_option maxHeartbeats 4000000 in
theorem xl_happen (l : Launch) (K : GK) (A : Nat → Prop) (b : Nat → Nat) (x : MS) (ad : Nat → Nat → Nat) (κ : KS) (G : GM) (m da c n N : Nat) (f : Nat → Option Nat) (hL : liF K G (b 9) m da c n f) (hc : c ≤ 64) (q : Nat → Nat) (ev : Ev) (hev : evAt K.2.1 (b 11) c q ev G) (hok : eOk N ev) (hki : kIv κ N) (hO : wO x)
    : Met l yX1_happen (ws_ yX1_happen cX1_happen 2 none) ({ frames := 7, cells := 6, slots := 120, locals := 300 }) (va_Pc [.ref (b 11), .ref (q 0)] (gW K A (LW K.2.1 b x ad κ G))) (va_Qv (fun u : (Nat × Nat × (Nat → Option Nat)) × (Nat → Nat → Nat) => aPost G c (q 0) f u.1 ∧ ∀ y, eAd ev y → u.2 y = ad y) (fun u t => gB K A (LW K.2.1 b x u.2 (kDo x ev κ) (lput K (b 9) (m + 1) (c + 1) u.1 G)) t) A) 6 120 A := by
  refine g_ofW (cc := cX1_happen) (by decide) (own := RX1) rfl (Nat.le_of_ble_eq_true rfl) ?_
  intro p e s mm below meth cd hC hr hlocks hnm hE hG ls hl
  have hl : lv_has ls 2 [(0, .ref (b 11)), (1, .ref (q 0))] := hl
  refine lv_aload_n hC.1 hC.2.1 dX1_happen_0 rfl (lv_at hl 0 rfl) ?_
  refine g_get hC hE hG in_X1 LW_at.1 (ci := 0) rfl 9 (by decide) q122 (fun _ z => z) rfl dX1_happen_1 ?_
  refine lv_aload_n hC.1 hC.2.1 dX1_happen_4 rfl (lv_at hl 1 rfl) ?_
  refine g_cVi (As := [.ref (q 0)]) (rest := []) hC hE hG (xt_add l K A _ (b 9) m da c n (q 0) f hL.lw hc (by obtain ⟨y, ci, fs, r, h1, h2, h3, h4⟩ := hev.one; exact ⟨y, ci, fs, r, (LW_g (by omega) (by omega)).trans h1, h2, h3, h4⟩)) (cwV 1 hC.2.2.2.2 (lw_V q570 q571 q572 q24 q573) rfl rfl rfl (by decide +kernel) ⟨Nat.le_of_ble_eq_true rfl, Nat.le_of_ble_eq_true rfl⟩) hL.lw.1 (ci := 8) rfl rfl hl.1 rfl (Nat.le_of_ble_eq_true rfl) dX1_happen_5 ⟨Nat.le_of_ble_eq_true rfl, Nat.le_of_ble_eq_true rfl⟩ (fun r u H locs hu hG => ?_)
  have hG : gG K A s.heap (LW K.2.1 b x ad κ (lput K (b 9) (m + 1) (c + 1) u G)) H locs := hG.eq LW_lput
  refine lv_pop hC.1 hC.2.1 dX1_happen_8 rfl ?_
  refine lv_aload_n hC.1 hC.2.1 dX1_happen_9 rfl (lv_at hl 1 rfl) ?_
  refine lv_aload_n hC.1 hC.2.1 dX1_happen_10 rfl (lv_at hl 0 rfl) ?_
  refine g_get hC hE hG in_X1 LW_at.1 (ci := 0) rfl 10 (by decide) q123 (fun _ z => z) rfl dX1_happen_11 ?_
  refine g_ev (x := x) (κ := κ) (ad := ad) (rest := []) hC hE hG (Nat.le_refl 3) lop_at ((hev.to (fun j => lput_2)).to (fun j => lop_n (by omega))) hok hki hO ⟨Nat.le_of_ble_eq_true rfl, Nat.le_of_ble_eq_true rfl⟩ hl.1 rfl (Nat.le_of_ble_eq_true rfl) dX1_happen_14 ⟨Nat.le_of_ble_eq_true rfl, Nat.le_of_ble_eq_true rfl⟩ (fun ad' H locs had hG => ?_)
  have hG : gG K A s.heap (LW K.2.1 b x ad' (kDo x ev κ) (lput K (b 9) (m + 1) (c + 1) u G)) H locs := hG.eq (by unfold LW; rw [had 0 (eAd0 ev)])
  exact g_vret hC hG hr (u, ad') rfl ⟨⟨hu.2.1, hu.2.2.1, hu.2.2.2.1, hu.2.2.2.2.1, hu.2.2.2.2.2.oflw⟩, had⟩ hlocks dX1_happen_19
