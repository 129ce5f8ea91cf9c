/-! the loader: what goes on where a called method throws; needKey, needField, record -/
set_option maxRecDepth 100000
section GOUT
variable {p : Program} {l : Launch} {e : Env} {R : Room} {s : State} {m : MethodId} {args : Array Value} {below : List Frame} {meth : Method} {c : Code} {cells slots : Nat}
variable {cc : ByteArray} {pc nL : Nat} {ls : Array Slot} {rest : List Value} {own : String} {K : GK} {A : Nat → Prop} {G : GM}
/-- not caught here -/
theorem g_out {Qc : Array Value → State → Outcome → State → Prop} {px px' : Nat → Prop} {mc ms : Nat} (hC : CallFix p m c cc nL s args lw_all own) (hx0 : ∀ x ∈ c.exceptionTable.toList, False) (hlocks : meth.locks = false) (hp : ∀ k, px k → px' k) (hc : cells ≤ mc ∧ slots ≤ ms) : gTh p l e R s m args below meth c K A G cells slots (vx_MQ below Qc (gXC K A G px') args s mc ms A) px (F0 m pc ls rest) :=
  fun k ce q9 H1 locs1 hk hG h1 h2 h3 => vx_out (E := exN k) (fun x hx => (hx0 x hx).elim) hlocks h1 h2 h3 (fun t ht _ => ⟨k, hp k hk, ⟨rfl, by rw [ht]; exact hG.1, hG.2.1⟩, hG.2.2.1.F ht⟩) hG.2.2.1.2.2 hc.1 hc.2
end GOUT
theorem xt_needKey (l : Launch) (hst : l.stackTraces = false) (K : GK) (A : Nat → Prop) (G : GM) (v : Int32) : vx_Met l yX1_needKey (ws_ yX1_needKey cX1_needKey 1 none) ({ frames := 7, cells := 1, slots := 6, locals := 120 }) (va_Pc [.int v] (gW K A G)) (va_Qv (fun _ : Unit => inR v 0 2) (fun _ t => gB K A G t) A) (gXC K A G (fun k => k = 1 ∧ ¬ inR v 0 2)) 1 6 A := by
  refine g_ofX (cc := cX1_needKey) (by decide) (own := RX1) rfl (Nat.le_of_ble_eq_true rfl) ?_
  intro p e s m below meth c hC hr hlocks hx0 hE hG ls hl
  have hl : lv_has ls 1 [(0, .int v)] := hl
  refine lv_iload_n hC.1 hC.2.1 dX1_needKey_0 rfl (lv_at hl 0 rfl) ?_
  refine lv_iconst (v := 0) hC.1 hC.2.1 dX1_needKey_1 (by decide) ?_
  refine lv_iconst (v := 2) hC.1 hC.2.1 dX1_needKey_2 (by decide) ?_
  refine g_sP (As := [.int v, .int 0, .int 2]) (rest := []) hC (xt_in l v 0 2) (va_cwS 3 hC.2.2.2.2 (lw_S q417 q418 q21 q419) rfl rfl rfl (by decide +kernel) ⟨Nat.le_of_ble_eq_true rfl, Nat.le_of_ble_eq_true rfl⟩) rfl hl.1 rfl (Nat.le_of_ble_eq_true rfl) dX1_needKey_3 ⟨Nat.le_of_ble_eq_true rfl, Nat.le_of_ble_eq_true rfl⟩ (fun r hr9 => ?_)
  subst hr9
  refine g_xSv (As := [.int (bI (inR v 0 2))]) (rest := []) hC hE hG (xt_needIndex l hst K A G (inR v 0 2)) (va_cwS 1 hC.2.2.2.2 (lw_S q420 q421 q21 q422) rfl rfl rfl (by decide +kernel) ⟨Nat.le_of_ble_eq_true rfl, Nat.le_of_ble_eq_true rfl⟩) rfl hl.1 rfl (Nat.le_of_ble_eq_true rfl) dX1_needKey_6 ⟨Nat.le_of_ble_eq_true rfl, Nat.le_of_ble_eq_true rfl⟩ (g_out hC hx0 hlocks (fun k9 hk9 => hk9) ⟨by decide, by decide⟩) (fun H locs hu hG => ?_)
  refine vx_ret ?_
  exact g_vret hC hG hr () rfl hu hlocks dX1_needKey_9
theorem xt_needField (l : Launch) (hst : l.stackTraces = false) (K : GK) (A : Nat → Prop) (G : GM) (v : Int32) : vx_Met l yX1_needField (ws_ yX1_needField cX1_needField 1 none) ({ frames := 7, cells := 1, slots := 6, locals := 120 }) (va_Pc [.int v] (gW K A G)) (va_Qv (fun _ : Unit => inR v 0 3) (fun _ t => gB K A G t) A) (gXC K A G (fun k => k = 1 ∧ ¬ inR v 0 3)) 1 6 A := by
  refine g_ofX (cc := cX1_needField) (by decide) (own := RX1) rfl (Nat.le_of_ble_eq_true rfl) ?_
  intro p e s m below meth c hC hr hlocks hx0 hE hG ls hl
  have hl : lv_has ls 1 [(0, .int v)] := hl
  refine lv_iload_n hC.1 hC.2.1 dX1_needField_0 rfl (lv_at hl 0 rfl) ?_
  refine lv_iconst (v := 0) hC.1 hC.2.1 dX1_needField_1 (by decide) ?_
  refine lv_iconst (v := 3) hC.1 hC.2.1 dX1_needField_2 (by decide) ?_
  refine g_sP (As := [.int v, .int 0, .int 3]) (rest := []) hC (xt_in l v 0 3) (va_cwS 3 hC.2.2.2.2 (lw_S q417 q418 q21 q419) rfl rfl rfl (by decide +kernel) ⟨Nat.le_of_ble_eq_true rfl, Nat.le_of_ble_eq_true rfl⟩) rfl hl.1 rfl (Nat.le_of_ble_eq_true rfl) dX1_needField_3 ⟨Nat.le_of_ble_eq_true rfl, Nat.le_of_ble_eq_true rfl⟩ (fun r hr9 => ?_)
  subst hr9
  refine g_xSv (As := [.int (bI (inR v 0 3))]) (rest := []) hC hE hG (xt_needIndex l hst K A G (inR v 0 3)) (va_cwS 1 hC.2.2.2.2 (lw_S q420 q421 q21 q422) rfl rfl rfl (by decide +kernel) ⟨Nat.le_of_ble_eq_true rfl, Nat.le_of_ble_eq_true rfl⟩) rfl hl.1 rfl (Nat.le_of_ble_eq_true rfl) dX1_needField_6 ⟨Nat.le_of_ble_eq_true rfl, Nat.le_of_ble_eq_true rfl⟩ (g_out hC hx0 hlocks (fun k9 hk9 => hk9) ⟨by decide, by decide⟩) (fun H locs hu hG => ?_)
  refine vx_ret ?_
  exact g_vret hC hG hr () rfl hu hlocks dX1_needField_9
theorem xt_record (l : Launch) (hst : l.stackTraces = false) (K : GK) (A : Nat → Prop) (b : Nat → Nat) (x : MS) (ad : Nat → Nat → Nat) (κ : KS) (G : GM) (v : Int32) : vx_Met l yX1_record (ws_ yX1_record cX1_record 2 (some (.object "CatalogueLoader$Record"))) ({ frames := 7, cells := 1, slots := 6, locals := 120 }) (va_Pc [.ref (b 11), .int v] (gW K A (LW K.2.1 b x ad κ G))) (va_Qq (fun r (_ : Unit) => kHas κ v ∧ r = some (ad (tN v + 1) 0)) (fun _ t => gB K A (LW K.2.1 b x ad κ G) t) A) (gXC K A (LW K.2.1 b x ad κ G) (fun k => k = 1 ∧ ¬ kHas κ v)) 1 6 A := by
  refine g_ofX (cc := cX1_record) (by decide) (own := RX1) rfl (Nat.le_of_ble_eq_true rfl) ?_
  intro p e s m below meth c hC hr hlocks hx0 hE hG ls hl
  have hl : lv_has ls 2 [(0, .ref (b 11)), (1, .int v)] := hl
  refine lv_aload_n hC.1 hC.2.1 dX1_record_0 rfl (lv_at hl 0 rfl) ?_
  refine g_get hC hE hG in_X1 LW_at.1 (ci := 0) rfl 10 (by decide) q123 (fun _ z => z) rfl dX1_record_1 ?_
  refine lv_iload_n hC.1 hC.2.1 dX1_record_4 rfl (lv_at hl 1 rfl) ?_
  refine g_roV (As := [.int v]) (rest := []) hC hE hG (xt_has l K A (lop K.2.1 b x (ad 0 0) G) 3 (b 11) ad κ v) (cwV 1 hC.2.2.2.2 (lw_V q167 q168 q169 q25 q170) rfl rfl rfl (by decide +kernel) ⟨Nat.le_of_ble_eq_true rfl, Nat.le_of_ble_eq_true rfl⟩) cput_o (ci := 1) rfl rfl hl.1 rfl (Nat.le_of_ble_eq_true rfl) dX1_record_5 ⟨Nat.le_of_ble_eq_true rfl, Nat.le_of_ble_eq_true rfl⟩ (fun r hr9 => ?_)
  subst hr9
  refine g_xSv (As := [.int (bI (kHas κ v))]) (rest := []) hC hE hG (xt_needIndex l hst K A _ (kHas κ v)) (va_cwS 1 hC.2.2.2.2 (lw_S q420 q421 q21 q422) rfl rfl rfl (by decide +kernel) ⟨Nat.le_of_ble_eq_true rfl, Nat.le_of_ble_eq_true rfl⟩) rfl hl.1 rfl (Nat.le_of_ble_eq_true rfl) dX1_record_8 ⟨Nat.le_of_ble_eq_true rfl, Nat.le_of_ble_eq_true rfl⟩ (g_out hC hx0 hlocks (fun k9 hk9 => hk9) ⟨by decide, by decide⟩) (fun H locs hu hG => ?_)
  refine lv_aload_n hC.1 hC.2.1 dX1_record_11 rfl (lv_at hl 0 rfl) ?_
  refine g_get hC hE hG in_X1 LW_at.1 (ci := 0) rfl 10 (by decide) q123 (fun _ z => z) rfl dX1_record_12 ?_
  refine g_getN hC hE hG in_X2 cput_o (ci := 1) rfl 0 (by decide) 1 rfl (fun _ z => z) rfl dX1_record_15 ?_
  refine lv_iload_n hC.1 hC.2.1 dX1_record_18 rfl (lv_at hl 1 rfl) ?_
  obtain ⟨j, hj, rfl⟩ : ∃ j : Nat, j < 80 ∧ v = nI j := by
    rcases pk_ix v (n := 80) (by decide) with q | q | ⟨j, hj, q⟩
    · exact absurd q hu.1
    · exact absurd q hu.2.1
    · exact ⟨j, hj, q⟩
  obtain ⟨r, hr1⟩ := kHas_y hj hu
  refine g_qld hC hE hG 4 (cput_r) rfl (by decide) (j := j) (by omega) (v := .ref (ad (j + 1) 0)) (by rw [crow_s hr1]; rfl) dX1_record_19 ?_
  refine vx_ret ?_
  refine W.aret hC.1 hC.2.1 hr (Or.inl ⟨_, rfl⟩) (Or.inr ⟨_, rfl⟩) (fun t ht hW => ⟨⟨some (ad (j + 1) 0), (), rfl, ⟨hu, by rw [tN_nI (by omega)]⟩, by rw [ht]; exact hG.1, hG.2.1⟩, hG.2.2.1.F ht⟩) hG.2.2.1.2.2 dX1_record_20 hlocks
