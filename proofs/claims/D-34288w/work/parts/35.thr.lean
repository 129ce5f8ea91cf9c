/-! throws of the loader: needIndex, need, needState -/
set_option maxRecDepth 100000
def exL : List String := ["java/lang/RuntimeException", "java/lang/Exception"]
theorem exg1 : ∀ w ∈ (vx_at0 "CatalogueLoader" 47 (exN 1) exL).filter goodWord, w ∈ lw_all := lw_in _ [27, 402, 356, 362, 365, 367, 403, 404, 51, 52, 350, 355, 363, 370, 396, 371, 397, 372, 398, 351, 353, 399, 433, 434, 435, 436, 436, 437, 438, 439, 439, 440, 441, 403, 432, 424, 426, 361, 427, 428, 429, 430, 368, 400, 431] (by decide +kernel) (by decide +kernel)
theorem exo1 : ∀ w ∈ (vx_at0 "CatalogueLoader" 47 (exN 1) exL).filter (fun w => !goodWord w), w ∈ Cond.castable (exN 1) (exN 1) :: nwD.map Cond.declares := by decide +kernel
theorem exv1 : ∀ w ∈ Cond.classLink "CatalogueLoader" 45 (exN 1) :: Cond.initialized (exN 1) :: vx_at0 "CatalogueLoader" 47 (exN 1) exL, vx_ot w = true := by decide +kernel
theorem exg2 : ∀ w ∈ (vx_at0 "CatalogueLoader" 50 (exN 2) exL).filter goodWord, w ∈ lw_all := lw_in _ [27, 402, 356, 362, 365, 367, 403, 404, 51, 52, 350, 355, 363, 370, 396, 371, 397, 372, 398, 351, 353, 399, 457, 458, 459, 436, 436, 437, 438, 439, 439, 440, 441, 403, 456, 448, 450, 359, 451, 452, 453, 454, 368, 400, 455] (by decide +kernel) (by decide +kernel)
theorem exo2 : ∀ w ∈ (vx_at0 "CatalogueLoader" 50 (exN 2) exL).filter (fun w => !goodWord w), w ∈ Cond.castable (exN 2) (exN 2) :: nwD.map Cond.declares := by decide +kernel
theorem exv2 : ∀ w ∈ Cond.classLink "CatalogueLoader" 48 (exN 2) :: Cond.initialized (exN 2) :: vx_at0 "CatalogueLoader" 50 (exN 2) exL, vx_ot w = true := by decide +kernel
theorem exg3 : ∀ w ∈ (vx_at0 "CatalogueLoader" 53 (exN 3) exL).filter goodWord, w ∈ lw_all := lw_in _ [27, 402, 356, 362, 365, 367, 403, 404, 51, 52, 350, 355, 363, 370, 396, 371, 397, 372, 398, 351, 353, 399, 475, 476, 477, 436, 436, 437, 438, 439, 439, 440, 441, 403, 474, 466, 468, 360, 469, 470, 471, 472, 368, 400, 473] (by decide +kernel) (by decide +kernel)
theorem exo3 : ∀ w ∈ (vx_at0 "CatalogueLoader" 53 (exN 3) exL).filter (fun w => !goodWord w), w ∈ Cond.castable (exN 3) (exN 3) :: nwD.map Cond.declares := by decide +kernel
theorem exv3 : ∀ w ∈ Cond.classLink "CatalogueLoader" 51 (exN 3) :: Cond.initialized (exN 3) :: vx_at0 "CatalogueLoader" 53 (exN 3) exL, vx_ot w = true := by decide +kernel
theorem gB.grown {K : GK} {A : Nat → Prop} {H0 H : Heap} {G : GM} {locs : List Loc} {t : State} (h : gG K A H0 G H locs) (oq : ∀ q : Nat, q < H.size → t.heap[q]? = H[q]?) : gB K A G t := ⟨fun x q hx => (h.1 x q hx).kept (oq q.1 (h.1.lt hx)), h.2.1⟩
section THR
variable {p : Program} {l : Launch} {e : Env} {R : Room} {s : State} {m : MethodId} {args : Array Value} {below : List Frame} {meth : Method} {c : Code} {H : Heap} {locs : List Loc} {cells slots : Nat}
variable {cc : ByteArray} {pc nL : Nat} {ls : Array Slot} {rest : List Value} {K : GK} {A : Nat → Prop} {G : GM}
/-- throw new E() in the loader -/
theorem g_throw {Qc : Array Value → State → Outcome → State → Prop} {px : Nat → Prop} {ik ic mc ms : Nat} (k : Nat) (hC : CallFix p m c cc nL s args lw_all RX1) (hE : gE K A s s.heap) (hG : gG K A s.heap G H locs) (hl : l.stackTraces = false)
    (hcls : Bundle.fit (exN k) = true) (hk : Cond.classLink RX1 ik (exN k) ∈ lw_all) (hini : Cond.initialized (exN k) ∈ lw_all) (hg : ∀ w ∈ (vx_at0 RX1 ic (exN k) exL).filter goodWord, w ∈ lw_all) (ho : ∀ w ∈ (vx_at0 RX1 ic (exN k) exL).filter (fun w => !goodWord w), w ∈ Cond.castable (exN k) (exN k) :: nwD.map Cond.declares) (hv : ∀ w ∈ Cond.classLink RX1 ik (exN k) :: Cond.initialized (exN k) :: vx_at0 RX1 ic (exN k) exL, vx_ot w = true) (hca : (exN k, exN k) ∈ nwC)
    (hsize : ls.size = nL) (d0 : decode cc pc = .ok (.new ik, 3)) (d3 : decode cc (pc + 3) = .ok (.dup, 1)) (d4 : decode cc (pc + 4) = .ok (.invokespecial ic, 3)) (d7 : decode cc (pc + 7) = .ok (.athrow, 1)) (hout : ∀ x ∈ c.exceptionTable.toList, False)
    (hR : 5 < R.frames ∧ (rest.map fun v => v.category).sum + 81 ≤ R.locals ∧ cells + 1 ≤ R.cells ∧ slots + 6 ≤ R.slots) (hlocks : meth.locks = false) (hx : px k) (hc : cells + 1 ≤ mc ∧ slots + 6 ≤ ms) : W p l e R s m args below meth c H locs cells slots (vx_MQ below Qc (gXC K A G px) args s mc ms A) (F0 m pc ls rest) := by
  refine vx_throw0 (names := exL) hC.1 hC.2.1 hl hC.2.2.2.1 hcls (by decide) (hC.2.2.2.2 _ hk) (hC.2.2.2.2 _ hini) (vx_hat (B := Cond.castable (exN k) (exN k) :: nwD.map Cond.declares) (fun w hw => hC.2.2.2.2 w (hg w hw)) ho (vx_c (va_Nw.use rfl (hE.2.1.2.2.2.1 _ hca)) (fun w hw => ?_))) hv hE.2.2.2.2.1 hE.2.2.2.2.2.1 hG.2.2.1 (hsize.trans hC.2.2.1.symm) d0 d3 d4 d7 (fun x hx => (hout x hx).elim) hR.1 hR.2.1 hR.2.2.1 hR.2.2.2 hlocks (fun t _ hz oq => ⟨k, hx, ⟨rfl, gB.grown hG oq⟩, ?_⟩) hG.2.2.1.2.2 hc.1 hc.2
  · obtain ⟨y, hy, rfl⟩ := List.mem_map.mp hw
    exact va_Nw.use rfl (hE.2.1.2.2.2.2.2.2.1 _ hy)
  · exact ⟨Nat.le_trans hG.2.2.1.1 hz, fun q h1 h2 => (oq q (Nat.lt_of_lt_of_le h1 hG.2.2.1.1)).trans (hG.2.2.1.2.1 q h1 h2)⟩
end THR
theorem xt_needIndex (l : Launch) (hst : l.stackTraces = false) (K : GK) (A : Nat → Prop) (G : GM) (P : Prop) [Decidable P] : vx_Met l yX1_needIndex (ws_ yX1_needIndex cX1_needIndex 1 none) ({ frames := 6, cells := 1, slots := 6, locals := 100 }) (va_Pc [.int (bI P)] (gW K A G)) (va_Qv (fun _ : Unit => P) (fun _ t => gB K A G t) A) (gXC K A G (fun k => k = 1 ∧ ¬ P)) 1 6 A := by
  refine g_ofX (cc := cX1_needIndex) (by decide) (own := RX1) rfl (Nat.le_of_ble_eq_true rfl) ?_
  intro p e s m below meth c hC hr hlocks hx0 hE hG ls hl
  have hl : lv_has ls 1 [(0, .int (bI P))] := hl
  refine lv_iload_n hC.1 hC.2.1 dX1_needIndex_0 rfl (lv_at hl 0 rfl) ?_
  refine b_ne (tgt := 12) hC dX1_needIndex_1 (by decide) (fun c1 => ?_) (fun c1 => ?_)
  · refine vx_ret ?_
    refine W.widen (k := 1) (n := 6) (by decide) (by decide) ?_
    exact g_vret hC hG hr () rfl c1 hlocks dX1_needIndex_12
  · exact g_throw 1 hC hE hG hst (by decide) q423 q30 exg1 exo1 exv1 (by decide) hl.1 dX1_needIndex_4 dX1_needIndex_7 dX1_needIndex_8 dX1_needIndex_11 hx0 ⟨by decide, by decide, by decide, by decide⟩ hlocks ⟨rfl, c1⟩ ⟨by decide, by decide⟩
theorem xt_need (l : Launch) (hst : l.stackTraces = false) (K : GK) (A : Nat → Prop) (G : GM) (P : Prop) [Decidable P] : vx_Met l yX1_need (ws_ yX1_need cX1_need 1 none) ({ frames := 6, cells := 1, slots := 6, locals := 100 }) (va_Pc [.int (bI P)] (gW K A G)) (va_Qv (fun _ : Unit => P) (fun _ t => gB K A G t) A) (gXC K A G (fun k => k = 2 ∧ ¬ P)) 1 6 A := by
  refine g_ofX (cc := cX1_need) (by decide) (own := RX1) rfl (Nat.le_of_ble_eq_true rfl) ?_
  intro p e s m below meth c hC hr hlocks hx0 hE hG ls hl
  have hl : lv_has ls 1 [(0, .int (bI P))] := hl
  refine lv_iload_n hC.1 hC.2.1 dX1_need_0 rfl (lv_at hl 0 rfl) ?_
  refine b_ne (tgt := 12) hC dX1_need_1 (by decide) (fun c1 => ?_) (fun c1 => ?_)
  · refine vx_ret ?_
    refine W.widen (k := 1) (n := 6) (by decide) (by decide) ?_
    exact g_vret hC hG hr () rfl c1 hlocks dX1_need_12
  · exact g_throw 2 hC hE hG hst (by decide) q447 q33 exg2 exo2 exv2 (by decide) hl.1 dX1_need_4 dX1_need_7 dX1_need_8 dX1_need_11 hx0 ⟨by decide, by decide, by decide, by decide⟩ hlocks ⟨rfl, c1⟩ ⟨by decide, by decide⟩
theorem xt_needState (l : Launch) (hst : l.stackTraces = false) (K : GK) (A : Nat → Prop) (G : GM) (P : Prop) [Decidable P] : vx_Met l yX1_needState (ws_ yX1_needState cX1_needState 1 none) ({ frames := 6, cells := 1, slots := 6, locals := 100 }) (va_Pc [.int (bI P)] (gW K A G)) (va_Qv (fun _ : Unit => P) (fun _ t => gB K A G t) A) (gXC K A G (fun k => k = 3 ∧ ¬ P)) 1 6 A := by
  refine g_ofX (cc := cX1_needState) (by decide) (own := RX1) rfl (Nat.le_of_ble_eq_true rfl) ?_
  intro p e s m below meth c hC hr hlocks hx0 hE hG ls hl
  have hl : lv_has ls 1 [(0, .int (bI P))] := hl
  refine lv_iload_n hC.1 hC.2.1 dX1_needState_0 rfl (lv_at hl 0 rfl) ?_
  refine b_ne (tgt := 12) hC dX1_needState_1 (by decide) (fun c1 => ?_) (fun c1 => ?_)
  · refine vx_ret ?_
    refine W.widen (k := 1) (n := 6) (by decide) (by decide) ?_
    exact g_vret hC hG hr () rfl c1 hlocks dX1_needState_12
  · exact g_throw 3 hC hE hG hst (by decide) q465 q34 exg3 exo3 exv3 (by decide) hl.1 dX1_needState_4 dX1_needState_7 dX1_needState_8 dX1_needState_11 hx0 ⟨by decide, by decide, by decide, by decide⟩ hlocks ⟨rfl, c1⟩ ⟨by decide, by decide⟩
