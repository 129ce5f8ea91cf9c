/-! the law: its state, what each case ends with -/
set_option maxRecDepth 100000
theorem LW_cg {ac : Nat → ClassId} {b : Nat → Nat} {x : MS} {ad : Nat → Nat → Nat} {κ : KS} {G G1 : GM} {y : Lb} (h : G y = G1 y) : LW ac b x ad κ G y = LW ac b x ad κ G1 y := by
  unfold LW cput lop
  rw [h]
theorem mput_LW {ac : Nat → ClassId} {h : Nat → Nat} {σ : MS} {b : Nat → Nat} {x : MS} {ad : Nat → Nat → Nat} {κ : KS} {G : GM} : mput ac h σ (LW ac b x ad κ G) = LW ac b x ad κ (mput ac h σ G) := by
  funext y
  by_cases c : y.1 = 0 ∧ y.2.2 = 0 ∧ y.2.1 < 26
  · rw [LW_g (by omega) (by omega)]
    unfold mput
    rw [if_pos c, if_pos c]
  · rw [mput_n _ _ _ _ c]
    exact LW_cg (mput_n _ _ _ _ c).symm
theorem mput_mput {ac : Nat → ClassId} {h : Nat → Nat} {σ τ : MS} {G : GM} : mput ac h σ (mput ac h τ G) = mput ac h σ G := by
  funext y
  by_cases c : y.1 = 0 ∧ y.2.2 = 0 ∧ y.2.1 < 26
  · unfold mput
    rw [if_pos c, if_pos c]
  · rw [mput_n _ _ _ _ c, mput_n _ _ _ _ c, mput_n _ _ _ _ c]
/-- the world besides the loader: its events, the reference in the state σ, out -/
def SI (K : GK) (b h : Nat → Nat) (oa : Nat) (G : GM) (es : List Ev) (σ : MS) (f : Nat → Int64) : Prop := EV K b es G ∧ mput K.2.1 h σ G = G ∧ G (0, 30, 0) = some (oC K oa f)
section SIS
variable {K : GK} {b h : Nat → Nat} {oa : Nat} {G G1 : GM} {es es1 : List Ev} {σ τ : MS} {f f1 : Nat → Int64} {x : MS} {ad : Nat → Nat → Nat} {κ : KS}
theorem SI.eq (hI : SI K b h oa G es σ f) : LW K.2.1 b x ad κ G = mput K.2.1 h σ (LW K.2.1 b x ad κ G) := by
  rw [mput_LW, hI.2.1]
theorem SI.w (hI : SI K b h oa G es σ f) (hE : EV K b es1 G1) (hg : g0 G1 G) : SI K b h oa (gup G1 (0, 30, 0) (oC K oa f1)) es1 σ f1 := by
  refine ⟨hE.of (fun y hy => gup_n _ _ (fun e => hy (by rw [e]))), ?_, gup_s _ _ _⟩
  funext y
  by_cases c : y.1 = 0 ∧ y.2.2 = 0 ∧ y.2.1 < 26
  · have e : y ≠ (0, 30, 0) := fun e => by rw [e] at c; exact absurd c.2.2 (by decide)
    rw [gup_n _ _ e, hg y c.1, ← congrFun hI.2.1 y]
    unfold mput
    rw [if_pos c, if_pos c]
  · exact mput_n _ _ _ _ c
theorem SI.m (hI : SI K b h oa G es σ f) : SI K b h oa (mput K.2.1 h τ G) es τ f := ⟨hI.1.of (fun y hy => mput_n _ _ _ _ (fun c => hy c.1)), mput_mput, (mput_n _ _ _ _ (fun c => absurd c.2.2 (by decide))).trans hI.2.2⟩
end SIS
section LWT
variable {p : Program} {l : Launch} {e : Env} {s : State} {m : MethodId} {below : List Frame} {meth : Method} {c : Code} {H : Heap} {locs : List Loc} {cells slots : Nat} {Q : State → Prop}
variable {pc : Nat} {ls : Array Slot} {rest st : List Value} {K : GK} {A : Nat → Prop} {bS : Nat}
theorem lv_lcmp0 {R : Room} {args : Array Value} {cc : ByteArray} (hexec : p.tables.exec = Jvm.exec) (hb : c.code = cc) {x y : Int64} (hxy : x = y) (hdg : decode cc pc = .ok (.lcmp, 1))
    (k : W p l e R s m args below meth c H locs cells slots Q (F0 m (pc + 1) ls (.int 0 :: rest))) : W p l e R s m args below meth c H locs cells slots Q (F0 m pc ls (.long y :: .long x :: rest)) := by
  subst hxy
  intro T hT X
  obtain ⟨t, a, b⟩ := k T hT X
  refine ⟨t, ?_, b⟩
  have h1 : ¬ x > x := fun q => absurd q (Int64.lt_irrefl)
  jvm_step X.here [X.here.top, hexec, hb, hdg, h1]
  exact a
/-- a call of a wrapped method -/
theorem g_cW {hh : List (Nat × Nat × Nat × Nat)} {R : Room} {args : Array Value} {nL : Nat} {cc : ByteArray} {own : String} (hC : CallFix p m c cc nL s args lw_all own) (hE : gE K A s s.heap) {G : GM} (hG : gG K A s.heap G H locs) {index n maxL mc ms : Nat} {y : MethodName} {bytes : ByteArray} {ret : Option FieldType} {rm : Room} {As : List Value} {S : Type} {post : Int32 → S → Prop} {Gf : S → GM} (hM : Met l y (wsW_ y bytes maxL ret hh) rm (va_Pc As (gW K A G)) (va_Qi post (fun u t => gB K A (Gf u) t) A) mc ms A)
    (cw : vx_CSW R s args own index y bytes maxL ret hh (wsW_ y bytes maxL ret hh) rm mc ms n) (hn : As.length = n) (hsize : ls.size = nL) (hst : st = As.reverse ++ rest) (hW : (rest.map fun v => v.category).sum ≤ 8) (hdg : decode cc pc = .ok (.invokestatic index, 3)) (hf : cells + mc ≤ R.cells ∧ slots + ms ≤ R.slots)
    (kk : ∀ (r : Int32) (u : S) (H1 : Heap) (locs1 : List Loc), post r u → gG K A s.heap (Gf u) H1 locs1 → W p l e R s m args below meth c H1 locs1 (cells + mc) (slots + ms) Q (F0 m (pc + 3) ls (.int r :: rest))) : W p l e R s m args below meth c H locs cells slots Q (F0 m pc ls st) :=
  va_calli (vx_runSW (As := As) (rest := rest) hC hM cw ⟨gW.blind, fun U hU hW => ⟨rfl, gW.start hE hG hU hW⟩⟩ rfl hn hsize hst (lv_room hW) hdg hf) hG.2.2.1 (fun q _ h => h) (fun q h => h) (fun r u t H1 locs1 ht hvm hp hB hz hk hS => kk r u H1 locs1 hp ⟨by rw [← ht]; exact hB.1, hB.2, hS, hG.2.2.2⟩)
/-- the law's locals -/
abbrev lvL (b h : Nat → Nat) (oa bS j : Nat) : List (Nat × Value) := [(4, .int (nI (4 * j))), (0, .ref bS), (1, .ref (b 11)), (2, .ref (h 25)), (3, .ref oa)]
/-- the state at the loop's head, round j, N calls made -/
def LSt (K : GK) (A : Nat → Prop) (H0 : Heap) (b h : Nat → Nat) (oa bS j N : Nat) (H : Heap) (locs : List Loc) (cells slots : Nat) (ls : Array Slot) : Prop := ∃ (x : MS) (ad : Nat → Nat → Nat) (κ : KS) (es : List Ev) (G : GM) (σ : MS) (f : Nat → Int64) (B Ld Ac : Nat), gG K A H0 (LW K.2.1 b x ad κ G) H locs ∧ SI K b h oa G es σ f ∧ RL x κ es σ B Ld Ac N ∧ cells ≤ 40 + 330 * N ∧ slots ≤ 4000 + 1500 * N ∧ lv_has ls 7 (lvL b h oa bS j)
variable {b h : Nat → Nat} {oa j N : Nat} {G : GM} {es : List Ev} {σ : MS} {f : Nat → Int64} {x : MS} {ad : Nat → Nat → Nat} {κ : KS} {r r9 : Int32}
theorem m_thrown (hC : CallFix p m c cL_law 7 s #[.ref bS] lw_all RX0) (hE : gE K A s s.heap) (hG : gG K A s.heap (LW K.2.1 b x ad κ G) H locs) (hI : SI K b h oa G es σ f) (hsize : ls.size = 7) (hf : cells ≤ 603072 ∧ slots ≤ 7161962) (hdg : decode cL_law pc = .ok (.invokevirtual 83, 3))
    (kk : W p l e room_1 s m #[.ref bS] below meth c H locs cells slots Q (F0 m (pc + 3) ls [.int (σ.1 24)])) : W p l e room_1 s m #[.ref bS] below meth c H locs cells slots Q (F0 m pc ls [.ref (h 25)]) := by
  refine g_roV (As := []) (rest := []) hC hE (hG.eq hI.eq) (mt_thrown l K A _ h σ) (cwV 0 hC.2.2.2.2 (lw_V q832 q833 q834 q26 q835) rfl rfl rfl (by decide +kernel) ⟨Nat.le_of_ble_eq_true rfl, Nat.le_of_ble_eq_true rfl⟩) (mput_o _ _ _ _) (ci := 2) rfl rfl hsize rfl (Nat.le_of_ble_eq_true rfl) hdg hf (fun r hr => ?_)
  subst hr
  exact kk
/-- the end of a case whose answer is an int -/
theorem tl_i {off : Int} (hC : CallFix p m c cL_law 7 s #[.ref bS] lw_all RX0) (hE : gE K A s s.heap) (d1 : decode cL_law pc = .ok (.istore 6, 2)) (d2 : decode cL_law (pc + 2) = .ok (.aload_n 2, 1)) (d3 : decode cL_law (pc + 3) = .ok (.invokevirtual 83, 3)) (d4 : decode cL_law (pc + 6) = .ok (.iload 5, 2)) (d5 : decode cL_law (pc + 8) = .ok (.if_icmp .eq 5, 3)) (d6 : decode cL_law (pc + 13) = .ok (.iload 5, 2)) (d7 : decode cL_law (pc + 15) = .ok (.ifCond .ne 15, 3)) (d8 : decode cL_law (pc + 18) = .ok (.aload_n 3, 1)) (d9 : decode cL_law (pc + 19) = .ok (.iconst 0, 1)) (d10 : decode cL_law (pc + 20) = .ok (.laload, 1)) (d11 : decode cL_law (pc + 21) = .ok (.iload 6, 2)) (d12 : decode cL_law (pc + 23) = .ok (.i2l, 1)) (d13 : decode cL_law (pc + 24) = .ok (.lcmp, 1)) (d14 : decode cL_law (pc + 25) = .ok (.ifCond .eq 5, 3)) (d15 : decode cL_law (pc + 30) = .ok (.goto off, 3)) (ht : ((pc + 30 : Nat) : Int) + off = 1356)
    (hG : gG K A s.heap (LW K.2.1 b x ad κ G) H locs) (hI : SI K b h oa G es σ f) (hok : okN (x, κ, es, f 0) r r9 σ N) (hN : N ≤ 63) (hcl : cells ≤ 40 + 330 * (N + 1)) (hsl : slots ≤ 4000 + 1500 * (N + 1)) (hl : lv_has ls 7 ((5, .int r) :: lvL b h oa bS j))
    (kk : ∀ (H : Heap) (locs : List Loc) (cells slots : Nat) (ls : Array Slot), LSt K A s.heap b h oa bS j (N + 1) H locs cells slots ls → W p l e room_1 s m #[.ref bS] below meth c H locs cells slots Q (F0 m 1356 ls [])) : W p l e room_1 s m #[.ref bS] below meth c H locs cells slots Q (F0 m pc ls [.int r9]) := by
  obtain ⟨k1, k2, B, Ld, Ac, k3⟩ := hok
  refine lv_istore (lv' := (6, .int r9) :: (5, .int r) :: lvL b h oa bS j) hC.1 hC.2.1 d1 hl (by decide) rfl (fun ls hl => ?_)
  have fin : W p l e room_1 s m #[.ref bS] below meth c H locs cells slots Q (F0 m (pc + 30) ls []) := by
    refine lv_goto (tgt := 1356) hC.1 hC.2.1 d15 ht ?_
    exact kk H locs cells slots ls ⟨x, ad, κ, es, G, σ, f, B, Ld, Ac, hG, hI, k3, hcl, hsl, lv_sub hl [2, 3, 4, 5, 6] rfl⟩
  refine lv_aload_n hC.1 hC.2.1 d2 rfl (lv_at hl 5 rfl) ?_
  refine m_thrown hC hE hG hI hl.1 ⟨by omega, by omega⟩ d3 ?_
  refine lv_iload hC.1 hC.2.1 d4 (lv_at hl 1 rfl) ?_
  refine lv_icmp_eq (tgt := pc + 13) hC.1 hC.2.1 d5 (by omega) (fun _ => ?_) (fun c1 => absurd k1 c1)
  refine lv_iload hC.1 hC.2.1 d6 (lv_at hl 1 rfl) ?_
  refine lv_if_ne (tgt := pc + 30) hC.1 hC.2.1 d7 (by omega) (fun _ => fin) (fun c1 => ?_)
  refine lv_aload_n hC.1 hC.2.1 d8 rfl (lv_at hl 6 rfl) ?_
  refine lv_iconst (v := 0) hC.1 hC.2.1 d9 (by decide) ?_
  refine g_lald hC hE hG (LW_o hI.2.2) (show vp_in 0 1 from vp_in_nI (n := 0) (by decide) (by decide)) d10 ?_
  refine lv_iload hC.1 hC.2.1 d11 (lv_at hl 0 rfl) ?_
  refine lv_i2l hC.1 hC.2.1 d12 (v := r9.toInt64) rfl ?_
  refine lv_lcmp0 hC.1 hC.2.1 (k2 c1) d13 ?_
  exact lv_if_eq (tgt := pc + 30) hC.1 hC.2.1 d14 (by omega) (fun _ => fin) (fun c2 => absurd rfl c2)
/-- the end of a case whose answer is a yes or no -/
theorem tl_z {off : Int} (hC : CallFix p m c cL_law 7 s #[.ref bS] lw_all RX0) (hE : gE K A s s.heap) (d1 : decode cL_law pc = .ok (.istore 6, 2)) (d2 : decode cL_law (pc + 2) = .ok (.aload_n 2, 1)) (d3 : decode cL_law (pc + 3) = .ok (.invokevirtual 83, 3)) (d4 : decode cL_law (pc + 6) = .ok (.iload 5, 2)) (d5 : decode cL_law (pc + 8) = .ok (.if_icmp .eq 5, 3)) (d6 : decode cL_law (pc + 13) = .ok (.iload 5, 2)) (d7 : decode cL_law (pc + 15) = .ok (.ifCond .ne 22, 3)) (d8 : decode cL_law (pc + 18) = .ok (.aload_n 3, 1)) (d9 : decode cL_law (pc + 19) = .ok (.iconst 0, 1)) (d10 : decode cL_law (pc + 20) = .ok (.laload, 1)) (d11 : decode cL_law (pc + 21) = .ok (.iload 6, 2)) (d12 : decode cL_law (pc + 23) = .ok (.ifCond .eq 7, 3)) (d16 : decode cL_law (pc + 26) = .ok (.lconst 1, 1)) (d17 : decode cL_law (pc + 27) = .ok (.goto 4, 3)) (d18 : decode cL_law (pc + 30) = .ok (.lconst 0, 1)) (d13 : decode cL_law (pc + 31) = .ok (.lcmp, 1)) (d14 : decode cL_law (pc + 32) = .ok (.ifCond .eq 5, 3)) (d15 : decode cL_law (pc + 37) = .ok (.goto off, 3)) (ht : ((pc + 37 : Nat) : Int) + off = 1356)
    (hG : gG K A s.heap (LW K.2.1 b x ad κ G) H locs) (hI : SI K b h oa G es σ f) (hok : okZ (x, κ, es, f 0) r r9 σ N) (hN : N ≤ 63) (hcl : cells ≤ 40 + 330 * (N + 1)) (hsl : slots ≤ 4000 + 1500 * (N + 1)) (hl : lv_has ls 7 ((5, .int r) :: lvL b h oa bS j))
    (kk : ∀ (H : Heap) (locs : List Loc) (cells slots : Nat) (ls : Array Slot), LSt K A s.heap b h oa bS j (N + 1) H locs cells slots ls → W p l e room_1 s m #[.ref bS] below meth c H locs cells slots Q (F0 m 1356 ls [])) : W p l e room_1 s m #[.ref bS] below meth c H locs cells slots Q (F0 m pc ls [.int r9]) := by
  obtain ⟨k1, k2, B, Ld, Ac, k3⟩ := hok
  refine lv_istore (lv' := (6, .int r9) :: (5, .int r) :: lvL b h oa bS j) hC.1 hC.2.1 d1 hl (by decide) rfl (fun ls hl => ?_)
  have fin : W p l e room_1 s m #[.ref bS] below meth c H locs cells slots Q (F0 m (pc + 37) ls []) := by
    refine lv_goto (tgt := 1356) hC.1 hC.2.1 d15 ht ?_
    exact kk H locs cells slots ls ⟨x, ad, κ, es, G, σ, f, B, Ld, Ac, hG, hI, k3, hcl, hsl, lv_sub hl [2, 3, 4, 5, 6] rfl⟩
  refine lv_aload_n hC.1 hC.2.1 d2 rfl (lv_at hl 5 rfl) ?_
  refine m_thrown hC hE hG hI hl.1 ⟨by omega, by omega⟩ d3 ?_
  refine lv_iload hC.1 hC.2.1 d4 (lv_at hl 1 rfl) ?_
  refine lv_icmp_eq (tgt := pc + 13) hC.1 hC.2.1 d5 (by omega) (fun _ => ?_) (fun c1 => absurd k1 c1)
  refine lv_iload hC.1 hC.2.1 d6 (lv_at hl 1 rfl) ?_
  refine lv_if_ne (tgt := pc + 37) hC.1 hC.2.1 d7 (by omega) (fun _ => fin) (fun c1 => ?_)
  refine lv_aload_n hC.1 hC.2.1 d8 rfl (lv_at hl 6 rfl) ?_
  refine lv_iconst (v := 0) hC.1 hC.2.1 d9 (by decide) ?_
  refine g_lald hC hE hG (LW_o hI.2.2) (show vp_in 0 1 from vp_in_nI (n := 0) (by decide) (by decide)) d10 ?_
  refine lv_iload hC.1 hC.2.1 d11 (lv_at hl 0 rfl) ?_
  have k4 := k2 c1
  refine lv_if_eq (tgt := pc + 30) hC.1 hC.2.1 d12 (by omega) (fun c2 => ?_) (fun c2 => ?_)
  · rw [if_pos c2] at k4
    refine lv_lconst (v := 0) hC.1 hC.2.1 d18 rfl ?_
    refine lv_lcmp0 hC.1 hC.2.1 k4 d13 ?_
    exact lv_if_eq (tgt := pc + 37) hC.1 hC.2.1 d14 (by omega) (fun _ => fin) (fun c2 => absurd rfl c2)
  · rw [if_neg c2] at k4
    refine lv_lconst (v := 1) hC.1 hC.2.1 d16 rfl ?_
    refine lv_goto (tgt := pc + 31) hC.1 hC.2.1 d17 (by omega) ?_
    refine lv_lcmp0 hC.1 hC.2.1 k4 d13 ?_
    exact lv_if_eq (tgt := pc + 37) hC.1 hC.2.1 d14 (by omega) (fun _ => fin) (fun c2 => absurd rfl c2)
/-- the end of the case setOrder -/
theorem tl_v {off : Int} (hC : CallFix p m c cL_law 7 s #[.ref bS] lw_all RX0) (hE : gE K A s s.heap) (d2 : decode cL_law pc = .ok (.aload_n 2, 1)) (d3 : decode cL_law (pc + 1) = .ok (.invokevirtual 83, 3)) (d4 : decode cL_law (pc + 4) = .ok (.iload 5, 2)) (d5 : decode cL_law (pc + 6) = .ok (.if_icmp .eq 5, 3)) (d15 : decode cL_law (pc + 11) = .ok (.goto off, 3)) (ht : ((pc + 11 : Nat) : Int) + off = 1356)
    (hG : gG K A s.heap (LW K.2.1 b x ad κ G) H locs) (hI : SI K b h oa G es σ f) (hok : σ.1 24 = r ∧ ∃ B Ld Ac, RL x κ es σ B Ld Ac (N + 1)) (hN : N ≤ 63) (hcl : cells ≤ 40 + 330 * (N + 1)) (hsl : slots ≤ 4000 + 1500 * (N + 1)) (hl : lv_has ls 7 ((5, .int r) :: lvL b h oa bS j))
    (kk : ∀ (H : Heap) (locs : List Loc) (cells slots : Nat) (ls : Array Slot), LSt K A s.heap b h oa bS j (N + 1) H locs cells slots ls → W p l e room_1 s m #[.ref bS] below meth c H locs cells slots Q (F0 m 1356 ls [])) : W p l e room_1 s m #[.ref bS] below meth c H locs cells slots Q (F0 m pc ls []) := by
  obtain ⟨k1, B, Ld, Ac, k3⟩ := hok
  refine lv_aload_n hC.1 hC.2.1 d2 rfl (lv_at hl 4 rfl) ?_
  refine m_thrown hC hE hG hI hl.1 ⟨by omega, by omega⟩ d3 ?_
  refine lv_iload hC.1 hC.2.1 d4 (lv_at hl 0 rfl) ?_
  refine lv_icmp_eq (tgt := pc + 11) hC.1 hC.2.1 d5 (by omega) (fun _ => ?_) (fun c1 => absurd k1 c1)
  refine lv_goto (tgt := 1356) hC.1 hC.2.1 d15 ht ?_
  exact kk H locs cells slots ls ⟨x, ad, κ, es, G, σ, f, B, Ld, Ac, hG, hI, k3, hcl, hsl, lv_sub hl [1, 2, 3, 4, 5] rfl⟩
/-- the script's int k behind the round's first -/
theorem g_scr (hC : CallFix p m c cL_law 7 s #[.ref bS] lw_all RX0) {L : Nat} {xs : Nat → Int32} (hX : va_X bS L xs s s.heap) (hbl : bS < s.heap.size) (hbA : ¬ A bS) (hS : va_S A s.heap H locs) (hL : L ≤ 256) {k : Nat} (hk : 4 * j + k < L) (hdg : decode cL_law pc = .ok (.iaload, 1))
    (kk : W p l e room_1 s m #[.ref bS] below meth c H locs cells slots Q (F0 m (pc + 1) ls (.int (xs (4 * j + k)) :: rest))) : W p l e room_1 s m #[.ref bS] below meth c H locs cells slots Q (F0 m pc ls (.int (nI (4 * j + k)) :: .ref bS :: rest)) := by
  refine va_sld hC.1 hC.2.1 hX hbl hbA hS (vp_in_nI hk (by omega)) hdg ?_
  rw [nI_clamp (by omega)]
  exact kk
end LWT
/-- v != 0 as a yes or no -/
def zB (v : Int32) : Int32 := if v = 0 then 0 else 1
theorem zB_01 (v : Int32) : zB v = 0 ∨ zB v = 1 := by
  unfold zB
  split
  · exact Or.inl rfl
  · exact Or.inr rfl
theorem g_nz {p : Program} {l : Launch} {e : Env} {R : Room} {s : State} {m : MethodId} {args : Array Value} {below : List Frame} {meth : Method} {c : Code} {H : Heap} {locs : List Loc} {cells slots : Nat} {Q : State → Prop} {cc : ByteArray} {pc : Nat} {ls : Array Slot} {rest : List Value} {v : Int32} (hexec : p.tables.exec = Jvm.exec) (hb : c.code = cc) (d1 : decode cc pc = .ok (.ifCond .eq 7, 3)) (d2 : decode cc (pc + 3) = .ok (.iconst 1, 1)) (d3 : decode cc (pc + 4) = .ok (.goto 4, 3)) (d4 : decode cc (pc + 7) = .ok (.iconst 0, 1))
    (kk : W p l e R s m args below meth c H locs cells slots Q (F0 m (pc + 8) ls (.int (zB v) :: rest))) : W p l e R s m args below meth c H locs cells slots Q (F0 m pc ls (.int v :: rest)) := by
  refine lv_if_eq (tgt := pc + 7) hexec hb d1 (by omega) (fun c1 => ?_) (fun c1 => ?_)
  · unfold zB at kk
    rw [if_pos c1] at kk
    exact lv_iconst (v := 0) hexec hb d4 (by decide) kk
  · unfold zB at kk
    rw [if_neg c1] at kk
    refine lv_iconst (v := 1) hexec hb d2 (by decide) ?_
    exact lv_goto (tgt := pc + 8) hexec hb d3 (by omega) kk
