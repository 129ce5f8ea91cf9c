/-! the law's cases (written by tools/mklaw.py) -/
set_option maxRecDepth 100000
section LAWC
variable {p : Program} {l : Launch} {e : Env} {s : State} {m : MethodId} {below : List Frame} {meth : Method} {c : Code} {H : Heap} {locs : List Loc} {cells slots : Nat} {Q : State → Prop}
variable {ls : Array Slot} {K : GK} {A : Nat → Prop} {bS : Nat} {b h : Nat → Nat} {oa j N : Nat}
set_option maxHeartbeats 4000000 in
theorem law_0 (hst : l.stackTraces = false) (hC : CallFix p m c cL_law 7 s #[.ref bS] lw_all RX0) (hE : gE K A s s.heap) {L : Nat} {xs : Nat → Int32} (hX : va_X bS L xs s s.heap) (hbl : bS < s.heap.size) (hbA : ¬ A bS) (hL : L ≤ 256) (hj : 4 * j + 4 ≤ L) (hN : N ≤ 63) (hS : LSt K A s.heap b h oa bS j N H locs cells slots ls)
    (kk : ∀ (H : Heap) (locs : List Loc) (cells slots : Nat) (ls : Array Slot), LSt K A s.heap b h oa bS j (N + 1) H locs cells slots ls → W p l e room_1 s m #[.ref bS] below meth c H locs cells slots Q (F0 m 1356 ls [])) : W p l e room_1 s m #[.ref bS] below meth c H locs cells slots Q (F0 m 144 ls []) := by
  obtain ⟨x, ad, κ, es, G, σ, f, B, Ld, Ac, hG, hI, hR, hcl, hsl, hl⟩ := hS
  have hlen : es.length ≤ N := hR.2.2.1.2.2.2
  refine lv_aload_n hC.1 hC.2.1 dL_law_144 rfl (lv_at hl 2 rfl) ?_
  refine lv_aload_n hC.1 hC.2.1 dL_law_145 rfl (lv_at hl 1 rfl) ?_
  refine lv_iload hC.1 hC.2.1 dL_law_146 (lv_at hl 0 rfl) ?_
  refine lv_iconst (v := 1) hC.1 hC.2.1 dL_law_148 (by decide) ?_
  refine n_add (a := 4 * j) (b := 1) (d := 4 * j + 1) hC rfl dL_law_149 ?_
  refine g_scr hC hX hbl hbA hG.2.2.1 hL (k := 1) (by omega) dL_law_150 ?_
  refine lv_aload_n hC.1 hC.2.1 dL_law_151 rfl (lv_at hl 1 rfl) ?_
  refine lv_iload hC.1 hC.2.1 dL_law_152 (lv_at hl 0 rfl) ?_
  refine lv_iconst (v := 2) hC.1 hC.2.1 dL_law_154 (by decide) ?_
  refine n_add (a := 4 * j) (b := 2) (d := 4 * j + 2) hC rfl dL_law_155 ?_
  refine g_scr hC hX hbl hbA hG.2.2.1 hL (k := 2) (by omega) dL_law_156 ?_
  refine lv_aload_n hC.1 hC.2.1 dL_law_157 rfl (lv_at hl 4 rfl) ?_
  refine g_cW (As := [.ref (b 11), .int (xs (4 * j + 1)), .int (xs (4 * j + 2)), .ref (oa)]) (rest := []) hC hE hG (xw_setRank l hst K A b x ad κ G es hI.1 oa f hI.2.2 hR (by omega) (xs (4 * j + 1)) (xs (4 * j + 2)) ) (vx_cwSW 4 hC.2.2.2.2 (lw_SW q331 q332 q20 q333) rfl rfl rfl (by decide +kernel) ⟨Nat.le_of_ble_eq_true rfl, Nat.le_of_ble_eq_true rfl⟩) rfl hl.1 rfl (Nat.le_of_ble_eq_true rfl) dL_law_158 ⟨by show cells + 3 ≤ 603072; omega, by show slots + 18 ≤ 7161962; omega⟩ (fun r u H locs hu hG => ?_)
  have hG : gG K A s.heap (LW K.2.1 b u.1 u.2.1 u.2.2.1 (gup u.2.2.2.2.1 (0, 30, 0) (oC K oa u.2.2.2.2.2))) H locs := hG
  have hI1 := hI.w (f1 := u.2.2.2.2.2) hu.2.1 hu.2.2
  refine lv_istore (lv' := (5, .int r) :: lvL b h oa bS j) hC.1 hC.2.1 dL_law_161 hl (by decide) rfl (fun ls hl => ?_)
  refine lv_aload_n hC.1 hC.2.1 dL_law_163 rfl (lv_at hl 4 rfl) ?_
  refine lv_aload_n hC.1 hC.2.1 dL_law_164 rfl (lv_at hl 2 rfl) ?_
  refine lv_iload hC.1 hC.2.1 dL_law_165 (lv_at hl 1 rfl) ?_
  refine lv_iconst (v := 1) hC.1 hC.2.1 dL_law_167 (by decide) ?_
  refine n_add (a := 4 * j) (b := 1) (d := 4 * j + 1) hC rfl dL_law_168 ?_
  refine g_scr hC hX hbl hbA hG.2.2.1 hL (k := 1) (by omega) dL_law_169 ?_
  refine lv_aload_n hC.1 hC.2.1 dL_law_170 rfl (lv_at hl 2 rfl) ?_
  refine lv_iload hC.1 hC.2.1 dL_law_171 (lv_at hl 1 rfl) ?_
  refine lv_iconst (v := 2) hC.1 hC.2.1 dL_law_173 (by decide) ?_
  refine n_add (a := 4 * j) (b := 2) (d := 4 * j + 2) hC rfl dL_law_174 ?_
  refine g_scr hC hX hbl hbA hG.2.2.1 hL (k := 2) (by omega) dL_law_175 ?_
  refine g_cVi (S := MS) (As := [.int (xs (4 * j + 1)), .int (xs (4 * j + 2))]) (rest := []) hC hE (hG.eq hI1.eq) (mt_setRank l K A _ h σ (xs (4 * j + 1)) (xs (4 * j + 2))) (cwV 2 hC.2.2.2.2 (lw_V q836 q837 q838 q26 q839) rfl rfl rfl (by decide +kernel) ⟨Nat.le_of_ble_eq_true rfl, Nat.le_of_ble_eq_true rfl⟩) (mput_o _ _ _ _) (ci := 2) rfl rfl hl.1 rfl (Nat.le_of_ble_eq_true rfl) dL_law_176 ⟨by show cells + 3 + 0 ≤ 603072; omega, by show slots + 18 + 0 ≤ 7161962; omega⟩ (fun r9 u9 H locs hm hG => ?_)
  have hG := hG.eq mput_LW
  exact tl_i (pc := 179) hC hE dL_law_179 dL_law_181 dL_law_182 dL_law_185 dL_law_187 dL_law_192 dL_law_194 dL_law_197 dL_law_198 dL_law_199 dL_law_200 dL_law_202 dL_law_203 dL_law_204 dL_law_209 (by decide) hG hI1.m (L_setRank hR (by omega) hu.1 hm) hN (by omega) (by omega) hl kk
set_option maxHeartbeats 4000000 in
theorem law_1 (hst : l.stackTraces = false) (hC : CallFix p m c cL_law 7 s #[.ref bS] lw_all RX0) (hE : gE K A s s.heap) {L : Nat} {xs : Nat → Int32} (hX : va_X bS L xs s s.heap) (hbl : bS < s.heap.size) (hbA : ¬ A bS) (hL : L ≤ 256) (hj : 4 * j + 4 ≤ L) (hN : N ≤ 63) (hS : LSt K A s.heap b h oa bS j N H locs cells slots ls)
    (kk : ∀ (H : Heap) (locs : List Loc) (cells slots : Nat) (ls : Array Slot), LSt K A s.heap b h oa bS j (N + 1) H locs cells slots ls → W p l e room_1 s m #[.ref bS] below meth c H locs cells slots Q (F0 m 1356 ls [])) : W p l e room_1 s m #[.ref bS] below meth c H locs cells slots Q (F0 m 212 ls []) := by
  obtain ⟨x, ad, κ, es, G, σ, f, B, Ld, Ac, hG, hI, hR, hcl, hsl, hl⟩ := hS
  have hlen : es.length ≤ N := hR.2.2.1.2.2.2
  refine lv_aload_n hC.1 hC.2.1 dL_law_212 rfl (lv_at hl 2 rfl) ?_
  refine lv_aload_n hC.1 hC.2.1 dL_law_213 rfl (lv_at hl 1 rfl) ?_
  refine lv_iload hC.1 hC.2.1 dL_law_214 (lv_at hl 0 rfl) ?_
  refine lv_iconst (v := 1) hC.1 hC.2.1 dL_law_216 (by decide) ?_
  refine n_add (a := 4 * j) (b := 1) (d := 4 * j + 1) hC rfl dL_law_217 ?_
  refine g_scr hC hX hbl hbA hG.2.2.1 hL (k := 1) (by omega) dL_law_218 ?_
  refine lv_aload_n hC.1 hC.2.1 dL_law_219 rfl (lv_at hl 1 rfl) ?_
  refine lv_iload hC.1 hC.2.1 dL_law_220 (lv_at hl 0 rfl) ?_
  refine lv_iconst (v := 2) hC.1 hC.2.1 dL_law_222 (by decide) ?_
  refine n_add (a := 4 * j) (b := 2) (d := 4 * j + 2) hC rfl dL_law_223 ?_
  refine g_scr hC hX hbl hbA hG.2.2.1 hL (k := 2) (by omega) dL_law_224 ?_
  refine lv_aload_n hC.1 hC.2.1 dL_law_225 rfl (lv_at hl 4 rfl) ?_
  refine g_cW (As := [.ref (b 11), .int (xs (4 * j + 1)), .int (xs (4 * j + 2)), .ref (oa)]) (rest := []) hC hE hG (xw_setRule l hst K A b x ad κ G es hI.1 oa f hI.2.2 hR (by omega) (xs (4 * j + 1)) (xs (4 * j + 2)) ) (vx_cwSW 4 hC.2.2.2.2 (lw_SW q480 q481 q20 q482) rfl rfl rfl (by decide +kernel) ⟨Nat.le_of_ble_eq_true rfl, Nat.le_of_ble_eq_true rfl⟩) rfl hl.1 rfl (Nat.le_of_ble_eq_true rfl) dL_law_226 ⟨by show cells + 3 ≤ 603072; omega, by show slots + 18 ≤ 7161962; omega⟩ (fun r u H locs hu hG => ?_)
  have hG : gG K A s.heap (LW K.2.1 b u.1 u.2.1 u.2.2.1 (gup u.2.2.2.2.1 (0, 30, 0) (oC K oa u.2.2.2.2.2))) H locs := hG
  have hI1 := hI.w (f1 := u.2.2.2.2.2) hu.2.1 hu.2.2
  refine lv_istore (lv' := (5, .int r) :: lvL b h oa bS j) hC.1 hC.2.1 dL_law_229 hl (by decide) rfl (fun ls hl => ?_)
  refine lv_aload_n hC.1 hC.2.1 dL_law_231 rfl (lv_at hl 4 rfl) ?_
  refine lv_aload_n hC.1 hC.2.1 dL_law_232 rfl (lv_at hl 2 rfl) ?_
  refine lv_iload hC.1 hC.2.1 dL_law_233 (lv_at hl 1 rfl) ?_
  refine lv_iconst (v := 1) hC.1 hC.2.1 dL_law_235 (by decide) ?_
  refine n_add (a := 4 * j) (b := 1) (d := 4 * j + 1) hC rfl dL_law_236 ?_
  refine g_scr hC hX hbl hbA hG.2.2.1 hL (k := 1) (by omega) dL_law_237 ?_
  refine lv_aload_n hC.1 hC.2.1 dL_law_238 rfl (lv_at hl 2 rfl) ?_
  refine lv_iload hC.1 hC.2.1 dL_law_239 (lv_at hl 1 rfl) ?_
  refine lv_iconst (v := 2) hC.1 hC.2.1 dL_law_241 (by decide) ?_
  refine n_add (a := 4 * j) (b := 2) (d := 4 * j + 2) hC rfl dL_law_242 ?_
  refine g_scr hC hX hbl hbA hG.2.2.1 hL (k := 2) (by omega) dL_law_243 ?_
  refine g_cVi (S := MS) (As := [.int (xs (4 * j + 1)), .int (xs (4 * j + 2))]) (rest := []) hC hE (hG.eq hI1.eq) (mt_setRule l K A _ h σ (xs (4 * j + 1)) (xs (4 * j + 2))) (cwV 2 hC.2.2.2.2 (lw_V q843 q844 q845 q26 q846) rfl rfl rfl (by decide +kernel) ⟨Nat.le_of_ble_eq_true rfl, Nat.le_of_ble_eq_true rfl⟩) (mput_o _ _ _ _) (ci := 2) rfl rfl hl.1 rfl (Nat.le_of_ble_eq_true rfl) dL_law_244 ⟨by show cells + 3 + 0 ≤ 603072; omega, by show slots + 18 + 0 ≤ 7161962; omega⟩ (fun r9 u9 H locs hm hG => ?_)
  have hG := hG.eq mput_LW
  exact tl_i (pc := 247) hC hE dL_law_247 dL_law_249 dL_law_250 dL_law_253 dL_law_255 dL_law_260 dL_law_262 dL_law_265 dL_law_266 dL_law_267 dL_law_268 dL_law_270 dL_law_271 dL_law_272 dL_law_277 (by decide) hG hI1.m (L_setRule hR (by omega) hu.1 hm) hN (by omega) (by omega) hl kk
set_option maxHeartbeats 4000000 in
theorem law_2 (hst : l.stackTraces = false) (hC : CallFix p m c cL_law 7 s #[.ref bS] lw_all RX0) (hE : gE K A s s.heap) {L : Nat} {xs : Nat → Int32} (hX : va_X bS L xs s s.heap) (hbl : bS < s.heap.size) (hbA : ¬ A bS) (hL : L ≤ 256) (hj : 4 * j + 4 ≤ L) (hN : N ≤ 63) (hS : LSt K A s.heap b h oa bS j N H locs cells slots ls)
    (kk : ∀ (H : Heap) (locs : List Loc) (cells slots : Nat) (ls : Array Slot), LSt K A s.heap b h oa bS j (N + 1) H locs cells slots ls → W p l e room_1 s m #[.ref bS] below meth c H locs cells slots Q (F0 m 1356 ls [])) : W p l e room_1 s m #[.ref bS] below meth c H locs cells slots Q (F0 m 280 ls []) := by
  obtain ⟨x, ad, κ, es, G, σ, f, B, Ld, Ac, hG, hI, hR, hcl, hsl, hl⟩ := hS
  have hlen : es.length ≤ N := hR.2.2.1.2.2.2
  refine lv_aload_n hC.1 hC.2.1 dL_law_280 rfl (lv_at hl 2 rfl) ?_
  refine lv_aload_n hC.1 hC.2.1 dL_law_281 rfl (lv_at hl 1 rfl) ?_
  refine lv_iload hC.1 hC.2.1 dL_law_282 (lv_at hl 0 rfl) ?_
  refine lv_iconst (v := 1) hC.1 hC.2.1 dL_law_284 (by decide) ?_
  refine n_add (a := 4 * j) (b := 1) (d := 4 * j + 1) hC rfl dL_law_285 ?_
  refine g_scr hC hX hbl hbA hG.2.2.1 hL (k := 1) (by omega) dL_law_286 ?_
  refine lv_aload_n hC.1 hC.2.1 dL_law_287 rfl (lv_at hl 1 rfl) ?_
  refine lv_iload hC.1 hC.2.1 dL_law_288 (lv_at hl 0 rfl) ?_
  refine lv_iconst (v := 2) hC.1 hC.2.1 dL_law_290 (by decide) ?_
  refine n_add (a := 4 * j) (b := 2) (d := 4 * j + 2) hC rfl dL_law_291 ?_
  refine g_scr hC hX hbl hbA hG.2.2.1 hL (k := 2) (by omega) dL_law_292 ?_
  refine lv_aload_n hC.1 hC.2.1 dL_law_293 rfl (lv_at hl 1 rfl) ?_
  refine lv_iload hC.1 hC.2.1 dL_law_294 (lv_at hl 0 rfl) ?_
  refine lv_iconst (v := 3) hC.1 hC.2.1 dL_law_296 (by decide) ?_
  refine n_add (a := 4 * j) (b := 3) (d := 4 * j + 3) hC rfl dL_law_297 ?_
  refine g_scr hC hX hbl hbA hG.2.2.1 hL (k := 3) (by omega) dL_law_298 ?_
  refine g_cW (As := [.ref (b 11), .int (xs (4 * j + 1)), .int (xs (4 * j + 2)), .int (xs (4 * j + 3))]) (rest := []) hC hE hG (xw_setOrder l hst K A b x ad κ G es hI.1 oa f hI.2.2 hR (by omega) (xs (4 * j + 1)) (xs (4 * j + 2)) (xs (4 * j + 3)) ) (vx_cwSW 4 hC.2.2.2.2 (lw_SW q490 q491 q20 q492) rfl rfl rfl (by decide +kernel) ⟨Nat.le_of_ble_eq_true rfl, Nat.le_of_ble_eq_true rfl⟩) rfl hl.1 rfl (Nat.le_of_ble_eq_true rfl) dL_law_299 ⟨by show cells + 2 ≤ 603072; omega, by show slots + 12 ≤ 7161962; omega⟩ (fun r u H locs hu hG => ?_)
  have hG : gG K A s.heap (LW K.2.1 b u.1 u.2.1 u.2.2.1 (gup u.2.2.2.2.1 (0, 30, 0) (oC K oa u.2.2.2.2.2))) H locs := hG
  have hI1 := hI.w (f1 := u.2.2.2.2.2) hu.2.1 hu.2.2
  refine lv_istore (lv' := (5, .int r) :: lvL b h oa bS j) hC.1 hC.2.1 dL_law_302 hl (by decide) rfl (fun ls hl => ?_)
  refine lv_aload_n hC.1 hC.2.1 dL_law_304 rfl (lv_at hl 4 rfl) ?_
  refine lv_aload_n hC.1 hC.2.1 dL_law_305 rfl (lv_at hl 2 rfl) ?_
  refine lv_iload hC.1 hC.2.1 dL_law_306 (lv_at hl 1 rfl) ?_
  refine lv_iconst (v := 1) hC.1 hC.2.1 dL_law_308 (by decide) ?_
  refine n_add (a := 4 * j) (b := 1) (d := 4 * j + 1) hC rfl dL_law_309 ?_
  refine g_scr hC hX hbl hbA hG.2.2.1 hL (k := 1) (by omega) dL_law_310 ?_
  refine lv_aload_n hC.1 hC.2.1 dL_law_311 rfl (lv_at hl 2 rfl) ?_
  refine lv_iload hC.1 hC.2.1 dL_law_312 (lv_at hl 1 rfl) ?_
  refine lv_iconst (v := 2) hC.1 hC.2.1 dL_law_314 (by decide) ?_
  refine n_add (a := 4 * j) (b := 2) (d := 4 * j + 2) hC rfl dL_law_315 ?_
  refine g_scr hC hX hbl hbA hG.2.2.1 hL (k := 2) (by omega) dL_law_316 ?_
  refine lv_aload_n hC.1 hC.2.1 dL_law_317 rfl (lv_at hl 2 rfl) ?_
  refine lv_iload hC.1 hC.2.1 dL_law_318 (lv_at hl 1 rfl) ?_
  refine lv_iconst (v := 3) hC.1 hC.2.1 dL_law_320 (by decide) ?_
  refine n_add (a := 4 * j) (b := 3) (d := 4 * j + 3) hC rfl dL_law_321 ?_
  refine g_scr hC hX hbl hbA hG.2.2.1 hL (k := 3) (by omega) dL_law_322 ?_
  refine g_cVv (S := MS) (As := [.int (xs (4 * j + 1)), .int (xs (4 * j + 2)), .int (xs (4 * j + 3))]) (rest := []) hC hE (hG.eq hI1.eq) (mt_setOrder l K A _ h σ (xs (4 * j + 1)) (xs (4 * j + 2)) (xs (4 * j + 3))) (cwV 3 hC.2.2.2.2 (lw_V q847 q848 q849 q26 q850) rfl rfl rfl (by decide +kernel) ⟨Nat.le_of_ble_eq_true rfl, Nat.le_of_ble_eq_true rfl⟩) (mput_o _ _ _ _) (ci := 2) rfl rfl hl.1 rfl (Nat.le_of_ble_eq_true rfl) dL_law_323 ⟨by show cells + 2 + 0 ≤ 603072; omega, by show slots + 12 + 0 ≤ 7161962; omega⟩ (fun u9 H locs hm hG => ?_)
  have hG := hG.eq mput_LW
  exact tl_v (pc := 326) hC hE dL_law_326 dL_law_327 dL_law_330 dL_law_332 dL_law_337 (by decide) hG hI1.m (L_setOrder hR (by omega) hu.1 hm) hN (by omega) (by omega) hl kk
set_option maxHeartbeats 4000000 in
theorem law_3 (hst : l.stackTraces = false) (hC : CallFix p m c cL_law 7 s #[.ref bS] lw_all RX0) (hE : gE K A s s.heap) {L : Nat} {xs : Nat → Int32} (hX : va_X bS L xs s s.heap) (hbl : bS < s.heap.size) (hbA : ¬ A bS) (hL : L ≤ 256) (hj : 4 * j + 4 ≤ L) (hN : N ≤ 63) (hS : LSt K A s.heap b h oa bS j N H locs cells slots ls)
    (kk : ∀ (H : Heap) (locs : List Loc) (cells slots : Nat) (ls : Array Slot), LSt K A s.heap b h oa bS j (N + 1) H locs cells slots ls → W p l e room_1 s m #[.ref bS] below meth c H locs cells slots Q (F0 m 1356 ls [])) : W p l e room_1 s m #[.ref bS] below meth c H locs cells slots Q (F0 m 340 ls []) := by
  obtain ⟨x, ad, κ, es, G, σ, f, B, Ld, Ac, hG, hI, hR, hcl, hsl, hl⟩ := hS
  have hlen : es.length ≤ N := hR.2.2.1.2.2.2
  refine lv_aload_n hC.1 hC.2.1 dL_law_340 rfl (lv_at hl 2 rfl) ?_
  refine lv_aload_n hC.1 hC.2.1 dL_law_341 rfl (lv_at hl 4 rfl) ?_
  refine g_cW (As := [.ref (b 11), .ref (oa)]) (rest := []) hC hE hG (xw_beginBatch l hst K A b x ad κ G es hI.1 oa f hI.2.2 hR (by omega)  ) (vx_cwSW 2 hC.2.2.2.2 (lw_SW q497 q498 q20 q499) rfl rfl rfl (by decide +kernel) ⟨Nat.le_of_ble_eq_true rfl, Nat.le_of_ble_eq_true rfl⟩) rfl hl.1 rfl (Nat.le_of_ble_eq_true rfl) dL_law_342 ⟨by show cells + 1 ≤ 603072; omega, by show slots + 6 ≤ 7161962; omega⟩ (fun r u H locs hu hG => ?_)
  have hG : gG K A s.heap (LW K.2.1 b u.1 u.2.1 u.2.2.1 (gup u.2.2.2.2.1 (0, 30, 0) (oC K oa u.2.2.2.2.2))) H locs := hG
  have hI1 := hI.w (f1 := u.2.2.2.2.2) hu.2.1 hu.2.2
  refine lv_istore (lv' := (5, .int r) :: lvL b h oa bS j) hC.1 hC.2.1 dL_law_345 hl (by decide) rfl (fun ls hl => ?_)
  refine lv_aload_n hC.1 hC.2.1 dL_law_347 rfl (lv_at hl 4 rfl) ?_
  refine g_cVi (S := MS) (As := []) (rest := []) hC hE (hG.eq hI1.eq) (mt_beginBatch l K A _ h σ B hR.2.1.2.1 hR.2.2.1.1) (cwV 0 hC.2.2.2.2 (lw_V q851 q852 q853 q26 q854) rfl rfl rfl (by decide +kernel) ⟨Nat.le_of_ble_eq_true rfl, Nat.le_of_ble_eq_true rfl⟩) (mput_o _ _ _ _) (ci := 2) rfl rfl hl.1 rfl (Nat.le_of_ble_eq_true rfl) dL_law_348 ⟨by show cells + 1 + 0 ≤ 603072; omega, by show slots + 6 + 0 ≤ 7161962; omega⟩ (fun r9 u9 H locs hm hG => ?_)
  have hG := hG.eq mput_LW
  exact tl_i (pc := 351) hC hE dL_law_351 dL_law_353 dL_law_354 dL_law_357 dL_law_359 dL_law_364 dL_law_366 dL_law_369 dL_law_370 dL_law_371 dL_law_372 dL_law_374 dL_law_375 dL_law_376 dL_law_381 (by decide) hG hI1.m (L_begin hR hu.1 hm) hN (by omega) (by omega) hl kk
set_option maxHeartbeats 4000000 in
theorem law_4 (hst : l.stackTraces = false) (hC : CallFix p m c cL_law 7 s #[.ref bS] lw_all RX0) (hE : gE K A s s.heap) {L : Nat} {xs : Nat → Int32} (hX : va_X bS L xs s s.heap) (hbl : bS < s.heap.size) (hbA : ¬ A bS) (hL : L ≤ 256) (hj : 4 * j + 4 ≤ L) (hN : N ≤ 63) (hS : LSt K A s.heap b h oa bS j N H locs cells slots ls)
    (kk : ∀ (H : Heap) (locs : List Loc) (cells slots : Nat) (ls : Array Slot), LSt K A s.heap b h oa bS j (N + 1) H locs cells slots ls → W p l e room_1 s m #[.ref bS] below meth c H locs cells slots Q (F0 m 1356 ls [])) : W p l e room_1 s m #[.ref bS] below meth c H locs cells slots Q (F0 m 384 ls []) := by
  obtain ⟨x, ad, κ, es, G, σ, f, B, Ld, Ac, hG, hI, hR, hcl, hsl, hl⟩ := hS
  have hlen : es.length ≤ N := hR.2.2.1.2.2.2
  refine lv_aload_n hC.1 hC.2.1 dL_law_384 rfl (lv_at hl 2 rfl) ?_
  refine lv_aload_n hC.1 hC.2.1 dL_law_385 rfl (lv_at hl 1 rfl) ?_
  refine lv_iload hC.1 hC.2.1 dL_law_386 (lv_at hl 0 rfl) ?_
  refine lv_iconst (v := 1) hC.1 hC.2.1 dL_law_388 (by decide) ?_
  refine n_add (a := 4 * j) (b := 1) (d := 4 * j + 1) hC rfl dL_law_389 ?_
  refine g_scr hC hX hbl hbA hG.2.2.1 hL (k := 1) (by omega) dL_law_390 ?_
  refine lv_aload_n hC.1 hC.2.1 dL_law_391 rfl (lv_at hl 1 rfl) ?_
  refine lv_iload hC.1 hC.2.1 dL_law_392 (lv_at hl 0 rfl) ?_
  refine lv_iconst (v := 2) hC.1 hC.2.1 dL_law_394 (by decide) ?_
  refine n_add (a := 4 * j) (b := 2) (d := 4 * j + 2) hC rfl dL_law_395 ?_
  refine g_scr hC hX hbl hbA hG.2.2.1 hL (k := 2) (by omega) dL_law_396 ?_
  refine lv_aload_n hC.1 hC.2.1 dL_law_397 rfl (lv_at hl 4 rfl) ?_
  refine g_cW (As := [.ref (b 11), .int (xs (4 * j + 1)), .int (xs (4 * j + 2)), .ref (oa)]) (rest := []) hC hE hG (xw_key l hst K A b x ad κ G es hI.1 oa f hI.2.2 hR (by omega) (xs (4 * j + 1)) (xs (4 * j + 2)) ) (vx_cwSW 4 hC.2.2.2.2 (lw_SW q504 q505 q20 q506) rfl rfl rfl (by decide +kernel) ⟨Nat.le_of_ble_eq_true rfl, Nat.le_of_ble_eq_true rfl⟩) rfl hl.1 rfl (Nat.le_of_ble_eq_true rfl) dL_law_398 ⟨by show cells + 2 ≤ 603072; omega, by show slots + 12 ≤ 7161962; omega⟩ (fun r u H locs hu hG => ?_)
  have hG : gG K A s.heap (LW K.2.1 b u.1 u.2.1 u.2.2.1 (gup u.2.2.2.2.1 (0, 30, 0) (oC K oa u.2.2.2.2.2))) H locs := hG
  have hI1 := hI.w (f1 := u.2.2.2.2.2) hu.2.1 hu.2.2
  refine lv_istore (lv' := (5, .int r) :: lvL b h oa bS j) hC.1 hC.2.1 dL_law_401 hl (by decide) rfl (fun ls hl => ?_)
  refine lv_aload_n hC.1 hC.2.1 dL_law_403 rfl (lv_at hl 4 rfl) ?_
  refine lv_aload_n hC.1 hC.2.1 dL_law_404 rfl (lv_at hl 2 rfl) ?_
  refine lv_iload hC.1 hC.2.1 dL_law_405 (lv_at hl 1 rfl) ?_
  refine lv_iconst (v := 1) hC.1 hC.2.1 dL_law_407 (by decide) ?_
  refine n_add (a := 4 * j) (b := 1) (d := 4 * j + 1) hC rfl dL_law_408 ?_
  refine g_scr hC hX hbl hbA hG.2.2.1 hL (k := 1) (by omega) dL_law_409 ?_
  refine lv_aload_n hC.1 hC.2.1 dL_law_410 rfl (lv_at hl 2 rfl) ?_
  refine lv_iload hC.1 hC.2.1 dL_law_411 (lv_at hl 1 rfl) ?_
  refine lv_iconst (v := 2) hC.1 hC.2.1 dL_law_413 (by decide) ?_
  refine n_add (a := 4 * j) (b := 2) (d := 4 * j + 2) hC rfl dL_law_414 ?_
  refine g_scr hC hX hbl hbA hG.2.2.1 hL (k := 2) (by omega) dL_law_415 ?_
  refine g_cVi (S := MS) (As := [.int (xs (4 * j + 1)), .int (xs (4 * j + 2))]) (rest := []) hC hE (hG.eq hI1.eq) (mt_key l K A _ h σ (xs (4 * j + 1)) (xs (4 * j + 2))) (cwV 2 hC.2.2.2.2 (lw_V q855 q856 q857 q26 q858) rfl rfl rfl (by decide +kernel) ⟨Nat.le_of_ble_eq_true rfl, Nat.le_of_ble_eq_true rfl⟩) (mput_o _ _ _ _) (ci := 2) rfl rfl hl.1 rfl (Nat.le_of_ble_eq_true rfl) dL_law_416 ⟨by show cells + 2 + 0 ≤ 603072; omega, by show slots + 12 + 0 ≤ 7161962; omega⟩ (fun r9 u9 H locs hm hG => ?_)
  have hG := hG.eq mput_LW
  exact tl_i (pc := 419) hC hE dL_law_419 dL_law_421 dL_law_422 dL_law_425 dL_law_427 dL_law_432 dL_law_434 dL_law_437 dL_law_438 dL_law_439 dL_law_440 dL_law_442 dL_law_443 dL_law_444 dL_law_449 (by decide) hG hI1.m (L_key hR hu.1 hm) hN (by omega) (by omega) hl kk
set_option maxHeartbeats 4000000 in
theorem law_5 (hst : l.stackTraces = false) (hC : CallFix p m c cL_law 7 s #[.ref bS] lw_all RX0) (hE : gE K A s s.heap) {L : Nat} {xs : Nat → Int32} (hX : va_X bS L xs s s.heap) (hbl : bS < s.heap.size) (hbA : ¬ A bS) (hL : L ≤ 256) (hj : 4 * j + 4 ≤ L) (hN : N ≤ 63) (hS : LSt K A s.heap b h oa bS j N H locs cells slots ls)
    (kk : ∀ (H : Heap) (locs : List Loc) (cells slots : Nat) (ls : Array Slot), LSt K A s.heap b h oa bS j (N + 1) H locs cells slots ls → W p l e room_1 s m #[.ref bS] below meth c H locs cells slots Q (F0 m 1356 ls [])) : W p l e room_1 s m #[.ref bS] below meth c H locs cells slots Q (F0 m 452 ls []) := by
  obtain ⟨x, ad, κ, es, G, σ, f, B, Ld, Ac, hG, hI, hR, hcl, hsl, hl⟩ := hS
  have hlen : es.length ≤ N := hR.2.2.1.2.2.2
  refine lv_aload_n hC.1 hC.2.1 dL_law_452 rfl (lv_at hl 2 rfl) ?_
  refine lv_aload_n hC.1 hC.2.1 dL_law_453 rfl (lv_at hl 1 rfl) ?_
  refine lv_iload hC.1 hC.2.1 dL_law_454 (lv_at hl 0 rfl) ?_
  refine lv_iconst (v := 1) hC.1 hC.2.1 dL_law_456 (by decide) ?_
  refine n_add (a := 4 * j) (b := 1) (d := 4 * j + 1) hC rfl dL_law_457 ?_
  refine g_scr hC hX hbl hbA hG.2.2.1 hL (k := 1) (by omega) dL_law_458 ?_
  refine lv_aload_n hC.1 hC.2.1 dL_law_459 rfl (lv_at hl 1 rfl) ?_
  refine lv_iload hC.1 hC.2.1 dL_law_460 (lv_at hl 0 rfl) ?_
  refine lv_iconst (v := 2) hC.1 hC.2.1 dL_law_462 (by decide) ?_
  refine n_add (a := 4 * j) (b := 2) (d := 4 * j + 2) hC rfl dL_law_463 ?_
  refine g_scr hC hX hbl hbA hG.2.2.1 hL (k := 2) (by omega) dL_law_464 ?_
  refine lv_aload_n hC.1 hC.2.1 dL_law_465 rfl (lv_at hl 4 rfl) ?_
  refine g_cW (As := [.ref (b 11), .int (xs (4 * j + 1)), .int (xs (4 * j + 2)), .ref (oa)]) (rest := []) hC hE hG (xw_field l hst K A b x ad κ G es hI.1 oa f hI.2.2 hR (by omega) (xs (4 * j + 1)) (xs (4 * j + 2)) ) (vx_cwSW 4 hC.2.2.2.2 (lw_SW q514 q515 q20 q516) rfl rfl rfl (by decide +kernel) ⟨Nat.le_of_ble_eq_true rfl, Nat.le_of_ble_eq_true rfl⟩) rfl hl.1 rfl (Nat.le_of_ble_eq_true rfl) dL_law_466 ⟨by show cells + 2 ≤ 603072; omega, by show slots + 12 ≤ 7161962; omega⟩ (fun r u H locs hu hG => ?_)
  have hG : gG K A s.heap (LW K.2.1 b u.1 u.2.1 u.2.2.1 (gup u.2.2.2.2.1 (0, 30, 0) (oC K oa u.2.2.2.2.2))) H locs := hG
  have hI1 := hI.w (f1 := u.2.2.2.2.2) hu.2.1 hu.2.2
  refine lv_istore (lv' := (5, .int r) :: lvL b h oa bS j) hC.1 hC.2.1 dL_law_469 hl (by decide) rfl (fun ls hl => ?_)
  refine lv_aload_n hC.1 hC.2.1 dL_law_471 rfl (lv_at hl 4 rfl) ?_
  refine lv_aload_n hC.1 hC.2.1 dL_law_472 rfl (lv_at hl 2 rfl) ?_
  refine lv_iload hC.1 hC.2.1 dL_law_473 (lv_at hl 1 rfl) ?_
  refine lv_iconst (v := 1) hC.1 hC.2.1 dL_law_475 (by decide) ?_
  refine n_add (a := 4 * j) (b := 1) (d := 4 * j + 1) hC rfl dL_law_476 ?_
  refine g_scr hC hX hbl hbA hG.2.2.1 hL (k := 1) (by omega) dL_law_477 ?_
  refine lv_aload_n hC.1 hC.2.1 dL_law_478 rfl (lv_at hl 2 rfl) ?_
  refine lv_iload hC.1 hC.2.1 dL_law_479 (lv_at hl 1 rfl) ?_
  refine lv_iconst (v := 2) hC.1 hC.2.1 dL_law_481 (by decide) ?_
  refine n_add (a := 4 * j) (b := 2) (d := 4 * j + 2) hC rfl dL_law_482 ?_
  refine g_scr hC hX hbl hbA hG.2.2.1 hL (k := 2) (by omega) dL_law_483 ?_
  refine g_cVi (S := MS) (As := [.int (xs (4 * j + 1)), .int (xs (4 * j + 2))]) (rest := []) hC hE (hG.eq hI1.eq) (mt_field l K A _ h σ (xs (4 * j + 1)) (xs (4 * j + 2))) (cwV 2 hC.2.2.2.2 (lw_V q859 q860 q861 q26 q862) rfl rfl rfl (by decide +kernel) ⟨Nat.le_of_ble_eq_true rfl, Nat.le_of_ble_eq_true rfl⟩) (mput_o _ _ _ _) (ci := 2) rfl rfl hl.1 rfl (Nat.le_of_ble_eq_true rfl) dL_law_484 ⟨by show cells + 2 + 0 ≤ 603072; omega, by show slots + 12 + 0 ≤ 7161962; omega⟩ (fun r9 u9 H locs hm hG => ?_)
  have hG := hG.eq mput_LW
  exact tl_i (pc := 487) hC hE dL_law_487 dL_law_489 dL_law_490 dL_law_493 dL_law_495 dL_law_500 dL_law_502 dL_law_505 dL_law_506 dL_law_507 dL_law_508 dL_law_510 dL_law_511 dL_law_512 dL_law_517 (by decide) hG hI1.m (L_field hR hu.1 hm) hN (by omega) (by omega) hl kk
set_option maxHeartbeats 4000000 in
theorem law_6 (hst : l.stackTraces = false) (hC : CallFix p m c cL_law 7 s #[.ref bS] lw_all RX0) (hE : gE K A s s.heap) {L : Nat} {xs : Nat → Int32} (hX : va_X bS L xs s s.heap) (hbl : bS < s.heap.size) (hbA : ¬ A bS) (hL : L ≤ 256) (hj : 4 * j + 4 ≤ L) (hN : N ≤ 63) (hS : LSt K A s.heap b h oa bS j N H locs cells slots ls)
    (kk : ∀ (H : Heap) (locs : List Loc) (cells slots : Nat) (ls : Array Slot), LSt K A s.heap b h oa bS j (N + 1) H locs cells slots ls → W p l e room_1 s m #[.ref bS] below meth c H locs cells slots Q (F0 m 1356 ls [])) : W p l e room_1 s m #[.ref bS] below meth c H locs cells slots Q (F0 m 520 ls []) := by
  obtain ⟨x, ad, κ, es, G, σ, f, B, Ld, Ac, hG, hI, hR, hcl, hsl, hl⟩ := hS
  have hlen : es.length ≤ N := hR.2.2.1.2.2.2
  refine lv_aload_n hC.1 hC.2.1 dL_law_520 rfl (lv_at hl 2 rfl) ?_
  refine lv_aload_n hC.1 hC.2.1 dL_law_521 rfl (lv_at hl 1 rfl) ?_
  refine lv_iload hC.1 hC.2.1 dL_law_522 (lv_at hl 0 rfl) ?_
  refine lv_iconst (v := 1) hC.1 hC.2.1 dL_law_524 (by decide) ?_
  refine n_add (a := 4 * j) (b := 1) (d := 4 * j + 1) hC rfl dL_law_525 ?_
  refine g_scr hC hX hbl hbA hG.2.2.1 hL (k := 1) (by omega) dL_law_526 ?_
  refine lv_aload_n hC.1 hC.2.1 dL_law_527 rfl (lv_at hl 4 rfl) ?_
  refine g_cW (As := [.ref (b 11), .int (xs (4 * j + 1)), .ref (oa)]) (rest := []) hC hE hG (xw_load l hst K A b x ad κ G es hI.1 oa f hI.2.2 hR (by omega) (xs (4 * j + 1)) ) (vx_cwSW 3 hC.2.2.2.2 (lw_SW q521 q522 q20 q523) rfl rfl rfl (by decide +kernel) ⟨Nat.le_of_ble_eq_true rfl, Nat.le_of_ble_eq_true rfl⟩) rfl hl.1 rfl (Nat.le_of_ble_eq_true rfl) dL_law_528 ⟨by show cells + 11 ≤ 603072; omega, by show slots + 146 ≤ 7161962; omega⟩ (fun r u H locs hu hG => ?_)
  have hG : gG K A s.heap (LW K.2.1 b u.1 u.2.1 u.2.2.1 (gup u.2.2.2.2.1 (0, 30, 0) (oC K oa u.2.2.2.2.2))) H locs := hG
  have hI1 := hI.w (f1 := u.2.2.2.2.2) hu.2.1 hu.2.2
  refine lv_istore (lv' := (5, .int r) :: lvL b h oa bS j) hC.1 hC.2.1 dL_law_531 hl (by decide) rfl (fun ls hl => ?_)
  refine lv_aload_n hC.1 hC.2.1 dL_law_533 rfl (lv_at hl 4 rfl) ?_
  refine lv_aload_n hC.1 hC.2.1 dL_law_534 rfl (lv_at hl 2 rfl) ?_
  refine lv_iload hC.1 hC.2.1 dL_law_535 (lv_at hl 1 rfl) ?_
  refine lv_iconst (v := 1) hC.1 hC.2.1 dL_law_537 (by decide) ?_
  refine n_add (a := 4 * j) (b := 1) (d := 4 * j + 1) hC rfl dL_law_538 ?_
  refine g_scr hC hX hbl hbA hG.2.2.1 hL (k := 1) (by omega) dL_law_539 ?_
  refine g_cVi (S := MS) (As := [.int (xs (4 * j + 1))]) (rest := []) hC hE (hG.eq hI1.eq) (mt_load l K A _ h σ (xs (4 * j + 1)) Ld B es.length hR.2.1.2.2.1 (by have := hR.2.2.1.2.1; omega) hR.2.1.2.1 hR.2.2.1.1 (by omega) hR.2.1.2.2.2.2 hR.2.2.2.2.2.2) (cwV 1 hC.2.2.2.2 (lw_V q863 q864 q865 q26 q866) rfl rfl rfl (by decide +kernel) ⟨Nat.le_of_ble_eq_true rfl, Nat.le_of_ble_eq_true rfl⟩) (mput_o _ _ _ _) (ci := 2) rfl rfl hl.1 rfl (Nat.le_of_ble_eq_true rfl) dL_law_540 ⟨by show cells + 11 + 0 ≤ 603072; omega, by show slots + 146 + 0 ≤ 7161962; omega⟩ (fun r9 u9 H locs hm hG => ?_)
  have hG := hG.eq mput_LW
  exact tl_i (pc := 543) hC hE dL_law_543 dL_law_545 dL_law_546 dL_law_549 dL_law_551 dL_law_556 dL_law_558 dL_law_561 dL_law_562 dL_law_563 dL_law_564 dL_law_566 dL_law_567 dL_law_568 dL_law_573 (by decide) hG hI1.m (L_load hR (by omega) hu.1 hm) hN (by omega) (by omega) hl kk
set_option maxHeartbeats 4000000 in
theorem law_7 (hst : l.stackTraces = false) (hC : CallFix p m c cL_law 7 s #[.ref bS] lw_all RX0) (hE : gE K A s s.heap) {L : Nat} {xs : Nat → Int32} (hX : va_X bS L xs s s.heap) (hbl : bS < s.heap.size) (hbA : ¬ A bS) (hL : L ≤ 256) (hj : 4 * j + 4 ≤ L) (hN : N ≤ 63) (hS : LSt K A s.heap b h oa bS j N H locs cells slots ls)
    (kk : ∀ (H : Heap) (locs : List Loc) (cells slots : Nat) (ls : Array Slot), LSt K A s.heap b h oa bS j (N + 1) H locs cells slots ls → W p l e room_1 s m #[.ref bS] below meth c H locs cells slots Q (F0 m 1356 ls [])) : W p l e room_1 s m #[.ref bS] below meth c H locs cells slots Q (F0 m 576 ls []) := by
  obtain ⟨x, ad, κ, es, G, σ, f, B, Ld, Ac, hG, hI, hR, hcl, hsl, hl⟩ := hS
  have hlen : es.length ≤ N := hR.2.2.1.2.2.2
  refine lv_aload_n hC.1 hC.2.1 dL_law_576 rfl (lv_at hl 2 rfl) ?_
  refine lv_aload_n hC.1 hC.2.1 dL_law_577 rfl (lv_at hl 1 rfl) ?_
  refine lv_iload hC.1 hC.2.1 dL_law_578 (lv_at hl 0 rfl) ?_
  refine lv_iconst (v := 1) hC.1 hC.2.1 dL_law_580 (by decide) ?_
  refine n_add (a := 4 * j) (b := 1) (d := 4 * j + 1) hC rfl dL_law_581 ?_
  refine g_scr hC hX hbl hbA hG.2.2.1 hL (k := 1) (by omega) dL_law_582 ?_
  refine lv_aload_n hC.1 hC.2.1 dL_law_583 rfl (lv_at hl 1 rfl) ?_
  refine lv_iload hC.1 hC.2.1 dL_law_584 (lv_at hl 0 rfl) ?_
  refine lv_iconst (v := 2) hC.1 hC.2.1 dL_law_586 (by decide) ?_
  refine n_add (a := 4 * j) (b := 2) (d := 4 * j + 2) hC rfl dL_law_587 ?_
  refine g_scr hC hX hbl hbA hG.2.2.1 hL (k := 2) (by omega) dL_law_588 ?_
  refine lv_aload_n hC.1 hC.2.1 dL_law_589 rfl (lv_at hl 1 rfl) ?_
  refine lv_iload hC.1 hC.2.1 dL_law_590 (lv_at hl 0 rfl) ?_
  refine lv_iconst (v := 3) hC.1 hC.2.1 dL_law_592 (by decide) ?_
  refine n_add (a := 4 * j) (b := 3) (d := 4 * j + 3) hC rfl dL_law_593 ?_
  refine g_scr hC hX hbl hbA hG.2.2.1 hL (k := 3) (by omega) dL_law_594 ?_
  refine g_nz hC.1 hC.2.1 dL_law_595 dL_law_598 dL_law_599 dL_law_602 ?_
  refine lv_aload_n hC.1 hC.2.1 dL_law_603 rfl (lv_at hl 4 rfl) ?_
  refine g_cW (As := [.ref (b 11), .int (xs (4 * j + 1)), .int (xs (4 * j + 2)), .int (zB (xs (4 * j + 3))), .ref (oa)]) (rest := []) hC hE hG (xw_protect l hst K A b x ad κ G es hI.1 oa f hI.2.2 hR (by omega) (xs (4 * j + 1)) (xs (4 * j + 2)) (zB (xs (4 * j + 3))) (zB_01 _)) (vx_cwSW 5 hC.2.2.2.2 (lw_SW q629 q630 q20 q631) rfl rfl rfl (by decide +kernel) ⟨Nat.le_of_ble_eq_true rfl, Nat.le_of_ble_eq_true rfl⟩) rfl hl.1 rfl (Nat.le_of_ble_eq_true rfl) dL_law_604 ⟨by show cells + 10 ≤ 603072; omega, by show slots + 141 ≤ 7161962; omega⟩ (fun r u H locs hu hG => ?_)
  have hG : gG K A s.heap (LW K.2.1 b u.1 u.2.1 u.2.2.1 (gup u.2.2.2.2.1 (0, 30, 0) (oC K oa u.2.2.2.2.2))) H locs := hG
  have hI1 := hI.w (f1 := u.2.2.2.2.2) hu.2.1 hu.2.2
  refine lv_istore (lv' := (5, .int r) :: lvL b h oa bS j) hC.1 hC.2.1 dL_law_607 hl (by decide) rfl (fun ls hl => ?_)
  refine lv_aload_n hC.1 hC.2.1 dL_law_609 rfl (lv_at hl 4 rfl) ?_
  refine lv_aload_n hC.1 hC.2.1 dL_law_610 rfl (lv_at hl 2 rfl) ?_
  refine lv_iload hC.1 hC.2.1 dL_law_611 (lv_at hl 1 rfl) ?_
  refine lv_iconst (v := 1) hC.1 hC.2.1 dL_law_613 (by decide) ?_
  refine n_add (a := 4 * j) (b := 1) (d := 4 * j + 1) hC rfl dL_law_614 ?_
  refine g_scr hC hX hbl hbA hG.2.2.1 hL (k := 1) (by omega) dL_law_615 ?_
  refine lv_aload_n hC.1 hC.2.1 dL_law_616 rfl (lv_at hl 2 rfl) ?_
  refine lv_iload hC.1 hC.2.1 dL_law_617 (lv_at hl 1 rfl) ?_
  refine lv_iconst (v := 2) hC.1 hC.2.1 dL_law_619 (by decide) ?_
  refine n_add (a := 4 * j) (b := 2) (d := 4 * j + 2) hC rfl dL_law_620 ?_
  refine g_scr hC hX hbl hbA hG.2.2.1 hL (k := 2) (by omega) dL_law_621 ?_
  refine lv_aload_n hC.1 hC.2.1 dL_law_622 rfl (lv_at hl 2 rfl) ?_
  refine lv_iload hC.1 hC.2.1 dL_law_623 (lv_at hl 1 rfl) ?_
  refine lv_iconst (v := 3) hC.1 hC.2.1 dL_law_625 (by decide) ?_
  refine n_add (a := 4 * j) (b := 3) (d := 4 * j + 3) hC rfl dL_law_626 ?_
  refine g_scr hC hX hbl hbA hG.2.2.1 hL (k := 3) (by omega) dL_law_627 ?_
  refine g_nz hC.1 hC.2.1 dL_law_628 dL_law_631 dL_law_632 dL_law_635 ?_
  refine g_cVi (S := MS) (As := [.int (xs (4 * j + 1)), .int (xs (4 * j + 2)), .int (zB (xs (4 * j + 3)))]) (rest := []) hC hE (hG.eq hI1.eq) (mt_protect l K A _ h σ (xs (4 * j + 1)) (xs (4 * j + 2)) (zB (xs (4 * j + 3))) es.length (by omega) hR.2.1.2.2.2.2 hR.2.2.2.2.2.2 hR.2.2.2.2.1.2.1.2) (cwV 3 hC.2.2.2.2 (lw_V q895 q896 q897 q26 q898) rfl rfl rfl (by decide +kernel) ⟨Nat.le_of_ble_eq_true rfl, Nat.le_of_ble_eq_true rfl⟩) (mput_o _ _ _ _) (ci := 2) rfl rfl hl.1 rfl (Nat.le_of_ble_eq_true rfl) dL_law_636 ⟨by show cells + 10 + 0 ≤ 603072; omega, by show slots + 141 + 0 ≤ 7161962; omega⟩ (fun r9 u9 H locs hm hG => ?_)
  have hG := hG.eq mput_LW
  exact tl_z (pc := 639) hC hE dL_law_639 dL_law_641 dL_law_642 dL_law_645 dL_law_647 dL_law_652 dL_law_654 dL_law_657 dL_law_658 dL_law_659 dL_law_660 dL_law_662 dL_law_665 dL_law_666 dL_law_669 dL_law_670 dL_law_671 dL_law_676 (by decide) hG hI1.m (L_protect hR (by omega) (zB_01 _) hu.1 hm) hN (by omega) (by omega) hl kk
set_option maxHeartbeats 4000000 in
theorem law_8 (hst : l.stackTraces = false) (hC : CallFix p m c cL_law 7 s #[.ref bS] lw_all RX0) (hE : gE K A s s.heap) {L : Nat} {xs : Nat → Int32} (hX : va_X bS L xs s s.heap) (hbl : bS < s.heap.size) (hbA : ¬ A bS) (hL : L ≤ 256) (hj : 4 * j + 4 ≤ L) (hN : N ≤ 63) (hS : LSt K A s.heap b h oa bS j N H locs cells slots ls)
    (kk : ∀ (H : Heap) (locs : List Loc) (cells slots : Nat) (ls : Array Slot), LSt K A s.heap b h oa bS j (N + 1) H locs cells slots ls → W p l e room_1 s m #[.ref bS] below meth c H locs cells slots Q (F0 m 1356 ls [])) : W p l e room_1 s m #[.ref bS] below meth c H locs cells slots Q (F0 m 679 ls []) := by
  obtain ⟨x, ad, κ, es, G, σ, f, B, Ld, Ac, hG, hI, hR, hcl, hsl, hl⟩ := hS
  have hlen : es.length ≤ N := hR.2.2.1.2.2.2
  refine lv_aload_n hC.1 hC.2.1 dL_law_679 rfl (lv_at hl 2 rfl) ?_
  refine lv_aload_n hC.1 hC.2.1 dL_law_680 rfl (lv_at hl 1 rfl) ?_
  refine lv_iload hC.1 hC.2.1 dL_law_681 (lv_at hl 0 rfl) ?_
  refine lv_iconst (v := 1) hC.1 hC.2.1 dL_law_683 (by decide) ?_
  refine n_add (a := 4 * j) (b := 1) (d := 4 * j + 1) hC rfl dL_law_684 ?_
  refine g_scr hC hX hbl hbA hG.2.2.1 hL (k := 1) (by omega) dL_law_685 ?_
  refine lv_aload_n hC.1 hC.2.1 dL_law_686 rfl (lv_at hl 4 rfl) ?_
  refine g_cW (As := [.ref (b 11), .int (xs (4 * j + 1)), .ref (oa)]) (rest := []) hC hE hG (xw_hold l hst K A b x ad κ G es hI.1 oa f hI.2.2 hR (by omega) (xs (4 * j + 1)) ) (vx_cwSW 3 hC.2.2.2.2 (lw_SW q660 q661 q20 q662) rfl rfl rfl (by decide +kernel) ⟨Nat.le_of_ble_eq_true rfl, Nat.le_of_ble_eq_true rfl⟩) rfl hl.1 rfl (Nat.le_of_ble_eq_true rfl) dL_law_687 ⟨by show cells + 9 ≤ 603072; omega, by show slots + 133 ≤ 7161962; omega⟩ (fun r u H locs hu hG => ?_)
  have hG : gG K A s.heap (LW K.2.1 b u.1 u.2.1 u.2.2.1 (gup u.2.2.2.2.1 (0, 30, 0) (oC K oa u.2.2.2.2.2))) H locs := hG
  have hI1 := hI.w (f1 := u.2.2.2.2.2) hu.2.1 hu.2.2
  refine lv_istore (lv' := (5, .int r) :: lvL b h oa bS j) hC.1 hC.2.1 dL_law_690 hl (by decide) rfl (fun ls hl => ?_)
  refine lv_aload_n hC.1 hC.2.1 dL_law_692 rfl (lv_at hl 4 rfl) ?_
  refine lv_aload_n hC.1 hC.2.1 dL_law_693 rfl (lv_at hl 2 rfl) ?_
  refine lv_iload hC.1 hC.2.1 dL_law_694 (lv_at hl 1 rfl) ?_
  refine lv_iconst (v := 1) hC.1 hC.2.1 dL_law_696 (by decide) ?_
  refine n_add (a := 4 * j) (b := 1) (d := 4 * j + 1) hC rfl dL_law_697 ?_
  refine g_scr hC hX hbl hbA hG.2.2.1 hL (k := 1) (by omega) dL_law_698 ?_
  refine g_cVi (S := MS) (As := [.int (xs (4 * j + 1))]) (rest := []) hC hE (hG.eq hI1.eq) (mt_hold l K A _ h σ (xs (4 * j + 1)) es.length (by omega) hR.2.1.2.2.2.2 hR.2.2.2.2.2.2) (cwV 1 hC.2.2.2.2 (lw_V q903 q904 q905 q26 q906) rfl rfl rfl (by decide +kernel) ⟨Nat.le_of_ble_eq_true rfl, Nat.le_of_ble_eq_true rfl⟩) (mput_o _ _ _ _) (ci := 2) rfl rfl hl.1 rfl (Nat.le_of_ble_eq_true rfl) dL_law_699 ⟨by show cells + 9 + 0 ≤ 603072; omega, by show slots + 133 + 0 ≤ 7161962; omega⟩ (fun r9 u9 H locs hm hG => ?_)
  have hG := hG.eq mput_LW
  exact tl_i (pc := 702) hC hE dL_law_702 dL_law_704 dL_law_705 dL_law_708 dL_law_710 dL_law_715 dL_law_717 dL_law_720 dL_law_721 dL_law_722 dL_law_723 dL_law_725 dL_law_726 dL_law_727 dL_law_732 (by decide) hG hI1.m (L_hold hR (by omega) hu.1 hm) hN (by omega) (by omega) hl kk
set_option maxHeartbeats 4000000 in
theorem law_9 (hst : l.stackTraces = false) (hC : CallFix p m c cL_law 7 s #[.ref bS] lw_all RX0) (hE : gE K A s s.heap) {L : Nat} {xs : Nat → Int32} (hX : va_X bS L xs s s.heap) (hbl : bS < s.heap.size) (hbA : ¬ A bS) (hL : L ≤ 256) (hj : 4 * j + 4 ≤ L) (hN : N ≤ 63) (hS : LSt K A s.heap b h oa bS j N H locs cells slots ls)
    (kk : ∀ (H : Heap) (locs : List Loc) (cells slots : Nat) (ls : Array Slot), LSt K A s.heap b h oa bS j (N + 1) H locs cells slots ls → W p l e room_1 s m #[.ref bS] below meth c H locs cells slots Q (F0 m 1356 ls [])) : W p l e room_1 s m #[.ref bS] below meth c H locs cells slots Q (F0 m 735 ls []) := by
  obtain ⟨x, ad, κ, es, G, σ, f, B, Ld, Ac, hG, hI, hR, hcl, hsl, hl⟩ := hS
  have hlen : es.length ≤ N := hR.2.2.1.2.2.2
  refine lv_aload_n hC.1 hC.2.1 dL_law_735 rfl (lv_at hl 2 rfl) ?_
  refine lv_aload_n hC.1 hC.2.1 dL_law_736 rfl (lv_at hl 1 rfl) ?_
  refine lv_iload hC.1 hC.2.1 dL_law_737 (lv_at hl 0 rfl) ?_
  refine lv_iconst (v := 1) hC.1 hC.2.1 dL_law_739 (by decide) ?_
  refine n_add (a := 4 * j) (b := 1) (d := 4 * j + 1) hC rfl dL_law_740 ?_
  refine g_scr hC hX hbl hbA hG.2.2.1 hL (k := 1) (by omega) dL_law_741 ?_
  refine lv_aload_n hC.1 hC.2.1 dL_law_742 rfl (lv_at hl 1 rfl) ?_
  refine lv_iload hC.1 hC.2.1 dL_law_743 (lv_at hl 0 rfl) ?_
  refine lv_iconst (v := 2) hC.1 hC.2.1 dL_law_745 (by decide) ?_
  refine n_add (a := 4 * j) (b := 2) (d := 4 * j + 2) hC rfl dL_law_746 ?_
  refine g_scr hC hX hbl hbA hG.2.2.1 hL (k := 2) (by omega) dL_law_747 ?_
  refine lv_aload_n hC.1 hC.2.1 dL_law_748 rfl (lv_at hl 4 rfl) ?_
  refine g_cW (As := [.ref (b 11), .int (xs (4 * j + 1)), .int (xs (4 * j + 2)), .ref (oa)]) (rest := []) hC hE hG (xw_merge l hst K A b x ad κ G es hI.1 oa f hI.2.2 hR (by omega) (xs (4 * j + 1)) (xs (4 * j + 2)) ) (vx_cwSW 4 hC.2.2.2.2 (lw_SW q677 q678 q20 q679) rfl rfl rfl (by decide +kernel) ⟨Nat.le_of_ble_eq_true rfl, Nat.le_of_ble_eq_true rfl⟩) rfl hl.1 rfl (Nat.le_of_ble_eq_true rfl) dL_law_749 ⟨by show cells + 11 ≤ 603072; omega, by show slots + 146 ≤ 7161962; omega⟩ (fun r u H locs hu hG => ?_)
  have hG : gG K A s.heap (LW K.2.1 b u.1 u.2.1 u.2.2.1 (gup u.2.2.2.2.1 (0, 30, 0) (oC K oa u.2.2.2.2.2))) H locs := hG
  have hI1 := hI.w (f1 := u.2.2.2.2.2) hu.2.1 hu.2.2
  refine lv_istore (lv' := (5, .int r) :: lvL b h oa bS j) hC.1 hC.2.1 dL_law_752 hl (by decide) rfl (fun ls hl => ?_)
  refine lv_aload_n hC.1 hC.2.1 dL_law_754 rfl (lv_at hl 4 rfl) ?_
  refine lv_aload_n hC.1 hC.2.1 dL_law_755 rfl (lv_at hl 2 rfl) ?_
  refine lv_iload hC.1 hC.2.1 dL_law_756 (lv_at hl 1 rfl) ?_
  refine lv_iconst (v := 1) hC.1 hC.2.1 dL_law_758 (by decide) ?_
  refine n_add (a := 4 * j) (b := 1) (d := 4 * j + 1) hC rfl dL_law_759 ?_
  refine g_scr hC hX hbl hbA hG.2.2.1 hL (k := 1) (by omega) dL_law_760 ?_
  refine lv_aload_n hC.1 hC.2.1 dL_law_761 rfl (lv_at hl 2 rfl) ?_
  refine lv_iload hC.1 hC.2.1 dL_law_762 (lv_at hl 1 rfl) ?_
  refine lv_iconst (v := 2) hC.1 hC.2.1 dL_law_764 (by decide) ?_
  refine n_add (a := 4 * j) (b := 2) (d := 4 * j + 2) hC rfl dL_law_765 ?_
  refine g_scr hC hX hbl hbA hG.2.2.1 hL (k := 2) (by omega) dL_law_766 ?_
  refine g_cVi (S := MS) (As := [.int (xs (4 * j + 1)), .int (xs (4 * j + 2))]) (rest := []) hC hE (hG.eq hI1.eq) (mt_merge l K A _ h σ (xs (4 * j + 1)) (xs (4 * j + 2)) es.length (by omega) hR.2.1.2.2.2.2 hR.2.2.2.2.2.2) (cwV 2 hC.2.2.2.2 (lw_V q907 q908 q909 q26 q910) rfl rfl rfl (by decide +kernel) ⟨Nat.le_of_ble_eq_true rfl, Nat.le_of_ble_eq_true rfl⟩) (mput_o _ _ _ _) (ci := 2) rfl rfl hl.1 rfl (Nat.le_of_ble_eq_true rfl) dL_law_767 ⟨by show cells + 11 + 0 ≤ 603072; omega, by show slots + 146 + 0 ≤ 7161962; omega⟩ (fun r9 u9 H locs hm hG => ?_)
  have hG := hG.eq mput_LW
  exact tl_i (pc := 770) hC hE dL_law_770 dL_law_772 dL_law_773 dL_law_776 dL_law_778 dL_law_783 dL_law_785 dL_law_788 dL_law_789 dL_law_790 dL_law_791 dL_law_793 dL_law_794 dL_law_795 dL_law_800 (by decide) hG hI1.m (L_merge hR (by omega) hu.1 hm) hN (by omega) (by omega) hl kk
set_option maxHeartbeats 4000000 in
theorem law_10 (hst : l.stackTraces = false) (hC : CallFix p m c cL_law 7 s #[.ref bS] lw_all RX0) (hE : gE K A s s.heap) {L : Nat} {xs : Nat → Int32} (hX : va_X bS L xs s s.heap) (hbl : bS < s.heap.size) (hbA : ¬ A bS) (hL : L ≤ 256) (hj : 4 * j + 4 ≤ L) (hN : N ≤ 63) (hS : LSt K A s.heap b h oa bS j N H locs cells slots ls)
    (kk : ∀ (H : Heap) (locs : List Loc) (cells slots : Nat) (ls : Array Slot), LSt K A s.heap b h oa bS j (N + 1) H locs cells slots ls → W p l e room_1 s m #[.ref bS] below meth c H locs cells slots Q (F0 m 1356 ls [])) : W p l e room_1 s m #[.ref bS] below meth c H locs cells slots Q (F0 m 803 ls []) := by
  obtain ⟨x, ad, κ, es, G, σ, f, B, Ld, Ac, hG, hI, hR, hcl, hsl, hl⟩ := hS
  have hlen : es.length ≤ N := hR.2.2.1.2.2.2
  refine lv_aload_n hC.1 hC.2.1 dL_law_803 rfl (lv_at hl 2 rfl) ?_
  refine lv_aload_n hC.1 hC.2.1 dL_law_804 rfl (lv_at hl 1 rfl) ?_
  refine lv_iload hC.1 hC.2.1 dL_law_805 (lv_at hl 0 rfl) ?_
  refine lv_iconst (v := 1) hC.1 hC.2.1 dL_law_807 (by decide) ?_
  refine n_add (a := 4 * j) (b := 1) (d := 4 * j + 1) hC rfl dL_law_808 ?_
  refine g_scr hC hX hbl hbA hG.2.2.1 hL (k := 1) (by omega) dL_law_809 ?_
  refine lv_aload_n hC.1 hC.2.1 dL_law_810 rfl (lv_at hl 1 rfl) ?_
  refine lv_iload hC.1 hC.2.1 dL_law_811 (lv_at hl 0 rfl) ?_
  refine lv_iconst (v := 2) hC.1 hC.2.1 dL_law_813 (by decide) ?_
  refine n_add (a := 4 * j) (b := 2) (d := 4 * j + 2) hC rfl dL_law_814 ?_
  refine g_scr hC hX hbl hbA hG.2.2.1 hL (k := 2) (by omega) dL_law_815 ?_
  refine g_nz hC.1 hC.2.1 dL_law_816 dL_law_819 dL_law_820 dL_law_823 ?_
  refine lv_aload_n hC.1 hC.2.1 dL_law_824 rfl (lv_at hl 4 rfl) ?_
  refine g_cW (As := [.ref (b 11), .int (xs (4 * j + 1)), .int (zB (xs (4 * j + 2))), .ref (oa)]) (rest := []) hC hE hG (xw_undo l hst K A b x ad κ G es hI.1 oa f hI.2.2 hR (by omega) (xs (4 * j + 1)) (zB (xs (4 * j + 2))) (zB_01 _)) (vx_cwSW 4 hC.2.2.2.2 (lw_SW q697 q698 q20 q699) rfl rfl rfl (by decide +kernel) ⟨Nat.le_of_ble_eq_true rfl, Nat.le_of_ble_eq_true rfl⟩) rfl hl.1 rfl (Nat.le_of_ble_eq_true rfl) dL_law_825 ⟨by show cells + 326 ≤ 603072; omega, by show slots + 1459 ≤ 7161962; omega⟩ (fun r u H locs hu hG => ?_)
  have hG : gG K A s.heap (LW K.2.1 b u.1 u.2.1 u.2.2.1 (gup u.2.2.2.2.1 (0, 30, 0) (oC K oa u.2.2.2.2.2))) H locs := hG
  have hI1 := hI.w (f1 := u.2.2.2.2.2) hu.2.1 hu.2.2
  refine lv_istore (lv' := (5, .int r) :: lvL b h oa bS j) hC.1 hC.2.1 dL_law_828 hl (by decide) rfl (fun ls hl => ?_)
  refine lv_aload_n hC.1 hC.2.1 dL_law_830 rfl (lv_at hl 4 rfl) ?_
  refine lv_aload_n hC.1 hC.2.1 dL_law_831 rfl (lv_at hl 2 rfl) ?_
  refine lv_iload hC.1 hC.2.1 dL_law_832 (lv_at hl 1 rfl) ?_
  refine lv_iconst (v := 1) hC.1 hC.2.1 dL_law_834 (by decide) ?_
  refine n_add (a := 4 * j) (b := 1) (d := 4 * j + 1) hC rfl dL_law_835 ?_
  refine g_scr hC hX hbl hbA hG.2.2.1 hL (k := 1) (by omega) dL_law_836 ?_
  refine lv_aload_n hC.1 hC.2.1 dL_law_837 rfl (lv_at hl 2 rfl) ?_
  refine lv_iload hC.1 hC.2.1 dL_law_838 (lv_at hl 1 rfl) ?_
  refine lv_iconst (v := 2) hC.1 hC.2.1 dL_law_840 (by decide) ?_
  refine n_add (a := 4 * j) (b := 2) (d := 4 * j + 2) hC rfl dL_law_841 ?_
  refine g_scr hC hX hbl hbA hG.2.2.1 hL (k := 2) (by omega) dL_law_842 ?_
  refine g_nz hC.1 hC.2.1 dL_law_843 dL_law_846 dL_law_847 dL_law_850 ?_
  refine g_cVi (S := MS) (As := [.int (xs (4 * j + 1)), .int (zB (xs (4 * j + 2)))]) (rest := []) hC hE (hG.eq hI1.eq) (mt_undo l K A _ h σ (xs (4 * j + 1)) (zB (xs (4 * j + 2))) B es.length hR.2.1.2.1 hR.2.2.1.1 (by omega) hR.2.1.2.2.2.2 hR.2.2.2.2.2.2 (zB_01 _)) (cwV 2 hC.2.2.2.2 (lw_V q911 q912 q913 q26 q914) rfl rfl rfl (by decide +kernel) ⟨Nat.le_of_ble_eq_true rfl, Nat.le_of_ble_eq_true rfl⟩) (mput_o _ _ _ _) (ci := 2) rfl rfl hl.1 rfl (Nat.le_of_ble_eq_true rfl) dL_law_851 ⟨by show cells + 326 + 0 ≤ 603072; omega, by show slots + 1459 + 0 ≤ 7161962; omega⟩ (fun r9 u9 H locs hm hG => ?_)
  have hG := hG.eq mput_LW
  exact tl_i (pc := 854) hC hE dL_law_854 dL_law_856 dL_law_857 dL_law_860 dL_law_862 dL_law_867 dL_law_869 dL_law_872 dL_law_873 dL_law_874 dL_law_875 dL_law_877 dL_law_878 dL_law_879 dL_law_884 (by decide) hG hI1.m (L_undo hR (zB_01 _) hu.1 hm) hN (by omega) (by omega) hl kk
set_option maxHeartbeats 4000000 in
theorem law_14 (hst : l.stackTraces = false) (hC : CallFix p m c cL_law 7 s #[.ref bS] lw_all RX0) (hE : gE K A s s.heap) {L : Nat} {xs : Nat → Int32} (hX : va_X bS L xs s s.heap) (hbl : bS < s.heap.size) (hbA : ¬ A bS) (hL : L ≤ 256) (hj : 4 * j + 4 ≤ L) (hN : N ≤ 63) (hS : LSt K A s.heap b h oa bS j N H locs cells slots ls)
    (kk : ∀ (H : Heap) (locs : List Loc) (cells slots : Nat) (ls : Array Slot), LSt K A s.heap b h oa bS j (N + 1) H locs cells slots ls → W p l e room_1 s m #[.ref bS] below meth c H locs cells slots Q (F0 m 1356 ls [])) : W p l e room_1 s m #[.ref bS] below meth c H locs cells slots Q (F0 m 926 ls []) := by
  obtain ⟨x, ad, κ, es, G, σ, f, B, Ld, Ac, hG, hI, hR, hcl, hsl, hl⟩ := hS
  have hlen : es.length ≤ N := hR.2.2.1.2.2.2
  refine lv_aload_n hC.1 hC.2.1 dL_law_926 rfl (lv_at hl 2 rfl) ?_
  refine lv_aload_n hC.1 hC.2.1 dL_law_927 rfl (lv_at hl 1 rfl) ?_
  refine lv_iload hC.1 hC.2.1 dL_law_928 (lv_at hl 0 rfl) ?_
  refine lv_iconst (v := 1) hC.1 hC.2.1 dL_law_930 (by decide) ?_
  refine n_add (a := 4 * j) (b := 1) (d := 4 * j + 1) hC rfl dL_law_931 ?_
  refine g_scr hC hX hbl hbA hG.2.2.1 hL (k := 1) (by omega) dL_law_932 ?_
  refine lv_aload_n hC.1 hC.2.1 dL_law_933 rfl (lv_at hl 4 rfl) ?_
  refine g_cW (As := [.ref (b 11), .int (xs (4 * j + 1)), .ref (oa)]) (rest := []) hC hE hG (xw_isUndone l hst K A b x ad κ G es hI.1 oa f hI.2.2 hR (by omega) (xs (4 * j + 1)) ) (vx_cwSW 3 hC.2.2.2.2 (lw_SW q704 q705 q20 q706) rfl rfl rfl (by decide +kernel) ⟨Nat.le_of_ble_eq_true rfl, Nat.le_of_ble_eq_true rfl⟩) rfl hl.1 rfl (Nat.le_of_ble_eq_true rfl) dL_law_934 ⟨by show cells + 1 ≤ 603072; omega, by show slots + 6 ≤ 7161962; omega⟩ (fun r u H locs hu hG => ?_)
  have hG : gG K A s.heap (LW K.2.1 b u.1 u.2.1 u.2.2.1 (gup u.2.2.2.2.1 (0, 30, 0) (oC K oa u.2.2.2.2.2))) H locs := hG
  have hI1 := hI.w (f1 := u.2.2.2.2.2) hu.2.1 hu.2.2
  refine lv_istore (lv' := (5, .int r) :: lvL b h oa bS j) hC.1 hC.2.1 dL_law_937 hl (by decide) rfl (fun ls hl => ?_)
  refine lv_aload_n hC.1 hC.2.1 dL_law_939 rfl (lv_at hl 4 rfl) ?_
  refine lv_aload_n hC.1 hC.2.1 dL_law_940 rfl (lv_at hl 2 rfl) ?_
  refine lv_iload hC.1 hC.2.1 dL_law_941 (lv_at hl 1 rfl) ?_
  refine lv_iconst (v := 1) hC.1 hC.2.1 dL_law_943 (by decide) ?_
  refine n_add (a := 4 * j) (b := 1) (d := 4 * j + 1) hC rfl dL_law_944 ?_
  refine g_scr hC hX hbl hbA hG.2.2.1 hL (k := 1) (by omega) dL_law_945 ?_
  refine g_cVi (S := MS) (As := [.int (xs (4 * j + 1))]) (rest := []) hC hE (hG.eq hI1.eq) (mt_isUndone l K A _ h σ (xs (4 * j + 1)) B hR.2.1.2.1 hR.2.2.1.1) (cwV 1 hC.2.2.2.2 (lw_V q935 q936 q937 q26 q938) rfl rfl rfl (by decide +kernel) ⟨Nat.le_of_ble_eq_true rfl, Nat.le_of_ble_eq_true rfl⟩) (mput_o _ _ _ _) (ci := 2) rfl rfl hl.1 rfl (Nat.le_of_ble_eq_true rfl) dL_law_946 ⟨by show cells + 1 + 0 ≤ 603072; omega, by show slots + 6 + 0 ≤ 7161962; omega⟩ (fun r9 u9 H locs hm hG => ?_)
  have hG := hG.eq mput_LW
  exact tl_z (pc := 949) hC hE dL_law_949 dL_law_951 dL_law_952 dL_law_955 dL_law_957 dL_law_962 dL_law_964 dL_law_967 dL_law_968 dL_law_969 dL_law_970 dL_law_972 dL_law_975 dL_law_976 dL_law_979 dL_law_980 dL_law_981 dL_law_986 (by decide) hG hI1.m (L_isUndone hR hu.1 hm) hN (by omega) (by omega) hl kk
set_option maxHeartbeats 4000000 in
theorem law_16 (hst : l.stackTraces = false) (hC : CallFix p m c cL_law 7 s #[.ref bS] lw_all RX0) (hE : gE K A s s.heap) {L : Nat} {xs : Nat → Int32} (hX : va_X bS L xs s s.heap) (hbl : bS < s.heap.size) (hbA : ¬ A bS) (hL : L ≤ 256) (hj : 4 * j + 4 ≤ L) (hN : N ≤ 63) (hS : LSt K A s.heap b h oa bS j N H locs cells slots ls)
    (kk : ∀ (H : Heap) (locs : List Loc) (cells slots : Nat) (ls : Array Slot), LSt K A s.heap b h oa bS j (N + 1) H locs cells slots ls → W p l e room_1 s m #[.ref bS] below meth c H locs cells slots Q (F0 m 1356 ls [])) : W p l e room_1 s m #[.ref bS] below meth c H locs cells slots Q (F0 m 1014 ls []) := by
  obtain ⟨x, ad, κ, es, G, σ, f, B, Ld, Ac, hG, hI, hR, hcl, hsl, hl⟩ := hS
  have hlen : es.length ≤ N := hR.2.2.1.2.2.2
  refine lv_aload_n hC.1 hC.2.1 dL_law_1014 rfl (lv_at hl 2 rfl) ?_
  refine lv_aload_n hC.1 hC.2.1 dL_law_1015 rfl (lv_at hl 1 rfl) ?_
  refine lv_iload hC.1 hC.2.1 dL_law_1016 (lv_at hl 0 rfl) ?_
  refine lv_iconst (v := 1) hC.1 hC.2.1 dL_law_1018 (by decide) ?_
  refine n_add (a := 4 * j) (b := 1) (d := 4 * j + 1) hC rfl dL_law_1019 ?_
  refine g_scr hC hX hbl hbA hG.2.2.1 hL (k := 1) (by omega) dL_law_1020 ?_
  refine lv_aload_n hC.1 hC.2.1 dL_law_1021 rfl (lv_at hl 4 rfl) ?_
  refine g_cW (As := [.ref (b 11), .int (xs (4 * j + 1)), .ref (oa)]) (rest := []) hC hE hG (xw_hit l hst K A b x ad κ G es hI.1 oa f hI.2.2 hR (by omega) (xs (4 * j + 1)) ) (vx_cwSW 3 hC.2.2.2.2 (lw_SW q711 q712 q20 q713) rfl rfl rfl (by decide +kernel) ⟨Nat.le_of_ble_eq_true rfl, Nat.le_of_ble_eq_true rfl⟩) rfl hl.1 rfl (Nat.le_of_ble_eq_true rfl) dL_law_1022 ⟨by show cells + 1 ≤ 603072; omega, by show slots + 6 ≤ 7161962; omega⟩ (fun r u H locs hu hG => ?_)
  have hG : gG K A s.heap (LW K.2.1 b u.1 u.2.1 u.2.2.1 (gup u.2.2.2.2.1 (0, 30, 0) (oC K oa u.2.2.2.2.2))) H locs := hG
  have hI1 := hI.w (f1 := u.2.2.2.2.2) hu.2.1 hu.2.2
  refine lv_istore (lv' := (5, .int r) :: lvL b h oa bS j) hC.1 hC.2.1 dL_law_1025 hl (by decide) rfl (fun ls hl => ?_)
  refine lv_aload_n hC.1 hC.2.1 dL_law_1027 rfl (lv_at hl 4 rfl) ?_
  refine lv_aload_n hC.1 hC.2.1 dL_law_1028 rfl (lv_at hl 2 rfl) ?_
  refine lv_iload hC.1 hC.2.1 dL_law_1029 (lv_at hl 1 rfl) ?_
  refine lv_iconst (v := 1) hC.1 hC.2.1 dL_law_1031 (by decide) ?_
  refine n_add (a := 4 * j) (b := 1) (d := 4 * j + 1) hC rfl dL_law_1032 ?_
  refine g_scr hC hX hbl hbA hG.2.2.1 hL (k := 1) (by omega) dL_law_1033 ?_
  refine g_cVi (S := MS) (As := [.int (xs (4 * j + 1))]) (rest := []) hC hE (hG.eq hI1.eq) (mt_hit l K A _ h σ (xs (4 * j + 1)) Ld hR.2.1.2.2.1 (by have := hR.2.2.1.2.1; omega)) (cwV 1 hC.2.2.2.2 (lw_V q943 q944 q945 q26 q946) rfl rfl rfl (by decide +kernel) ⟨Nat.le_of_ble_eq_true rfl, Nat.le_of_ble_eq_true rfl⟩) (mput_o _ _ _ _) (ci := 2) rfl rfl hl.1 rfl (Nat.le_of_ble_eq_true rfl) dL_law_1034 ⟨by show cells + 1 + 0 ≤ 603072; omega, by show slots + 6 + 0 ≤ 7161962; omega⟩ (fun r9 u9 H locs hm hG => ?_)
  have hG := hG.eq mput_LW
  exact tl_i (pc := 1037) hC hE dL_law_1037 dL_law_1039 dL_law_1040 dL_law_1043 dL_law_1045 dL_law_1050 dL_law_1052 dL_law_1055 dL_law_1056 dL_law_1057 dL_law_1058 dL_law_1060 dL_law_1061 dL_law_1062 dL_law_1067 (by decide) hG hI1.m (L_hit hR (by omega) hu.1 hm) hN (by omega) (by omega) hl kk
set_option maxHeartbeats 4000000 in
theorem law_17 (hst : l.stackTraces = false) (hC : CallFix p m c cL_law 7 s #[.ref bS] lw_all RX0) (hE : gE K A s s.heap) {L : Nat} {xs : Nat → Int32} (hX : va_X bS L xs s s.heap) (hbl : bS < s.heap.size) (hbA : ¬ A bS) (hL : L ≤ 256) (hj : 4 * j + 4 ≤ L) (hN : N ≤ 63) (hS : LSt K A s.heap b h oa bS j N H locs cells slots ls)
    (kk : ∀ (H : Heap) (locs : List Loc) (cells slots : Nat) (ls : Array Slot), LSt K A s.heap b h oa bS j (N + 1) H locs cells slots ls → W p l e room_1 s m #[.ref bS] below meth c H locs cells slots Q (F0 m 1356 ls [])) : W p l e room_1 s m #[.ref bS] below meth c H locs cells slots Q (F0 m 1070 ls []) := by
  obtain ⟨x, ad, κ, es, G, σ, f, B, Ld, Ac, hG, hI, hR, hcl, hsl, hl⟩ := hS
  have hlen : es.length ≤ N := hR.2.2.1.2.2.2
  refine lv_aload_n hC.1 hC.2.1 dL_law_1070 rfl (lv_at hl 2 rfl) ?_
  refine lv_aload_n hC.1 hC.2.1 dL_law_1071 rfl (lv_at hl 1 rfl) ?_
  refine lv_iload hC.1 hC.2.1 dL_law_1072 (lv_at hl 0 rfl) ?_
  refine lv_iconst (v := 1) hC.1 hC.2.1 dL_law_1074 (by decide) ?_
  refine n_add (a := 4 * j) (b := 1) (d := 4 * j + 1) hC rfl dL_law_1075 ?_
  refine g_scr hC hX hbl hbA hG.2.2.1 hL (k := 1) (by omega) dL_law_1076 ?_
  refine lv_aload_n hC.1 hC.2.1 dL_law_1077 rfl (lv_at hl 1 rfl) ?_
  refine lv_iload hC.1 hC.2.1 dL_law_1078 (lv_at hl 0 rfl) ?_
  refine lv_iconst (v := 2) hC.1 hC.2.1 dL_law_1080 (by decide) ?_
  refine n_add (a := 4 * j) (b := 2) (d := 4 * j + 2) hC rfl dL_law_1081 ?_
  refine g_scr hC hX hbl hbA hG.2.2.1 hL (k := 2) (by omega) dL_law_1082 ?_
  refine lv_aload_n hC.1 hC.2.1 dL_law_1083 rfl (lv_at hl 4 rfl) ?_
  refine g_cW (As := [.ref (b 11), .int (xs (4 * j + 1)), .int (xs (4 * j + 2)), .ref (oa)]) (rest := []) hC hE hG (xw_keyOf l hst K A b x ad κ G es hI.1 oa f hI.2.2 hR (by omega) (xs (4 * j + 1)) (xs (4 * j + 2)) ) (vx_cwSW 4 hC.2.2.2.2 (lw_SW q718 q719 q20 q720) rfl rfl rfl (by decide +kernel) ⟨Nat.le_of_ble_eq_true rfl, Nat.le_of_ble_eq_true rfl⟩) rfl hl.1 rfl (Nat.le_of_ble_eq_true rfl) dL_law_1084 ⟨by show cells + 2 ≤ 603072; omega, by show slots + 12 ≤ 7161962; omega⟩ (fun r u H locs hu hG => ?_)
  have hG : gG K A s.heap (LW K.2.1 b u.1 u.2.1 u.2.2.1 (gup u.2.2.2.2.1 (0, 30, 0) (oC K oa u.2.2.2.2.2))) H locs := hG
  have hI1 := hI.w (f1 := u.2.2.2.2.2) hu.2.1 hu.2.2
  refine lv_istore (lv' := (5, .int r) :: lvL b h oa bS j) hC.1 hC.2.1 dL_law_1087 hl (by decide) rfl (fun ls hl => ?_)
  refine lv_aload_n hC.1 hC.2.1 dL_law_1089 rfl (lv_at hl 4 rfl) ?_
  refine lv_aload_n hC.1 hC.2.1 dL_law_1090 rfl (lv_at hl 2 rfl) ?_
  refine lv_iload hC.1 hC.2.1 dL_law_1091 (lv_at hl 1 rfl) ?_
  refine lv_iconst (v := 1) hC.1 hC.2.1 dL_law_1093 (by decide) ?_
  refine n_add (a := 4 * j) (b := 1) (d := 4 * j + 1) hC rfl dL_law_1094 ?_
  refine g_scr hC hX hbl hbA hG.2.2.1 hL (k := 1) (by omega) dL_law_1095 ?_
  refine lv_aload_n hC.1 hC.2.1 dL_law_1096 rfl (lv_at hl 2 rfl) ?_
  refine lv_iload hC.1 hC.2.1 dL_law_1097 (lv_at hl 1 rfl) ?_
  refine lv_iconst (v := 2) hC.1 hC.2.1 dL_law_1099 (by decide) ?_
  refine n_add (a := 4 * j) (b := 2) (d := 4 * j + 2) hC rfl dL_law_1100 ?_
  refine g_scr hC hX hbl hbA hG.2.2.1 hL (k := 2) (by omega) dL_law_1101 ?_
  refine g_cVi (S := MS) (As := [.int (xs (4 * j + 1)), .int (xs (4 * j + 2))]) (rest := []) hC hE (hG.eq hI1.eq) (mt_keyOf l K A _ h σ (xs (4 * j + 1)) (xs (4 * j + 2))) (cwV 2 hC.2.2.2.2 (lw_V q947 q948 q949 q26 q950) rfl rfl rfl (by decide +kernel) ⟨Nat.le_of_ble_eq_true rfl, Nat.le_of_ble_eq_true rfl⟩) (mput_o _ _ _ _) (ci := 2) rfl rfl hl.1 rfl (Nat.le_of_ble_eq_true rfl) dL_law_1102 ⟨by show cells + 2 + 0 ≤ 603072; omega, by show slots + 12 + 0 ≤ 7161962; omega⟩ (fun r9 u9 H locs hm hG => ?_)
  have hG := hG.eq mput_LW
  exact tl_i (pc := 1105) hC hE dL_law_1105 dL_law_1107 dL_law_1108 dL_law_1111 dL_law_1113 dL_law_1118 dL_law_1120 dL_law_1123 dL_law_1124 dL_law_1125 dL_law_1126 dL_law_1128 dL_law_1129 dL_law_1130 dL_law_1135 (by decide) hG hI1.m (L_keyOf hR hu.1 hm) hN (by omega) (by omega) hl kk
set_option maxHeartbeats 4000000 in
theorem law_18 (hst : l.stackTraces = false) (hC : CallFix p m c cL_law 7 s #[.ref bS] lw_all RX0) (hE : gE K A s s.heap) {L : Nat} {xs : Nat → Int32} (hX : va_X bS L xs s s.heap) (hbl : bS < s.heap.size) (hbA : ¬ A bS) (hL : L ≤ 256) (hj : 4 * j + 4 ≤ L) (hN : N ≤ 63) (hS : LSt K A s.heap b h oa bS j N H locs cells slots ls)
    (kk : ∀ (H : Heap) (locs : List Loc) (cells slots : Nat) (ls : Array Slot), LSt K A s.heap b h oa bS j (N + 1) H locs cells slots ls → W p l e room_1 s m #[.ref bS] below meth c H locs cells slots Q (F0 m 1356 ls [])) : W p l e room_1 s m #[.ref bS] below meth c H locs cells slots Q (F0 m 1138 ls []) := by
  obtain ⟨x, ad, κ, es, G, σ, f, B, Ld, Ac, hG, hI, hR, hcl, hsl, hl⟩ := hS
  have hlen : es.length ≤ N := hR.2.2.1.2.2.2
  refine lv_aload_n hC.1 hC.2.1 dL_law_1138 rfl (lv_at hl 2 rfl) ?_
  refine lv_aload_n hC.1 hC.2.1 dL_law_1139 rfl (lv_at hl 1 rfl) ?_
  refine lv_iload hC.1 hC.2.1 dL_law_1140 (lv_at hl 0 rfl) ?_
  refine lv_iconst (v := 1) hC.1 hC.2.1 dL_law_1142 (by decide) ?_
  refine n_add (a := 4 * j) (b := 1) (d := 4 * j + 1) hC rfl dL_law_1143 ?_
  refine g_scr hC hX hbl hbA hG.2.2.1 hL (k := 1) (by omega) dL_law_1144 ?_
  refine lv_aload_n hC.1 hC.2.1 dL_law_1145 rfl (lv_at hl 1 rfl) ?_
  refine lv_iload hC.1 hC.2.1 dL_law_1146 (lv_at hl 0 rfl) ?_
  refine lv_iconst (v := 2) hC.1 hC.2.1 dL_law_1148 (by decide) ?_
  refine n_add (a := 4 * j) (b := 2) (d := 4 * j + 2) hC rfl dL_law_1149 ?_
  refine g_scr hC hX hbl hbA hG.2.2.1 hL (k := 2) (by omega) dL_law_1150 ?_
  refine lv_aload_n hC.1 hC.2.1 dL_law_1151 rfl (lv_at hl 4 rfl) ?_
  refine g_cW (As := [.ref (b 11), .int (xs (4 * j + 1)), .int (xs (4 * j + 2)), .ref (oa)]) (rest := []) hC hE hG (xw_fieldOf l hst K A b x ad κ G es hI.1 oa f hI.2.2 hR (by omega) (xs (4 * j + 1)) (xs (4 * j + 2)) ) (vx_cwSW 4 hC.2.2.2.2 (lw_SW q725 q726 q20 q727) rfl rfl rfl (by decide +kernel) ⟨Nat.le_of_ble_eq_true rfl, Nat.le_of_ble_eq_true rfl⟩) rfl hl.1 rfl (Nat.le_of_ble_eq_true rfl) dL_law_1152 ⟨by show cells + 2 ≤ 603072; omega, by show slots + 12 ≤ 7161962; omega⟩ (fun r u H locs hu hG => ?_)
  have hG : gG K A s.heap (LW K.2.1 b u.1 u.2.1 u.2.2.1 (gup u.2.2.2.2.1 (0, 30, 0) (oC K oa u.2.2.2.2.2))) H locs := hG
  have hI1 := hI.w (f1 := u.2.2.2.2.2) hu.2.1 hu.2.2
  refine lv_istore (lv' := (5, .int r) :: lvL b h oa bS j) hC.1 hC.2.1 dL_law_1155 hl (by decide) rfl (fun ls hl => ?_)
  refine lv_aload_n hC.1 hC.2.1 dL_law_1157 rfl (lv_at hl 4 rfl) ?_
  refine lv_aload_n hC.1 hC.2.1 dL_law_1158 rfl (lv_at hl 2 rfl) ?_
  refine lv_iload hC.1 hC.2.1 dL_law_1159 (lv_at hl 1 rfl) ?_
  refine lv_iconst (v := 1) hC.1 hC.2.1 dL_law_1161 (by decide) ?_
  refine n_add (a := 4 * j) (b := 1) (d := 4 * j + 1) hC rfl dL_law_1162 ?_
  refine g_scr hC hX hbl hbA hG.2.2.1 hL (k := 1) (by omega) dL_law_1163 ?_
  refine lv_aload_n hC.1 hC.2.1 dL_law_1164 rfl (lv_at hl 2 rfl) ?_
  refine lv_iload hC.1 hC.2.1 dL_law_1165 (lv_at hl 1 rfl) ?_
  refine lv_iconst (v := 2) hC.1 hC.2.1 dL_law_1167 (by decide) ?_
  refine n_add (a := 4 * j) (b := 2) (d := 4 * j + 2) hC rfl dL_law_1168 ?_
  refine g_scr hC hX hbl hbA hG.2.2.1 hL (k := 2) (by omega) dL_law_1169 ?_
  refine g_cVi (S := MS) (As := [.int (xs (4 * j + 1)), .int (xs (4 * j + 2))]) (rest := []) hC hE (hG.eq hI1.eq) (mt_fieldOf l K A _ h σ (xs (4 * j + 1)) (xs (4 * j + 2))) (cwV 2 hC.2.2.2.2 (lw_V q951 q952 q953 q26 q954) rfl rfl rfl (by decide +kernel) ⟨Nat.le_of_ble_eq_true rfl, Nat.le_of_ble_eq_true rfl⟩) (mput_o _ _ _ _) (ci := 2) rfl rfl hl.1 rfl (Nat.le_of_ble_eq_true rfl) dL_law_1170 ⟨by show cells + 2 + 0 ≤ 603072; omega, by show slots + 12 + 0 ≤ 7161962; omega⟩ (fun r9 u9 H locs hm hG => ?_)
  have hG := hG.eq mput_LW
  exact tl_i (pc := 1173) hC hE dL_law_1173 dL_law_1175 dL_law_1176 dL_law_1179 dL_law_1181 dL_law_1186 dL_law_1188 dL_law_1191 dL_law_1192 dL_law_1193 dL_law_1194 dL_law_1196 dL_law_1197 dL_law_1198 dL_law_1203 (by decide) hG hI1.m (L_fieldOf hR hu.1 hm) hN (by omega) (by omega) hl kk
set_option maxHeartbeats 4000000 in
theorem law_19 (hst : l.stackTraces = false) (hC : CallFix p m c cL_law 7 s #[.ref bS] lw_all RX0) (hE : gE K A s s.heap) {L : Nat} {xs : Nat → Int32} (hX : va_X bS L xs s s.heap) (hbl : bS < s.heap.size) (hbA : ¬ A bS) (hL : L ≤ 256) (hj : 4 * j + 4 ≤ L) (hN : N ≤ 63) (hS : LSt K A s.heap b h oa bS j N H locs cells slots ls)
    (kk : ∀ (H : Heap) (locs : List Loc) (cells slots : Nat) (ls : Array Slot), LSt K A s.heap b h oa bS j (N + 1) H locs cells slots ls → W p l e room_1 s m #[.ref bS] below meth c H locs cells slots Q (F0 m 1356 ls [])) : W p l e room_1 s m #[.ref bS] below meth c H locs cells slots Q (F0 m 1206 ls []) := by
  obtain ⟨x, ad, κ, es, G, σ, f, B, Ld, Ac, hG, hI, hR, hcl, hsl, hl⟩ := hS
  have hlen : es.length ≤ N := hR.2.2.1.2.2.2
  refine lv_aload_n hC.1 hC.2.1 dL_law_1206 rfl (lv_at hl 2 rfl) ?_
  refine lv_aload_n hC.1 hC.2.1 dL_law_1207 rfl (lv_at hl 1 rfl) ?_
  refine lv_iload hC.1 hC.2.1 dL_law_1208 (lv_at hl 0 rfl) ?_
  refine lv_iconst (v := 1) hC.1 hC.2.1 dL_law_1210 (by decide) ?_
  refine n_add (a := 4 * j) (b := 1) (d := 4 * j + 1) hC rfl dL_law_1211 ?_
  refine g_scr hC hX hbl hbA hG.2.2.1 hL (k := 1) (by omega) dL_law_1212 ?_
  refine lv_aload_n hC.1 hC.2.1 dL_law_1213 rfl (lv_at hl 1 rfl) ?_
  refine lv_iload hC.1 hC.2.1 dL_law_1214 (lv_at hl 0 rfl) ?_
  refine lv_iconst (v := 2) hC.1 hC.2.1 dL_law_1216 (by decide) ?_
  refine n_add (a := 4 * j) (b := 2) (d := 4 * j + 2) hC rfl dL_law_1217 ?_
  refine g_scr hC hX hbl hbA hG.2.2.1 hL (k := 2) (by omega) dL_law_1218 ?_
  refine lv_aload_n hC.1 hC.2.1 dL_law_1219 rfl (lv_at hl 4 rfl) ?_
  refine g_cW (As := [.ref (b 11), .int (xs (4 * j + 1)), .int (xs (4 * j + 2)), .ref (oa)]) (rest := []) hC hE hG (xw_sourceOf l hst K A b x ad κ G es hI.1 oa f hI.2.2 hR (by omega) (xs (4 * j + 1)) (xs (4 * j + 2)) ) (vx_cwSW 4 hC.2.2.2.2 (lw_SW q732 q733 q20 q734) rfl rfl rfl (by decide +kernel) ⟨Nat.le_of_ble_eq_true rfl, Nat.le_of_ble_eq_true rfl⟩) rfl hl.1 rfl (Nat.le_of_ble_eq_true rfl) dL_law_1220 ⟨by show cells + 2 ≤ 603072; omega, by show slots + 12 ≤ 7161962; omega⟩ (fun r u H locs hu hG => ?_)
  have hG : gG K A s.heap (LW K.2.1 b u.1 u.2.1 u.2.2.1 (gup u.2.2.2.2.1 (0, 30, 0) (oC K oa u.2.2.2.2.2))) H locs := hG
  have hI1 := hI.w (f1 := u.2.2.2.2.2) hu.2.1 hu.2.2
  refine lv_istore (lv' := (5, .int r) :: lvL b h oa bS j) hC.1 hC.2.1 dL_law_1223 hl (by decide) rfl (fun ls hl => ?_)
  refine lv_aload_n hC.1 hC.2.1 dL_law_1225 rfl (lv_at hl 4 rfl) ?_
  refine lv_aload_n hC.1 hC.2.1 dL_law_1226 rfl (lv_at hl 2 rfl) ?_
  refine lv_iload hC.1 hC.2.1 dL_law_1227 (lv_at hl 1 rfl) ?_
  refine lv_iconst (v := 1) hC.1 hC.2.1 dL_law_1229 (by decide) ?_
  refine n_add (a := 4 * j) (b := 1) (d := 4 * j + 1) hC rfl dL_law_1230 ?_
  refine g_scr hC hX hbl hbA hG.2.2.1 hL (k := 1) (by omega) dL_law_1231 ?_
  refine lv_aload_n hC.1 hC.2.1 dL_law_1232 rfl (lv_at hl 2 rfl) ?_
  refine lv_iload hC.1 hC.2.1 dL_law_1233 (lv_at hl 1 rfl) ?_
  refine lv_iconst (v := 2) hC.1 hC.2.1 dL_law_1235 (by decide) ?_
  refine n_add (a := 4 * j) (b := 2) (d := 4 * j + 2) hC rfl dL_law_1236 ?_
  refine g_scr hC hX hbl hbA hG.2.2.1 hL (k := 2) (by omega) dL_law_1237 ?_
  refine g_cVi (S := MS) (As := [.int (xs (4 * j + 1)), .int (xs (4 * j + 2))]) (rest := []) hC hE (hG.eq hI1.eq) (mt_sourceOf l K A _ h σ (xs (4 * j + 1)) (xs (4 * j + 2))) (cwV 2 hC.2.2.2.2 (lw_V q955 q956 q957 q26 q958) rfl rfl rfl (by decide +kernel) ⟨Nat.le_of_ble_eq_true rfl, Nat.le_of_ble_eq_true rfl⟩) (mput_o _ _ _ _) (ci := 2) rfl rfl hl.1 rfl (Nat.le_of_ble_eq_true rfl) dL_law_1238 ⟨by show cells + 2 + 0 ≤ 603072; omega, by show slots + 12 + 0 ≤ 7161962; omega⟩ (fun r9 u9 H locs hm hG => ?_)
  have hG := hG.eq mput_LW
  exact tl_i (pc := 1241) hC hE dL_law_1241 dL_law_1243 dL_law_1244 dL_law_1247 dL_law_1249 dL_law_1254 dL_law_1256 dL_law_1259 dL_law_1260 dL_law_1261 dL_law_1262 dL_law_1264 dL_law_1265 dL_law_1266 dL_law_1271 (by decide) hG hI1.m (L_sourceOf hR hu.1 hm) hN (by omega) (by omega) hl kk
set_option maxHeartbeats 4000000 in
theorem law_20 (hst : l.stackTraces = false) (hC : CallFix p m c cL_law 7 s #[.ref bS] lw_all RX0) (hE : gE K A s s.heap) {L : Nat} {xs : Nat → Int32} (hX : va_X bS L xs s s.heap) (hbl : bS < s.heap.size) (hbA : ¬ A bS) (hL : L ≤ 256) (hj : 4 * j + 4 ≤ L) (hN : N ≤ 63) (hS : LSt K A s.heap b h oa bS j N H locs cells slots ls)
    (kk : ∀ (H : Heap) (locs : List Loc) (cells slots : Nat) (ls : Array Slot), LSt K A s.heap b h oa bS j (N + 1) H locs cells slots ls → W p l e room_1 s m #[.ref bS] below meth c H locs cells slots Q (F0 m 1356 ls [])) : W p l e room_1 s m #[.ref bS] below meth c H locs cells slots Q (F0 m 1274 ls []) := by
  obtain ⟨x, ad, κ, es, G, σ, f, B, Ld, Ac, hG, hI, hR, hcl, hsl, hl⟩ := hS
  have hlen : es.length ≤ N := hR.2.2.1.2.2.2
  refine lv_aload_n hC.1 hC.2.1 dL_law_1274 rfl (lv_at hl 2 rfl) ?_
  refine lv_aload_n hC.1 hC.2.1 dL_law_1275 rfl (lv_at hl 1 rfl) ?_
  refine lv_iload hC.1 hC.2.1 dL_law_1276 (lv_at hl 0 rfl) ?_
  refine lv_iconst (v := 1) hC.1 hC.2.1 dL_law_1278 (by decide) ?_
  refine n_add (a := 4 * j) (b := 1) (d := 4 * j + 1) hC rfl dL_law_1279 ?_
  refine g_scr hC hX hbl hbA hG.2.2.1 hL (k := 1) (by omega) dL_law_1280 ?_
  refine lv_aload_n hC.1 hC.2.1 dL_law_1281 rfl (lv_at hl 4 rfl) ?_
  refine g_cW (As := [.ref (b 11), .int (xs (4 * j + 1)), .ref (oa)]) (rest := []) hC hE hG (xw_holdings l hst K A b x ad κ G es hI.1 oa f hI.2.2 hR (by omega) (xs (4 * j + 1)) ) (vx_cwSW 3 hC.2.2.2.2 (lw_SW q739 q740 q20 q741) rfl rfl rfl (by decide +kernel) ⟨Nat.le_of_ble_eq_true rfl, Nat.le_of_ble_eq_true rfl⟩) rfl hl.1 rfl (Nat.le_of_ble_eq_true rfl) dL_law_1282 ⟨by show cells + 1 ≤ 603072; omega, by show slots + 6 ≤ 7161962; omega⟩ (fun r u H locs hu hG => ?_)
  have hG : gG K A s.heap (LW K.2.1 b u.1 u.2.1 u.2.2.1 (gup u.2.2.2.2.1 (0, 30, 0) (oC K oa u.2.2.2.2.2))) H locs := hG
  have hI1 := hI.w (f1 := u.2.2.2.2.2) hu.2.1 hu.2.2
  refine lv_istore (lv' := (5, .int r) :: lvL b h oa bS j) hC.1 hC.2.1 dL_law_1285 hl (by decide) rfl (fun ls hl => ?_)
  refine lv_aload_n hC.1 hC.2.1 dL_law_1287 rfl (lv_at hl 4 rfl) ?_
  refine lv_aload_n hC.1 hC.2.1 dL_law_1288 rfl (lv_at hl 2 rfl) ?_
  refine lv_iload hC.1 hC.2.1 dL_law_1289 (lv_at hl 1 rfl) ?_
  refine lv_iconst (v := 1) hC.1 hC.2.1 dL_law_1291 (by decide) ?_
  refine n_add (a := 4 * j) (b := 1) (d := 4 * j + 1) hC rfl dL_law_1292 ?_
  refine g_scr hC hX hbl hbA hG.2.2.1 hL (k := 1) (by omega) dL_law_1293 ?_
  refine g_cVi (S := MS) (As := [.int (xs (4 * j + 1))]) (rest := []) hC hE (hG.eq hI1.eq) (mt_holdings l K A _ h σ (xs (4 * j + 1))) (cwV 1 hC.2.2.2.2 (lw_V q959 q960 q961 q26 q962) rfl rfl rfl (by decide +kernel) ⟨Nat.le_of_ble_eq_true rfl, Nat.le_of_ble_eq_true rfl⟩) (mput_o _ _ _ _) (ci := 2) rfl rfl hl.1 rfl (Nat.le_of_ble_eq_true rfl) dL_law_1294 ⟨by show cells + 1 + 0 ≤ 603072; omega, by show slots + 6 + 0 ≤ 7161962; omega⟩ (fun r9 u9 H locs hm hG => ?_)
  have hG := hG.eq mput_LW
  exact tl_i (pc := 1297) hC hE dL_law_1297 dL_law_1299 dL_law_1300 dL_law_1303 dL_law_1305 dL_law_1310 dL_law_1312 dL_law_1315 dL_law_1316 dL_law_1317 dL_law_1318 dL_law_1320 dL_law_1321 dL_law_1322 dL_law_1327 (by decide) hG hI1.m (L_holdings hR hu.1 hm) hN (by omega) (by omega) hl kk
set_option maxHeartbeats 4000000 in
theorem law_11 (hst : l.stackTraces = false) (hC : CallFix p m c cL_law 7 s #[.ref bS] lw_all RX0) (hE : gE K A s s.heap) {L : Nat} {xs : Nat → Int32} (hX : va_X bS L xs s s.heap) (hbl : bS < s.heap.size) (hbA : ¬ A bS) (hL : L ≤ 256) (hj : 4 * j + 4 ≤ L) (hN : N ≤ 63) (hS : LSt K A s.heap b h oa bS j N H locs cells slots ls)
    (kk : ∀ (H : Heap) (locs : List Loc) (cells slots : Nat) (ls : Array Slot), LSt K A s.heap b h oa bS j (N + 1) H locs cells slots ls → W p l e room_1 s m #[.ref bS] below meth c H locs cells slots Q (F0 m 1356 ls [])) : W p l e room_1 s m #[.ref bS] below meth c H locs cells slots Q (F0 m 887 ls []) := by
  obtain ⟨x, ad, κ, es, G, σ, f, B, Ld, Ac, hG, hI, hR, hcl, hsl, hl⟩ := hS
  have hlen : es.length ≤ N := hR.2.2.1.2.2.2
  refine lv_aload_n hC.1 hC.2.1 dL_law_887 rfl (lv_at hl 2 rfl) ?_
  refine g_roV (As := []) (rest := []) hC hE hG (xl_batches l K A b x ad κ G ) (cwV 0 hC.2.2.2.2 (lw_V q147 q148 q149 q21 q150) rfl rfl rfl (by decide +kernel) ⟨Nat.le_of_ble_eq_true rfl, Nat.le_of_ble_eq_true rfl⟩) LW_at.1 (ci := 0) rfl rfl hl.1 rfl (Nat.le_of_ble_eq_true rfl) dL_law_888 ⟨by show cells ≤ 603072; omega, by show slots ≤ 7161962; omega⟩ (fun r hr => ?_)
  subst hr
  refine lv_aload_n hC.1 hC.2.1 dL_law_891 rfl (lv_at hl 3 rfl) ?_
  refine g_cVi (S := MS) (As := []) (rest := [.int (x.1 6)]) hC hE (hG.eq hI.eq) (mt_batches l K A _ h σ ) (cwV 0 hC.2.2.2.2 (lw_V q923 q924 q925 q26 q926) rfl rfl rfl (by decide +kernel) ⟨Nat.le_of_ble_eq_true rfl, Nat.le_of_ble_eq_true rfl⟩) (mput_o _ _ _ _) (ci := 2) rfl rfl hl.1 rfl (Nat.le_of_ble_eq_true rfl) dL_law_892 ⟨by show cells + 0 ≤ 603072; omega, by show slots + 0 ≤ 7161962; omega⟩ (fun r9 u9 H locs hm hG => ?_)
  have hG := hG.eq mput_LW
  cases hm
  refine lv_icmp_eq (tgt := 1356) hC.1 hC.2.1 dL_law_895 (by decide) (fun _ => ?_) (fun c1 => absurd (hR.2.1.1.1.trans hR.2.1.2.1.symm) c1)
  obtain ⟨B1, Ld1, Ac1, hR1⟩ := hR.upE 0
  exact kk H locs _ _ ls ⟨x, ad, κ, es, _, _, f, B1, Ld1, Ac1, hG, hI.m, hR1, by omega, by omega, hl⟩
set_option maxHeartbeats 4000000 in
theorem law_12 (hst : l.stackTraces = false) (hC : CallFix p m c cL_law 7 s #[.ref bS] lw_all RX0) (hE : gE K A s s.heap) {L : Nat} {xs : Nat → Int32} (hX : va_X bS L xs s s.heap) (hbl : bS < s.heap.size) (hbA : ¬ A bS) (hL : L ≤ 256) (hj : 4 * j + 4 ≤ L) (hN : N ≤ 63) (hS : LSt K A s.heap b h oa bS j N H locs cells slots ls)
    (kk : ∀ (H : Heap) (locs : List Loc) (cells slots : Nat) (ls : Array Slot), LSt K A s.heap b h oa bS j (N + 1) H locs cells slots ls → W p l e room_1 s m #[.ref bS] below meth c H locs cells slots Q (F0 m 1356 ls [])) : W p l e room_1 s m #[.ref bS] below meth c H locs cells slots Q (F0 m 900 ls []) := by
  obtain ⟨x, ad, κ, es, G, σ, f, B, Ld, Ac, hG, hI, hR, hcl, hsl, hl⟩ := hS
  have hlen : es.length ≤ N := hR.2.2.1.2.2.2
  refine lv_aload_n hC.1 hC.2.1 dL_law_900 rfl (lv_at hl 2 rfl) ?_
  refine g_roV (As := []) (rest := []) hC hE hG (xl_loads l K A b x ad κ G ) (cwV 0 hC.2.2.2.2 (lw_V q151 q152 q153 q21 q154) rfl rfl rfl (by decide +kernel) ⟨Nat.le_of_ble_eq_true rfl, Nat.le_of_ble_eq_true rfl⟩) LW_at.1 (ci := 0) rfl rfl hl.1 rfl (Nat.le_of_ble_eq_true rfl) dL_law_901 ⟨by show cells ≤ 603072; omega, by show slots ≤ 7161962; omega⟩ (fun r hr => ?_)
  subst hr
  refine lv_aload_n hC.1 hC.2.1 dL_law_904 rfl (lv_at hl 3 rfl) ?_
  refine g_cVi (S := MS) (As := []) (rest := [.int (x.1 7)]) hC hE (hG.eq hI.eq) (mt_loads l K A _ h σ ) (cwV 0 hC.2.2.2.2 (lw_V q927 q928 q929 q26 q930) rfl rfl rfl (by decide +kernel) ⟨Nat.le_of_ble_eq_true rfl, Nat.le_of_ble_eq_true rfl⟩) (mput_o _ _ _ _) (ci := 2) rfl rfl hl.1 rfl (Nat.le_of_ble_eq_true rfl) dL_law_905 ⟨by show cells + 0 ≤ 603072; omega, by show slots + 0 ≤ 7161962; omega⟩ (fun r9 u9 H locs hm hG => ?_)
  have hG := hG.eq mput_LW
  cases hm
  refine lv_icmp_eq (tgt := 1356) hC.1 hC.2.1 dL_law_908 (by decide) (fun _ => ?_) (fun c1 => absurd (hR.2.1.1.2.1.trans hR.2.1.2.2.1.symm) c1)
  obtain ⟨B1, Ld1, Ac1, hR1⟩ := hR.upE 0
  exact kk H locs _ _ ls ⟨x, ad, κ, es, _, _, f, B1, Ld1, Ac1, hG, hI.m, hR1, by omega, by omega, hl⟩
set_option maxHeartbeats 4000000 in
theorem law_13 (hst : l.stackTraces = false) (hC : CallFix p m c cL_law 7 s #[.ref bS] lw_all RX0) (hE : gE K A s s.heap) {L : Nat} {xs : Nat → Int32} (hX : va_X bS L xs s s.heap) (hbl : bS < s.heap.size) (hbA : ¬ A bS) (hL : L ≤ 256) (hj : 4 * j + 4 ≤ L) (hN : N ≤ 63) (hS : LSt K A s.heap b h oa bS j N H locs cells slots ls)
    (kk : ∀ (H : Heap) (locs : List Loc) (cells slots : Nat) (ls : Array Slot), LSt K A s.heap b h oa bS j (N + 1) H locs cells slots ls → W p l e room_1 s m #[.ref bS] below meth c H locs cells slots Q (F0 m 1356 ls [])) : W p l e room_1 s m #[.ref bS] below meth c H locs cells slots Q (F0 m 913 ls []) := by
  obtain ⟨x, ad, κ, es, G, σ, f, B, Ld, Ac, hG, hI, hR, hcl, hsl, hl⟩ := hS
  have hlen : es.length ≤ N := hR.2.2.1.2.2.2
  refine lv_aload_n hC.1 hC.2.1 dL_law_913 rfl (lv_at hl 2 rfl) ?_
  refine g_roV (As := []) (rest := []) hC hE hG (xl_records l K A b x ad κ G ) (cwV 0 hC.2.2.2.2 (lw_V q155 q156 q157 q21 q158) rfl rfl rfl (by decide +kernel) ⟨Nat.le_of_ble_eq_true rfl, Nat.le_of_ble_eq_true rfl⟩) LW_at.1 (ci := 0) rfl rfl hl.1 rfl (Nat.le_of_ble_eq_true rfl) dL_law_914 ⟨by show cells ≤ 603072; omega, by show slots ≤ 7161962; omega⟩ (fun r hr => ?_)
  subst hr
  refine lv_aload_n hC.1 hC.2.1 dL_law_917 rfl (lv_at hl 3 rfl) ?_
  refine g_cVi (S := MS) (As := []) (rest := [.int (kCnt κ 80)]) hC hE (hG.eq hI.eq) (mt_records l K A _ h σ ) (cwV 0 hC.2.2.2.2 (lw_V q931 q932 q933 q26 q934) rfl rfl rfl (by decide +kernel) ⟨Nat.le_of_ble_eq_true rfl, Nat.le_of_ble_eq_true rfl⟩) (mput_o _ _ _ _) (ci := 2) rfl rfl hl.1 rfl (Nat.le_of_ble_eq_true rfl) dL_law_918 ⟨by show cells + 0 ≤ 603072; omega, by show slots + 0 ≤ 7161962; omega⟩ (fun r9 u9 H locs hm hG => ?_)
  have hG := hG.eq mput_LW
  cases hm
  refine lv_icmp_eq (tgt := 1356) hC.1 hC.2.1 dL_law_921 (by decide) (fun _ => ?_) (fun c1 => absurd ((cnt_R (hR.t 0).2.2.2.2.1.2.1 80 (Nat.le_refl _)).symm) c1)
  obtain ⟨B1, Ld1, Ac1, hR1⟩ := hR.upE 0
  exact kk H locs _ _ ls ⟨x, ad, κ, es, _, _, f, B1, Ld1, Ac1, hG, hI.m, hR1, by omega, by omega, hl⟩
set_option maxHeartbeats 4000000 in
theorem law_15 (hst : l.stackTraces = false) (hC : CallFix p m c cL_law 7 s #[.ref bS] lw_all RX0) (hE : gE K A s s.heap) {L : Nat} {xs : Nat → Int32} (hX : va_X bS L xs s s.heap) (hbl : bS < s.heap.size) (hbA : ¬ A bS) (hL : L ≤ 256) (hj : 4 * j + 4 ≤ L) (hN : N ≤ 63) (hS : LSt K A s.heap b h oa bS j N H locs cells slots ls)
    (kk : ∀ (H : Heap) (locs : List Loc) (cells slots : Nat) (ls : Array Slot), LSt K A s.heap b h oa bS j (N + 1) H locs cells slots ls → W p l e room_1 s m #[.ref bS] below meth c H locs cells slots Q (F0 m 1356 ls [])) : W p l e room_1 s m #[.ref bS] below meth c H locs cells slots Q (F0 m 989 ls []) := by
  obtain ⟨x, ad, κ, es, G, σ, f, B, Ld, Ac, hG, hI, hR, hcl, hsl, hl⟩ := hS
  have hlen : es.length ≤ N := hR.2.2.1.2.2.2
  refine lv_aload_n hC.1 hC.2.1 dL_law_989 rfl (lv_at hl 2 rfl) ?_
  refine lv_aload_n hC.1 hC.2.1 dL_law_990 rfl (lv_at hl 1 rfl) ?_
  refine lv_iload hC.1 hC.2.1 dL_law_991 (lv_at hl 0 rfl) ?_
  refine lv_iconst (v := 1) hC.1 hC.2.1 dL_law_993 (by decide) ?_
  refine n_add (a := 4 * j) (b := 1) (d := 4 * j + 1) hC rfl dL_law_994 ?_
  refine g_scr hC hX hbl hbA hG.2.2.1 hL (k := 1) (by omega) dL_law_995 ?_
  refine g_roV (As := [.int (xs (4 * j + 1))]) (rest := []) hC hE hG (xl_isThere l K A b x ad κ G (xs (4 * j + 1))) (cwV 1 hC.2.2.2.2 (lw_V q163 q164 q165 q21 q166) rfl rfl rfl (by decide +kernel) ⟨Nat.le_of_ble_eq_true rfl, Nat.le_of_ble_eq_true rfl⟩) LW_at.1 (ci := 0) rfl rfl hl.1 rfl (Nat.le_of_ble_eq_true rfl) dL_law_996 ⟨by show cells ≤ 603072; omega, by show slots ≤ 7161962; omega⟩ (fun r hr => ?_)
  subst hr
  refine lv_aload_n hC.1 hC.2.1 dL_law_999 rfl (lv_at hl 3 rfl) ?_
  refine lv_aload_n hC.1 hC.2.1 dL_law_1000 rfl (lv_at hl 1 rfl) ?_
  refine lv_iload hC.1 hC.2.1 dL_law_1001 (lv_at hl 0 rfl) ?_
  refine lv_iconst (v := 1) hC.1 hC.2.1 dL_law_1003 (by decide) ?_
  refine n_add (a := 4 * j) (b := 1) (d := 4 * j + 1) hC rfl dL_law_1004 ?_
  refine g_scr hC hX hbl hbA hG.2.2.1 hL (k := 1) (by omega) dL_law_1005 ?_
  refine g_cVi (S := MS) (As := [.int (xs (4 * j + 1))]) (rest := [.int (bI (kHas κ (xs (4 * j + 1))))]) hC hE (hG.eq hI.eq) (mt_isThere l K A _ h σ (xs (4 * j + 1))) (cwV 1 hC.2.2.2.2 (lw_V q939 q940 q941 q26 q942) rfl rfl rfl (by decide +kernel) ⟨Nat.le_of_ble_eq_true rfl, Nat.le_of_ble_eq_true rfl⟩) (mput_o _ _ _ _) (ci := 2) rfl rfl hl.1 rfl (Nat.le_of_ble_eq_true rfl) dL_law_1006 ⟨by show cells + 0 ≤ 603072; omega, by show slots + 0 ≤ 7161962; omega⟩ (fun r9 u9 H locs hm hG => ?_)
  have hG := hG.eq mput_LW
  cases hm
  refine lv_icmp_eq (tgt := 1356) hC.1 hC.2.1 dL_law_1009 (by decide) (fun _ => ?_) (fun c1 => absurd (bI_c (has_R (hR.t 0).2.2.2.2.1.2.1 _).symm) c1)
  obtain ⟨B1, Ld1, Ac1, hR1⟩ := hR.upE 0
  exact kk H locs _ _ ls ⟨x, ad, κ, es, _, _, f, B1, Ld1, Ac1, hG, hI.m, hR1, by omega, by omega, hl⟩
set_option maxHeartbeats 4000000 in
theorem law_21 (hst : l.stackTraces = false) (hC : CallFix p m c cL_law 7 s #[.ref bS] lw_all RX0) (hE : gE K A s s.heap) {L : Nat} {xs : Nat → Int32} (hX : va_X bS L xs s s.heap) (hbl : bS < s.heap.size) (hbA : ¬ A bS) (hL : L ≤ 256) (hj : 4 * j + 4 ≤ L) (hN : N ≤ 63) (hS : LSt K A s.heap b h oa bS j N H locs cells slots ls)
    (kk : ∀ (H : Heap) (locs : List Loc) (cells slots : Nat) (ls : Array Slot), LSt K A s.heap b h oa bS j (N + 1) H locs cells slots ls → W p l e room_1 s m #[.ref bS] below meth c H locs cells slots Q (F0 m 1356 ls [])) : W p l e room_1 s m #[.ref bS] below meth c H locs cells slots Q (F0 m 1330 ls []) := by
  obtain ⟨x, ad, κ, es, G, σ, f, B, Ld, Ac, hG, hI, hR, hcl, hsl, hl⟩ := hS
  have hlen : es.length ≤ N := hR.2.2.1.2.2.2
  refine lv_aload_n hC.1 hC.2.1 dL_law_1330 rfl (lv_at hl 2 rfl) ?_
  refine g_roV (As := []) (rest := []) hC hE hG (xl_digest l K A b x ad κ G ) (cwV 0 hC.2.2.2.2 (lw_V q171 q172 q173 q21 q174) rfl rfl rfl (by decide +kernel) ⟨Nat.le_of_ble_eq_true rfl, Nat.le_of_ble_eq_true rfl⟩) LW_at.1 (ci := 0) rfl rfl hl.1 rfl (Nat.le_of_ble_eq_true rfl) dL_law_1331 ⟨by show cells ≤ 603072; omega, by show slots ≤ 7161962; omega⟩ (fun r hr => ?_)
  subst hr
  refine lv_aload_n hC.1 hC.2.1 dL_law_1334 rfl (lv_at hl 3 rfl) ?_
  refine g_cVi (S := MS) (As := []) (rest := [.int (kSum κ 80)]) hC hE (hG.eq hI.eq) (mt_digest l K A _ h σ ) (cwV 0 hC.2.2.2.2 (lw_V q963 q964 q965 q26 q966) rfl rfl rfl (by decide +kernel) ⟨Nat.le_of_ble_eq_true rfl, Nat.le_of_ble_eq_true rfl⟩) (mput_o _ _ _ _) (ci := 2) rfl rfl hl.1 rfl (Nat.le_of_ble_eq_true rfl) dL_law_1335 ⟨by show cells + 0 ≤ 603072; omega, by show slots + 0 ≤ 7161962; omega⟩ (fun r9 u9 H locs hm hG => ?_)
  have hG := hG.eq mput_LW
  cases hm
  refine lv_icmp_eq (tgt := 1356) hC.1 hC.2.1 dL_law_1338 (by decide) (fun _ => ?_) (fun c1 => absurd ((sum_R (hR.t 0).2.2.2.2.1.2.1 80 (Nat.le_refl _)).symm) c1)
  obtain ⟨B1, Ld1, Ac1, hR1⟩ := hR.upE 0
  exact kk H locs _ _ ls ⟨x, ad, κ, es, _, _, f, B1, Ld1, Ac1, hG, hI.m, hR1, by omega, by omega, hl⟩
set_option maxHeartbeats 4000000 in
theorem law_22 (hst : l.stackTraces = false) (hC : CallFix p m c cL_law 7 s #[.ref bS] lw_all RX0) (hE : gE K A s s.heap) {L : Nat} {xs : Nat → Int32} (hX : va_X bS L xs s s.heap) (hbl : bS < s.heap.size) (hbA : ¬ A bS) (hL : L ≤ 256) (hj : 4 * j + 4 ≤ L) (hN : N ≤ 63) (hS : LSt K A s.heap b h oa bS j N H locs cells slots ls)
    (kk : ∀ (H : Heap) (locs : List Loc) (cells slots : Nat) (ls : Array Slot), LSt K A s.heap b h oa bS j (N + 1) H locs cells slots ls → W p l e room_1 s m #[.ref bS] below meth c H locs cells slots Q (F0 m 1356 ls [])) : W p l e room_1 s m #[.ref bS] below meth c H locs cells slots Q (F0 m 1343 ls []) := by
  obtain ⟨x, ad, κ, es, G, σ, f, B, Ld, Ac, hG, hI, hR, hcl, hsl, hl⟩ := hS
  have hlen : es.length ≤ N := hR.2.2.1.2.2.2
  refine lv_aload_n hC.1 hC.2.1 dL_law_1343 rfl (lv_at hl 2 rfl) ?_
  refine g_cVi (S := Unit) (As := []) (rest := []) hC hE hG (xl_digestAnew l K A b x ad κ G es hI.1 (by omega) hR.2.2.2.2.2.1.1 hR.2.2.2.1.2.2.1) (cwV 0 hC.2.2.2.2 (lw_V q182 q183 q184 q21 q185) rfl rfl rfl (by decide +kernel) ⟨Nat.le_of_ble_eq_true rfl, Nat.le_of_ble_eq_true rfl⟩) LW_at.1 (ci := 0) rfl rfl hl.1 rfl (Nat.le_of_ble_eq_true rfl) dL_law_1344 ⟨by show cells + 324 ≤ 603072; omega, by show slots + 1447 ≤ 7161962; omega⟩ (fun r _ H locs hr hG => ?_)
  subst hr
  refine lv_aload_n hC.1 hC.2.1 dL_law_1347 rfl (lv_at hl 3 rfl) ?_
  refine g_cVi (S := MS) (As := []) (rest := [.int (kSum (kAll x es kZero) 80)]) hC hE (hG.eq hI.eq) (mt_digestAnew l K A _ h σ es.length (by omega) hR.2.1.2.2.2.2 hR.2.2.2.2.2.2) (cwV 0 hC.2.2.2.2 (lw_V q971 q972 q973 q26 q974) rfl rfl rfl (by decide +kernel) ⟨Nat.le_of_ble_eq_true rfl, Nat.le_of_ble_eq_true rfl⟩) (mput_o _ _ _ _) (ci := 2) rfl rfl hl.1 rfl (Nat.le_of_ble_eq_true rfl) dL_law_1348 ⟨by show cells + 324 + 0 ≤ 603072; omega, by show slots + 1447 + 0 ≤ 7161962; omega⟩ (fun r9 u9 H locs hm hG => ?_)
  have hG := hG.eq mput_LW
  cases hm
  refine lv_icmp_eq (tgt := 1356) hC.1 hC.2.1 dL_law_1351 (by decide) (fun _ => ?_) (fun c1 => absurd ((L_digestAnew hR).1.symm) c1)
  obtain ⟨B1, Ld1, Ac1, hR1⟩ := (L_digestAnew hR).2
  exact kk H locs _ _ ls ⟨x, ad, κ, es, _, _, f, B1, Ld1, Ac1, hG, hI.m, hR1, by omega, by omega, hl⟩
end LAWC
