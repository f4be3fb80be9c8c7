/-! the law: its walk -/
set_option maxRecDepth 100000
section LAWROWS
variable {G : WG} {p : Program} {l : Launch} {e : Env} {R : Room} {s : State} {m : MethodId} {args : Array Value} {below : List Frame} {meth : Method} {c : Code} {cc : ByteArray} {own : String} {nL : Nat} {ret9 : Option FieldType} {hh : List (Nat × Nat × Nat × Nat)} {mn : String} {oc : Outcome} {Xf : XX} {mc ms : Nat} {X X' : XX} {sh : SH} {I : II} {k n : Nat} {pc : Nat} {lv : List (Option Value)} {st : List Value}
theorem x_sld {b L j : Nat} {xs : Nat → Int32} {i : Int32} (C : Cx G p R s m args meth c cc own nL ret9 hh mn) (hX : va_X b L xs s G.2.2.2.2.1) (hb : b < gb G) (hL9 : L ≤ 384) (hi : i = nI j) (hj : j < L) (hd : decode cc pc = .ok (.iaload, 1)) (kk : J G p l e R s m args below meth c nL oc Xf mc ms X k n (pc + 1) lv (.int (xs j) :: st)) : J G p l e R s m args below meth c nL oc Xf mc ms X k n pc lv (.int i :: .ref b :: st) := by
  intro H locs ls hR hL hv
  subst hi
  obtain ⟨scr, h1, h2, h3, h4, h5⟩ := hX
  have hcl : (nI j).toNatClampNeg = j := nI_clamp (by omega)
  exact W.iald (v := .int (xs j)) C.1 C.2.1 (by rw [hR.2.1 b hb]; exact h1) h2 h3 (by rw [h4]; exact nI_in hj (by omega)) (by rw [hcl]; exact h5 _ hj) rfl rfl hd (kk H locs ls hR hL hv)
theorem x_slen {b L : Nat} {xs : Nat → Int32} (C : Cx G p R s m args meth c cc own nL ret9 hh mn) (hX : va_X b L xs s G.2.2.2.2.1) (hb : b < gb G) (hd : decode cc pc = .ok (.arraylength, 1)) (kk : J G p l e R s m args below meth c nL oc Xf mc ms X k n (pc + 1) lv (.int (nI L) :: st)) : J G p l e R s m args below meth c nL oc Xf mc ms X k n pc lv (.ref b :: st) := by
  intro H locs ls hR hL hv
  obtain ⟨scr, h1, h2, h3, h4, h5⟩ := hX
  exact W.alen (n := nI L) C.1 C.2.1 (by rw [hR.2.1 b hb]; exact h1) h2 (by rw [h4] <;> rfl) rfl rfl hd (kk H locs ls hR hL hv)
theorem x_refl {q : Fin 4} {i a : Nat} (C : Cx G p R s m args meth c cc own nL ret9 hh mn) (hd : decode cc pc = .ok (.aload_n q, 1)) (hi : (q : Nat) = i) (hx : lget lv i = some (.ref a)) (kk : J G p l e R s m args below meth c nL oc Xf mc ms X k n (pc + 1) lv (.ref a :: st)) : J G p l e R s m args below meth c nL oc Xf mc ms X k n pc lv st :=
  fun H locs ls hR hL hv => lv_aload_n C.1 C.2.1 hd hi (hv.2.2 i _ hx) (kk H locs ls hR hL hv)
end LAWROWS
def StMb (sh : SH) : Bool := decide (47 < sh.1) && (decide ((sh.2.1 27).1 = 10) && (decide (sh.2.2 27 0 = some 28) && (decide (sh.2.2 27 1 = some 29) && (decide (sh.2.2 27 3 = some 30) && (decide (sh.2.2 27 4 = some 31) && (decide (sh.2.2 27 5 = some 32) && (decide (sh.2.2 27 6 = some 33) && (decide (sh.2.2 27 7 = some 34) && (decide (sh.2.2 27 13 = some 35) && (decide (sh.2.2 27 18 = some 36) && (decide (sh.2.2 27 19 = some 37) && (decide (sh.2.2 27 20 = some 38) && (decide (sh.2.2 27 21 = some 39) && (decide (sh.2.2 27 22 = some 40) && (decide (sh.2.2 27 23 = some 41) && (decide (sh.2.2 27 24 = some 42) && (decide (sh.2.2 27 26 = some 43) && (decide (sh.2.2 27 29 = some 44) && (decide (sh.2.2 27 30 = some 45) && (decide (sh.2.2 27 31 = some 46) && (decide (sh.2.2 27 32 = some 47) && (decide (sh.2.1 28 = (100, 366)) && (decide (sh.2.1 29 = (100, 366)) && (decide (sh.2.1 30 = (100, 6)) && (decide (sh.2.1 31 = (100, 7)) && (decide (sh.2.1 32 = (100, 90)) && (decide (sh.2.1 33 = (100, 90)) && (decide (sh.2.1 34 = (100, 90)) && (decide (sh.2.1 35 = (100, 60)) && (decide (sh.2.1 36 = (100, 60)) && (decide (sh.2.1 37 = (100, 12)) && (decide (sh.2.1 38 = (100, 144)) && (decide (sh.2.1 39 = (100, 12)) && (decide (sh.2.1 40 = (100, 4096)) && (decide (sh.2.1 41 = (100, 12)) && (decide (sh.2.1 42 = (100, 36)) && (decide (sh.2.1 43 = (100, 40)) && (decide (sh.2.1 44 = (100, 4)) && (decide (sh.2.1 45 = (100, 4)) && (decide (sh.2.1 46 = (100, 160)) && (decide (sh.2.1 47 = (100, 40)))))))))))))))))))))))))))))))))))))))))))
theorem StMb_ok {sh : SH} (h : StMb sh = true) : StM sh := by
  simp only [StMb, Bool.and_eq_true, decide_eq_true_eq] at h
  obtain ⟨h0, h1, r0, r1, r3, r4, r5, r6, r7, r13, r18, r19, r20, r21, r22, r23, r24, r26, r29, r30, r31, r32, a28, a29, a30, a31, a32, a33, a34, a35, a36, a37, a38, a39, a40, a41, a42, a43, a44, a45, a46, a47⟩ := h
  exact ⟨⟨Nat.lt_trans (by decide) h0, h1⟩, r0, r1, r3, r4, r5, r6, r7, r13, r18, r19, r20, r21, r22, r23, r24, r26, r29, r30, r31, r32, ⟨Nat.lt_trans (by decide) h0, a28⟩, ⟨Nat.lt_trans (by decide) h0, a29⟩, ⟨Nat.lt_trans (by decide) h0, a30⟩, ⟨Nat.lt_trans (by decide) h0, a31⟩, ⟨Nat.lt_trans (by decide) h0, a32⟩, ⟨Nat.lt_trans (by decide) h0, a33⟩, ⟨Nat.lt_trans (by decide) h0, a34⟩, ⟨Nat.lt_trans (by decide) h0, a35⟩, ⟨Nat.lt_trans (by decide) h0, a36⟩, ⟨Nat.lt_trans (by decide) h0, a37⟩, ⟨Nat.lt_trans (by decide) h0, a38⟩, ⟨Nat.lt_trans (by decide) h0, a39⟩, ⟨Nat.lt_trans (by decide) h0, a40⟩, ⟨Nat.lt_trans (by decide) h0, a41⟩, ⟨Nat.lt_trans (by decide) h0, a42⟩, ⟨Nat.lt_trans (by decide) h0, a43⟩, ⟨Nat.lt_trans (by decide) h0, a44⟩, ⟨Nat.lt_trans (by decide) h0, a45⟩, ⟨Nat.lt_trans (by decide) h0, a46⟩, ⟨h0, a47⟩⟩
def ostM {β : Type} (sh : SH) (f : Option β) : Option β := if StMb sh = true then f else none
theorem ostM_some {β : Type} {sh : SH} {f : Option β} {r : β} (h : ostM sh f = some r) : StM sh ∧ f = some r := by
  unfold ostM at h
  split at h
  · exact ⟨StMb_ok (by assumption), h⟩
  · cases h
def f_arm_0 (F : Nat) (a1 a2 : Int32) (S : SH) (I : II) : Option (SH × II) := bd2 (f_X0_hall F S a1 a2 I) fun r1 I1 => bd2 (f_X9_hall F a1 a2 I1) fun r2 I2 => og (r1 = r2) <| some (S, I2)
set_option maxHeartbeats 4000000 in
theorem law_arm_0 {hh : List (Nat × Nat × Nat × Nat)} {G : WG} {p : Program} {l : Launch} {e : Env} {s : State} {m : MethodId} {args : Array Value} {below : List Frame} {meth : Method} {c : Code} {mn : String} {Xf : XX} {mc ms F b L i : Nat} {xs : Nat → Int32} {S : SH} {I : II} {Z : SH × II} (C : Cx G p room_1 s m args meth c cL_law "NineDemandsLaw" 4 (some .boolean) hh mn) (hX : va_X b L xs s G.2.2.2.2.1) (hb : b < gb G) (hL9 : L ≤ 384) (hi : i + 6 ≤ L) (hS36 : S.1 ≤ 36000) (hS : stN S) (hM : StM S) (hk : f_arm_0 F (xs (i + 1)) (xs (i + 2)) S I = some Z) (kk : J G p l e room_1 s m args below meth c 4 (.returned (some (.int (nI 1)))) Xf mc ms Z Z.1.1 (200 * Z.1.1 + 8000) 1392 [some (.ref b), some (.ref (wad G 0)), some (.ref (wad G 27)), some (.int (nI i))] []) : J G p l e room_1 s m args below meth c 4 (.returned (some (.int (nI 1)))) Xf mc ms (S, I) S.1 (200 * S.1 + 8000) 204 [some (.ref b), some (.ref (wad G 0)), some (.ref (wad G 27)), some (.int (nI i))] [] := by
  unfold f_arm_0 at hk
  refine j_aload_n (pc := 204) C dL_law_204 rfl rfl ?_
  refine x_refl (pc := 205) C dL_law_205 rfl rfl ?_
  refine j_iload_n (pc := 206) C dL_law_206 rfl rfl ?_
  refine j_iconst (pc := 207) (v := nI 1) C dL_law_207 (by decide) ?_
  refine j_iadd (pc := 208) C dL_law_208 ?_
  refine x_sld (pc := 209) (j := i + 1) C hX hb hL9 (nI_add _ _) (by omega) dL_law_209 ?_
  refine x_refl (pc := 210) C dL_law_210 rfl rfl ?_
  refine j_iload_n (pc := 211) C dL_law_211 rfl rfl ?_
  refine j_iconst (pc := 212) (v := nI 2) C dL_law_212 (by decide) ?_
  refine j_iadd (pc := 213) C dL_law_213 ?_
  refine x_sld (pc := 214) (j := i + 2) C hX hb hL9 (nI_add _ _) (by omega) dL_law_214 ?_
  replace hk := bd2_some hk
  obtain ⟨r1, I1, hc1, hk⟩ := hk
  refine x_callVW (pc := 215) C (ct_X0_hall hS hc1) mw_X0_hall (stN_o0 hS).r rfl rfl q406 dL_law_215 rfl rfl (Nat.le_of_ble_eq_true rfl) (rmOK.i (Nat.le_of_ble_eq_true rfl) (Nat.le_of_ble_eq_true rfl) (by show S.1 + 0 ≤ 601024; omega) (by show 200 * S.1 + 8000 + 0 ≤ 7293034; omega)) ?_
  refine j_kn (k' := S.1) (n' := 200 * S.1 + 8000) rfl rfl ?_
  refine j_aload_n (pc := 218) C dL_law_218 rfl rfl ?_
  refine x_refl (pc := 219) C dL_law_219 rfl rfl ?_
  refine j_iload_n (pc := 220) C dL_law_220 rfl rfl ?_
  refine j_iconst (pc := 221) (v := nI 1) C dL_law_221 (by decide) ?_
  refine j_iadd (pc := 222) C dL_law_222 ?_
  refine x_sld (pc := 223) (j := i + 1) C hX hb hL9 (nI_add _ _) (by omega) dL_law_223 ?_
  refine x_refl (pc := 224) C dL_law_224 rfl rfl ?_
  refine j_iload_n (pc := 225) C dL_law_225 rfl rfl ?_
  refine j_iconst (pc := 226) (v := nI 2) C dL_law_226 (by decide) ?_
  refine j_iadd (pc := 227) C dL_law_227 ?_
  refine x_sld (pc := 228) (j := i + 2) C hX hb hL9 (nI_add _ _) (by omega) dL_law_228 ?_
  replace hk := bd2_some hk
  obtain ⟨r2, I2, hc2, hk⟩ := hk
  refine j_callV (pc := 229) C (ct_X9_hall hM hc2) mv_X9_hall (stM_o hM) rfl rfl q2100 dL_law_229 rfl rfl (Nat.le_of_ble_eq_true rfl) (rmOK.i (Nat.le_of_ble_eq_true rfl) (Nat.le_of_ble_eq_true rfl) (by show S.1 + 0 ≤ 601024; omega) (by show 200 * S.1 + 8000 + 0 ≤ 7293034; omega)) ?_
  refine j_kn (k' := S.1) (n' := 200 * S.1 + 8000) rfl rfl ?_
  replace hk := og_some hk
  obtain ⟨he, hk⟩ := hk
  obtain rfl := Option.some.inj hk
  exact j_icmp_eq (pc := 232) 1392 C dL_law_232 (by decide) (fun _ => kk) (fun h => absurd he h)
def f_arm_1 (F : Nat) (a1 a2 : Int32) (S : SH) (I : II) : Option (SH × II) := bd2 (f_X0_moved S a1 a2 I) fun r1 I1 => bd2 (f_X9_moved a1 a2 I1) fun r2 I2 => og (r1 = r2) <| some (S, I2)
set_option maxHeartbeats 4000000 in
theorem law_arm_1 {hh : List (Nat × Nat × Nat × Nat)} {G : WG} {p : Program} {l : Launch} {e : Env} {s : State} {m : MethodId} {args : Array Value} {below : List Frame} {meth : Method} {c : Code} {mn : String} {Xf : XX} {mc ms F b L i : Nat} {xs : Nat → Int32} {S : SH} {I : II} {Z : SH × II} (C : Cx G p room_1 s m args meth c cL_law "NineDemandsLaw" 4 (some .boolean) hh mn) (hX : va_X b L xs s G.2.2.2.2.1) (hb : b < gb G) (hL9 : L ≤ 384) (hi : i + 6 ≤ L) (hS36 : S.1 ≤ 36000) (hS : stN S) (hM : StM S) (hk : f_arm_1 F (xs (i + 1)) (xs (i + 2)) S I = some Z) (kk : J G p l e room_1 s m args below meth c 4 (.returned (some (.int (nI 1)))) Xf mc ms Z Z.1.1 (200 * Z.1.1 + 8000) 1392 [some (.ref b), some (.ref (wad G 0)), some (.ref (wad G 27)), some (.int (nI i))] []) : J G p l e room_1 s m args below meth c 4 (.returned (some (.int (nI 1)))) Xf mc ms (S, I) S.1 (200 * S.1 + 8000) 237 [some (.ref b), some (.ref (wad G 0)), some (.ref (wad G 27)), some (.int (nI i))] [] := by
  unfold f_arm_1 at hk
  refine j_aload_n (pc := 237) C dL_law_237 rfl rfl ?_
  refine x_refl (pc := 238) C dL_law_238 rfl rfl ?_
  refine j_iload_n (pc := 239) C dL_law_239 rfl rfl ?_
  refine j_iconst (pc := 240) (v := nI 1) C dL_law_240 (by decide) ?_
  refine j_iadd (pc := 241) C dL_law_241 ?_
  refine x_sld (pc := 242) (j := i + 1) C hX hb hL9 (nI_add _ _) (by omega) dL_law_242 ?_
  refine x_refl (pc := 243) C dL_law_243 rfl rfl ?_
  refine j_iload_n (pc := 244) C dL_law_244 rfl rfl ?_
  refine j_iconst (pc := 245) (v := nI 2) C dL_law_245 (by decide) ?_
  refine j_iadd (pc := 246) C dL_law_246 ?_
  refine x_sld (pc := 247) (j := i + 2) C hX hb hL9 (nI_add _ _) (by omega) dL_law_247 ?_
  replace hk := bd2_some hk
  obtain ⟨r1, I1, hc1, hk⟩ := hk
  refine x_callVW (pc := 248) C (ct_X0_moved hS hc1) mw_X0_moved (stN_o0 hS).r rfl rfl q438 dL_law_248 rfl rfl (Nat.le_of_ble_eq_true rfl) (rmOK.i (Nat.le_of_ble_eq_true rfl) (Nat.le_of_ble_eq_true rfl) (by show S.1 + 0 ≤ 601024; omega) (by show 200 * S.1 + 8000 + 0 ≤ 7293034; omega)) ?_
  refine j_kn (k' := S.1) (n' := 200 * S.1 + 8000) rfl rfl ?_
  refine j_aload_n (pc := 251) C dL_law_251 rfl rfl ?_
  refine x_refl (pc := 252) C dL_law_252 rfl rfl ?_
  refine j_iload_n (pc := 253) C dL_law_253 rfl rfl ?_
  refine j_iconst (pc := 254) (v := nI 1) C dL_law_254 (by decide) ?_
  refine j_iadd (pc := 255) C dL_law_255 ?_
  refine x_sld (pc := 256) (j := i + 1) C hX hb hL9 (nI_add _ _) (by omega) dL_law_256 ?_
  refine x_refl (pc := 257) C dL_law_257 rfl rfl ?_
  refine j_iload_n (pc := 258) C dL_law_258 rfl rfl ?_
  refine j_iconst (pc := 259) (v := nI 2) C dL_law_259 (by decide) ?_
  refine j_iadd (pc := 260) C dL_law_260 ?_
  refine x_sld (pc := 261) (j := i + 2) C hX hb hL9 (nI_add _ _) (by omega) dL_law_261 ?_
  replace hk := bd2_some hk
  obtain ⟨r2, I2, hc2, hk⟩ := hk
  refine j_callV (pc := 262) C (ct_X9_moved hM hc2) mv_X9_moved (stM_o hM) rfl rfl q2119 dL_law_262 rfl rfl (Nat.le_of_ble_eq_true rfl) (rmOK.i (Nat.le_of_ble_eq_true rfl) (Nat.le_of_ble_eq_true rfl) (by show S.1 + 0 ≤ 601024; omega) (by show 200 * S.1 + 8000 + 0 ≤ 7293034; omega)) ?_
  refine j_kn (k' := S.1) (n' := 200 * S.1 + 8000) rfl rfl ?_
  replace hk := og_some hk
  obtain ⟨he, hk⟩ := hk
  obtain rfl := Option.some.inj hk
  exact j_icmp_eq (pc := 265) 1392 C dL_law_265 (by decide) (fun _ => kk) (fun h => absurd he h)
def f_arm_2 (F : Nat) (a1 a2 : Int32) (S : SH) (I : II) : Option (SH × II) := bd2 (f_X0_choose S a1 a2 I) fun r1 I1 => bd2 (f_X9_choose a1 a2 I1) fun r2 I2 => og (r1 = r2) <| some (S, I2)
set_option maxHeartbeats 4000000 in
theorem law_arm_2 {hh : List (Nat × Nat × Nat × Nat)} {G : WG} {p : Program} {l : Launch} {e : Env} {s : State} {m : MethodId} {args : Array Value} {below : List Frame} {meth : Method} {c : Code} {mn : String} {Xf : XX} {mc ms F b L i : Nat} {xs : Nat → Int32} {S : SH} {I : II} {Z : SH × II} (C : Cx G p room_1 s m args meth c cL_law "NineDemandsLaw" 4 (some .boolean) hh mn) (hX : va_X b L xs s G.2.2.2.2.1) (hb : b < gb G) (hL9 : L ≤ 384) (hi : i + 6 ≤ L) (hS36 : S.1 ≤ 36000) (hS : stN S) (hM : StM S) (hk : f_arm_2 F (xs (i + 1)) (xs (i + 2)) S I = some Z) (kk : J G p l e room_1 s m args below meth c 4 (.returned (some (.int (nI 1)))) Xf mc ms Z Z.1.1 (200 * Z.1.1 + 8000) 1392 [some (.ref b), some (.ref (wad G 0)), some (.ref (wad G 27)), some (.int (nI i))] []) : J G p l e room_1 s m args below meth c 4 (.returned (some (.int (nI 1)))) Xf mc ms (S, I) S.1 (200 * S.1 + 8000) 270 [some (.ref b), some (.ref (wad G 0)), some (.ref (wad G 27)), some (.int (nI i))] [] := by
  unfold f_arm_2 at hk
  refine j_aload_n (pc := 270) C dL_law_270 rfl rfl ?_
  refine x_refl (pc := 271) C dL_law_271 rfl rfl ?_
  refine j_iload_n (pc := 272) C dL_law_272 rfl rfl ?_
  refine j_iconst (pc := 273) (v := nI 1) C dL_law_273 (by decide) ?_
  refine j_iadd (pc := 274) C dL_law_274 ?_
  refine x_sld (pc := 275) (j := i + 1) C hX hb hL9 (nI_add _ _) (by omega) dL_law_275 ?_
  refine x_refl (pc := 276) C dL_law_276 rfl rfl ?_
  refine j_iload_n (pc := 277) C dL_law_277 rfl rfl ?_
  refine j_iconst (pc := 278) (v := nI 2) C dL_law_278 (by decide) ?_
  refine j_iadd (pc := 279) C dL_law_279 ?_
  refine x_sld (pc := 280) (j := i + 2) C hX hb hL9 (nI_add _ _) (by omega) dL_law_280 ?_
  replace hk := bd2_some hk
  obtain ⟨r1, I1, hc1, hk⟩ := hk
  refine x_callVW (pc := 281) C (ct_X0_choose hS hc1) mw_X0_choose (stN_o0 hS).r rfl rfl q445 dL_law_281 rfl rfl (Nat.le_of_ble_eq_true rfl) (rmOK.i (Nat.le_of_ble_eq_true rfl) (Nat.le_of_ble_eq_true rfl) (by show S.1 + 0 ≤ 601024; omega) (by show 200 * S.1 + 8000 + 0 ≤ 7293034; omega)) ?_
  refine j_kn (k' := S.1) (n' := 200 * S.1 + 8000) rfl rfl ?_
  refine j_aload_n (pc := 284) C dL_law_284 rfl rfl ?_
  refine x_refl (pc := 285) C dL_law_285 rfl rfl ?_
  refine j_iload_n (pc := 286) C dL_law_286 rfl rfl ?_
  refine j_iconst (pc := 287) (v := nI 1) C dL_law_287 (by decide) ?_
  refine j_iadd (pc := 288) C dL_law_288 ?_
  refine x_sld (pc := 289) (j := i + 1) C hX hb hL9 (nI_add _ _) (by omega) dL_law_289 ?_
  refine x_refl (pc := 290) C dL_law_290 rfl rfl ?_
  refine j_iload_n (pc := 291) C dL_law_291 rfl rfl ?_
  refine j_iconst (pc := 292) (v := nI 2) C dL_law_292 (by decide) ?_
  refine j_iadd (pc := 293) C dL_law_293 ?_
  refine x_sld (pc := 294) (j := i + 2) C hX hb hL9 (nI_add _ _) (by omega) dL_law_294 ?_
  replace hk := bd2_some hk
  obtain ⟨r2, I2, hc2, hk⟩ := hk
  refine j_callV (pc := 295) C (ct_X9_choose hM hc2) mv_X9_choose (stM_o hM) rfl rfl q2124 dL_law_295 rfl rfl (Nat.le_of_ble_eq_true rfl) (rmOK.i (Nat.le_of_ble_eq_true rfl) (Nat.le_of_ble_eq_true rfl) (by show S.1 + 0 ≤ 601024; omega) (by show 200 * S.1 + 8000 + 0 ≤ 7293034; omega)) ?_
  refine j_kn (k' := S.1) (n' := 200 * S.1 + 8000) rfl rfl ?_
  replace hk := og_some hk
  obtain ⟨he, hk⟩ := hk
  obtain rfl := Option.some.inj hk
  exact j_icmp_eq (pc := 298) 1392 C dL_law_298 (by decide) (fun _ => kk) (fun h => absurd he h)
def f_arm_3 (F : Nat) (a1 : Int32) (S : SH) (I : II) : Option (SH × II) := bd2 (f_X0_chosen S a1 I) fun r1 I1 => bd2 (f_X9_chosen a1 I1) fun r2 I2 => og (r1 = r2) <| some (S, I2)
set_option maxHeartbeats 4000000 in
theorem law_arm_3 {hh : List (Nat × Nat × Nat × Nat)} {G : WG} {p : Program} {l : Launch} {e : Env} {s : State} {m : MethodId} {args : Array Value} {below : List Frame} {meth : Method} {c : Code} {mn : String} {Xf : XX} {mc ms F b L i : Nat} {xs : Nat → Int32} {S : SH} {I : II} {Z : SH × II} (C : Cx G p room_1 s m args meth c cL_law "NineDemandsLaw" 4 (some .boolean) hh mn) (hX : va_X b L xs s G.2.2.2.2.1) (hb : b < gb G) (hL9 : L ≤ 384) (hi : i + 6 ≤ L) (hS36 : S.1 ≤ 36000) (hS : stN S) (hM : StM S) (hk : f_arm_3 F (xs (i + 1)) S I = some Z) (kk : J G p l e room_1 s m args below meth c 4 (.returned (some (.int (nI 1)))) Xf mc ms Z Z.1.1 (200 * Z.1.1 + 8000) 1392 [some (.ref b), some (.ref (wad G 0)), some (.ref (wad G 27)), some (.int (nI i))] []) : J G p l e room_1 s m args below meth c 4 (.returned (some (.int (nI 1)))) Xf mc ms (S, I) S.1 (200 * S.1 + 8000) 303 [some (.ref b), some (.ref (wad G 0)), some (.ref (wad G 27)), some (.int (nI i))] [] := by
  unfold f_arm_3 at hk
  refine j_aload_n (pc := 303) C dL_law_303 rfl rfl ?_
  refine x_refl (pc := 304) C dL_law_304 rfl rfl ?_
  refine j_iload_n (pc := 305) C dL_law_305 rfl rfl ?_
  refine j_iconst (pc := 306) (v := nI 1) C dL_law_306 (by decide) ?_
  refine j_iadd (pc := 307) C dL_law_307 ?_
  refine x_sld (pc := 308) (j := i + 1) C hX hb hL9 (nI_add _ _) (by omega) dL_law_308 ?_
  replace hk := bd2_some hk
  obtain ⟨r1, I1, hc1, hk⟩ := hk
  refine x_callVW (pc := 309) C (ct_X0_chosen hS hc1) mw_X0_chosen (stN_o0 hS).r rfl rfl q452 dL_law_309 rfl rfl (Nat.le_of_ble_eq_true rfl) (rmOK.i (Nat.le_of_ble_eq_true rfl) (Nat.le_of_ble_eq_true rfl) (by show S.1 + 0 ≤ 601024; omega) (by show 200 * S.1 + 8000 + 0 ≤ 7293034; omega)) ?_
  refine j_kn (k' := S.1) (n' := 200 * S.1 + 8000) rfl rfl ?_
  refine j_aload_n (pc := 312) C dL_law_312 rfl rfl ?_
  refine x_refl (pc := 313) C dL_law_313 rfl rfl ?_
  refine j_iload_n (pc := 314) C dL_law_314 rfl rfl ?_
  refine j_iconst (pc := 315) (v := nI 1) C dL_law_315 (by decide) ?_
  refine j_iadd (pc := 316) C dL_law_316 ?_
  refine x_sld (pc := 317) (j := i + 1) C hX hb hL9 (nI_add _ _) (by omega) dL_law_317 ?_
  replace hk := bd2_some hk
  obtain ⟨r2, I2, hc2, hk⟩ := hk
  refine j_callV (pc := 318) C (ct_X9_chosen hM hc2) mv_X9_chosen (stM_o hM) rfl rfl q2131 dL_law_318 rfl rfl (Nat.le_of_ble_eq_true rfl) (rmOK.i (Nat.le_of_ble_eq_true rfl) (Nat.le_of_ble_eq_true rfl) (by show S.1 + 0 ≤ 601024; omega) (by show 200 * S.1 + 8000 + 0 ≤ 7293034; omega)) ?_
  refine j_kn (k' := S.1) (n' := 200 * S.1 + 8000) rfl rfl ?_
  replace hk := og_some hk
  obtain ⟨he, hk⟩ := hk
  obtain rfl := Option.some.inj hk
  exact j_icmp_eq (pc := 321) 1392 C dL_law_321 (by decide) (fun _ => kk) (fun h => absurd he h)
def f_arm_4 (F : Nat) (a1 : Int32) (S : SH) (I : II) : Option (SH × II) := bd2 (f_X0_block F S a1 I) fun r1 I1 => bd2 (f_X9_block F a1 I1) fun r2 I2 => og (r1 = r2) <| some (S, I2)
set_option maxHeartbeats 4000000 in
theorem law_arm_4 {hh : List (Nat × Nat × Nat × Nat)} {G : WG} {p : Program} {l : Launch} {e : Env} {s : State} {m : MethodId} {args : Array Value} {below : List Frame} {meth : Method} {c : Code} {mn : String} {Xf : XX} {mc ms F b L i : Nat} {xs : Nat → Int32} {S : SH} {I : II} {Z : SH × II} (C : Cx G p room_1 s m args meth c cL_law "NineDemandsLaw" 4 (some .boolean) hh mn) (hX : va_X b L xs s G.2.2.2.2.1) (hb : b < gb G) (hL9 : L ≤ 384) (hi : i + 6 ≤ L) (hS36 : S.1 ≤ 36000) (hS : stN S) (hM : StM S) (hk : f_arm_4 F (xs (i + 1)) S I = some Z) (kk : J G p l e room_1 s m args below meth c 4 (.returned (some (.int (nI 1)))) Xf mc ms Z Z.1.1 (200 * Z.1.1 + 8000) 1392 [some (.ref b), some (.ref (wad G 0)), some (.ref (wad G 27)), some (.int (nI i))] []) : J G p l e room_1 s m args below meth c 4 (.returned (some (.int (nI 1)))) Xf mc ms (S, I) S.1 (200 * S.1 + 8000) 326 [some (.ref b), some (.ref (wad G 0)), some (.ref (wad G 27)), some (.int (nI i))] [] := by
  unfold f_arm_4 at hk
  refine j_aload_n (pc := 326) C dL_law_326 rfl rfl ?_
  refine x_refl (pc := 327) C dL_law_327 rfl rfl ?_
  refine j_iload_n (pc := 328) C dL_law_328 rfl rfl ?_
  refine j_iconst (pc := 329) (v := nI 1) C dL_law_329 (by decide) ?_
  refine j_iadd (pc := 330) C dL_law_330 ?_
  refine x_sld (pc := 331) (j := i + 1) C hX hb hL9 (nI_add _ _) (by omega) dL_law_331 ?_
  replace hk := bd2_some hk
  obtain ⟨r1, I1, hc1, hk⟩ := hk
  refine x_callVW (pc := 332) C (ct_X0_block hS hc1) mw_X0_block (stN_o0 hS).r rfl rfl q456 dL_law_332 rfl rfl (Nat.le_of_ble_eq_true rfl) (rmOK.i (Nat.le_of_ble_eq_true rfl) (Nat.le_of_ble_eq_true rfl) (by show S.1 + 0 ≤ 601024; omega) (by show 200 * S.1 + 8000 + 0 ≤ 7293034; omega)) ?_
  refine j_kn (k' := S.1) (n' := 200 * S.1 + 8000) rfl rfl ?_
  refine j_aload_n (pc := 335) C dL_law_335 rfl rfl ?_
  refine x_refl (pc := 336) C dL_law_336 rfl rfl ?_
  refine j_iload_n (pc := 337) C dL_law_337 rfl rfl ?_
  refine j_iconst (pc := 338) (v := nI 1) C dL_law_338 (by decide) ?_
  refine j_iadd (pc := 339) C dL_law_339 ?_
  refine x_sld (pc := 340) (j := i + 1) C hX hb hL9 (nI_add _ _) (by omega) dL_law_340 ?_
  replace hk := bd2_some hk
  obtain ⟨r2, I2, hc2, hk⟩ := hk
  refine j_callV (pc := 341) C (ct_X9_block hM hc2) mv_X9_block (stM_o hM) rfl rfl q2135 dL_law_341 rfl rfl (Nat.le_of_ble_eq_true rfl) (rmOK.i (Nat.le_of_ble_eq_true rfl) (Nat.le_of_ble_eq_true rfl) (by show S.1 + 0 ≤ 601024; omega) (by show 200 * S.1 + 8000 + 0 ≤ 7293034; omega)) ?_
  refine j_kn (k' := S.1) (n' := 200 * S.1 + 8000) rfl rfl ?_
  replace hk := og_some hk
  obtain ⟨he, hk⟩ := hk
  obtain rfl := Option.some.inj hk
  exact j_icmp_eq (pc := 344) 1392 C dL_law_344 (by decide) (fun _ => kk) (fun h => absurd he h)
def f_arm_5 (F : Nat) (a1 : Int32) (S : SH) (I : II) : Option (SH × II) := bd2 (f_X0_form F S a1 I) fun r1 I1 => bd2 (f_X9_form F a1 I1) fun r2 I2 => og (r1 = r2) <| some (S, I2)
set_option maxHeartbeats 4000000 in
theorem law_arm_5 {hh : List (Nat × Nat × Nat × Nat)} {G : WG} {p : Program} {l : Launch} {e : Env} {s : State} {m : MethodId} {args : Array Value} {below : List Frame} {meth : Method} {c : Code} {mn : String} {Xf : XX} {mc ms F b L i : Nat} {xs : Nat → Int32} {S : SH} {I : II} {Z : SH × II} (C : Cx G p room_1 s m args meth c cL_law "NineDemandsLaw" 4 (some .boolean) hh mn) (hX : va_X b L xs s G.2.2.2.2.1) (hb : b < gb G) (hL9 : L ≤ 384) (hi : i + 6 ≤ L) (hS36 : S.1 ≤ 36000) (hS : stN S) (hM : StM S) (hk : f_arm_5 F (xs (i + 1)) S I = some Z) (kk : J G p l e room_1 s m args below meth c 4 (.returned (some (.int (nI 1)))) Xf mc ms Z Z.1.1 (200 * Z.1.1 + 8000) 1392 [some (.ref b), some (.ref (wad G 0)), some (.ref (wad G 27)), some (.int (nI i))] []) : J G p l e room_1 s m args below meth c 4 (.returned (some (.int (nI 1)))) Xf mc ms (S, I) S.1 (200 * S.1 + 8000) 349 [some (.ref b), some (.ref (wad G 0)), some (.ref (wad G 27)), some (.int (nI i))] [] := by
  unfold f_arm_5 at hk
  refine j_aload_n (pc := 349) C dL_law_349 rfl rfl ?_
  refine x_refl (pc := 350) C dL_law_350 rfl rfl ?_
  refine j_iload_n (pc := 351) C dL_law_351 rfl rfl ?_
  refine j_iconst (pc := 352) (v := nI 1) C dL_law_352 (by decide) ?_
  refine j_iadd (pc := 353) C dL_law_353 ?_
  refine x_sld (pc := 354) (j := i + 1) C hX hb hL9 (nI_add _ _) (by omega) dL_law_354 ?_
  replace hk := bd2_some hk
  obtain ⟨r1, I1, hc1, hk⟩ := hk
  refine x_callVW (pc := 355) C (ct_X0_form hS hc1) mw_X0_form (stN_o0 hS).r rfl rfl q495 dL_law_355 rfl rfl (Nat.le_of_ble_eq_true rfl) (rmOK.i (Nat.le_of_ble_eq_true rfl) (Nat.le_of_ble_eq_true rfl) (by show S.1 + 0 ≤ 601024; omega) (by show 200 * S.1 + 8000 + 0 ≤ 7293034; omega)) ?_
  refine j_kn (k' := S.1) (n' := 200 * S.1 + 8000) rfl rfl ?_
  refine j_aload_n (pc := 358) C dL_law_358 rfl rfl ?_
  refine x_refl (pc := 359) C dL_law_359 rfl rfl ?_
  refine j_iload_n (pc := 360) C dL_law_360 rfl rfl ?_
  refine j_iconst (pc := 361) (v := nI 1) C dL_law_361 (by decide) ?_
  refine j_iadd (pc := 362) C dL_law_362 ?_
  refine x_sld (pc := 363) (j := i + 1) C hX hb hL9 (nI_add _ _) (by omega) dL_law_363 ?_
  replace hk := bd2_some hk
  obtain ⟨r2, I2, hc2, hk⟩ := hk
  refine j_callV (pc := 364) C (ct_X9_form hM hc2) mv_X9_form (stM_o hM) rfl rfl q2144 dL_law_364 rfl rfl (Nat.le_of_ble_eq_true rfl) (rmOK.i (Nat.le_of_ble_eq_true rfl) (Nat.le_of_ble_eq_true rfl) (by show S.1 + 0 ≤ 601024; omega) (by show 200 * S.1 + 8000 + 0 ≤ 7293034; omega)) ?_
  refine j_kn (k' := S.1) (n' := 200 * S.1 + 8000) rfl rfl ?_
  replace hk := og_some hk
  obtain ⟨he, hk⟩ := hk
  obtain rfl := Option.some.inj hk
  exact j_icmp_eq (pc := 367) 1392 C dL_law_367 (by decide) (fun _ => kk) (fun h => absurd he h)
def f_arm_6 (F : Nat) (a1 a2 a3 : Int32) (S : SH) (I : II) : Option (SH × II) := bd2 (f_X0_feed F S (((Int32.toInt64 a1) <<< (Int32.toInt64 (nI 32) &&& 63)) ||| ((Int32.toInt64 a2) &&& (4294967295))) a3 I) fun r1 I1 => bd2 (f_X9_feed F (((Int32.toInt64 a1) <<< (Int32.toInt64 (nI 32) &&& 63)) ||| ((Int32.toInt64 a2) &&& (4294967295))) a3 I1) fun r2 I2 => og (r1 = r2) <| some (S, I2)
set_option maxHeartbeats 4000000 in
theorem law_arm_6 {hh : List (Nat × Nat × Nat × Nat)} {G : WG} {p : Program} {l : Launch} {e : Env} {s : State} {m : MethodId} {args : Array Value} {below : List Frame} {meth : Method} {c : Code} {mn : String} {Xf : XX} {mc ms F b L i : Nat} {xs : Nat → Int32} {S : SH} {I : II} {Z : SH × II} (C : Cx G p room_1 s m args meth c cL_law "NineDemandsLaw" 4 (some .boolean) hh mn) (hX : va_X b L xs s G.2.2.2.2.1) (hb : b < gb G) (hL9 : L ≤ 384) (hi : i + 6 ≤ L) (hS36 : S.1 ≤ 36000) (hS : stN S) (hM : StM S) (hk : f_arm_6 F (xs (i + 1)) (xs (i + 2)) (xs (i + 3)) S I = some Z) (kk : J G p l e room_1 s m args below meth c 4 (.returned (some (.int (nI 1)))) Xf mc ms Z Z.1.1 (200 * Z.1.1 + 8000) 1392 [some (.ref b), some (.ref (wad G 0)), some (.ref (wad G 27)), some (.int (nI i))] []) : J G p l e room_1 s m args below meth c 4 (.returned (some (.int (nI 1)))) Xf mc ms (S, I) S.1 (200 * S.1 + 8000) 372 [some (.ref b), some (.ref (wad G 0)), some (.ref (wad G 27)), some (.int (nI i))] [] := by
  unfold f_arm_6 at hk
  refine j_aload_n (pc := 372) C dL_law_372 rfl rfl ?_
  refine x_refl (pc := 373) C dL_law_373 rfl rfl ?_
  refine j_iload_n (pc := 374) C dL_law_374 rfl rfl ?_
  refine j_iconst (pc := 375) (v := nI 1) C dL_law_375 (by decide) ?_
  refine j_iadd (pc := 376) C dL_law_376 ?_
  refine x_sld (pc := 377) (j := i + 1) C hX hb hL9 (nI_add _ _) (by omega) dL_law_377 ?_
  refine j_i2l (pc := 378) C dL_law_378 ?_
  refine j_bipush (pc := 379) (v := nI 32) C dL_law_379 (by decide) ?_
  refine j_lshl (pc := 381) C dL_law_381 ?_
  refine x_refl (pc := 382) C dL_law_382 rfl rfl ?_
  refine j_iload_n (pc := 383) C dL_law_383 rfl rfl ?_
  refine j_iconst (pc := 384) (v := nI 2) C dL_law_384 (by decide) ?_
  refine j_iadd (pc := 385) C dL_law_385 ?_
  refine x_sld (pc := 386) (j := i + 2) C hX hb hL9 (nI_add _ _) (by omega) dL_law_386 ?_
  refine j_i2l (pc := 387) C dL_law_387 ?_
  refine j_ldc2 (pc := 388) C q2480 dL_law_388 ?_
  refine j_land (pc := 391) C dL_law_391 ?_
  refine j_lor (pc := 392) C dL_law_392 ?_
  refine x_refl (pc := 393) C dL_law_393 rfl rfl ?_
  refine j_iload_n (pc := 394) C dL_law_394 rfl rfl ?_
  refine j_iconst (pc := 395) (v := nI 3) C dL_law_395 (by decide) ?_
  refine j_iadd (pc := 396) C dL_law_396 ?_
  refine x_sld (pc := 397) (j := i + 3) C hX hb hL9 (nI_add _ _) (by omega) dL_law_397 ?_
  replace hk := bd2_some hk
  obtain ⟨r1, I1, hc1, hk⟩ := hk
  refine x_callVW (pc := 398) C (ct_X0_feed hS hc1) mw_X0_feed (stN_o0 hS).r rfl rfl q505 dL_law_398 rfl rfl (Nat.le_of_ble_eq_true rfl) (rmOK.i (Nat.le_of_ble_eq_true rfl) (Nat.le_of_ble_eq_true rfl) (by show S.1 + 0 ≤ 601024; omega) (by show 200 * S.1 + 8000 + 0 ≤ 7293034; omega)) ?_
  refine j_kn (k' := S.1) (n' := 200 * S.1 + 8000) rfl rfl ?_
  refine j_aload_n (pc := 401) C dL_law_401 rfl rfl ?_
  refine x_refl (pc := 402) C dL_law_402 rfl rfl ?_
  refine j_iload_n (pc := 403) C dL_law_403 rfl rfl ?_
  refine j_iconst (pc := 404) (v := nI 1) C dL_law_404 (by decide) ?_
  refine j_iadd (pc := 405) C dL_law_405 ?_
  refine x_sld (pc := 406) (j := i + 1) C hX hb hL9 (nI_add _ _) (by omega) dL_law_406 ?_
  refine j_i2l (pc := 407) C dL_law_407 ?_
  refine j_bipush (pc := 408) (v := nI 32) C dL_law_408 (by decide) ?_
  refine j_lshl (pc := 410) C dL_law_410 ?_
  refine x_refl (pc := 411) C dL_law_411 rfl rfl ?_
  refine j_iload_n (pc := 412) C dL_law_412 rfl rfl ?_
  refine j_iconst (pc := 413) (v := nI 2) C dL_law_413 (by decide) ?_
  refine j_iadd (pc := 414) C dL_law_414 ?_
  refine x_sld (pc := 415) (j := i + 2) C hX hb hL9 (nI_add _ _) (by omega) dL_law_415 ?_
  refine j_i2l (pc := 416) C dL_law_416 ?_
  refine j_ldc2 (pc := 417) C q2480 dL_law_417 ?_
  refine j_land (pc := 420) C dL_law_420 ?_
  refine j_lor (pc := 421) C dL_law_421 ?_
  refine x_refl (pc := 422) C dL_law_422 rfl rfl ?_
  refine j_iload_n (pc := 423) C dL_law_423 rfl rfl ?_
  refine j_iconst (pc := 424) (v := nI 3) C dL_law_424 (by decide) ?_
  refine j_iadd (pc := 425) C dL_law_425 ?_
  refine x_sld (pc := 426) (j := i + 3) C hX hb hL9 (nI_add _ _) (by omega) dL_law_426 ?_
  replace hk := bd2_some hk
  obtain ⟨r2, I2, hc2, hk⟩ := hk
  refine j_callV (pc := 427) C (ct_X9_feed hM hc2) mv_X9_feed (stM_o hM) rfl rfl q2151 dL_law_427 rfl rfl (Nat.le_of_ble_eq_true rfl) (rmOK.i (Nat.le_of_ble_eq_true rfl) (Nat.le_of_ble_eq_true rfl) (by show S.1 + 0 ≤ 601024; omega) (by show 200 * S.1 + 8000 + 0 ≤ 7293034; omega)) ?_
  refine j_kn (k' := S.1) (n' := 200 * S.1 + 8000) rfl rfl ?_
  replace hk := og_some hk
  obtain ⟨he, hk⟩ := hk
  obtain rfl := Option.some.inj hk
  exact j_icmp_eq (pc := 430) 1392 C dL_law_430 (by decide) (fun _ => kk) (fun h => absurd he h)
def f_arm_7 (F : Nat) (a1 a2 : Int32) (S : SH) (I : II) : Option (SH × II) := bd3 (f_X0_law F S a1 a2 I) fun r1 S1 I1 => og (S.1 ≤ S1.1 ∧ S1.1 ≤ 36000) <| ost S1 <| ostM S1 <| bd2 (f_X9_law F a1 a2 I1) fun r2 I2 => og (r1 = r2) <| some (S1, I2)
set_option maxHeartbeats 4000000 in
theorem law_arm_7 {hh : List (Nat × Nat × Nat × Nat)} {G : WG} {p : Program} {l : Launch} {e : Env} {s : State} {m : MethodId} {args : Array Value} {below : List Frame} {meth : Method} {c : Code} {mn : String} {Xf : XX} {mc ms F b L i : Nat} {xs : Nat → Int32} {S : SH} {I : II} {Z : SH × II} (C : Cx G p room_1 s m args meth c cL_law "NineDemandsLaw" 4 (some .boolean) hh mn) (hX : va_X b L xs s G.2.2.2.2.1) (hb : b < gb G) (hL9 : L ≤ 384) (hi : i + 6 ≤ L) (hS36 : S.1 ≤ 36000) (hS : stN S) (hM : StM S) (hk : f_arm_7 F (xs (i + 1)) (xs (i + 2)) S I = some Z) (kk : J G p l e room_1 s m args below meth c 4 (.returned (some (.int (nI 1)))) Xf mc ms Z Z.1.1 (200 * Z.1.1 + 8000) 1392 [some (.ref b), some (.ref (wad G 0)), some (.ref (wad G 27)), some (.int (nI i))] []) : J G p l e room_1 s m args below meth c 4 (.returned (some (.int (nI 1)))) Xf mc ms (S, I) S.1 (200 * S.1 + 8000) 435 [some (.ref b), some (.ref (wad G 0)), some (.ref (wad G 27)), some (.int (nI i))] [] := by
  unfold f_arm_7 at hk
  refine j_aload_n (pc := 435) C dL_law_435 rfl rfl ?_
  refine x_refl (pc := 436) C dL_law_436 rfl rfl ?_
  refine j_iload_n (pc := 437) C dL_law_437 rfl rfl ?_
  refine j_iconst (pc := 438) (v := nI 1) C dL_law_438 (by decide) ?_
  refine j_iadd (pc := 439) C dL_law_439 ?_
  refine x_sld (pc := 440) (j := i + 1) C hX hb hL9 (nI_add _ _) (by omega) dL_law_440 ?_
  refine x_refl (pc := 441) C dL_law_441 rfl rfl ?_
  refine j_iload_n (pc := 442) C dL_law_442 rfl rfl ?_
  refine j_iconst (pc := 443) (v := nI 2) C dL_law_443 (by decide) ?_
  refine j_iadd (pc := 444) C dL_law_444 ?_
  refine x_sld (pc := 445) (j := i + 2) C hX hb hL9 (nI_add _ _) (by omega) dL_law_445 ?_
  replace hk := bd3_some hk
  obtain ⟨r1, S1, I1, hc1, hk⟩ := hk
  replace hk := og_some hk
  obtain ⟨⟨hg1, hg2⟩, hk⟩ := hk
  replace hk := ost_some hk
  obtain ⟨hS1, hk⟩ := hk
  replace hk := ostM_some hk
  obtain ⟨hM1, hk⟩ := hk
  refine x_callVW (pc := 446) C (ct_X0_law hc1) mw_X0_law (stN_o0 hS).r rfl rfl q509 dL_law_446 rfl rfl (Nat.le_of_ble_eq_true rfl) (rmOK.i (Nat.le_of_ble_eq_true rfl) (Nat.le_of_ble_eq_true rfl) (by show S.1 + (S1.1 - S.1) ≤ 601024; omega) (by show 200 * S.1 + 8000 + 200 * (S1.1 - S.1) ≤ 7293034; omega)) ?_
  refine j_kn (k' := S1.1) (n' := 200 * S1.1 + 8000) (by show S.1 + (S1.1 - S.1) = S1.1; omega) (by show 200 * S.1 + 8000 + 200 * (S1.1 - S.1) = 200 * S1.1 + 8000; omega) ?_
  refine j_aload_n (pc := 449) C dL_law_449 rfl rfl ?_
  refine x_refl (pc := 450) C dL_law_450 rfl rfl ?_
  refine j_iload_n (pc := 451) C dL_law_451 rfl rfl ?_
  refine j_iconst (pc := 452) (v := nI 1) C dL_law_452 (by decide) ?_
  refine j_iadd (pc := 453) C dL_law_453 ?_
  refine x_sld (pc := 454) (j := i + 1) C hX hb hL9 (nI_add _ _) (by omega) dL_law_454 ?_
  refine x_refl (pc := 455) C dL_law_455 rfl rfl ?_
  refine j_iload_n (pc := 456) C dL_law_456 rfl rfl ?_
  refine j_iconst (pc := 457) (v := nI 2) C dL_law_457 (by decide) ?_
  refine j_iadd (pc := 458) C dL_law_458 ?_
  refine x_sld (pc := 459) (j := i + 2) C hX hb hL9 (nI_add _ _) (by omega) dL_law_459 ?_
  replace hk := bd2_some hk
  obtain ⟨r2, I2, hc2, hk⟩ := hk
  refine j_callV (pc := 460) C (ct_X9_law hM1 hc2) mv_X9_law (stM_o hM1) rfl rfl q2157 dL_law_460 rfl rfl (Nat.le_of_ble_eq_true rfl) (rmOK.i (Nat.le_of_ble_eq_true rfl) (Nat.le_of_ble_eq_true rfl) (by show S1.1 + 0 ≤ 601024; omega) (by show 200 * S1.1 + 8000 + 0 ≤ 7293034; omega)) ?_
  refine j_kn (k' := S1.1) (n' := 200 * S1.1 + 8000) rfl rfl ?_
  replace hk := og_some hk
  obtain ⟨he, hk⟩ := hk
  obtain rfl := Option.some.inj hk
  exact j_icmp_eq (pc := 463) 1392 C dL_law_463 (by decide) (fun _ => kk) (fun h => absurd he h)
def f_arm_8 (F : Nat) (a1 a2 : Int32) (S : SH) (I : II) : Option (SH × II) := bd2 (f_X0_price S a1 a2 I) fun r1 I1 => bd2 (f_X9_price a1 a2 I1) fun r2 I2 => og (r1 = r2) <| some (S, I2)
set_option maxHeartbeats 4000000 in
theorem law_arm_8 {hh : List (Nat × Nat × Nat × Nat)} {G : WG} {p : Program} {l : Launch} {e : Env} {s : State} {m : MethodId} {args : Array Value} {below : List Frame} {meth : Method} {c : Code} {mn : String} {Xf : XX} {mc ms F b L i : Nat} {xs : Nat → Int32} {S : SH} {I : II} {Z : SH × II} (C : Cx G p room_1 s m args meth c cL_law "NineDemandsLaw" 4 (some .boolean) hh mn) (hX : va_X b L xs s G.2.2.2.2.1) (hb : b < gb G) (hL9 : L ≤ 384) (hi : i + 6 ≤ L) (hS36 : S.1 ≤ 36000) (hS : stN S) (hM : StM S) (hk : f_arm_8 F (xs (i + 1)) (xs (i + 2)) S I = some Z) (kk : J G p l e room_1 s m args below meth c 4 (.returned (some (.int (nI 1)))) Xf mc ms Z Z.1.1 (200 * Z.1.1 + 8000) 1392 [some (.ref b), some (.ref (wad G 0)), some (.ref (wad G 27)), some (.int (nI i))] []) : J G p l e room_1 s m args below meth c 4 (.returned (some (.int (nI 1)))) Xf mc ms (S, I) S.1 (200 * S.1 + 8000) 468 [some (.ref b), some (.ref (wad G 0)), some (.ref (wad G 27)), some (.int (nI i))] [] := by
  unfold f_arm_8 at hk
  refine j_aload_n (pc := 468) C dL_law_468 rfl rfl ?_
  refine x_refl (pc := 469) C dL_law_469 rfl rfl ?_
  refine j_iload_n (pc := 470) C dL_law_470 rfl rfl ?_
  refine j_iconst (pc := 471) (v := nI 1) C dL_law_471 (by decide) ?_
  refine j_iadd (pc := 472) C dL_law_472 ?_
  refine x_sld (pc := 473) (j := i + 1) C hX hb hL9 (nI_add _ _) (by omega) dL_law_473 ?_
  refine x_refl (pc := 474) C dL_law_474 rfl rfl ?_
  refine j_iload_n (pc := 475) C dL_law_475 rfl rfl ?_
  refine j_iconst (pc := 476) (v := nI 2) C dL_law_476 (by decide) ?_
  refine j_iadd (pc := 477) C dL_law_477 ?_
  refine x_sld (pc := 478) (j := i + 2) C hX hb hL9 (nI_add _ _) (by omega) dL_law_478 ?_
  replace hk := bd2_some hk
  obtain ⟨r1, I1, hc1, hk⟩ := hk
  refine x_callVW (pc := 479) C (ct_X0_price hS hc1) mw_X0_price (stN_o0 hS).r rfl rfl q1321 dL_law_479 rfl rfl (Nat.le_of_ble_eq_true rfl) (rmOK.i (Nat.le_of_ble_eq_true rfl) (Nat.le_of_ble_eq_true rfl) (by show S.1 + 0 ≤ 601024; omega) (by show 200 * S.1 + 8000 + 0 ≤ 7293034; omega)) ?_
  refine j_kn (k' := S.1) (n' := 200 * S.1 + 8000) rfl rfl ?_
  refine j_aload_n (pc := 482) C dL_law_482 rfl rfl ?_
  refine x_refl (pc := 483) C dL_law_483 rfl rfl ?_
  refine j_iload_n (pc := 484) C dL_law_484 rfl rfl ?_
  refine j_iconst (pc := 485) (v := nI 1) C dL_law_485 (by decide) ?_
  refine j_iadd (pc := 486) C dL_law_486 ?_
  refine x_sld (pc := 487) (j := i + 1) C hX hb hL9 (nI_add _ _) (by omega) dL_law_487 ?_
  refine x_refl (pc := 488) C dL_law_488 rfl rfl ?_
  refine j_iload_n (pc := 489) C dL_law_489 rfl rfl ?_
  refine j_iconst (pc := 490) (v := nI 2) C dL_law_490 (by decide) ?_
  refine j_iadd (pc := 491) C dL_law_491 ?_
  refine x_sld (pc := 492) (j := i + 2) C hX hb hL9 (nI_add _ _) (by omega) dL_law_492 ?_
  replace hk := bd2_some hk
  obtain ⟨r2, I2, hc2, hk⟩ := hk
  refine j_callV (pc := 493) C (ct_X9_price hM hc2) mv_X9_price (stM_o hM) rfl rfl q2219 dL_law_493 rfl rfl (Nat.le_of_ble_eq_true rfl) (rmOK.i (Nat.le_of_ble_eq_true rfl) (Nat.le_of_ble_eq_true rfl) (by show S.1 + 0 ≤ 601024; omega) (by show 200 * S.1 + 8000 + 0 ≤ 7293034; omega)) ?_
  refine j_kn (k' := S.1) (n' := 200 * S.1 + 8000) rfl rfl ?_
  replace hk := og_some hk
  obtain ⟨he, hk⟩ := hk
  obtain rfl := Option.some.inj hk
  exact j_icmp_eq (pc := 496) 1392 C dL_law_496 (by decide) (fun _ => kk) (fun h => absurd he h)
def f_arm_9 (F : Nat) (a1 a2 : Int32) (S : SH) (I : II) : Option (SH × II) := bd2 (f_X0_as S a1 a2 I) fun r1 I1 => bd2 (f_X9_as F a1 a2 I1) fun r2 I2 => og (r1 = r2) <| some (S, I2)
set_option maxHeartbeats 4000000 in
theorem law_arm_9 {hh : List (Nat × Nat × Nat × Nat)} {G : WG} {p : Program} {l : Launch} {e : Env} {s : State} {m : MethodId} {args : Array Value} {below : List Frame} {meth : Method} {c : Code} {mn : String} {Xf : XX} {mc ms F b L i : Nat} {xs : Nat → Int32} {S : SH} {I : II} {Z : SH × II} (C : Cx G p room_1 s m args meth c cL_law "NineDemandsLaw" 4 (some .boolean) hh mn) (hX : va_X b L xs s G.2.2.2.2.1) (hb : b < gb G) (hL9 : L ≤ 384) (hi : i + 6 ≤ L) (hS36 : S.1 ≤ 36000) (hS : stN S) (hM : StM S) (hk : f_arm_9 F (xs (i + 1)) (xs (i + 2)) S I = some Z) (kk : J G p l e room_1 s m args below meth c 4 (.returned (some (.int (nI 1)))) Xf mc ms Z Z.1.1 (200 * Z.1.1 + 8000) 1392 [some (.ref b), some (.ref (wad G 0)), some (.ref (wad G 27)), some (.int (nI i))] []) : J G p l e room_1 s m args below meth c 4 (.returned (some (.int (nI 1)))) Xf mc ms (S, I) S.1 (200 * S.1 + 8000) 501 [some (.ref b), some (.ref (wad G 0)), some (.ref (wad G 27)), some (.int (nI i))] [] := by
  unfold f_arm_9 at hk
  refine j_aload_n (pc := 501) C dL_law_501 rfl rfl ?_
  refine x_refl (pc := 502) C dL_law_502 rfl rfl ?_
  refine j_iload_n (pc := 503) C dL_law_503 rfl rfl ?_
  refine j_iconst (pc := 504) (v := nI 1) C dL_law_504 (by decide) ?_
  refine j_iadd (pc := 505) C dL_law_505 ?_
  refine x_sld (pc := 506) (j := i + 1) C hX hb hL9 (nI_add _ _) (by omega) dL_law_506 ?_
  refine x_refl (pc := 507) C dL_law_507 rfl rfl ?_
  refine j_iload_n (pc := 508) C dL_law_508 rfl rfl ?_
  refine j_iconst (pc := 509) (v := nI 2) C dL_law_509 (by decide) ?_
  refine j_iadd (pc := 510) C dL_law_510 ?_
  refine x_sld (pc := 511) (j := i + 2) C hX hb hL9 (nI_add _ _) (by omega) dL_law_511 ?_
  replace hk := bd2_some hk
  obtain ⟨r1, I1, hc1, hk⟩ := hk
  refine x_callVW (pc := 512) C (ct_X0_as hS hc1) mw_X0_as (stN_o0 hS).r rfl rfl q1343 dL_law_512 rfl rfl (Nat.le_of_ble_eq_true rfl) (rmOK.i (Nat.le_of_ble_eq_true rfl) (Nat.le_of_ble_eq_true rfl) (by show S.1 + 0 ≤ 601024; omega) (by show 200 * S.1 + 8000 + 0 ≤ 7293034; omega)) ?_
  refine j_kn (k' := S.1) (n' := 200 * S.1 + 8000) rfl rfl ?_
  refine j_aload_n (pc := 515) C dL_law_515 rfl rfl ?_
  refine x_refl (pc := 516) C dL_law_516 rfl rfl ?_
  refine j_iload_n (pc := 517) C dL_law_517 rfl rfl ?_
  refine j_iconst (pc := 518) (v := nI 1) C dL_law_518 (by decide) ?_
  refine j_iadd (pc := 519) C dL_law_519 ?_
  refine x_sld (pc := 520) (j := i + 1) C hX hb hL9 (nI_add _ _) (by omega) dL_law_520 ?_
  refine x_refl (pc := 521) C dL_law_521 rfl rfl ?_
  refine j_iload_n (pc := 522) C dL_law_522 rfl rfl ?_
  refine j_iconst (pc := 523) (v := nI 2) C dL_law_523 (by decide) ?_
  refine j_iadd (pc := 524) C dL_law_524 ?_
  refine x_sld (pc := 525) (j := i + 2) C hX hb hL9 (nI_add _ _) (by omega) dL_law_525 ?_
  replace hk := bd2_some hk
  obtain ⟨r2, I2, hc2, hk⟩ := hk
  refine j_callV (pc := 526) C (ct_X9_as hM hc2) mv_X9_as (stM_o hM) rfl rfl q2227 dL_law_526 rfl rfl (Nat.le_of_ble_eq_true rfl) (rmOK.i (Nat.le_of_ble_eq_true rfl) (Nat.le_of_ble_eq_true rfl) (by show S.1 + 0 ≤ 601024; omega) (by show 200 * S.1 + 8000 + 0 ≤ 7293034; omega)) ?_
  refine j_kn (k' := S.1) (n' := 200 * S.1 + 8000) rfl rfl ?_
  replace hk := og_some hk
  obtain ⟨he, hk⟩ := hk
  obtain rfl := Option.some.inj hk
  exact j_icmp_eq (pc := 529) 1392 C dL_law_529 (by decide) (fun _ => kk) (fun h => absurd he h)
def f_arm_10 (F : Nat) (a1 a2 a3 : Int32) (S : SH) (I : II) : Option (SH × II) := bd2 (f_X0_part S a1 a2 a3 I) fun r1 I1 => bd2 (f_X9_part a1 a2 a3 I1) fun r2 I2 => og (r1 = r2) <| some (S, I2)
set_option maxHeartbeats 4000000 in
theorem law_arm_10 {hh : List (Nat × Nat × Nat × Nat)} {G : WG} {p : Program} {l : Launch} {e : Env} {s : State} {m : MethodId} {args : Array Value} {below : List Frame} {meth : Method} {c : Code} {mn : String} {Xf : XX} {mc ms F b L i : Nat} {xs : Nat → Int32} {S : SH} {I : II} {Z : SH × II} (C : Cx G p room_1 s m args meth c cL_law "NineDemandsLaw" 4 (some .boolean) hh mn) (hX : va_X b L xs s G.2.2.2.2.1) (hb : b < gb G) (hL9 : L ≤ 384) (hi : i + 6 ≤ L) (hS36 : S.1 ≤ 36000) (hS : stN S) (hM : StM S) (hk : f_arm_10 F (xs (i + 1)) (xs (i + 2)) (xs (i + 3)) S I = some Z) (kk : J G p l e room_1 s m args below meth c 4 (.returned (some (.int (nI 1)))) Xf mc ms Z Z.1.1 (200 * Z.1.1 + 8000) 1392 [some (.ref b), some (.ref (wad G 0)), some (.ref (wad G 27)), some (.int (nI i))] []) : J G p l e room_1 s m args below meth c 4 (.returned (some (.int (nI 1)))) Xf mc ms (S, I) S.1 (200 * S.1 + 8000) 534 [some (.ref b), some (.ref (wad G 0)), some (.ref (wad G 27)), some (.int (nI i))] [] := by
  unfold f_arm_10 at hk
  refine j_aload_n (pc := 534) C dL_law_534 rfl rfl ?_
  refine x_refl (pc := 535) C dL_law_535 rfl rfl ?_
  refine j_iload_n (pc := 536) C dL_law_536 rfl rfl ?_
  refine j_iconst (pc := 537) (v := nI 1) C dL_law_537 (by decide) ?_
  refine j_iadd (pc := 538) C dL_law_538 ?_
  refine x_sld (pc := 539) (j := i + 1) C hX hb hL9 (nI_add _ _) (by omega) dL_law_539 ?_
  refine x_refl (pc := 540) C dL_law_540 rfl rfl ?_
  refine j_iload_n (pc := 541) C dL_law_541 rfl rfl ?_
  refine j_iconst (pc := 542) (v := nI 2) C dL_law_542 (by decide) ?_
  refine j_iadd (pc := 543) C dL_law_543 ?_
  refine x_sld (pc := 544) (j := i + 2) C hX hb hL9 (nI_add _ _) (by omega) dL_law_544 ?_
  refine x_refl (pc := 545) C dL_law_545 rfl rfl ?_
  refine j_iload_n (pc := 546) C dL_law_546 rfl rfl ?_
  refine j_iconst (pc := 547) (v := nI 3) C dL_law_547 (by decide) ?_
  refine j_iadd (pc := 548) C dL_law_548 ?_
  refine x_sld (pc := 549) (j := i + 3) C hX hb hL9 (nI_add _ _) (by omega) dL_law_549 ?_
  replace hk := bd2_some hk
  obtain ⟨r1, I1, hc1, hk⟩ := hk
  refine x_callVW (pc := 550) C (ct_X0_part hS hc1) mw_X0_part (stN_o0 hS).r rfl rfl q1372 dL_law_550 rfl rfl (Nat.le_of_ble_eq_true rfl) (rmOK.i (Nat.le_of_ble_eq_true rfl) (Nat.le_of_ble_eq_true rfl) (by show S.1 + 0 ≤ 601024; omega) (by show 200 * S.1 + 8000 + 0 ≤ 7293034; omega)) ?_
  refine j_kn (k' := S.1) (n' := 200 * S.1 + 8000) rfl rfl ?_
  refine j_aload_n (pc := 553) C dL_law_553 rfl rfl ?_
  refine x_refl (pc := 554) C dL_law_554 rfl rfl ?_
  refine j_iload_n (pc := 555) C dL_law_555 rfl rfl ?_
  refine j_iconst (pc := 556) (v := nI 1) C dL_law_556 (by decide) ?_
  refine j_iadd (pc := 557) C dL_law_557 ?_
  refine x_sld (pc := 558) (j := i + 1) C hX hb hL9 (nI_add _ _) (by omega) dL_law_558 ?_
  refine x_refl (pc := 559) C dL_law_559 rfl rfl ?_
  refine j_iload_n (pc := 560) C dL_law_560 rfl rfl ?_
  refine j_iconst (pc := 561) (v := nI 2) C dL_law_561 (by decide) ?_
  refine j_iadd (pc := 562) C dL_law_562 ?_
  refine x_sld (pc := 563) (j := i + 2) C hX hb hL9 (nI_add _ _) (by omega) dL_law_563 ?_
  refine x_refl (pc := 564) C dL_law_564 rfl rfl ?_
  refine j_iload_n (pc := 565) C dL_law_565 rfl rfl ?_
  refine j_iconst (pc := 566) (v := nI 3) C dL_law_566 (by decide) ?_
  refine j_iadd (pc := 567) C dL_law_567 ?_
  refine x_sld (pc := 568) (j := i + 3) C hX hb hL9 (nI_add _ _) (by omega) dL_law_568 ?_
  replace hk := bd2_some hk
  obtain ⟨r2, I2, hc2, hk⟩ := hk
  refine j_callV (pc := 569) C (ct_X9_part hM hc2) mv_X9_part (stM_o hM) rfl rfl q2242 dL_law_569 rfl rfl (Nat.le_of_ble_eq_true rfl) (rmOK.i (Nat.le_of_ble_eq_true rfl) (Nat.le_of_ble_eq_true rfl) (by show S.1 + 0 ≤ 601024; omega) (by show 200 * S.1 + 8000 + 0 ≤ 7293034; omega)) ?_
  refine j_kn (k' := S.1) (n' := 200 * S.1 + 8000) rfl rfl ?_
  replace hk := og_some hk
  obtain ⟨he, hk⟩ := hk
  obtain rfl := Option.some.inj hk
  exact j_icmp_eq (pc := 572) 1392 C dL_law_572 (by decide) (fun _ => kk) (fun h => absurd he h)
def f_arm_11 (F : Nat) (a1 a2 a3 a4 : Int32) (S : SH) (I : II) : Option (SH × II) := bd2 (f_X0_so S a1 a2 a3 a4 I) fun r1 I1 => bd2 (f_X9_so a1 a2 a3 a4 I1) fun r2 I2 => og (r1 = r2) <| some (S, I2)
set_option maxHeartbeats 4000000 in
theorem law_arm_11 {hh : List (Nat × Nat × Nat × Nat)} {G : WG} {p : Program} {l : Launch} {e : Env} {s : State} {m : MethodId} {args : Array Value} {below : List Frame} {meth : Method} {c : Code} {mn : String} {Xf : XX} {mc ms F b L i : Nat} {xs : Nat → Int32} {S : SH} {I : II} {Z : SH × II} (C : Cx G p room_1 s m args meth c cL_law "NineDemandsLaw" 4 (some .boolean) hh mn) (hX : va_X b L xs s G.2.2.2.2.1) (hb : b < gb G) (hL9 : L ≤ 384) (hi : i + 6 ≤ L) (hS36 : S.1 ≤ 36000) (hS : stN S) (hM : StM S) (hk : f_arm_11 F (xs (i + 1)) (xs (i + 2)) (xs (i + 3)) (xs (i + 4)) S I = some Z) (kk : J G p l e room_1 s m args below meth c 4 (.returned (some (.int (nI 1)))) Xf mc ms Z Z.1.1 (200 * Z.1.1 + 8000) 1392 [some (.ref b), some (.ref (wad G 0)), some (.ref (wad G 27)), some (.int (nI i))] []) : J G p l e room_1 s m args below meth c 4 (.returned (some (.int (nI 1)))) Xf mc ms (S, I) S.1 (200 * S.1 + 8000) 577 [some (.ref b), some (.ref (wad G 0)), some (.ref (wad G 27)), some (.int (nI i))] [] := by
  unfold f_arm_11 at hk
  refine j_aload_n (pc := 577) C dL_law_577 rfl rfl ?_
  refine x_refl (pc := 578) C dL_law_578 rfl rfl ?_
  refine j_iload_n (pc := 579) C dL_law_579 rfl rfl ?_
  refine j_iconst (pc := 580) (v := nI 1) C dL_law_580 (by decide) ?_
  refine j_iadd (pc := 581) C dL_law_581 ?_
  refine x_sld (pc := 582) (j := i + 1) C hX hb hL9 (nI_add _ _) (by omega) dL_law_582 ?_
  refine x_refl (pc := 583) C dL_law_583 rfl rfl ?_
  refine j_iload_n (pc := 584) C dL_law_584 rfl rfl ?_
  refine j_iconst (pc := 585) (v := nI 2) C dL_law_585 (by decide) ?_
  refine j_iadd (pc := 586) C dL_law_586 ?_
  refine x_sld (pc := 587) (j := i + 2) C hX hb hL9 (nI_add _ _) (by omega) dL_law_587 ?_
  refine x_refl (pc := 588) C dL_law_588 rfl rfl ?_
  refine j_iload_n (pc := 589) C dL_law_589 rfl rfl ?_
  refine j_iconst (pc := 590) (v := nI 3) C dL_law_590 (by decide) ?_
  refine j_iadd (pc := 591) C dL_law_591 ?_
  refine x_sld (pc := 592) (j := i + 3) C hX hb hL9 (nI_add _ _) (by omega) dL_law_592 ?_
  refine x_refl (pc := 593) C dL_law_593 rfl rfl ?_
  refine j_iload_n (pc := 594) C dL_law_594 rfl rfl ?_
  refine j_iconst (pc := 595) (v := nI 4) C dL_law_595 (by decide) ?_
  refine j_iadd (pc := 596) C dL_law_596 ?_
  refine x_sld (pc := 597) (j := i + 4) C hX hb hL9 (nI_add _ _) (by omega) dL_law_597 ?_
  replace hk := bd2_some hk
  obtain ⟨r1, I1, hc1, hk⟩ := hk
  refine x_callVW (pc := 598) C (ct_X0_so hS hc1) mw_X0_so (stN_o0 hS).r rfl rfl q1384 dL_law_598 rfl rfl (Nat.le_of_ble_eq_true rfl) (rmOK.i (Nat.le_of_ble_eq_true rfl) (Nat.le_of_ble_eq_true rfl) (by show S.1 + 0 ≤ 601024; omega) (by show 200 * S.1 + 8000 + 0 ≤ 7293034; omega)) ?_
  refine j_kn (k' := S.1) (n' := 200 * S.1 + 8000) rfl rfl ?_
  refine j_aload_n (pc := 601) C dL_law_601 rfl rfl ?_
  refine x_refl (pc := 602) C dL_law_602 rfl rfl ?_
  refine j_iload_n (pc := 603) C dL_law_603 rfl rfl ?_
  refine j_iconst (pc := 604) (v := nI 1) C dL_law_604 (by decide) ?_
  refine j_iadd (pc := 605) C dL_law_605 ?_
  refine x_sld (pc := 606) (j := i + 1) C hX hb hL9 (nI_add _ _) (by omega) dL_law_606 ?_
  refine x_refl (pc := 607) C dL_law_607 rfl rfl ?_
  refine j_iload_n (pc := 608) C dL_law_608 rfl rfl ?_
  refine j_iconst (pc := 609) (v := nI 2) C dL_law_609 (by decide) ?_
  refine j_iadd (pc := 610) C dL_law_610 ?_
  refine x_sld (pc := 611) (j := i + 2) C hX hb hL9 (nI_add _ _) (by omega) dL_law_611 ?_
  refine x_refl (pc := 612) C dL_law_612 rfl rfl ?_
  refine j_iload_n (pc := 613) C dL_law_613 rfl rfl ?_
  refine j_iconst (pc := 614) (v := nI 3) C dL_law_614 (by decide) ?_
  refine j_iadd (pc := 615) C dL_law_615 ?_
  refine x_sld (pc := 616) (j := i + 3) C hX hb hL9 (nI_add _ _) (by omega) dL_law_616 ?_
  refine x_refl (pc := 617) C dL_law_617 rfl rfl ?_
  refine j_iload_n (pc := 618) C dL_law_618 rfl rfl ?_
  refine j_iconst (pc := 619) (v := nI 4) C dL_law_619 (by decide) ?_
  refine j_iadd (pc := 620) C dL_law_620 ?_
  refine x_sld (pc := 621) (j := i + 4) C hX hb hL9 (nI_add _ _) (by omega) dL_law_621 ?_
  replace hk := bd2_some hk
  obtain ⟨r2, I2, hc2, hk⟩ := hk
  refine j_callV (pc := 622) C (ct_X9_so hM hc2) mv_X9_so (stM_o hM) rfl rfl q2262 dL_law_622 rfl rfl (Nat.le_of_ble_eq_true rfl) (rmOK.i (Nat.le_of_ble_eq_true rfl) (Nat.le_of_ble_eq_true rfl) (by show S.1 + 0 ≤ 601024; omega) (by show 200 * S.1 + 8000 + 0 ≤ 7293034; omega)) ?_
  refine j_kn (k' := S.1) (n' := 200 * S.1 + 8000) rfl rfl ?_
  replace hk := og_some hk
  obtain ⟨he, hk⟩ := hk
  obtain rfl := Option.some.inj hk
  exact j_icmp_eq (pc := 625) 1392 C dL_law_625 (by decide) (fun _ => kk) (fun h => absurd he h)
def f_arm_12 (F : Nat) (a1 : Int32) (S : SH) (I : II) : Option (SH × II) := bd2 (f_X0_breach F S a1 I) fun r1 I1 => bd2 (f_X9_breach F a1 I1) fun r2 I2 => og (r1 = r2) <| some (S, I2)
set_option maxHeartbeats 4000000 in
theorem law_arm_12 {hh : List (Nat × Nat × Nat × Nat)} {G : WG} {p : Program} {l : Launch} {e : Env} {s : State} {m : MethodId} {args : Array Value} {below : List Frame} {meth : Method} {c : Code} {mn : String} {Xf : XX} {mc ms F b L i : Nat} {xs : Nat → Int32} {S : SH} {I : II} {Z : SH × II} (C : Cx G p room_1 s m args meth c cL_law "NineDemandsLaw" 4 (some .boolean) hh mn) (hX : va_X b L xs s G.2.2.2.2.1) (hb : b < gb G) (hL9 : L ≤ 384) (hi : i + 6 ≤ L) (hS36 : S.1 ≤ 36000) (hS : stN S) (hM : StM S) (hk : f_arm_12 F (xs (i + 1)) S I = some Z) (kk : J G p l e room_1 s m args below meth c 4 (.returned (some (.int (nI 1)))) Xf mc ms Z Z.1.1 (200 * Z.1.1 + 8000) 1392 [some (.ref b), some (.ref (wad G 0)), some (.ref (wad G 27)), some (.int (nI i))] []) : J G p l e room_1 s m args below meth c 4 (.returned (some (.int (nI 1)))) Xf mc ms (S, I) S.1 (200 * S.1 + 8000) 630 [some (.ref b), some (.ref (wad G 0)), some (.ref (wad G 27)), some (.int (nI i))] [] := by
  unfold f_arm_12 at hk
  refine j_aload_n (pc := 630) C dL_law_630 rfl rfl ?_
  refine x_refl (pc := 631) C dL_law_631 rfl rfl ?_
  refine j_iload_n (pc := 632) C dL_law_632 rfl rfl ?_
  refine j_iconst (pc := 633) (v := nI 1) C dL_law_633 (by decide) ?_
  refine j_iadd (pc := 634) C dL_law_634 ?_
  refine x_sld (pc := 635) (j := i + 1) C hX hb hL9 (nI_add _ _) (by omega) dL_law_635 ?_
  replace hk := bd2_some hk
  obtain ⟨r1, I1, hc1, hk⟩ := hk
  refine x_callVW (pc := 636) C (ct_X0_breach hS hc1) mw_X0_breach (stN_o0 hS).r rfl rfl q1398 dL_law_636 rfl rfl (Nat.le_of_ble_eq_true rfl) (rmOK.i (Nat.le_of_ble_eq_true rfl) (Nat.le_of_ble_eq_true rfl) (by show S.1 + 0 ≤ 601024; omega) (by show 200 * S.1 + 8000 + 0 ≤ 7293034; omega)) ?_
  refine j_kn (k' := S.1) (n' := 200 * S.1 + 8000) rfl rfl ?_
  refine j_aload_n (pc := 639) C dL_law_639 rfl rfl ?_
  refine x_refl (pc := 640) C dL_law_640 rfl rfl ?_
  refine j_iload_n (pc := 641) C dL_law_641 rfl rfl ?_
  refine j_iconst (pc := 642) (v := nI 1) C dL_law_642 (by decide) ?_
  refine j_iadd (pc := 643) C dL_law_643 ?_
  refine x_sld (pc := 644) (j := i + 1) C hX hb hL9 (nI_add _ _) (by omega) dL_law_644 ?_
  replace hk := bd2_some hk
  obtain ⟨r2, I2, hc2, hk⟩ := hk
  refine j_callV (pc := 645) C (ct_X9_breach hM hc2) mv_X9_breach (stM_o hM) rfl rfl q2273 dL_law_645 rfl rfl (Nat.le_of_ble_eq_true rfl) (rmOK.i (Nat.le_of_ble_eq_true rfl) (Nat.le_of_ble_eq_true rfl) (by show S.1 + 0 ≤ 601024; omega) (by show 200 * S.1 + 8000 + 0 ≤ 7293034; omega)) ?_
  refine j_kn (k' := S.1) (n' := 200 * S.1 + 8000) rfl rfl ?_
  replace hk := og_some hk
  obtain ⟨he, hk⟩ := hk
  obtain rfl := Option.some.inj hk
  exact j_icmp_eq (pc := 648) 1392 C dL_law_648 (by decide) (fun _ => kk) (fun h => absurd he h)
def f_arm_13 (F : Nat) (S : SH) (I : II) : Option (SH × II) := (f_X0_kept F S I).bind fun r1 => (f_X9_kept F I).bind fun r2 => og (r1 = r2) <| some (S, I)
set_option maxHeartbeats 4000000 in
theorem law_arm_13 {hh : List (Nat × Nat × Nat × Nat)} {G : WG} {p : Program} {l : Launch} {e : Env} {s : State} {m : MethodId} {args : Array Value} {below : List Frame} {meth : Method} {c : Code} {mn : String} {Xf : XX} {mc ms F b L i : Nat} {xs : Nat → Int32} {S : SH} {I : II} {Z : SH × II} (C : Cx G p room_1 s m args meth c cL_law "NineDemandsLaw" 4 (some .boolean) hh mn) (hX : va_X b L xs s G.2.2.2.2.1) (hb : b < gb G) (hL9 : L ≤ 384) (hi : i + 6 ≤ L) (hS36 : S.1 ≤ 36000) (hS : stN S) (hM : StM S) (hk : f_arm_13 F S I = some Z) (kk : J G p l e room_1 s m args below meth c 4 (.returned (some (.int (nI 1)))) Xf mc ms Z Z.1.1 (200 * Z.1.1 + 8000) 1392 [some (.ref b), some (.ref (wad G 0)), some (.ref (wad G 27)), some (.int (nI i))] []) : J G p l e room_1 s m args below meth c 4 (.returned (some (.int (nI 1)))) Xf mc ms (S, I) S.1 (200 * S.1 + 8000) 653 [some (.ref b), some (.ref (wad G 0)), some (.ref (wad G 27)), some (.int (nI i))] [] := by
  unfold f_arm_13 at hk
  refine j_aload_n (pc := 653) C dL_law_653 rfl rfl ?_
  replace hk := ob_some hk
  obtain ⟨r1, hc1, hk⟩ := hk
  refine x_callV (pc := 654) C (ct_X0_kept hS hc1) mv_X0_kept (stN_o0 hS).r rfl rfl q1407 dL_law_654 rfl rfl (Nat.le_of_ble_eq_true rfl) (rmOK.i (Nat.le_of_ble_eq_true rfl) (Nat.le_of_ble_eq_true rfl) (by show S.1 + 0 ≤ 601024; omega) (by show 200 * S.1 + 8000 + 0 ≤ 7293034; omega)) ?_
  refine j_kn (k' := S.1) (n' := 200 * S.1 + 8000) rfl rfl ?_
  refine j_aload_n (pc := 657) C dL_law_657 rfl rfl ?_
  replace hk := ob_some hk
  obtain ⟨r2, hc2, hk⟩ := hk
  refine j_callV (pc := 658) C (ct_X9_kept hM hc2) mv_X9_kept (stM_o hM) rfl rfl q2281 dL_law_658 rfl rfl (Nat.le_of_ble_eq_true rfl) (rmOK.i (Nat.le_of_ble_eq_true rfl) (Nat.le_of_ble_eq_true rfl) (by show S.1 + 0 ≤ 601024; omega) (by show 200 * S.1 + 8000 + 0 ≤ 7293034; omega)) ?_
  refine j_kn (k' := S.1) (n' := 200 * S.1 + 8000) rfl rfl ?_
  replace hk := og_some hk
  obtain ⟨he, hk⟩ := hk
  obtain rfl := Option.some.inj hk
  exact j_icmp_eq (pc := 661) 1392 C dL_law_661 (by decide) (fun _ => kk) (fun h => absurd he h)
def f_arm_14 (F : Nat) (a1 a2 : Int32) (S : SH) (I : II) : Option (SH × II) := bd2 (f_X0_find F S a1 a2 I) fun r1 I1 => bd2 (f_X9_find F a1 a2 I1) fun r2 I2 => og (r1 = r2) <| some (S, I2)
set_option maxHeartbeats 4000000 in
theorem law_arm_14 {hh : List (Nat × Nat × Nat × Nat)} {G : WG} {p : Program} {l : Launch} {e : Env} {s : State} {m : MethodId} {args : Array Value} {below : List Frame} {meth : Method} {c : Code} {mn : String} {Xf : XX} {mc ms F b L i : Nat} {xs : Nat → Int32} {S : SH} {I : II} {Z : SH × II} (C : Cx G p room_1 s m args meth c cL_law "NineDemandsLaw" 4 (some .boolean) hh mn) (hX : va_X b L xs s G.2.2.2.2.1) (hb : b < gb G) (hL9 : L ≤ 384) (hi : i + 6 ≤ L) (hS36 : S.1 ≤ 36000) (hS : stN S) (hM : StM S) (hk : f_arm_14 F (xs (i + 1)) (xs (i + 2)) S I = some Z) (kk : J G p l e room_1 s m args below meth c 4 (.returned (some (.int (nI 1)))) Xf mc ms Z Z.1.1 (200 * Z.1.1 + 8000) 1392 [some (.ref b), some (.ref (wad G 0)), some (.ref (wad G 27)), some (.int (nI i))] []) : J G p l e room_1 s m args below meth c 4 (.returned (some (.int (nI 1)))) Xf mc ms (S, I) S.1 (200 * S.1 + 8000) 666 [some (.ref b), some (.ref (wad G 0)), some (.ref (wad G 27)), some (.int (nI i))] [] := by
  unfold f_arm_14 at hk
  refine j_aload_n (pc := 666) C dL_law_666 rfl rfl ?_
  refine x_refl (pc := 667) C dL_law_667 rfl rfl ?_
  refine j_iload_n (pc := 668) C dL_law_668 rfl rfl ?_
  refine j_iconst (pc := 669) (v := nI 1) C dL_law_669 (by decide) ?_
  refine j_iadd (pc := 670) C dL_law_670 ?_
  refine x_sld (pc := 671) (j := i + 1) C hX hb hL9 (nI_add _ _) (by omega) dL_law_671 ?_
  refine x_refl (pc := 672) C dL_law_672 rfl rfl ?_
  refine j_iload_n (pc := 673) C dL_law_673 rfl rfl ?_
  refine j_iconst (pc := 674) (v := nI 2) C dL_law_674 (by decide) ?_
  refine j_iadd (pc := 675) C dL_law_675 ?_
  refine x_sld (pc := 676) (j := i + 2) C hX hb hL9 (nI_add _ _) (by omega) dL_law_676 ?_
  replace hk := bd2_some hk
  obtain ⟨r1, I1, hc1, hk⟩ := hk
  refine x_callVW (pc := 677) C (ct_X0_find hS hc1) mw_X0_find (stN_o0 hS).r rfl rfl q1411 dL_law_677 rfl rfl (Nat.le_of_ble_eq_true rfl) (rmOK.i (Nat.le_of_ble_eq_true rfl) (Nat.le_of_ble_eq_true rfl) (by show S.1 + 0 ≤ 601024; omega) (by show 200 * S.1 + 8000 + 0 ≤ 7293034; omega)) ?_
  refine j_kn (k' := S.1) (n' := 200 * S.1 + 8000) rfl rfl ?_
  refine j_aload_n (pc := 680) C dL_law_680 rfl rfl ?_
  refine x_refl (pc := 681) C dL_law_681 rfl rfl ?_
  refine j_iload_n (pc := 682) C dL_law_682 rfl rfl ?_
  refine j_iconst (pc := 683) (v := nI 1) C dL_law_683 (by decide) ?_
  refine j_iadd (pc := 684) C dL_law_684 ?_
  refine x_sld (pc := 685) (j := i + 1) C hX hb hL9 (nI_add _ _) (by omega) dL_law_685 ?_
  refine x_refl (pc := 686) C dL_law_686 rfl rfl ?_
  refine j_iload_n (pc := 687) C dL_law_687 rfl rfl ?_
  refine j_iconst (pc := 688) (v := nI 2) C dL_law_688 (by decide) ?_
  refine j_iadd (pc := 689) C dL_law_689 ?_
  refine x_sld (pc := 690) (j := i + 2) C hX hb hL9 (nI_add _ _) (by omega) dL_law_690 ?_
  replace hk := bd2_some hk
  obtain ⟨r2, I2, hc2, hk⟩ := hk
  refine j_callV (pc := 691) C (ct_X9_find hM hc2) mv_X9_find (stM_o hM) rfl rfl q2285 dL_law_691 rfl rfl (Nat.le_of_ble_eq_true rfl) (rmOK.i (Nat.le_of_ble_eq_true rfl) (Nat.le_of_ble_eq_true rfl) (by show S.1 + 0 ≤ 601024; omega) (by show 200 * S.1 + 8000 + 0 ≤ 7293034; omega)) ?_
  refine j_kn (k' := S.1) (n' := 200 * S.1 + 8000) rfl rfl ?_
  replace hk := og_some hk
  obtain ⟨he, hk⟩ := hk
  obtain rfl := Option.some.inj hk
  exact j_icmp_eq (pc := 694) 1392 C dL_law_694 (by decide) (fun _ => kk) (fun h => absurd he h)
def f_arm_15 (F : Nat) (a1 : Int32) (S : SH) (I : II) : Option (SH × II) := bd2 (f_X0_write F S a1 I) fun r1 I1 => bd2 (f_X9_write F a1 I1) fun r2 I2 => og (r1 = r2) <| some (S, I2)
set_option maxHeartbeats 4000000 in
theorem law_arm_15 {hh : List (Nat × Nat × Nat × Nat)} {G : WG} {p : Program} {l : Launch} {e : Env} {s : State} {m : MethodId} {args : Array Value} {below : List Frame} {meth : Method} {c : Code} {mn : String} {Xf : XX} {mc ms F b L i : Nat} {xs : Nat → Int32} {S : SH} {I : II} {Z : SH × II} (C : Cx G p room_1 s m args meth c cL_law "NineDemandsLaw" 4 (some .boolean) hh mn) (hX : va_X b L xs s G.2.2.2.2.1) (hb : b < gb G) (hL9 : L ≤ 384) (hi : i + 6 ≤ L) (hS36 : S.1 ≤ 36000) (hS : stN S) (hM : StM S) (hk : f_arm_15 F (xs (i + 1)) S I = some Z) (kk : J G p l e room_1 s m args below meth c 4 (.returned (some (.int (nI 1)))) Xf mc ms Z Z.1.1 (200 * Z.1.1 + 8000) 1392 [some (.ref b), some (.ref (wad G 0)), some (.ref (wad G 27)), some (.int (nI i))] []) : J G p l e room_1 s m args below meth c 4 (.returned (some (.int (nI 1)))) Xf mc ms (S, I) S.1 (200 * S.1 + 8000) 699 [some (.ref b), some (.ref (wad G 0)), some (.ref (wad G 27)), some (.int (nI i))] [] := by
  unfold f_arm_15 at hk
  refine j_aload_n (pc := 699) C dL_law_699 rfl rfl ?_
  refine x_refl (pc := 700) C dL_law_700 rfl rfl ?_
  refine j_iload_n (pc := 701) C dL_law_701 rfl rfl ?_
  refine j_iconst (pc := 702) (v := nI 1) C dL_law_702 (by decide) ?_
  refine j_iadd (pc := 703) C dL_law_703 ?_
  refine x_sld (pc := 704) (j := i + 1) C hX hb hL9 (nI_add _ _) (by omega) dL_law_704 ?_
  replace hk := bd2_some hk
  obtain ⟨r1, I1, hc1, hk⟩ := hk
  refine x_callVW (pc := 705) C (ct_X0_write hS hc1) mw_X0_write (stN_o0 hS).r rfl rfl q1475 dL_law_705 rfl rfl (Nat.le_of_ble_eq_true rfl) (rmOK.i (Nat.le_of_ble_eq_true rfl) (Nat.le_of_ble_eq_true rfl) (by show S.1 + 0 ≤ 601024; omega) (by show 200 * S.1 + 8000 + 0 ≤ 7293034; omega)) ?_
  refine j_kn (k' := S.1) (n' := 200 * S.1 + 8000) rfl rfl ?_
  refine j_aload_n (pc := 708) C dL_law_708 rfl rfl ?_
  refine x_refl (pc := 709) C dL_law_709 rfl rfl ?_
  refine j_iload_n (pc := 710) C dL_law_710 rfl rfl ?_
  refine j_iconst (pc := 711) (v := nI 1) C dL_law_711 (by decide) ?_
  refine j_iadd (pc := 712) C dL_law_712 ?_
  refine x_sld (pc := 713) (j := i + 1) C hX hb hL9 (nI_add _ _) (by omega) dL_law_713 ?_
  replace hk := bd2_some hk
  obtain ⟨r2, I2, hc2, hk⟩ := hk
  refine j_callV (pc := 714) C (ct_X9_write hM hc2) mv_X9_write (stM_o hM) rfl rfl q2312 dL_law_714 rfl rfl (Nat.le_of_ble_eq_true rfl) (rmOK.i (Nat.le_of_ble_eq_true rfl) (Nat.le_of_ble_eq_true rfl) (by show S.1 + 0 ≤ 601024; omega) (by show 200 * S.1 + 8000 + 0 ≤ 7293034; omega)) ?_
  refine j_kn (k' := S.1) (n' := 200 * S.1 + 8000) rfl rfl ?_
  replace hk := og_some hk
  obtain ⟨he, hk⟩ := hk
  obtain rfl := Option.some.inj hk
  exact j_icmp_eq (pc := 717) 1392 C dL_law_717 (by decide) (fun _ => kk) (fun h => absurd he h)
def f_arm_16 (F : Nat) (a1 : Int32) (S : SH) (I : II) : Option (SH × II) := bd2 (f_X0_rules F S a1 I) fun r1 I1 => bd2 (f_X9_rules F a1 I1) fun r2 I2 => og ((lg_cmp r1 r2) = 0) <| some (S, I2)
set_option maxHeartbeats 4000000 in
theorem law_arm_16 {hh : List (Nat × Nat × Nat × Nat)} {G : WG} {p : Program} {l : Launch} {e : Env} {s : State} {m : MethodId} {args : Array Value} {below : List Frame} {meth : Method} {c : Code} {mn : String} {Xf : XX} {mc ms F b L i : Nat} {xs : Nat → Int32} {S : SH} {I : II} {Z : SH × II} (C : Cx G p room_1 s m args meth c cL_law "NineDemandsLaw" 4 (some .boolean) hh mn) (hX : va_X b L xs s G.2.2.2.2.1) (hb : b < gb G) (hL9 : L ≤ 384) (hi : i + 6 ≤ L) (hS36 : S.1 ≤ 36000) (hS : stN S) (hM : StM S) (hk : f_arm_16 F (xs (i + 1)) S I = some Z) (kk : J G p l e room_1 s m args below meth c 4 (.returned (some (.int (nI 1)))) Xf mc ms Z Z.1.1 (200 * Z.1.1 + 8000) 1392 [some (.ref b), some (.ref (wad G 0)), some (.ref (wad G 27)), some (.int (nI i))] []) : J G p l e room_1 s m args below meth c 4 (.returned (some (.int (nI 1)))) Xf mc ms (S, I) S.1 (200 * S.1 + 8000) 722 [some (.ref b), some (.ref (wad G 0)), some (.ref (wad G 27)), some (.int (nI i))] [] := by
  unfold f_arm_16 at hk
  refine j_aload_n (pc := 722) C dL_law_722 rfl rfl ?_
  refine x_refl (pc := 723) C dL_law_723 rfl rfl ?_
  refine j_iload_n (pc := 724) C dL_law_724 rfl rfl ?_
  refine j_iconst (pc := 725) (v := nI 1) C dL_law_725 (by decide) ?_
  refine j_iadd (pc := 726) C dL_law_726 ?_
  refine x_sld (pc := 727) (j := i + 1) C hX hb hL9 (nI_add _ _) (by omega) dL_law_727 ?_
  replace hk := bd2_some hk
  obtain ⟨r1, I1, hc1, hk⟩ := hk
  refine x_callVW (pc := 728) C (ct_X0_rules hS hc1) mw_X0_rules (stN_o0 hS).r rfl rfl q1484 dL_law_728 rfl rfl (Nat.le_of_ble_eq_true rfl) (rmOK.i (Nat.le_of_ble_eq_true rfl) (Nat.le_of_ble_eq_true rfl) (by show S.1 + 0 ≤ 601024; omega) (by show 200 * S.1 + 8000 + 0 ≤ 7293034; omega)) ?_
  refine j_kn (k' := S.1) (n' := 200 * S.1 + 8000) rfl rfl ?_
  refine j_aload_n (pc := 731) C dL_law_731 rfl rfl ?_
  refine x_refl (pc := 732) C dL_law_732 rfl rfl ?_
  refine j_iload_n (pc := 733) C dL_law_733 rfl rfl ?_
  refine j_iconst (pc := 734) (v := nI 1) C dL_law_734 (by decide) ?_
  refine j_iadd (pc := 735) C dL_law_735 ?_
  refine x_sld (pc := 736) (j := i + 1) C hX hb hL9 (nI_add _ _) (by omega) dL_law_736 ?_
  replace hk := bd2_some hk
  obtain ⟨r2, I2, hc2, hk⟩ := hk
  refine j_callV (pc := 737) C (ct_X9_rules hM hc2) mv_X9_rules (stM_o hM) rfl rfl q2316 dL_law_737 rfl rfl (Nat.le_of_ble_eq_true rfl) (rmOK.i (Nat.le_of_ble_eq_true rfl) (Nat.le_of_ble_eq_true rfl) (by show S.1 + 0 ≤ 601024; omega) (by show 200 * S.1 + 8000 + 0 ≤ 7293034; omega)) ?_
  refine j_kn (k' := S.1) (n' := 200 * S.1 + 8000) rfl rfl ?_
  refine j_lcmp (pc := 740) C dL_law_740 ?_
  replace hk := og_some hk
  obtain ⟨he, hk⟩ := hk
  obtain rfl := Option.some.inj hk
  exact j_if_eq (pc := 741) 1392 C dL_law_741 (by decide) (fun _ => kk) (fun h => absurd he h)
def f_arm_17 (F : Nat) (a1 a2 : Int32) (S : SH) (I : II) : Option (SH × II) := bd2 (f_X0_may F S a1 a2 I) fun r1 I1 => bd2 (f_X9_may F a1 a2 I1) fun r2 I2 => og (r1 = r2) <| some (S, I2)
set_option maxHeartbeats 4000000 in
theorem law_arm_17 {hh : List (Nat × Nat × Nat × Nat)} {G : WG} {p : Program} {l : Launch} {e : Env} {s : State} {m : MethodId} {args : Array Value} {below : List Frame} {meth : Method} {c : Code} {mn : String} {Xf : XX} {mc ms F b L i : Nat} {xs : Nat → Int32} {S : SH} {I : II} {Z : SH × II} (C : Cx G p room_1 s m args meth c cL_law "NineDemandsLaw" 4 (some .boolean) hh mn) (hX : va_X b L xs s G.2.2.2.2.1) (hb : b < gb G) (hL9 : L ≤ 384) (hi : i + 6 ≤ L) (hS36 : S.1 ≤ 36000) (hS : stN S) (hM : StM S) (hk : f_arm_17 F (xs (i + 1)) (xs (i + 2)) S I = some Z) (kk : J G p l e room_1 s m args below meth c 4 (.returned (some (.int (nI 1)))) Xf mc ms Z Z.1.1 (200 * Z.1.1 + 8000) 1392 [some (.ref b), some (.ref (wad G 0)), some (.ref (wad G 27)), some (.int (nI i))] []) : J G p l e room_1 s m args below meth c 4 (.returned (some (.int (nI 1)))) Xf mc ms (S, I) S.1 (200 * S.1 + 8000) 746 [some (.ref b), some (.ref (wad G 0)), some (.ref (wad G 27)), some (.int (nI i))] [] := by
  unfold f_arm_17 at hk
  refine j_aload_n (pc := 746) C dL_law_746 rfl rfl ?_
  refine x_refl (pc := 747) C dL_law_747 rfl rfl ?_
  refine j_iload_n (pc := 748) C dL_law_748 rfl rfl ?_
  refine j_iconst (pc := 749) (v := nI 1) C dL_law_749 (by decide) ?_
  refine j_iadd (pc := 750) C dL_law_750 ?_
  refine x_sld (pc := 751) (j := i + 1) C hX hb hL9 (nI_add _ _) (by omega) dL_law_751 ?_
  refine x_refl (pc := 752) C dL_law_752 rfl rfl ?_
  refine j_iload_n (pc := 753) C dL_law_753 rfl rfl ?_
  refine j_iconst (pc := 754) (v := nI 2) C dL_law_754 (by decide) ?_
  refine j_iadd (pc := 755) C dL_law_755 ?_
  refine x_sld (pc := 756) (j := i + 2) C hX hb hL9 (nI_add _ _) (by omega) dL_law_756 ?_
  replace hk := bd2_some hk
  obtain ⟨r1, I1, hc1, hk⟩ := hk
  refine x_callVW (pc := 757) C (ct_X0_may hS hc1) mw_X0_may (stN_o0 hS).r rfl rfl q1502 dL_law_757 rfl rfl (Nat.le_of_ble_eq_true rfl) (rmOK.i (Nat.le_of_ble_eq_true rfl) (Nat.le_of_ble_eq_true rfl) (by show S.1 + 0 ≤ 601024; omega) (by show 200 * S.1 + 8000 + 0 ≤ 7293034; omega)) ?_
  refine j_kn (k' := S.1) (n' := 200 * S.1 + 8000) rfl rfl ?_
  refine j_aload_n (pc := 760) C dL_law_760 rfl rfl ?_
  refine x_refl (pc := 761) C dL_law_761 rfl rfl ?_
  refine j_iload_n (pc := 762) C dL_law_762 rfl rfl ?_
  refine j_iconst (pc := 763) (v := nI 1) C dL_law_763 (by decide) ?_
  refine j_iadd (pc := 764) C dL_law_764 ?_
  refine x_sld (pc := 765) (j := i + 1) C hX hb hL9 (nI_add _ _) (by omega) dL_law_765 ?_
  refine x_refl (pc := 766) C dL_law_766 rfl rfl ?_
  refine j_iload_n (pc := 767) C dL_law_767 rfl rfl ?_
  refine j_iconst (pc := 768) (v := nI 2) C dL_law_768 (by decide) ?_
  refine j_iadd (pc := 769) C dL_law_769 ?_
  refine x_sld (pc := 770) (j := i + 2) C hX hb hL9 (nI_add _ _) (by omega) dL_law_770 ?_
  replace hk := bd2_some hk
  obtain ⟨r2, I2, hc2, hk⟩ := hk
  refine j_callV (pc := 771) C (ct_X9_may hM hc2) mv_X9_may (stM_o hM) rfl rfl q2328 dL_law_771 rfl rfl (Nat.le_of_ble_eq_true rfl) (rmOK.i (Nat.le_of_ble_eq_true rfl) (Nat.le_of_ble_eq_true rfl) (by show S.1 + 0 ≤ 601024; omega) (by show 200 * S.1 + 8000 + 0 ≤ 7293034; omega)) ?_
  refine j_kn (k' := S.1) (n' := 200 * S.1 + 8000) rfl rfl ?_
  replace hk := og_some hk
  obtain ⟨he, hk⟩ := hk
  obtain rfl := Option.some.inj hk
  exact j_icmp_eq (pc := 774) 1392 C dL_law_774 (by decide) (fun _ => kk) (fun h => absurd he h)
def f_arm_18 (F : Nat) (a1 : Int32) (S : SH) (I : II) : Option (SH × II) := bd2 (f_X0_near F S a1 I) fun r1 I1 => bd2 (f_X9_near F a1 I1) fun r2 I2 => og (r1 = r2) <| some (S, I2)
set_option maxHeartbeats 4000000 in
theorem law_arm_18 {hh : List (Nat × Nat × Nat × Nat)} {G : WG} {p : Program} {l : Launch} {e : Env} {s : State} {m : MethodId} {args : Array Value} {below : List Frame} {meth : Method} {c : Code} {mn : String} {Xf : XX} {mc ms F b L i : Nat} {xs : Nat → Int32} {S : SH} {I : II} {Z : SH × II} (C : Cx G p room_1 s m args meth c cL_law "NineDemandsLaw" 4 (some .boolean) hh mn) (hX : va_X b L xs s G.2.2.2.2.1) (hb : b < gb G) (hL9 : L ≤ 384) (hi : i + 6 ≤ L) (hS36 : S.1 ≤ 36000) (hS : stN S) (hM : StM S) (hk : f_arm_18 F (xs (i + 1)) S I = some Z) (kk : J G p l e room_1 s m args below meth c 4 (.returned (some (.int (nI 1)))) Xf mc ms Z Z.1.1 (200 * Z.1.1 + 8000) 1392 [some (.ref b), some (.ref (wad G 0)), some (.ref (wad G 27)), some (.int (nI i))] []) : J G p l e room_1 s m args below meth c 4 (.returned (some (.int (nI 1)))) Xf mc ms (S, I) S.1 (200 * S.1 + 8000) 779 [some (.ref b), some (.ref (wad G 0)), some (.ref (wad G 27)), some (.int (nI i))] [] := by
  unfold f_arm_18 at hk
  refine j_aload_n (pc := 779) C dL_law_779 rfl rfl ?_
  refine x_refl (pc := 780) C dL_law_780 rfl rfl ?_
  refine j_iload_n (pc := 781) C dL_law_781 rfl rfl ?_
  refine j_iconst (pc := 782) (v := nI 1) C dL_law_782 (by decide) ?_
  refine j_iadd (pc := 783) C dL_law_783 ?_
  refine x_sld (pc := 784) (j := i + 1) C hX hb hL9 (nI_add _ _) (by omega) dL_law_784 ?_
  replace hk := bd2_some hk
  obtain ⟨r1, I1, hc1, hk⟩ := hk
  refine x_callVW (pc := 785) C (ct_X0_near hS hc1) mw_X0_near (stN_o0 hS).r rfl rfl q1510 dL_law_785 rfl rfl (Nat.le_of_ble_eq_true rfl) (rmOK.i (Nat.le_of_ble_eq_true rfl) (Nat.le_of_ble_eq_true rfl) (by show S.1 + 0 ≤ 601024; omega) (by show 200 * S.1 + 8000 + 0 ≤ 7293034; omega)) ?_
  refine j_kn (k' := S.1) (n' := 200 * S.1 + 8000) rfl rfl ?_
  refine j_aload_n (pc := 788) C dL_law_788 rfl rfl ?_
  refine x_refl (pc := 789) C dL_law_789 rfl rfl ?_
  refine j_iload_n (pc := 790) C dL_law_790 rfl rfl ?_
  refine j_iconst (pc := 791) (v := nI 1) C dL_law_791 (by decide) ?_
  refine j_iadd (pc := 792) C dL_law_792 ?_
  refine x_sld (pc := 793) (j := i + 1) C hX hb hL9 (nI_add _ _) (by omega) dL_law_793 ?_
  replace hk := bd2_some hk
  obtain ⟨r2, I2, hc2, hk⟩ := hk
  refine j_callV (pc := 794) C (ct_X9_near hM hc2) mv_X9_near (stM_o hM) rfl rfl q2332 dL_law_794 rfl rfl (Nat.le_of_ble_eq_true rfl) (rmOK.i (Nat.le_of_ble_eq_true rfl) (Nat.le_of_ble_eq_true rfl) (by show S.1 + 0 ≤ 601024; omega) (by show 200 * S.1 + 8000 + 0 ≤ 7293034; omega)) ?_
  refine j_kn (k' := S.1) (n' := 200 * S.1 + 8000) rfl rfl ?_
  replace hk := og_some hk
  obtain ⟨he, hk⟩ := hk
  obtain rfl := Option.some.inj hk
  exact j_icmp_eq (pc := 797) 1392 C dL_law_797 (by decide) (fun _ => kk) (fun h => absurd he h)
def f_arm_19 (F : Nat) (a1 : Int32) (S : SH) (I : II) : Option (SH × II) := bd2 (f_X0_word F S a1 I) fun r1 I1 => bd2 (f_X9_word F a1 I1) fun r2 I2 => og (r1 = r2) <| some (S, I2)
set_option maxHeartbeats 4000000 in
theorem law_arm_19 {hh : List (Nat × Nat × Nat × Nat)} {G : WG} {p : Program} {l : Launch} {e : Env} {s : State} {m : MethodId} {args : Array Value} {below : List Frame} {meth : Method} {c : Code} {mn : String} {Xf : XX} {mc ms F b L i : Nat} {xs : Nat → Int32} {S : SH} {I : II} {Z : SH × II} (C : Cx G p room_1 s m args meth c cL_law "NineDemandsLaw" 4 (some .boolean) hh mn) (hX : va_X b L xs s G.2.2.2.2.1) (hb : b < gb G) (hL9 : L ≤ 384) (hi : i + 6 ≤ L) (hS36 : S.1 ≤ 36000) (hS : stN S) (hM : StM S) (hk : f_arm_19 F (xs (i + 1)) S I = some Z) (kk : J G p l e room_1 s m args below meth c 4 (.returned (some (.int (nI 1)))) Xf mc ms Z Z.1.1 (200 * Z.1.1 + 8000) 1392 [some (.ref b), some (.ref (wad G 0)), some (.ref (wad G 27)), some (.int (nI i))] []) : J G p l e room_1 s m args below meth c 4 (.returned (some (.int (nI 1)))) Xf mc ms (S, I) S.1 (200 * S.1 + 8000) 802 [some (.ref b), some (.ref (wad G 0)), some (.ref (wad G 27)), some (.int (nI i))] [] := by
  unfold f_arm_19 at hk
  refine j_aload_n (pc := 802) C dL_law_802 rfl rfl ?_
  refine x_refl (pc := 803) C dL_law_803 rfl rfl ?_
  refine j_iload_n (pc := 804) C dL_law_804 rfl rfl ?_
  refine j_iconst (pc := 805) (v := nI 1) C dL_law_805 (by decide) ?_
  refine j_iadd (pc := 806) C dL_law_806 ?_
  refine x_sld (pc := 807) (j := i + 1) C hX hb hL9 (nI_add _ _) (by omega) dL_law_807 ?_
  replace hk := bd2_some hk
  obtain ⟨r1, I1, hc1, hk⟩ := hk
  refine x_callVW (pc := 808) C (ct_X0_word hS hc1) mw_X0_word (stN_o0 hS).r rfl rfl q1522 dL_law_808 rfl rfl (Nat.le_of_ble_eq_true rfl) (rmOK.i (Nat.le_of_ble_eq_true rfl) (Nat.le_of_ble_eq_true rfl) (by show S.1 + 0 ≤ 601024; omega) (by show 200 * S.1 + 8000 + 0 ≤ 7293034; omega)) ?_
  refine j_kn (k' := S.1) (n' := 200 * S.1 + 8000) rfl rfl ?_
  refine j_aload_n (pc := 811) C dL_law_811 rfl rfl ?_
  refine x_refl (pc := 812) C dL_law_812 rfl rfl ?_
  refine j_iload_n (pc := 813) C dL_law_813 rfl rfl ?_
  refine j_iconst (pc := 814) (v := nI 1) C dL_law_814 (by decide) ?_
  refine j_iadd (pc := 815) C dL_law_815 ?_
  refine x_sld (pc := 816) (j := i + 1) C hX hb hL9 (nI_add _ _) (by omega) dL_law_816 ?_
  replace hk := bd2_some hk
  obtain ⟨r2, I2, hc2, hk⟩ := hk
  refine j_callV (pc := 817) C (ct_X9_word hM hc2) mv_X9_word (stM_o hM) rfl rfl q2340 dL_law_817 rfl rfl (Nat.le_of_ble_eq_true rfl) (rmOK.i (Nat.le_of_ble_eq_true rfl) (Nat.le_of_ble_eq_true rfl) (by show S.1 + 0 ≤ 601024; omega) (by show 200 * S.1 + 8000 + 0 ≤ 7293034; omega)) ?_
  refine j_kn (k' := S.1) (n' := 200 * S.1 + 8000) rfl rfl ?_
  replace hk := og_some hk
  obtain ⟨he, hk⟩ := hk
  obtain rfl := Option.some.inj hk
  exact j_icmp_eq (pc := 820) 1392 C dL_law_820 (by decide) (fun _ => kk) (fun h => absurd he h)
def f_arm_20 (F : Nat) (a1 a2 : Int32) (S : SH) (I : II) : Option (SH × II) := bd2 (f_X0_show F S a1 a2 I) fun r1 I1 => bd2 (f_X9_show F a1 a2 I1) fun r2 I2 => og (r1 = r2) <| some (S, I2)
set_option maxHeartbeats 4000000 in
theorem law_arm_20 {hh : List (Nat × Nat × Nat × Nat)} {G : WG} {p : Program} {l : Launch} {e : Env} {s : State} {m : MethodId} {args : Array Value} {below : List Frame} {meth : Method} {c : Code} {mn : String} {Xf : XX} {mc ms F b L i : Nat} {xs : Nat → Int32} {S : SH} {I : II} {Z : SH × II} (C : Cx G p room_1 s m args meth c cL_law "NineDemandsLaw" 4 (some .boolean) hh mn) (hX : va_X b L xs s G.2.2.2.2.1) (hb : b < gb G) (hL9 : L ≤ 384) (hi : i + 6 ≤ L) (hS36 : S.1 ≤ 36000) (hS : stN S) (hM : StM S) (hk : f_arm_20 F (xs (i + 1)) (xs (i + 2)) S I = some Z) (kk : J G p l e room_1 s m args below meth c 4 (.returned (some (.int (nI 1)))) Xf mc ms Z Z.1.1 (200 * Z.1.1 + 8000) 1392 [some (.ref b), some (.ref (wad G 0)), some (.ref (wad G 27)), some (.int (nI i))] []) : J G p l e room_1 s m args below meth c 4 (.returned (some (.int (nI 1)))) Xf mc ms (S, I) S.1 (200 * S.1 + 8000) 825 [some (.ref b), some (.ref (wad G 0)), some (.ref (wad G 27)), some (.int (nI i))] [] := by
  unfold f_arm_20 at hk
  refine j_aload_n (pc := 825) C dL_law_825 rfl rfl ?_
  refine x_refl (pc := 826) C dL_law_826 rfl rfl ?_
  refine j_iload_n (pc := 827) C dL_law_827 rfl rfl ?_
  refine j_iconst (pc := 828) (v := nI 1) C dL_law_828 (by decide) ?_
  refine j_iadd (pc := 829) C dL_law_829 ?_
  refine x_sld (pc := 830) (j := i + 1) C hX hb hL9 (nI_add _ _) (by omega) dL_law_830 ?_
  refine x_refl (pc := 831) C dL_law_831 rfl rfl ?_
  refine j_iload_n (pc := 832) C dL_law_832 rfl rfl ?_
  refine j_iconst (pc := 833) (v := nI 2) C dL_law_833 (by decide) ?_
  refine j_iadd (pc := 834) C dL_law_834 ?_
  refine x_sld (pc := 835) (j := i + 2) C hX hb hL9 (nI_add _ _) (by omega) dL_law_835 ?_
  replace hk := bd2_some hk
  obtain ⟨r1, I1, hc1, hk⟩ := hk
  refine x_callVW (pc := 836) C (ct_X0_show hS hc1) mw_X0_show (stN_o0 hS).r rfl rfl q1539 dL_law_836 rfl rfl (Nat.le_of_ble_eq_true rfl) (rmOK.i (Nat.le_of_ble_eq_true rfl) (Nat.le_of_ble_eq_true rfl) (by show S.1 + 0 ≤ 601024; omega) (by show 200 * S.1 + 8000 + 0 ≤ 7293034; omega)) ?_
  refine j_kn (k' := S.1) (n' := 200 * S.1 + 8000) rfl rfl ?_
  refine j_aload_n (pc := 839) C dL_law_839 rfl rfl ?_
  refine x_refl (pc := 840) C dL_law_840 rfl rfl ?_
  refine j_iload_n (pc := 841) C dL_law_841 rfl rfl ?_
  refine j_iconst (pc := 842) (v := nI 1) C dL_law_842 (by decide) ?_
  refine j_iadd (pc := 843) C dL_law_843 ?_
  refine x_sld (pc := 844) (j := i + 1) C hX hb hL9 (nI_add _ _) (by omega) dL_law_844 ?_
  refine x_refl (pc := 845) C dL_law_845 rfl rfl ?_
  refine j_iload_n (pc := 846) C dL_law_846 rfl rfl ?_
  refine j_iconst (pc := 847) (v := nI 2) C dL_law_847 (by decide) ?_
  refine j_iadd (pc := 848) C dL_law_848 ?_
  refine x_sld (pc := 849) (j := i + 2) C hX hb hL9 (nI_add _ _) (by omega) dL_law_849 ?_
  replace hk := bd2_some hk
  obtain ⟨r2, I2, hc2, hk⟩ := hk
  refine j_callV (pc := 850) C (ct_X9_show hM hc2) mv_X9_show (stM_o hM) rfl rfl q2344 dL_law_850 rfl rfl (Nat.le_of_ble_eq_true rfl) (rmOK.i (Nat.le_of_ble_eq_true rfl) (Nat.le_of_ble_eq_true rfl) (by show S.1 + 0 ≤ 601024; omega) (by show 200 * S.1 + 8000 + 0 ≤ 7293034; omega)) ?_
  refine j_kn (k' := S.1) (n' := 200 * S.1 + 8000) rfl rfl ?_
  replace hk := og_some hk
  obtain ⟨he, hk⟩ := hk
  obtain rfl := Option.some.inj hk
  exact j_icmp_eq (pc := 853) 1392 C dL_law_853 (by decide) (fun _ => kk) (fun h => absurd he h)
def f_arm_21 (F : Nat) (a1 a2 : Int32) (S : SH) (I : II) : Option (SH × II) := bd2 (f_X0_check F S a1 a2 I) fun r1 I1 => bd2 (f_X9_check F a1 a2 I1) fun r2 I2 => og (r1 = r2) <| some (S, I2)
set_option maxHeartbeats 4000000 in
theorem law_arm_21 {hh : List (Nat × Nat × Nat × Nat)} {G : WG} {p : Program} {l : Launch} {e : Env} {s : State} {m : MethodId} {args : Array Value} {below : List Frame} {meth : Method} {c : Code} {mn : String} {Xf : XX} {mc ms F b L i : Nat} {xs : Nat → Int32} {S : SH} {I : II} {Z : SH × II} (C : Cx G p room_1 s m args meth c cL_law "NineDemandsLaw" 4 (some .boolean) hh mn) (hX : va_X b L xs s G.2.2.2.2.1) (hb : b < gb G) (hL9 : L ≤ 384) (hi : i + 6 ≤ L) (hS36 : S.1 ≤ 36000) (hS : stN S) (hM : StM S) (hk : f_arm_21 F (xs (i + 1)) (xs (i + 2)) S I = some Z) (kk : J G p l e room_1 s m args below meth c 4 (.returned (some (.int (nI 1)))) Xf mc ms Z Z.1.1 (200 * Z.1.1 + 8000) 1392 [some (.ref b), some (.ref (wad G 0)), some (.ref (wad G 27)), some (.int (nI i))] []) : J G p l e room_1 s m args below meth c 4 (.returned (some (.int (nI 1)))) Xf mc ms (S, I) S.1 (200 * S.1 + 8000) 858 [some (.ref b), some (.ref (wad G 0)), some (.ref (wad G 27)), some (.int (nI i))] [] := by
  unfold f_arm_21 at hk
  refine j_aload_n (pc := 858) C dL_law_858 rfl rfl ?_
  refine x_refl (pc := 859) C dL_law_859 rfl rfl ?_
  refine j_iload_n (pc := 860) C dL_law_860 rfl rfl ?_
  refine j_iconst (pc := 861) (v := nI 1) C dL_law_861 (by decide) ?_
  refine j_iadd (pc := 862) C dL_law_862 ?_
  refine x_sld (pc := 863) (j := i + 1) C hX hb hL9 (nI_add _ _) (by omega) dL_law_863 ?_
  refine x_refl (pc := 864) C dL_law_864 rfl rfl ?_
  refine j_iload_n (pc := 865) C dL_law_865 rfl rfl ?_
  refine j_iconst (pc := 866) (v := nI 2) C dL_law_866 (by decide) ?_
  refine j_iadd (pc := 867) C dL_law_867 ?_
  refine x_sld (pc := 868) (j := i + 2) C hX hb hL9 (nI_add _ _) (by omega) dL_law_868 ?_
  replace hk := bd2_some hk
  obtain ⟨r1, I1, hc1, hk⟩ := hk
  refine x_callVW (pc := 869) C (ct_X0_check hS hc1) mw_X0_check (stN_o0 hS).r rfl rfl q1581 dL_law_869 rfl rfl (Nat.le_of_ble_eq_true rfl) (rmOK.i (Nat.le_of_ble_eq_true rfl) (Nat.le_of_ble_eq_true rfl) (by show S.1 + 0 ≤ 601024; omega) (by show 200 * S.1 + 8000 + 0 ≤ 7293034; omega)) ?_
  refine j_kn (k' := S.1) (n' := 200 * S.1 + 8000) rfl rfl ?_
  refine j_aload_n (pc := 872) C dL_law_872 rfl rfl ?_
  refine x_refl (pc := 873) C dL_law_873 rfl rfl ?_
  refine j_iload_n (pc := 874) C dL_law_874 rfl rfl ?_
  refine j_iconst (pc := 875) (v := nI 1) C dL_law_875 (by decide) ?_
  refine j_iadd (pc := 876) C dL_law_876 ?_
  refine x_sld (pc := 877) (j := i + 1) C hX hb hL9 (nI_add _ _) (by omega) dL_law_877 ?_
  refine x_refl (pc := 878) C dL_law_878 rfl rfl ?_
  refine j_iload_n (pc := 879) C dL_law_879 rfl rfl ?_
  refine j_iconst (pc := 880) (v := nI 2) C dL_law_880 (by decide) ?_
  refine j_iadd (pc := 881) C dL_law_881 ?_
  refine x_sld (pc := 882) (j := i + 2) C hX hb hL9 (nI_add _ _) (by omega) dL_law_882 ?_
  replace hk := bd2_some hk
  obtain ⟨r2, I2, hc2, hk⟩ := hk
  refine j_callV (pc := 883) C (ct_X9_check hM hc2) mv_X9_check (stM_o hM) rfl rfl q2368 dL_law_883 rfl rfl (Nat.le_of_ble_eq_true rfl) (rmOK.i (Nat.le_of_ble_eq_true rfl) (Nat.le_of_ble_eq_true rfl) (by show S.1 + 0 ≤ 601024; omega) (by show 200 * S.1 + 8000 + 0 ≤ 7293034; omega)) ?_
  refine j_kn (k' := S.1) (n' := 200 * S.1 + 8000) rfl rfl ?_
  replace hk := og_some hk
  obtain ⟨he, hk⟩ := hk
  obtain rfl := Option.some.inj hk
  exact j_icmp_eq (pc := 886) 1392 C dL_law_886 (by decide) (fun _ => kk) (fun h => absurd he h)
def f_arm_22 (F : Nat) (a1 : Int32) (S : SH) (I : II) : Option (SH × II) := bd2 (f_X0_small F S a1 I) fun r1 I1 => bd2 (f_X9_small F a1 I1) fun r2 I2 => og (r1 = r2) <| some (S, I2)
set_option maxHeartbeats 4000000 in
theorem law_arm_22 {hh : List (Nat × Nat × Nat × Nat)} {G : WG} {p : Program} {l : Launch} {e : Env} {s : State} {m : MethodId} {args : Array Value} {below : List Frame} {meth : Method} {c : Code} {mn : String} {Xf : XX} {mc ms F b L i : Nat} {xs : Nat → Int32} {S : SH} {I : II} {Z : SH × II} (C : Cx G p room_1 s m args meth c cL_law "NineDemandsLaw" 4 (some .boolean) hh mn) (hX : va_X b L xs s G.2.2.2.2.1) (hb : b < gb G) (hL9 : L ≤ 384) (hi : i + 6 ≤ L) (hS36 : S.1 ≤ 36000) (hS : stN S) (hM : StM S) (hk : f_arm_22 F (xs (i + 1)) S I = some Z) (kk : J G p l e room_1 s m args below meth c 4 (.returned (some (.int (nI 1)))) Xf mc ms Z Z.1.1 (200 * Z.1.1 + 8000) 1392 [some (.ref b), some (.ref (wad G 0)), some (.ref (wad G 27)), some (.int (nI i))] []) : J G p l e room_1 s m args below meth c 4 (.returned (some (.int (nI 1)))) Xf mc ms (S, I) S.1 (200 * S.1 + 8000) 891 [some (.ref b), some (.ref (wad G 0)), some (.ref (wad G 27)), some (.int (nI i))] [] := by
  unfold f_arm_22 at hk
  refine j_aload_n (pc := 891) C dL_law_891 rfl rfl ?_
  refine x_refl (pc := 892) C dL_law_892 rfl rfl ?_
  refine j_iload_n (pc := 893) C dL_law_893 rfl rfl ?_
  refine j_iconst (pc := 894) (v := nI 1) C dL_law_894 (by decide) ?_
  refine j_iadd (pc := 895) C dL_law_895 ?_
  refine x_sld (pc := 896) (j := i + 1) C hX hb hL9 (nI_add _ _) (by omega) dL_law_896 ?_
  replace hk := bd2_some hk
  obtain ⟨r1, I1, hc1, hk⟩ := hk
  refine x_callVW (pc := 897) C (ct_X0_small hS hc1) mw_X0_small (stN_o0 hS).r rfl rfl q1595 dL_law_897 rfl rfl (Nat.le_of_ble_eq_true rfl) (rmOK.i (Nat.le_of_ble_eq_true rfl) (Nat.le_of_ble_eq_true rfl) (by show S.1 + 0 ≤ 601024; omega) (by show 200 * S.1 + 8000 + 0 ≤ 7293034; omega)) ?_
  refine j_kn (k' := S.1) (n' := 200 * S.1 + 8000) rfl rfl ?_
  refine j_aload_n (pc := 900) C dL_law_900 rfl rfl ?_
  refine x_refl (pc := 901) C dL_law_901 rfl rfl ?_
  refine j_iload_n (pc := 902) C dL_law_902 rfl rfl ?_
  refine j_iconst (pc := 903) (v := nI 1) C dL_law_903 (by decide) ?_
  refine j_iadd (pc := 904) C dL_law_904 ?_
  refine x_sld (pc := 905) (j := i + 1) C hX hb hL9 (nI_add _ _) (by omega) dL_law_905 ?_
  replace hk := bd2_some hk
  obtain ⟨r2, I2, hc2, hk⟩ := hk
  refine j_callV (pc := 906) C (ct_X9_small hM hc2) mv_X9_small (stM_o hM) rfl rfl q2376 dL_law_906 rfl rfl (Nat.le_of_ble_eq_true rfl) (rmOK.i (Nat.le_of_ble_eq_true rfl) (Nat.le_of_ble_eq_true rfl) (by show S.1 + 0 ≤ 601024; omega) (by show 200 * S.1 + 8000 + 0 ≤ 7293034; omega)) ?_
  refine j_kn (k' := S.1) (n' := 200 * S.1 + 8000) rfl rfl ?_
  replace hk := og_some hk
  obtain ⟨he, hk⟩ := hk
  obtain rfl := Option.some.inj hk
  exact j_icmp_eq (pc := 909) 1392 C dL_law_909 (by decide) (fun _ => kk) (fun h => absurd he h)
def f_arm_23 (F : Nat) (a1 : Int32) (S : SH) (I : II) : Option (SH × II) := bd2 (f_X0_few F S a1 I) fun r1 I1 => bd2 (f_X9_few F a1 I1) fun r2 I2 => og (r1 = r2) <| some (S, I2)
set_option maxHeartbeats 4000000 in
theorem law_arm_23 {hh : List (Nat × Nat × Nat × Nat)} {G : WG} {p : Program} {l : Launch} {e : Env} {s : State} {m : MethodId} {args : Array Value} {below : List Frame} {meth : Method} {c : Code} {mn : String} {Xf : XX} {mc ms F b L i : Nat} {xs : Nat → Int32} {S : SH} {I : II} {Z : SH × II} (C : Cx G p room_1 s m args meth c cL_law "NineDemandsLaw" 4 (some .boolean) hh mn) (hX : va_X b L xs s G.2.2.2.2.1) (hb : b < gb G) (hL9 : L ≤ 384) (hi : i + 6 ≤ L) (hS36 : S.1 ≤ 36000) (hS : stN S) (hM : StM S) (hk : f_arm_23 F (xs (i + 1)) S I = some Z) (kk : J G p l e room_1 s m args below meth c 4 (.returned (some (.int (nI 1)))) Xf mc ms Z Z.1.1 (200 * Z.1.1 + 8000) 1392 [some (.ref b), some (.ref (wad G 0)), some (.ref (wad G 27)), some (.int (nI i))] []) : J G p l e room_1 s m args below meth c 4 (.returned (some (.int (nI 1)))) Xf mc ms (S, I) S.1 (200 * S.1 + 8000) 914 [some (.ref b), some (.ref (wad G 0)), some (.ref (wad G 27)), some (.int (nI i))] [] := by
  unfold f_arm_23 at hk
  refine j_aload_n (pc := 914) C dL_law_914 rfl rfl ?_
  refine x_refl (pc := 915) C dL_law_915 rfl rfl ?_
  refine j_iload_n (pc := 916) C dL_law_916 rfl rfl ?_
  refine j_iconst (pc := 917) (v := nI 1) C dL_law_917 (by decide) ?_
  refine j_iadd (pc := 918) C dL_law_918 ?_
  refine x_sld (pc := 919) (j := i + 1) C hX hb hL9 (nI_add _ _) (by omega) dL_law_919 ?_
  replace hk := bd2_some hk
  obtain ⟨r1, I1, hc1, hk⟩ := hk
  refine x_callVW (pc := 920) C (ct_X0_few hS hc1) mw_X0_few (stN_o0 hS).r rfl rfl q1609 dL_law_920 rfl rfl (Nat.le_of_ble_eq_true rfl) (rmOK.i (Nat.le_of_ble_eq_true rfl) (Nat.le_of_ble_eq_true rfl) (by show S.1 + 0 ≤ 601024; omega) (by show 200 * S.1 + 8000 + 0 ≤ 7293034; omega)) ?_
  refine j_kn (k' := S.1) (n' := 200 * S.1 + 8000) rfl rfl ?_
  refine j_aload_n (pc := 923) C dL_law_923 rfl rfl ?_
  refine x_refl (pc := 924) C dL_law_924 rfl rfl ?_
  refine j_iload_n (pc := 925) C dL_law_925 rfl rfl ?_
  refine j_iconst (pc := 926) (v := nI 1) C dL_law_926 (by decide) ?_
  refine j_iadd (pc := 927) C dL_law_927 ?_
  refine x_sld (pc := 928) (j := i + 1) C hX hb hL9 (nI_add _ _) (by omega) dL_law_928 ?_
  replace hk := bd2_some hk
  obtain ⟨r2, I2, hc2, hk⟩ := hk
  refine j_callV (pc := 929) C (ct_X9_few hM hc2) mv_X9_few (stM_o hM) rfl rfl q2384 dL_law_929 rfl rfl (Nat.le_of_ble_eq_true rfl) (rmOK.i (Nat.le_of_ble_eq_true rfl) (Nat.le_of_ble_eq_true rfl) (by show S.1 + 0 ≤ 601024; omega) (by show 200 * S.1 + 8000 + 0 ≤ 7293034; omega)) ?_
  refine j_kn (k' := S.1) (n' := 200 * S.1 + 8000) rfl rfl ?_
  replace hk := og_some hk
  obtain ⟨he, hk⟩ := hk
  obtain rfl := Option.some.inj hk
  exact j_icmp_eq (pc := 932) 1392 C dL_law_932 (by decide) (fun _ => kk) (fun h => absurd he h)
def f_arm_24 (F : Nat) (a1 a2 : Int32) (S : SH) (I : II) : Option (SH × II) := bd2 (f_X0_give F S a1 a2 I) fun r1 I1 => bd2 (f_X9_give F a1 a2 I1) fun r2 I2 => og (r1 = r2) <| some (S, I2)
set_option maxHeartbeats 4000000 in
theorem law_arm_24 {hh : List (Nat × Nat × Nat × Nat)} {G : WG} {p : Program} {l : Launch} {e : Env} {s : State} {m : MethodId} {args : Array Value} {below : List Frame} {meth : Method} {c : Code} {mn : String} {Xf : XX} {mc ms F b L i : Nat} {xs : Nat → Int32} {S : SH} {I : II} {Z : SH × II} (C : Cx G p room_1 s m args meth c cL_law "NineDemandsLaw" 4 (some .boolean) hh mn) (hX : va_X b L xs s G.2.2.2.2.1) (hb : b < gb G) (hL9 : L ≤ 384) (hi : i + 6 ≤ L) (hS36 : S.1 ≤ 36000) (hS : stN S) (hM : StM S) (hk : f_arm_24 F (xs (i + 1)) (xs (i + 2)) S I = some Z) (kk : J G p l e room_1 s m args below meth c 4 (.returned (some (.int (nI 1)))) Xf mc ms Z Z.1.1 (200 * Z.1.1 + 8000) 1392 [some (.ref b), some (.ref (wad G 0)), some (.ref (wad G 27)), some (.int (nI i))] []) : J G p l e room_1 s m args below meth c 4 (.returned (some (.int (nI 1)))) Xf mc ms (S, I) S.1 (200 * S.1 + 8000) 937 [some (.ref b), some (.ref (wad G 0)), some (.ref (wad G 27)), some (.int (nI i))] [] := by
  unfold f_arm_24 at hk
  refine j_aload_n (pc := 937) C dL_law_937 rfl rfl ?_
  refine x_refl (pc := 938) C dL_law_938 rfl rfl ?_
  refine j_iload_n (pc := 939) C dL_law_939 rfl rfl ?_
  refine j_iconst (pc := 940) (v := nI 1) C dL_law_940 (by decide) ?_
  refine j_iadd (pc := 941) C dL_law_941 ?_
  refine x_sld (pc := 942) (j := i + 1) C hX hb hL9 (nI_add _ _) (by omega) dL_law_942 ?_
  refine x_refl (pc := 943) C dL_law_943 rfl rfl ?_
  refine j_iload_n (pc := 944) C dL_law_944 rfl rfl ?_
  refine j_iconst (pc := 945) (v := nI 2) C dL_law_945 (by decide) ?_
  refine j_iadd (pc := 946) C dL_law_946 ?_
  refine x_sld (pc := 947) (j := i + 2) C hX hb hL9 (nI_add _ _) (by omega) dL_law_947 ?_
  replace hk := bd2_some hk
  obtain ⟨r1, I1, hc1, hk⟩ := hk
  refine x_callVW (pc := 948) C (ct_X0_give hS hc1) mw_X0_give (stN_o0 hS).r rfl rfl q1617 dL_law_948 rfl rfl (Nat.le_of_ble_eq_true rfl) (rmOK.i (Nat.le_of_ble_eq_true rfl) (Nat.le_of_ble_eq_true rfl) (by show S.1 + 0 ≤ 601024; omega) (by show 200 * S.1 + 8000 + 0 ≤ 7293034; omega)) ?_
  refine j_kn (k' := S.1) (n' := 200 * S.1 + 8000) rfl rfl ?_
  refine j_aload_n (pc := 951) C dL_law_951 rfl rfl ?_
  refine x_refl (pc := 952) C dL_law_952 rfl rfl ?_
  refine j_iload_n (pc := 953) C dL_law_953 rfl rfl ?_
  refine j_iconst (pc := 954) (v := nI 1) C dL_law_954 (by decide) ?_
  refine j_iadd (pc := 955) C dL_law_955 ?_
  refine x_sld (pc := 956) (j := i + 1) C hX hb hL9 (nI_add _ _) (by omega) dL_law_956 ?_
  refine x_refl (pc := 957) C dL_law_957 rfl rfl ?_
  refine j_iload_n (pc := 958) C dL_law_958 rfl rfl ?_
  refine j_iconst (pc := 959) (v := nI 2) C dL_law_959 (by decide) ?_
  refine j_iadd (pc := 960) C dL_law_960 ?_
  refine x_sld (pc := 961) (j := i + 2) C hX hb hL9 (nI_add _ _) (by omega) dL_law_961 ?_
  replace hk := bd2_some hk
  obtain ⟨r2, I2, hc2, hk⟩ := hk
  refine j_callV (pc := 962) C (ct_X9_give hM hc2) mv_X9_give (stM_o hM) rfl rfl q2388 dL_law_962 rfl rfl (Nat.le_of_ble_eq_true rfl) (rmOK.i (Nat.le_of_ble_eq_true rfl) (Nat.le_of_ble_eq_true rfl) (by show S.1 + 0 ≤ 601024; omega) (by show 200 * S.1 + 8000 + 0 ≤ 7293034; omega)) ?_
  refine j_kn (k' := S.1) (n' := 200 * S.1 + 8000) rfl rfl ?_
  replace hk := og_some hk
  obtain ⟨he, hk⟩ := hk
  obtain rfl := Option.some.inj hk
  exact j_icmp_eq (pc := 965) 1392 C dL_law_965 (by decide) (fun _ => kk) (fun h => absurd he h)
def f_arm_25 (F : Nat) (a1 a2 : Int32) (S : SH) (I : II) : Option (SH × II) := bd2 (f_X0_follows F S a1 a2 I) fun r1 I1 => bd2 (f_X9_follows F a1 a2 I1) fun r2 I2 => og (r1 = r2) <| some (S, I2)
set_option maxHeartbeats 4000000 in
theorem law_arm_25 {hh : List (Nat × Nat × Nat × Nat)} {G : WG} {p : Program} {l : Launch} {e : Env} {s : State} {m : MethodId} {args : Array Value} {below : List Frame} {meth : Method} {c : Code} {mn : String} {Xf : XX} {mc ms F b L i : Nat} {xs : Nat → Int32} {S : SH} {I : II} {Z : SH × II} (C : Cx G p room_1 s m args meth c cL_law "NineDemandsLaw" 4 (some .boolean) hh mn) (hX : va_X b L xs s G.2.2.2.2.1) (hb : b < gb G) (hL9 : L ≤ 384) (hi : i + 6 ≤ L) (hS36 : S.1 ≤ 36000) (hS : stN S) (hM : StM S) (hk : f_arm_25 F (xs (i + 1)) (xs (i + 2)) S I = some Z) (kk : J G p l e room_1 s m args below meth c 4 (.returned (some (.int (nI 1)))) Xf mc ms Z Z.1.1 (200 * Z.1.1 + 8000) 1392 [some (.ref b), some (.ref (wad G 0)), some (.ref (wad G 27)), some (.int (nI i))] []) : J G p l e room_1 s m args below meth c 4 (.returned (some (.int (nI 1)))) Xf mc ms (S, I) S.1 (200 * S.1 + 8000) 970 [some (.ref b), some (.ref (wad G 0)), some (.ref (wad G 27)), some (.int (nI i))] [] := by
  unfold f_arm_25 at hk
  refine j_aload_n (pc := 970) C dL_law_970 rfl rfl ?_
  refine x_refl (pc := 971) C dL_law_971 rfl rfl ?_
  refine j_iload_n (pc := 972) C dL_law_972 rfl rfl ?_
  refine j_iconst (pc := 973) (v := nI 1) C dL_law_973 (by decide) ?_
  refine j_iadd (pc := 974) C dL_law_974 ?_
  refine x_sld (pc := 975) (j := i + 1) C hX hb hL9 (nI_add _ _) (by omega) dL_law_975 ?_
  refine x_refl (pc := 976) C dL_law_976 rfl rfl ?_
  refine j_iload_n (pc := 977) C dL_law_977 rfl rfl ?_
  refine j_iconst (pc := 978) (v := nI 2) C dL_law_978 (by decide) ?_
  refine j_iadd (pc := 979) C dL_law_979 ?_
  refine x_sld (pc := 980) (j := i + 2) C hX hb hL9 (nI_add _ _) (by omega) dL_law_980 ?_
  replace hk := bd2_some hk
  obtain ⟨r1, I1, hc1, hk⟩ := hk
  refine x_callVW (pc := 981) C (ct_X0_follows hS hc1) mw_X0_follows (stN_o0 hS).r rfl rfl q1629 dL_law_981 rfl rfl (Nat.le_of_ble_eq_true rfl) (rmOK.i (Nat.le_of_ble_eq_true rfl) (Nat.le_of_ble_eq_true rfl) (by show S.1 + 0 ≤ 601024; omega) (by show 200 * S.1 + 8000 + 0 ≤ 7293034; omega)) ?_
  refine j_kn (k' := S.1) (n' := 200 * S.1 + 8000) rfl rfl ?_
  refine j_aload_n (pc := 984) C dL_law_984 rfl rfl ?_
  refine x_refl (pc := 985) C dL_law_985 rfl rfl ?_
  refine j_iload_n (pc := 986) C dL_law_986 rfl rfl ?_
  refine j_iconst (pc := 987) (v := nI 1) C dL_law_987 (by decide) ?_
  refine j_iadd (pc := 988) C dL_law_988 ?_
  refine x_sld (pc := 989) (j := i + 1) C hX hb hL9 (nI_add _ _) (by omega) dL_law_989 ?_
  refine x_refl (pc := 990) C dL_law_990 rfl rfl ?_
  refine j_iload_n (pc := 991) C dL_law_991 rfl rfl ?_
  refine j_iconst (pc := 992) (v := nI 2) C dL_law_992 (by decide) ?_
  refine j_iadd (pc := 993) C dL_law_993 ?_
  refine x_sld (pc := 994) (j := i + 2) C hX hb hL9 (nI_add _ _) (by omega) dL_law_994 ?_
  replace hk := bd2_some hk
  obtain ⟨r2, I2, hc2, hk⟩ := hk
  refine j_callV (pc := 995) C (ct_X9_follows hM hc2) mv_X9_follows (stM_o hM) rfl rfl q2396 dL_law_995 rfl rfl (Nat.le_of_ble_eq_true rfl) (rmOK.i (Nat.le_of_ble_eq_true rfl) (Nat.le_of_ble_eq_true rfl) (by show S.1 + 0 ≤ 601024; omega) (by show 200 * S.1 + 8000 + 0 ≤ 7293034; omega)) ?_
  refine j_kn (k' := S.1) (n' := 200 * S.1 + 8000) rfl rfl ?_
  replace hk := og_some hk
  obtain ⟨he, hk⟩ := hk
  obtain rfl := Option.some.inj hk
  exact j_icmp_eq (pc := 998) 1392 C dL_law_998 (by decide) (fun _ => kk) (fun h => absurd he h)
def f_arm_26 (F : Nat) (a1 : Int32) (S : SH) (I : II) : Option (SH × II) := bd2 (f_X0_spare F S a1 I) fun r1 I1 => bd2 (f_X9_spare F a1 I1) fun r2 I2 => og (r1 = r2) <| some (S, I2)
set_option maxHeartbeats 4000000 in
theorem law_arm_26 {hh : List (Nat × Nat × Nat × Nat)} {G : WG} {p : Program} {l : Launch} {e : Env} {s : State} {m : MethodId} {args : Array Value} {below : List Frame} {meth : Method} {c : Code} {mn : String} {Xf : XX} {mc ms F b L i : Nat} {xs : Nat → Int32} {S : SH} {I : II} {Z : SH × II} (C : Cx G p room_1 s m args meth c cL_law "NineDemandsLaw" 4 (some .boolean) hh mn) (hX : va_X b L xs s G.2.2.2.2.1) (hb : b < gb G) (hL9 : L ≤ 384) (hi : i + 6 ≤ L) (hS36 : S.1 ≤ 36000) (hS : stN S) (hM : StM S) (hk : f_arm_26 F (xs (i + 1)) S I = some Z) (kk : J G p l e room_1 s m args below meth c 4 (.returned (some (.int (nI 1)))) Xf mc ms Z Z.1.1 (200 * Z.1.1 + 8000) 1392 [some (.ref b), some (.ref (wad G 0)), some (.ref (wad G 27)), some (.int (nI i))] []) : J G p l e room_1 s m args below meth c 4 (.returned (some (.int (nI 1)))) Xf mc ms (S, I) S.1 (200 * S.1 + 8000) 1003 [some (.ref b), some (.ref (wad G 0)), some (.ref (wad G 27)), some (.int (nI i))] [] := by
  unfold f_arm_26 at hk
  refine j_aload_n (pc := 1003) C dL_law_1003 rfl rfl ?_
  refine x_refl (pc := 1004) C dL_law_1004 rfl rfl ?_
  refine j_iload_n (pc := 1005) C dL_law_1005 rfl rfl ?_
  refine j_iconst (pc := 1006) (v := nI 1) C dL_law_1006 (by decide) ?_
  refine j_iadd (pc := 1007) C dL_law_1007 ?_
  refine x_sld (pc := 1008) (j := i + 1) C hX hb hL9 (nI_add _ _) (by omega) dL_law_1008 ?_
  replace hk := bd2_some hk
  obtain ⟨r1, I1, hc1, hk⟩ := hk
  refine x_callVW (pc := 1009) C (ct_X0_spare hS hc1) mw_X0_spare (stN_o0 hS).r rfl rfl q1641 dL_law_1009 rfl rfl (Nat.le_of_ble_eq_true rfl) (rmOK.i (Nat.le_of_ble_eq_true rfl) (Nat.le_of_ble_eq_true rfl) (by show S.1 + 0 ≤ 601024; omega) (by show 200 * S.1 + 8000 + 0 ≤ 7293034; omega)) ?_
  refine j_kn (k' := S.1) (n' := 200 * S.1 + 8000) rfl rfl ?_
  refine j_aload_n (pc := 1012) C dL_law_1012 rfl rfl ?_
  refine x_refl (pc := 1013) C dL_law_1013 rfl rfl ?_
  refine j_iload_n (pc := 1014) C dL_law_1014 rfl rfl ?_
  refine j_iconst (pc := 1015) (v := nI 1) C dL_law_1015 (by decide) ?_
  refine j_iadd (pc := 1016) C dL_law_1016 ?_
  refine x_sld (pc := 1017) (j := i + 1) C hX hb hL9 (nI_add _ _) (by omega) dL_law_1017 ?_
  replace hk := bd2_some hk
  obtain ⟨r2, I2, hc2, hk⟩ := hk
  refine j_callV (pc := 1018) C (ct_X9_spare hM hc2) mv_X9_spare (stM_o hM) rfl rfl q2405 dL_law_1018 rfl rfl (Nat.le_of_ble_eq_true rfl) (rmOK.i (Nat.le_of_ble_eq_true rfl) (Nat.le_of_ble_eq_true rfl) (by show S.1 + 0 ≤ 601024; omega) (by show 200 * S.1 + 8000 + 0 ≤ 7293034; omega)) ?_
  refine j_kn (k' := S.1) (n' := 200 * S.1 + 8000) rfl rfl ?_
  replace hk := og_some hk
  obtain ⟨he, hk⟩ := hk
  obtain rfl := Option.some.inj hk
  exact j_icmp_eq (pc := 1021) 1392 C dL_law_1021 (by decide) (fun _ => kk) (fun h => absurd he h)
def f_arm_27 (F : Nat) (a1 a2 : Int32) (S : SH) (I : II) : Option (SH × II) := bd2 (f_X0_same F S a1 a2 I) fun r1 I1 => bd2 (f_X9_same F a1 a2 I1) fun r2 I2 => og (r1 = r2) <| some (S, I2)
set_option maxHeartbeats 4000000 in
theorem law_arm_27 {hh : List (Nat × Nat × Nat × Nat)} {G : WG} {p : Program} {l : Launch} {e : Env} {s : State} {m : MethodId} {args : Array Value} {below : List Frame} {meth : Method} {c : Code} {mn : String} {Xf : XX} {mc ms F b L i : Nat} {xs : Nat → Int32} {S : SH} {I : II} {Z : SH × II} (C : Cx G p room_1 s m args meth c cL_law "NineDemandsLaw" 4 (some .boolean) hh mn) (hX : va_X b L xs s G.2.2.2.2.1) (hb : b < gb G) (hL9 : L ≤ 384) (hi : i + 6 ≤ L) (hS36 : S.1 ≤ 36000) (hS : stN S) (hM : StM S) (hk : f_arm_27 F (xs (i + 1)) (xs (i + 2)) S I = some Z) (kk : J G p l e room_1 s m args below meth c 4 (.returned (some (.int (nI 1)))) Xf mc ms Z Z.1.1 (200 * Z.1.1 + 8000) 1392 [some (.ref b), some (.ref (wad G 0)), some (.ref (wad G 27)), some (.int (nI i))] []) : J G p l e room_1 s m args below meth c 4 (.returned (some (.int (nI 1)))) Xf mc ms (S, I) S.1 (200 * S.1 + 8000) 1026 [some (.ref b), some (.ref (wad G 0)), some (.ref (wad G 27)), some (.int (nI i))] [] := by
  unfold f_arm_27 at hk
  refine j_aload_n (pc := 1026) C dL_law_1026 rfl rfl ?_
  refine x_refl (pc := 1027) C dL_law_1027 rfl rfl ?_
  refine j_iload_n (pc := 1028) C dL_law_1028 rfl rfl ?_
  refine j_iconst (pc := 1029) (v := nI 1) C dL_law_1029 (by decide) ?_
  refine j_iadd (pc := 1030) C dL_law_1030 ?_
  refine x_sld (pc := 1031) (j := i + 1) C hX hb hL9 (nI_add _ _) (by omega) dL_law_1031 ?_
  refine x_refl (pc := 1032) C dL_law_1032 rfl rfl ?_
  refine j_iload_n (pc := 1033) C dL_law_1033 rfl rfl ?_
  refine j_iconst (pc := 1034) (v := nI 2) C dL_law_1034 (by decide) ?_
  refine j_iadd (pc := 1035) C dL_law_1035 ?_
  refine x_sld (pc := 1036) (j := i + 2) C hX hb hL9 (nI_add _ _) (by omega) dL_law_1036 ?_
  replace hk := bd2_some hk
  obtain ⟨r1, I1, hc1, hk⟩ := hk
  refine x_callVW (pc := 1037) C (ct_X0_same hS hc1) mw_X0_same (stN_o0 hS).r rfl rfl q1645 dL_law_1037 rfl rfl (Nat.le_of_ble_eq_true rfl) (rmOK.i (Nat.le_of_ble_eq_true rfl) (Nat.le_of_ble_eq_true rfl) (by show S.1 + 0 ≤ 601024; omega) (by show 200 * S.1 + 8000 + 0 ≤ 7293034; omega)) ?_
  refine j_kn (k' := S.1) (n' := 200 * S.1 + 8000) rfl rfl ?_
  refine j_aload_n (pc := 1040) C dL_law_1040 rfl rfl ?_
  refine x_refl (pc := 1041) C dL_law_1041 rfl rfl ?_
  refine j_iload_n (pc := 1042) C dL_law_1042 rfl rfl ?_
  refine j_iconst (pc := 1043) (v := nI 1) C dL_law_1043 (by decide) ?_
  refine j_iadd (pc := 1044) C dL_law_1044 ?_
  refine x_sld (pc := 1045) (j := i + 1) C hX hb hL9 (nI_add _ _) (by omega) dL_law_1045 ?_
  refine x_refl (pc := 1046) C dL_law_1046 rfl rfl ?_
  refine j_iload_n (pc := 1047) C dL_law_1047 rfl rfl ?_
  refine j_iconst (pc := 1048) (v := nI 2) C dL_law_1048 (by decide) ?_
  refine j_iadd (pc := 1049) C dL_law_1049 ?_
  refine x_sld (pc := 1050) (j := i + 2) C hX hb hL9 (nI_add _ _) (by omega) dL_law_1050 ?_
  replace hk := bd2_some hk
  obtain ⟨r2, I2, hc2, hk⟩ := hk
  refine j_callV (pc := 1051) C (ct_X9_same hM hc2) mv_X9_same (stM_o hM) rfl rfl q2409 dL_law_1051 rfl rfl (Nat.le_of_ble_eq_true rfl) (rmOK.i (Nat.le_of_ble_eq_true rfl) (Nat.le_of_ble_eq_true rfl) (by show S.1 + 0 ≤ 601024; omega) (by show 200 * S.1 + 8000 + 0 ≤ 7293034; omega)) ?_
  refine j_kn (k' := S.1) (n' := 200 * S.1 + 8000) rfl rfl ?_
  replace hk := og_some hk
  obtain ⟨he, hk⟩ := hk
  obtain rfl := Option.some.inj hk
  exact j_icmp_eq (pc := 1054) 1392 C dL_law_1054 (by decide) (fun _ => kk) (fun h => absurd he h)
def f_arm_28 (F : Nat) (a1 a2 a3 : Int32) (S : SH) (I : II) : Option (SH × II) := bd2 (f_X0_voice S a1 a2 a3 I) fun r1 I1 => bd2 (f_X9_voice F a1 a2 a3 I1) fun r2 I2 => og (r1 = r2) <| some (S, I2)
set_option maxHeartbeats 4000000 in
theorem law_arm_28 {hh : List (Nat × Nat × Nat × Nat)} {G : WG} {p : Program} {l : Launch} {e : Env} {s : State} {m : MethodId} {args : Array Value} {below : List Frame} {meth : Method} {c : Code} {mn : String} {Xf : XX} {mc ms F b L i : Nat} {xs : Nat → Int32} {S : SH} {I : II} {Z : SH × II} (C : Cx G p room_1 s m args meth c cL_law "NineDemandsLaw" 4 (some .boolean) hh mn) (hX : va_X b L xs s G.2.2.2.2.1) (hb : b < gb G) (hL9 : L ≤ 384) (hi : i + 6 ≤ L) (hS36 : S.1 ≤ 36000) (hS : stN S) (hM : StM S) (hk : f_arm_28 F (xs (i + 1)) (xs (i + 2)) (xs (i + 3)) S I = some Z) (kk : J G p l e room_1 s m args below meth c 4 (.returned (some (.int (nI 1)))) Xf mc ms Z Z.1.1 (200 * Z.1.1 + 8000) 1392 [some (.ref b), some (.ref (wad G 0)), some (.ref (wad G 27)), some (.int (nI i))] []) : J G p l e room_1 s m args below meth c 4 (.returned (some (.int (nI 1)))) Xf mc ms (S, I) S.1 (200 * S.1 + 8000) 1059 [some (.ref b), some (.ref (wad G 0)), some (.ref (wad G 27)), some (.int (nI i))] [] := by
  unfold f_arm_28 at hk
  refine j_aload_n (pc := 1059) C dL_law_1059 rfl rfl ?_
  refine x_refl (pc := 1060) C dL_law_1060 rfl rfl ?_
  refine j_iload_n (pc := 1061) C dL_law_1061 rfl rfl ?_
  refine j_iconst (pc := 1062) (v := nI 1) C dL_law_1062 (by decide) ?_
  refine j_iadd (pc := 1063) C dL_law_1063 ?_
  refine x_sld (pc := 1064) (j := i + 1) C hX hb hL9 (nI_add _ _) (by omega) dL_law_1064 ?_
  refine x_refl (pc := 1065) C dL_law_1065 rfl rfl ?_
  refine j_iload_n (pc := 1066) C dL_law_1066 rfl rfl ?_
  refine j_iconst (pc := 1067) (v := nI 2) C dL_law_1067 (by decide) ?_
  refine j_iadd (pc := 1068) C dL_law_1068 ?_
  refine x_sld (pc := 1069) (j := i + 2) C hX hb hL9 (nI_add _ _) (by omega) dL_law_1069 ?_
  refine x_refl (pc := 1070) C dL_law_1070 rfl rfl ?_
  refine j_iload_n (pc := 1071) C dL_law_1071 rfl rfl ?_
  refine j_iconst (pc := 1072) (v := nI 3) C dL_law_1072 (by decide) ?_
  refine j_iadd (pc := 1073) C dL_law_1073 ?_
  refine x_sld (pc := 1074) (j := i + 3) C hX hb hL9 (nI_add _ _) (by omega) dL_law_1074 ?_
  replace hk := bd2_some hk
  obtain ⟨r1, I1, hc1, hk⟩ := hk
  refine x_callVW (pc := 1075) C (ct_X0_voice hS hc1) mw_X0_voice (stN_o0 hS).r rfl rfl q1653 dL_law_1075 rfl rfl (Nat.le_of_ble_eq_true rfl) (rmOK.i (Nat.le_of_ble_eq_true rfl) (Nat.le_of_ble_eq_true rfl) (by show S.1 + 0 ≤ 601024; omega) (by show 200 * S.1 + 8000 + 0 ≤ 7293034; omega)) ?_
  refine j_kn (k' := S.1) (n' := 200 * S.1 + 8000) rfl rfl ?_
  refine j_aload_n (pc := 1078) C dL_law_1078 rfl rfl ?_
  refine x_refl (pc := 1079) C dL_law_1079 rfl rfl ?_
  refine j_iload_n (pc := 1080) C dL_law_1080 rfl rfl ?_
  refine j_iconst (pc := 1081) (v := nI 1) C dL_law_1081 (by decide) ?_
  refine j_iadd (pc := 1082) C dL_law_1082 ?_
  refine x_sld (pc := 1083) (j := i + 1) C hX hb hL9 (nI_add _ _) (by omega) dL_law_1083 ?_
  refine x_refl (pc := 1084) C dL_law_1084 rfl rfl ?_
  refine j_iload_n (pc := 1085) C dL_law_1085 rfl rfl ?_
  refine j_iconst (pc := 1086) (v := nI 2) C dL_law_1086 (by decide) ?_
  refine j_iadd (pc := 1087) C dL_law_1087 ?_
  refine x_sld (pc := 1088) (j := i + 2) C hX hb hL9 (nI_add _ _) (by omega) dL_law_1088 ?_
  refine x_refl (pc := 1089) C dL_law_1089 rfl rfl ?_
  refine j_iload_n (pc := 1090) C dL_law_1090 rfl rfl ?_
  refine j_iconst (pc := 1091) (v := nI 3) C dL_law_1091 (by decide) ?_
  refine j_iadd (pc := 1092) C dL_law_1092 ?_
  refine x_sld (pc := 1093) (j := i + 3) C hX hb hL9 (nI_add _ _) (by omega) dL_law_1093 ?_
  replace hk := bd2_some hk
  obtain ⟨r2, I2, hc2, hk⟩ := hk
  refine j_callV (pc := 1094) C (ct_X9_voice hM hc2) mv_X9_voice (stM_o hM) rfl rfl q2417 dL_law_1094 rfl rfl (Nat.le_of_ble_eq_true rfl) (rmOK.i (Nat.le_of_ble_eq_true rfl) (Nat.le_of_ble_eq_true rfl) (by show S.1 + 0 ≤ 601024; omega) (by show 200 * S.1 + 8000 + 0 ≤ 7293034; omega)) ?_
  refine j_kn (k' := S.1) (n' := 200 * S.1 + 8000) rfl rfl ?_
  replace hk := og_some hk
  obtain ⟨he, hk⟩ := hk
  obtain rfl := Option.some.inj hk
  exact j_icmp_eq (pc := 1097) 1392 C dL_law_1097 (by decide) (fun _ => kk) (fun h => absurd he h)
def f_arm_29 (F : Nat) (a1 : Int32) (S : SH) (I : II) : Option (SH × II) := bd2 (f_X0_trace S a1 I) fun r1 I1 => bd2 (f_X9_trace a1 I1) fun r2 I2 => og (r1 = r2) <| some (S, I2)
set_option maxHeartbeats 4000000 in
theorem law_arm_29 {hh : List (Nat × Nat × Nat × Nat)} {G : WG} {p : Program} {l : Launch} {e : Env} {s : State} {m : MethodId} {args : Array Value} {below : List Frame} {meth : Method} {c : Code} {mn : String} {Xf : XX} {mc ms F b L i : Nat} {xs : Nat → Int32} {S : SH} {I : II} {Z : SH × II} (C : Cx G p room_1 s m args meth c cL_law "NineDemandsLaw" 4 (some .boolean) hh mn) (hX : va_X b L xs s G.2.2.2.2.1) (hb : b < gb G) (hL9 : L ≤ 384) (hi : i + 6 ≤ L) (hS36 : S.1 ≤ 36000) (hS : stN S) (hM : StM S) (hk : f_arm_29 F (xs (i + 1)) S I = some Z) (kk : J G p l e room_1 s m args below meth c 4 (.returned (some (.int (nI 1)))) Xf mc ms Z Z.1.1 (200 * Z.1.1 + 8000) 1392 [some (.ref b), some (.ref (wad G 0)), some (.ref (wad G 27)), some (.int (nI i))] []) : J G p l e room_1 s m args below meth c 4 (.returned (some (.int (nI 1)))) Xf mc ms (S, I) S.1 (200 * S.1 + 8000) 1102 [some (.ref b), some (.ref (wad G 0)), some (.ref (wad G 27)), some (.int (nI i))] [] := by
  unfold f_arm_29 at hk
  refine j_aload_n (pc := 1102) C dL_law_1102 rfl rfl ?_
  refine x_refl (pc := 1103) C dL_law_1103 rfl rfl ?_
  refine j_iload_n (pc := 1104) C dL_law_1104 rfl rfl ?_
  refine j_iconst (pc := 1105) (v := nI 1) C dL_law_1105 (by decide) ?_
  refine j_iadd (pc := 1106) C dL_law_1106 ?_
  refine x_sld (pc := 1107) (j := i + 1) C hX hb hL9 (nI_add _ _) (by omega) dL_law_1107 ?_
  replace hk := bd2_some hk
  obtain ⟨r1, I1, hc1, hk⟩ := hk
  refine x_callVW (pc := 1108) C (ct_X0_trace hS hc1) mw_X0_trace (stN_o0 hS).r rfl rfl q1817 dL_law_1108 rfl rfl (Nat.le_of_ble_eq_true rfl) (rmOK.i (Nat.le_of_ble_eq_true rfl) (Nat.le_of_ble_eq_true rfl) (by show S.1 + 0 ≤ 601024; omega) (by show 200 * S.1 + 8000 + 0 ≤ 7293034; omega)) ?_
  refine j_kn (k' := S.1) (n' := 200 * S.1 + 8000) rfl rfl ?_
  refine j_aload_n (pc := 1111) C dL_law_1111 rfl rfl ?_
  refine x_refl (pc := 1112) C dL_law_1112 rfl rfl ?_
  refine j_iload_n (pc := 1113) C dL_law_1113 rfl rfl ?_
  refine j_iconst (pc := 1114) (v := nI 1) C dL_law_1114 (by decide) ?_
  refine j_iadd (pc := 1115) C dL_law_1115 ?_
  refine x_sld (pc := 1116) (j := i + 1) C hX hb hL9 (nI_add _ _) (by omega) dL_law_1116 ?_
  replace hk := bd2_some hk
  obtain ⟨r2, I2, hc2, hk⟩ := hk
  refine j_callV (pc := 1117) C (ct_X9_trace hM hc2) mv_X9_trace (stM_o hM) rfl rfl q2440 dL_law_1117 rfl rfl (Nat.le_of_ble_eq_true rfl) (rmOK.i (Nat.le_of_ble_eq_true rfl) (Nat.le_of_ble_eq_true rfl) (by show S.1 + 0 ≤ 601024; omega) (by show 200 * S.1 + 8000 + 0 ≤ 7293034; omega)) ?_
  refine j_kn (k' := S.1) (n' := 200 * S.1 + 8000) rfl rfl ?_
  replace hk := og_some hk
  obtain ⟨he, hk⟩ := hk
  obtain rfl := Option.some.inj hk
  exact j_icmp_eq (pc := 1120) 1392 C dL_law_1120 (by decide) (fun _ => kk) (fun h => absurd he h)
def f_arm_30 (F : Nat) (a1 a2 a3 : Int32) (S : SH) (I : II) : Option (SH × II) := bd3 (f_X0_sheet S a1 a2 a3 I) fun r1 S1 I1 => og (S.1 ≤ S1.1 ∧ S1.1 ≤ 36000) <| ost S1 <| ostM S1 <| bd2 (f_X9_sheet F a1 a2 a3 I1) fun r2 I2 => og (r1 = r2) <| some (S1, I2)
set_option maxHeartbeats 4000000 in
theorem law_arm_30 {hh : List (Nat × Nat × Nat × Nat)} {G : WG} {p : Program} {l : Launch} {e : Env} {s : State} {m : MethodId} {args : Array Value} {below : List Frame} {meth : Method} {c : Code} {mn : String} {Xf : XX} {mc ms F b L i : Nat} {xs : Nat → Int32} {S : SH} {I : II} {Z : SH × II} (C : Cx G p room_1 s m args meth c cL_law "NineDemandsLaw" 4 (some .boolean) hh mn) (hX : va_X b L xs s G.2.2.2.2.1) (hb : b < gb G) (hL9 : L ≤ 384) (hi : i + 6 ≤ L) (hS36 : S.1 ≤ 36000) (hS : stN S) (hM : StM S) (hk : f_arm_30 F (xs (i + 1)) (xs (i + 2)) (xs (i + 3)) S I = some Z) (kk : J G p l e room_1 s m args below meth c 4 (.returned (some (.int (nI 1)))) Xf mc ms Z Z.1.1 (200 * Z.1.1 + 8000) 1392 [some (.ref b), some (.ref (wad G 0)), some (.ref (wad G 27)), some (.int (nI i))] []) : J G p l e room_1 s m args below meth c 4 (.returned (some (.int (nI 1)))) Xf mc ms (S, I) S.1 (200 * S.1 + 8000) 1125 [some (.ref b), some (.ref (wad G 0)), some (.ref (wad G 27)), some (.int (nI i))] [] := by
  unfold f_arm_30 at hk
  refine j_aload_n (pc := 1125) C dL_law_1125 rfl rfl ?_
  refine x_refl (pc := 1126) C dL_law_1126 rfl rfl ?_
  refine j_iload_n (pc := 1127) C dL_law_1127 rfl rfl ?_
  refine j_iconst (pc := 1128) (v := nI 1) C dL_law_1128 (by decide) ?_
  refine j_iadd (pc := 1129) C dL_law_1129 ?_
  refine x_sld (pc := 1130) (j := i + 1) C hX hb hL9 (nI_add _ _) (by omega) dL_law_1130 ?_
  refine x_refl (pc := 1131) C dL_law_1131 rfl rfl ?_
  refine j_iload_n (pc := 1132) C dL_law_1132 rfl rfl ?_
  refine j_iconst (pc := 1133) (v := nI 2) C dL_law_1133 (by decide) ?_
  refine j_iadd (pc := 1134) C dL_law_1134 ?_
  refine x_sld (pc := 1135) (j := i + 2) C hX hb hL9 (nI_add _ _) (by omega) dL_law_1135 ?_
  refine x_refl (pc := 1136) C dL_law_1136 rfl rfl ?_
  refine j_iload_n (pc := 1137) C dL_law_1137 rfl rfl ?_
  refine j_iconst (pc := 1138) (v := nI 3) C dL_law_1138 (by decide) ?_
  refine j_iadd (pc := 1139) C dL_law_1139 ?_
  refine x_sld (pc := 1140) (j := i + 3) C hX hb hL9 (nI_add _ _) (by omega) dL_law_1140 ?_
  replace hk := bd3_some hk
  obtain ⟨r1, S1, I1, hc1, hk⟩ := hk
  replace hk := og_some hk
  obtain ⟨⟨hg1, hg2⟩, hk⟩ := hk
  replace hk := ost_some hk
  obtain ⟨hS1, hk⟩ := hk
  replace hk := ostM_some hk
  obtain ⟨hM1, hk⟩ := hk
  refine x_callVW (pc := 1141) C (ct_X0_sheet hc1) mw_X0_sheet (stN_o0 hS).r rfl rfl q1821 dL_law_1141 rfl rfl (Nat.le_of_ble_eq_true rfl) (rmOK.i (Nat.le_of_ble_eq_true rfl) (Nat.le_of_ble_eq_true rfl) (by show S.1 + (S1.1 - S.1) ≤ 601024; omega) (by show 200 * S.1 + 8000 + 200 * (S1.1 - S.1) ≤ 7293034; omega)) ?_
  refine j_kn (k' := S1.1) (n' := 200 * S1.1 + 8000) (by show S.1 + (S1.1 - S.1) = S1.1; omega) (by show 200 * S.1 + 8000 + 200 * (S1.1 - S.1) = 200 * S1.1 + 8000; omega) ?_
  refine j_aload_n (pc := 1144) C dL_law_1144 rfl rfl ?_
  refine x_refl (pc := 1145) C dL_law_1145 rfl rfl ?_
  refine j_iload_n (pc := 1146) C dL_law_1146 rfl rfl ?_
  refine j_iconst (pc := 1147) (v := nI 1) C dL_law_1147 (by decide) ?_
  refine j_iadd (pc := 1148) C dL_law_1148 ?_
  refine x_sld (pc := 1149) (j := i + 1) C hX hb hL9 (nI_add _ _) (by omega) dL_law_1149 ?_
  refine x_refl (pc := 1150) C dL_law_1150 rfl rfl ?_
  refine j_iload_n (pc := 1151) C dL_law_1151 rfl rfl ?_
  refine j_iconst (pc := 1152) (v := nI 2) C dL_law_1152 (by decide) ?_
  refine j_iadd (pc := 1153) C dL_law_1153 ?_
  refine x_sld (pc := 1154) (j := i + 2) C hX hb hL9 (nI_add _ _) (by omega) dL_law_1154 ?_
  refine x_refl (pc := 1155) C dL_law_1155 rfl rfl ?_
  refine j_iload_n (pc := 1156) C dL_law_1156 rfl rfl ?_
  refine j_iconst (pc := 1157) (v := nI 3) C dL_law_1157 (by decide) ?_
  refine j_iadd (pc := 1158) C dL_law_1158 ?_
  refine x_sld (pc := 1159) (j := i + 3) C hX hb hL9 (nI_add _ _) (by omega) dL_law_1159 ?_
  replace hk := bd2_some hk
  obtain ⟨r2, I2, hc2, hk⟩ := hk
  refine j_callV (pc := 1160) C (ct_X9_sheet hM1 hc2) mv_X9_sheet (stM_o hM1) rfl rfl q2444 dL_law_1160 rfl rfl (Nat.le_of_ble_eq_true rfl) (rmOK.i (Nat.le_of_ble_eq_true rfl) (Nat.le_of_ble_eq_true rfl) (by show S1.1 + 0 ≤ 601024; omega) (by show 200 * S1.1 + 8000 + 0 ≤ 7293034; omega)) ?_
  refine j_kn (k' := S1.1) (n' := 200 * S1.1 + 8000) rfl rfl ?_
  replace hk := og_some hk
  obtain ⟨he, hk⟩ := hk
  obtain rfl := Option.some.inj hk
  exact j_icmp_eq (pc := 1163) 1392 C dL_law_1163 (by decide) (fun _ => kk) (fun h => absurd he h)
def f_arm_31 (F : Nat) (a1 a2 a3 : Int32) (S : SH) (I : II) : Option (SH × II) := bd2 (f_X0_put S a1 a2 a3 I) fun r1 I1 => bd2 (f_X9_put a1 a2 a3 I1) fun r2 I2 => og (r1 = r2) <| some (S, I2)
set_option maxHeartbeats 4000000 in
theorem law_arm_31 {hh : List (Nat × Nat × Nat × Nat)} {G : WG} {p : Program} {l : Launch} {e : Env} {s : State} {m : MethodId} {args : Array Value} {below : List Frame} {meth : Method} {c : Code} {mn : String} {Xf : XX} {mc ms F b L i : Nat} {xs : Nat → Int32} {S : SH} {I : II} {Z : SH × II} (C : Cx G p room_1 s m args meth c cL_law "NineDemandsLaw" 4 (some .boolean) hh mn) (hX : va_X b L xs s G.2.2.2.2.1) (hb : b < gb G) (hL9 : L ≤ 384) (hi : i + 6 ≤ L) (hS36 : S.1 ≤ 36000) (hS : stN S) (hM : StM S) (hk : f_arm_31 F (xs (i + 1)) (xs (i + 2)) (xs (i + 3)) S I = some Z) (kk : J G p l e room_1 s m args below meth c 4 (.returned (some (.int (nI 1)))) Xf mc ms Z Z.1.1 (200 * Z.1.1 + 8000) 1392 [some (.ref b), some (.ref (wad G 0)), some (.ref (wad G 27)), some (.int (nI i))] []) : J G p l e room_1 s m args below meth c 4 (.returned (some (.int (nI 1)))) Xf mc ms (S, I) S.1 (200 * S.1 + 8000) 1168 [some (.ref b), some (.ref (wad G 0)), some (.ref (wad G 27)), some (.int (nI i))] [] := by
  unfold f_arm_31 at hk
  refine j_aload_n (pc := 1168) C dL_law_1168 rfl rfl ?_
  refine x_refl (pc := 1169) C dL_law_1169 rfl rfl ?_
  refine j_iload_n (pc := 1170) C dL_law_1170 rfl rfl ?_
  refine j_iconst (pc := 1171) (v := nI 1) C dL_law_1171 (by decide) ?_
  refine j_iadd (pc := 1172) C dL_law_1172 ?_
  refine x_sld (pc := 1173) (j := i + 1) C hX hb hL9 (nI_add _ _) (by omega) dL_law_1173 ?_
  refine x_refl (pc := 1174) C dL_law_1174 rfl rfl ?_
  refine j_iload_n (pc := 1175) C dL_law_1175 rfl rfl ?_
  refine j_iconst (pc := 1176) (v := nI 2) C dL_law_1176 (by decide) ?_
  refine j_iadd (pc := 1177) C dL_law_1177 ?_
  refine x_sld (pc := 1178) (j := i + 2) C hX hb hL9 (nI_add _ _) (by omega) dL_law_1178 ?_
  refine x_refl (pc := 1179) C dL_law_1179 rfl rfl ?_
  refine j_iload_n (pc := 1180) C dL_law_1180 rfl rfl ?_
  refine j_iconst (pc := 1181) (v := nI 3) C dL_law_1181 (by decide) ?_
  refine j_iadd (pc := 1182) C dL_law_1182 ?_
  refine x_sld (pc := 1183) (j := i + 3) C hX hb hL9 (nI_add _ _) (by omega) dL_law_1183 ?_
  replace hk := bd2_some hk
  obtain ⟨r1, I1, hc1, hk⟩ := hk
  refine x_callVW (pc := 1184) C (ct_X0_put hS hc1) mw_X0_put (stN_o0 hS).r rfl rfl q1862 dL_law_1184 rfl rfl (Nat.le_of_ble_eq_true rfl) (rmOK.i (Nat.le_of_ble_eq_true rfl) (Nat.le_of_ble_eq_true rfl) (by show S.1 + 0 ≤ 601024; omega) (by show 200 * S.1 + 8000 + 0 ≤ 7293034; omega)) ?_
  refine j_kn (k' := S.1) (n' := 200 * S.1 + 8000) rfl rfl ?_
  refine j_aload_n (pc := 1187) C dL_law_1187 rfl rfl ?_
  refine x_refl (pc := 1188) C dL_law_1188 rfl rfl ?_
  refine j_iload_n (pc := 1189) C dL_law_1189 rfl rfl ?_
  refine j_iconst (pc := 1190) (v := nI 1) C dL_law_1190 (by decide) ?_
  refine j_iadd (pc := 1191) C dL_law_1191 ?_
  refine x_sld (pc := 1192) (j := i + 1) C hX hb hL9 (nI_add _ _) (by omega) dL_law_1192 ?_
  refine x_refl (pc := 1193) C dL_law_1193 rfl rfl ?_
  refine j_iload_n (pc := 1194) C dL_law_1194 rfl rfl ?_
  refine j_iconst (pc := 1195) (v := nI 2) C dL_law_1195 (by decide) ?_
  refine j_iadd (pc := 1196) C dL_law_1196 ?_
  refine x_sld (pc := 1197) (j := i + 2) C hX hb hL9 (nI_add _ _) (by omega) dL_law_1197 ?_
  refine x_refl (pc := 1198) C dL_law_1198 rfl rfl ?_
  refine j_iload_n (pc := 1199) C dL_law_1199 rfl rfl ?_
  refine j_iconst (pc := 1200) (v := nI 3) C dL_law_1200 (by decide) ?_
  refine j_iadd (pc := 1201) C dL_law_1201 ?_
  refine x_sld (pc := 1202) (j := i + 3) C hX hb hL9 (nI_add _ _) (by omega) dL_law_1202 ?_
  replace hk := bd2_some hk
  obtain ⟨r2, I2, hc2, hk⟩ := hk
  refine j_callV (pc := 1203) C (ct_X9_put hM hc2) mv_X9_put (stM_o hM) rfl rfl q2448 dL_law_1203 rfl rfl (Nat.le_of_ble_eq_true rfl) (rmOK.i (Nat.le_of_ble_eq_true rfl) (Nat.le_of_ble_eq_true rfl) (by show S.1 + 0 ≤ 601024; omega) (by show 200 * S.1 + 8000 + 0 ≤ 7293034; omega)) ?_
  refine j_kn (k' := S.1) (n' := 200 * S.1 + 8000) rfl rfl ?_
  replace hk := og_some hk
  obtain ⟨he, hk⟩ := hk
  obtain rfl := Option.some.inj hk
  exact j_icmp_eq (pc := 1206) 1392 C dL_law_1206 (by decide) (fun _ => kk) (fun h => absurd he h)
def f_arm_32 (F : Nat) (a1 a2 a3 a4 a5 : Int32) (S : SH) (I : II) : Option (SH × II) := bd3 (f_X0_move F S a1 a2 a3 a4 a5 I) fun r1 S1 I1 => og (S.1 ≤ S1.1 ∧ S1.1 ≤ 36000) <| ost S1 <| ostM S1 <| bd2 (f_X9_move F a1 a2 a3 a4 a5 I1) fun r2 I2 => og (r1 = r2) <| some (S1, I2)
set_option maxHeartbeats 4000000 in
theorem law_arm_32 {hh : List (Nat × Nat × Nat × Nat)} {G : WG} {p : Program} {l : Launch} {e : Env} {s : State} {m : MethodId} {args : Array Value} {below : List Frame} {meth : Method} {c : Code} {mn : String} {Xf : XX} {mc ms F b L i : Nat} {xs : Nat → Int32} {S : SH} {I : II} {Z : SH × II} (C : Cx G p room_1 s m args meth c cL_law "NineDemandsLaw" 4 (some .boolean) hh mn) (hX : va_X b L xs s G.2.2.2.2.1) (hb : b < gb G) (hL9 : L ≤ 384) (hi : i + 6 ≤ L) (hS36 : S.1 ≤ 36000) (hS : stN S) (hM : StM S) (hk : f_arm_32 F (xs (i + 1)) (xs (i + 2)) (xs (i + 3)) (xs (i + 4)) (xs (i + 5)) S I = some Z) (kk : J G p l e room_1 s m args below meth c 4 (.returned (some (.int (nI 1)))) Xf mc ms Z Z.1.1 (200 * Z.1.1 + 8000) 1392 [some (.ref b), some (.ref (wad G 0)), some (.ref (wad G 27)), some (.int (nI i))] []) : J G p l e room_1 s m args below meth c 4 (.returned (some (.int (nI 1)))) Xf mc ms (S, I) S.1 (200 * S.1 + 8000) 1211 [some (.ref b), some (.ref (wad G 0)), some (.ref (wad G 27)), some (.int (nI i))] [] := by
  unfold f_arm_32 at hk
  refine j_aload_n (pc := 1211) C dL_law_1211 rfl rfl ?_
  refine x_refl (pc := 1212) C dL_law_1212 rfl rfl ?_
  refine j_iload_n (pc := 1213) C dL_law_1213 rfl rfl ?_
  refine j_iconst (pc := 1214) (v := nI 1) C dL_law_1214 (by decide) ?_
  refine j_iadd (pc := 1215) C dL_law_1215 ?_
  refine x_sld (pc := 1216) (j := i + 1) C hX hb hL9 (nI_add _ _) (by omega) dL_law_1216 ?_
  refine x_refl (pc := 1217) C dL_law_1217 rfl rfl ?_
  refine j_iload_n (pc := 1218) C dL_law_1218 rfl rfl ?_
  refine j_iconst (pc := 1219) (v := nI 2) C dL_law_1219 (by decide) ?_
  refine j_iadd (pc := 1220) C dL_law_1220 ?_
  refine x_sld (pc := 1221) (j := i + 2) C hX hb hL9 (nI_add _ _) (by omega) dL_law_1221 ?_
  refine x_refl (pc := 1222) C dL_law_1222 rfl rfl ?_
  refine j_iload_n (pc := 1223) C dL_law_1223 rfl rfl ?_
  refine j_iconst (pc := 1224) (v := nI 3) C dL_law_1224 (by decide) ?_
  refine j_iadd (pc := 1225) C dL_law_1225 ?_
  refine x_sld (pc := 1226) (j := i + 3) C hX hb hL9 (nI_add _ _) (by omega) dL_law_1226 ?_
  refine x_refl (pc := 1227) C dL_law_1227 rfl rfl ?_
  refine j_iload_n (pc := 1228) C dL_law_1228 rfl rfl ?_
  refine j_iconst (pc := 1229) (v := nI 4) C dL_law_1229 (by decide) ?_
  refine j_iadd (pc := 1230) C dL_law_1230 ?_
  refine x_sld (pc := 1231) (j := i + 4) C hX hb hL9 (nI_add _ _) (by omega) dL_law_1231 ?_
  refine x_refl (pc := 1232) C dL_law_1232 rfl rfl ?_
  refine j_iload_n (pc := 1233) C dL_law_1233 rfl rfl ?_
  refine j_iconst (pc := 1234) (v := nI 5) C dL_law_1234 (by decide) ?_
  refine j_iadd (pc := 1235) C dL_law_1235 ?_
  refine x_sld (pc := 1236) (j := i + 5) C hX hb hL9 (nI_add _ _) (by omega) dL_law_1236 ?_
  replace hk := bd3_some hk
  obtain ⟨r1, S1, I1, hc1, hk⟩ := hk
  replace hk := og_some hk
  obtain ⟨⟨hg1, hg2⟩, hk⟩ := hk
  replace hk := ost_some hk
  obtain ⟨hS1, hk⟩ := hk
  replace hk := ostM_some hk
  obtain ⟨hM1, hk⟩ := hk
  refine x_callVW (pc := 1237) C (ct_X0_move hc1) mw_X0_move (stN_o0 hS).r rfl rfl q1878 dL_law_1237 rfl rfl (Nat.le_of_ble_eq_true rfl) (rmOK.i (Nat.le_of_ble_eq_true rfl) (Nat.le_of_ble_eq_true rfl) (by show S.1 + (S1.1 - S.1) ≤ 601024; omega) (by show 200 * S.1 + 8000 + 200 * (S1.1 - S.1) ≤ 7293034; omega)) ?_
  refine j_kn (k' := S1.1) (n' := 200 * S1.1 + 8000) (by show S.1 + (S1.1 - S.1) = S1.1; omega) (by show 200 * S.1 + 8000 + 200 * (S1.1 - S.1) = 200 * S1.1 + 8000; omega) ?_
  refine j_aload_n (pc := 1240) C dL_law_1240 rfl rfl ?_
  refine x_refl (pc := 1241) C dL_law_1241 rfl rfl ?_
  refine j_iload_n (pc := 1242) C dL_law_1242 rfl rfl ?_
  refine j_iconst (pc := 1243) (v := nI 1) C dL_law_1243 (by decide) ?_
  refine j_iadd (pc := 1244) C dL_law_1244 ?_
  refine x_sld (pc := 1245) (j := i + 1) C hX hb hL9 (nI_add _ _) (by omega) dL_law_1245 ?_
  refine x_refl (pc := 1246) C dL_law_1246 rfl rfl ?_
  refine j_iload_n (pc := 1247) C dL_law_1247 rfl rfl ?_
  refine j_iconst (pc := 1248) (v := nI 2) C dL_law_1248 (by decide) ?_
  refine j_iadd (pc := 1249) C dL_law_1249 ?_
  refine x_sld (pc := 1250) (j := i + 2) C hX hb hL9 (nI_add _ _) (by omega) dL_law_1250 ?_
  refine x_refl (pc := 1251) C dL_law_1251 rfl rfl ?_
  refine j_iload_n (pc := 1252) C dL_law_1252 rfl rfl ?_
  refine j_iconst (pc := 1253) (v := nI 3) C dL_law_1253 (by decide) ?_
  refine j_iadd (pc := 1254) C dL_law_1254 ?_
  refine x_sld (pc := 1255) (j := i + 3) C hX hb hL9 (nI_add _ _) (by omega) dL_law_1255 ?_
  refine x_refl (pc := 1256) C dL_law_1256 rfl rfl ?_
  refine j_iload_n (pc := 1257) C dL_law_1257 rfl rfl ?_
  refine j_iconst (pc := 1258) (v := nI 4) C dL_law_1258 (by decide) ?_
  refine j_iadd (pc := 1259) C dL_law_1259 ?_
  refine x_sld (pc := 1260) (j := i + 4) C hX hb hL9 (nI_add _ _) (by omega) dL_law_1260 ?_
  refine x_refl (pc := 1261) C dL_law_1261 rfl rfl ?_
  refine j_iload_n (pc := 1262) C dL_law_1262 rfl rfl ?_
  refine j_iconst (pc := 1263) (v := nI 5) C dL_law_1263 (by decide) ?_
  refine j_iadd (pc := 1264) C dL_law_1264 ?_
  refine x_sld (pc := 1265) (j := i + 5) C hX hb hL9 (nI_add _ _) (by omega) dL_law_1265 ?_
  replace hk := bd2_some hk
  obtain ⟨r2, I2, hc2, hk⟩ := hk
  refine j_callV (pc := 1266) C (ct_X9_move hM1 hc2) mv_X9_move (stM_o hM1) rfl rfl q2452 dL_law_1266 rfl rfl (Nat.le_of_ble_eq_true rfl) (rmOK.i (Nat.le_of_ble_eq_true rfl) (Nat.le_of_ble_eq_true rfl) (by show S1.1 + 0 ≤ 601024; omega) (by show 200 * S1.1 + 8000 + 0 ≤ 7293034; omega)) ?_
  refine j_kn (k' := S1.1) (n' := 200 * S1.1 + 8000) rfl rfl ?_
  replace hk := og_some hk
  obtain ⟨he, hk⟩ := hk
  obtain rfl := Option.some.inj hk
  exact j_icmp_eq (pc := 1269) 1392 C dL_law_1269 (by decide) (fun _ => kk) (fun h => absurd he h)
def f_arm_33 (F : Nat) (S : SH) (I : II) : Option (SH × II) := bd3 (f_X0_image F S I) fun r1 S1 I1 => og (S.1 ≤ S1.1 ∧ S1.1 ≤ 36000) <| ost S1 <| ostM S1 <| bd2 (f_X9_image F I1) fun r2 I2 => og (r1 = r2) <| some (S1, I2)
set_option maxHeartbeats 4000000 in
theorem law_arm_33 {hh : List (Nat × Nat × Nat × Nat)} {G : WG} {p : Program} {l : Launch} {e : Env} {s : State} {m : MethodId} {args : Array Value} {below : List Frame} {meth : Method} {c : Code} {mn : String} {Xf : XX} {mc ms F b L i : Nat} {xs : Nat → Int32} {S : SH} {I : II} {Z : SH × II} (C : Cx G p room_1 s m args meth c cL_law "NineDemandsLaw" 4 (some .boolean) hh mn) (hX : va_X b L xs s G.2.2.2.2.1) (hb : b < gb G) (hL9 : L ≤ 384) (hi : i + 6 ≤ L) (hS36 : S.1 ≤ 36000) (hS : stN S) (hM : StM S) (hk : f_arm_33 F S I = some Z) (kk : J G p l e room_1 s m args below meth c 4 (.returned (some (.int (nI 1)))) Xf mc ms Z Z.1.1 (200 * Z.1.1 + 8000) 1392 [some (.ref b), some (.ref (wad G 0)), some (.ref (wad G 27)), some (.int (nI i))] []) : J G p l e room_1 s m args below meth c 4 (.returned (some (.int (nI 1)))) Xf mc ms (S, I) S.1 (200 * S.1 + 8000) 1274 [some (.ref b), some (.ref (wad G 0)), some (.ref (wad G 27)), some (.int (nI i))] [] := by
  unfold f_arm_33 at hk
  refine j_aload_n (pc := 1274) C dL_law_1274 rfl rfl ?_
  replace hk := bd3_some hk
  obtain ⟨r1, S1, I1, hc1, hk⟩ := hk
  replace hk := og_some hk
  obtain ⟨⟨hg1, hg2⟩, hk⟩ := hk
  replace hk := ost_some hk
  obtain ⟨hS1, hk⟩ := hk
  replace hk := ostM_some hk
  obtain ⟨hM1, hk⟩ := hk
  refine x_callV (pc := 1275) C (ct_X0_image hc1) mv_X0_image (stN_o0 hS).r rfl rfl q1903 dL_law_1275 rfl rfl (Nat.le_of_ble_eq_true rfl) (rmOK.i (Nat.le_of_ble_eq_true rfl) (Nat.le_of_ble_eq_true rfl) (by show S.1 + (S1.1 - S.1) ≤ 601024; omega) (by show 200 * S.1 + 8000 + 200 * (S1.1 - S.1) ≤ 7293034; omega)) ?_
  refine j_kn (k' := S1.1) (n' := 200 * S1.1 + 8000) (by show S.1 + (S1.1 - S.1) = S1.1; omega) (by show 200 * S.1 + 8000 + 200 * (S1.1 - S.1) = 200 * S1.1 + 8000; omega) ?_
  refine j_aload_n (pc := 1278) C dL_law_1278 rfl rfl ?_
  replace hk := bd2_some hk
  obtain ⟨r2, I2, hc2, hk⟩ := hk
  refine j_callV (pc := 1279) C (ct_X9_image hM1 hc2) mv_X9_image (stM_o hM1) rfl rfl q2456 dL_law_1279 rfl rfl (Nat.le_of_ble_eq_true rfl) (rmOK.i (Nat.le_of_ble_eq_true rfl) (Nat.le_of_ble_eq_true rfl) (by show S1.1 + 0 ≤ 601024; omega) (by show 200 * S1.1 + 8000 + 0 ≤ 7293034; omega)) ?_
  refine j_kn (k' := S1.1) (n' := 200 * S1.1 + 8000) rfl rfl ?_
  replace hk := og_some hk
  obtain ⟨he, hk⟩ := hk
  obtain rfl := Option.some.inj hk
  exact j_icmp_eq (pc := 1282) 1392 C dL_law_1282 (by decide) (fun _ => kk) (fun h => absurd he h)
def f_arm_34 (F : Nat) (S : SH) (I : II) : Option (SH × II) := bd3 (f_X0_restore F S I) fun r1 S1 I1 => og (S.1 ≤ S1.1 ∧ S1.1 ≤ 36000) <| ost S1 <| ostM S1 <| bd2 (f_X9_restore F I1) fun r2 I2 => og (r1 = r2) <| some (S1, I2)
set_option maxHeartbeats 4000000 in
theorem law_arm_34 {hh : List (Nat × Nat × Nat × Nat)} {G : WG} {p : Program} {l : Launch} {e : Env} {s : State} {m : MethodId} {args : Array Value} {below : List Frame} {meth : Method} {c : Code} {mn : String} {Xf : XX} {mc ms F b L i : Nat} {xs : Nat → Int32} {S : SH} {I : II} {Z : SH × II} (C : Cx G p room_1 s m args meth c cL_law "NineDemandsLaw" 4 (some .boolean) hh mn) (hX : va_X b L xs s G.2.2.2.2.1) (hb : b < gb G) (hL9 : L ≤ 384) (hi : i + 6 ≤ L) (hS36 : S.1 ≤ 36000) (hS : stN S) (hM : StM S) (hk : f_arm_34 F S I = some Z) (kk : J G p l e room_1 s m args below meth c 4 (.returned (some (.int (nI 1)))) Xf mc ms Z Z.1.1 (200 * Z.1.1 + 8000) 1392 [some (.ref b), some (.ref (wad G 0)), some (.ref (wad G 27)), some (.int (nI i))] []) : J G p l e room_1 s m args below meth c 4 (.returned (some (.int (nI 1)))) Xf mc ms (S, I) S.1 (200 * S.1 + 8000) 1287 [some (.ref b), some (.ref (wad G 0)), some (.ref (wad G 27)), some (.int (nI i))] [] := by
  unfold f_arm_34 at hk
  refine j_aload_n (pc := 1287) C dL_law_1287 rfl rfl ?_
  replace hk := bd3_some hk
  obtain ⟨r1, S1, I1, hc1, hk⟩ := hk
  replace hk := og_some hk
  obtain ⟨⟨hg1, hg2⟩, hk⟩ := hk
  replace hk := ost_some hk
  obtain ⟨hS1, hk⟩ := hk
  replace hk := ostM_some hk
  obtain ⟨hM1, hk⟩ := hk
  refine x_callVW (pc := 1288) C (ct_X0_restore hc1) mw_X0_restore (stN_o0 hS).r rfl rfl q1957 dL_law_1288 rfl rfl (Nat.le_of_ble_eq_true rfl) (rmOK.i (Nat.le_of_ble_eq_true rfl) (Nat.le_of_ble_eq_true rfl) (by show S.1 + (S1.1 - S.1) ≤ 601024; omega) (by show 200 * S.1 + 8000 + 200 * (S1.1 - S.1) ≤ 7293034; omega)) ?_
  refine j_kn (k' := S1.1) (n' := 200 * S1.1 + 8000) (by show S.1 + (S1.1 - S.1) = S1.1; omega) (by show 200 * S.1 + 8000 + 200 * (S1.1 - S.1) = 200 * S1.1 + 8000; omega) ?_
  refine j_aload_n (pc := 1291) C dL_law_1291 rfl rfl ?_
  replace hk := bd2_some hk
  obtain ⟨r2, I2, hc2, hk⟩ := hk
  refine j_callV (pc := 1292) C (ct_X9_restore hM1 hc2) mv_X9_restore (stM_o hM1) rfl rfl q2460 dL_law_1292 rfl rfl (Nat.le_of_ble_eq_true rfl) (rmOK.i (Nat.le_of_ble_eq_true rfl) (Nat.le_of_ble_eq_true rfl) (by show S1.1 + 0 ≤ 601024; omega) (by show 200 * S1.1 + 8000 + 0 ≤ 7293034; omega)) ?_
  refine j_kn (k' := S1.1) (n' := 200 * S1.1 + 8000) rfl rfl ?_
  replace hk := og_some hk
  obtain ⟨he, hk⟩ := hk
  obtain rfl := Option.some.inj hk
  exact j_icmp_eq (pc := 1295) 1392 C dL_law_1295 (by decide) (fun _ => kk) (fun h => absurd he h)
def f_arm_35 (F : Nat) (a1 : Int32) (S : SH) (I : II) : Option (SH × II) := bd2 (f_X0_tell S a1 I) fun r1 I1 => bd2 (f_X9_tell a1 I1) fun r2 I2 => og (r1 = r2) <| some (S, I2)
set_option maxHeartbeats 4000000 in
theorem law_arm_35 {hh : List (Nat × Nat × Nat × Nat)} {G : WG} {p : Program} {l : Launch} {e : Env} {s : State} {m : MethodId} {args : Array Value} {below : List Frame} {meth : Method} {c : Code} {mn : String} {Xf : XX} {mc ms F b L i : Nat} {xs : Nat → Int32} {S : SH} {I : II} {Z : SH × II} (C : Cx G p room_1 s m args meth c cL_law "NineDemandsLaw" 4 (some .boolean) hh mn) (hX : va_X b L xs s G.2.2.2.2.1) (hb : b < gb G) (hL9 : L ≤ 384) (hi : i + 6 ≤ L) (hS36 : S.1 ≤ 36000) (hS : stN S) (hM : StM S) (hk : f_arm_35 F (xs (i + 1)) S I = some Z) (kk : J G p l e room_1 s m args below meth c 4 (.returned (some (.int (nI 1)))) Xf mc ms Z Z.1.1 (200 * Z.1.1 + 8000) 1392 [some (.ref b), some (.ref (wad G 0)), some (.ref (wad G 27)), some (.int (nI i))] []) : J G p l e room_1 s m args below meth c 4 (.returned (some (.int (nI 1)))) Xf mc ms (S, I) S.1 (200 * S.1 + 8000) 1300 [some (.ref b), some (.ref (wad G 0)), some (.ref (wad G 27)), some (.int (nI i))] [] := by
  unfold f_arm_35 at hk
  refine j_aload_n (pc := 1300) C dL_law_1300 rfl rfl ?_
  refine x_refl (pc := 1301) C dL_law_1301 rfl rfl ?_
  refine j_iload_n (pc := 1302) C dL_law_1302 rfl rfl ?_
  refine j_iconst (pc := 1303) (v := nI 1) C dL_law_1303 (by decide) ?_
  refine j_iadd (pc := 1304) C dL_law_1304 ?_
  refine x_sld (pc := 1305) (j := i + 1) C hX hb hL9 (nI_add _ _) (by omega) dL_law_1305 ?_
  replace hk := bd2_some hk
  obtain ⟨r1, I1, hc1, hk⟩ := hk
  refine x_callVW (pc := 1306) C (ct_X0_tell hS hc1) mw_X0_tell (stN_o0 hS).r rfl rfl q1961 dL_law_1306 rfl rfl (Nat.le_of_ble_eq_true rfl) (rmOK.i (Nat.le_of_ble_eq_true rfl) (Nat.le_of_ble_eq_true rfl) (by show S.1 + 0 ≤ 601024; omega) (by show 200 * S.1 + 8000 + 0 ≤ 7293034; omega)) ?_
  refine j_kn (k' := S.1) (n' := 200 * S.1 + 8000) rfl rfl ?_
  refine j_aload_n (pc := 1309) C dL_law_1309 rfl rfl ?_
  refine x_refl (pc := 1310) C dL_law_1310 rfl rfl ?_
  refine j_iload_n (pc := 1311) C dL_law_1311 rfl rfl ?_
  refine j_iconst (pc := 1312) (v := nI 1) C dL_law_1312 (by decide) ?_
  refine j_iadd (pc := 1313) C dL_law_1313 ?_
  refine x_sld (pc := 1314) (j := i + 1) C hX hb hL9 (nI_add _ _) (by omega) dL_law_1314 ?_
  replace hk := bd2_some hk
  obtain ⟨r2, I2, hc2, hk⟩ := hk
  refine j_callV (pc := 1315) C (ct_X9_tell hM hc2) mv_X9_tell (stM_o hM) rfl rfl q2464 dL_law_1315 rfl rfl (Nat.le_of_ble_eq_true rfl) (rmOK.i (Nat.le_of_ble_eq_true rfl) (Nat.le_of_ble_eq_true rfl) (by show S.1 + 0 ≤ 601024; omega) (by show 200 * S.1 + 8000 + 0 ≤ 7293034; omega)) ?_
  refine j_kn (k' := S.1) (n' := 200 * S.1 + 8000) rfl rfl ?_
  replace hk := og_some hk
  obtain ⟨he, hk⟩ := hk
  obtain rfl := Option.some.inj hk
  exact j_icmp_eq (pc := 1318) 1392 C dL_law_1318 (by decide) (fun _ => kk) (fun h => absurd he h)
def f_arm_36 (F : Nat) (a1 : Int32) (S : SH) (I : II) : Option (SH × II) := bd2 (f_X0_learn F S a1 I) fun r1 I1 => bd2 (f_X9_learn F a1 I1) fun r2 I2 => og (r1 = r2) <| some (S, I2)
set_option maxHeartbeats 4000000 in
theorem law_arm_36 {hh : List (Nat × Nat × Nat × Nat)} {G : WG} {p : Program} {l : Launch} {e : Env} {s : State} {m : MethodId} {args : Array Value} {below : List Frame} {meth : Method} {c : Code} {mn : String} {Xf : XX} {mc ms F b L i : Nat} {xs : Nat → Int32} {S : SH} {I : II} {Z : SH × II} (C : Cx G p room_1 s m args meth c cL_law "NineDemandsLaw" 4 (some .boolean) hh mn) (hX : va_X b L xs s G.2.2.2.2.1) (hb : b < gb G) (hL9 : L ≤ 384) (hi : i + 6 ≤ L) (hS36 : S.1 ≤ 36000) (hS : stN S) (hM : StM S) (hk : f_arm_36 F (xs (i + 1)) S I = some Z) (kk : J G p l e room_1 s m args below meth c 4 (.returned (some (.int (nI 1)))) Xf mc ms Z Z.1.1 (200 * Z.1.1 + 8000) 1392 [some (.ref b), some (.ref (wad G 0)), some (.ref (wad G 27)), some (.int (nI i))] []) : J G p l e room_1 s m args below meth c 4 (.returned (some (.int (nI 1)))) Xf mc ms (S, I) S.1 (200 * S.1 + 8000) 1323 [some (.ref b), some (.ref (wad G 0)), some (.ref (wad G 27)), some (.int (nI i))] [] := by
  unfold f_arm_36 at hk
  refine j_aload_n (pc := 1323) C dL_law_1323 rfl rfl ?_
  refine x_refl (pc := 1324) C dL_law_1324 rfl rfl ?_
  refine j_iload_n (pc := 1325) C dL_law_1325 rfl rfl ?_
  refine j_iconst (pc := 1326) (v := nI 1) C dL_law_1326 (by decide) ?_
  refine j_iadd (pc := 1327) C dL_law_1327 ?_
  refine x_sld (pc := 1328) (j := i + 1) C hX hb hL9 (nI_add _ _) (by omega) dL_law_1328 ?_
  replace hk := bd2_some hk
  obtain ⟨r1, I1, hc1, hk⟩ := hk
  refine x_callVW (pc := 1329) C (ct_X0_learn hS hc1) mw_X0_learn (stN_o0 hS).r rfl rfl q1965 dL_law_1329 rfl rfl (Nat.le_of_ble_eq_true rfl) (rmOK.i (Nat.le_of_ble_eq_true rfl) (Nat.le_of_ble_eq_true rfl) (by show S.1 + 0 ≤ 601024; omega) (by show 200 * S.1 + 8000 + 0 ≤ 7293034; omega)) ?_
  refine j_kn (k' := S.1) (n' := 200 * S.1 + 8000) rfl rfl ?_
  refine j_aload_n (pc := 1332) C dL_law_1332 rfl rfl ?_
  refine x_refl (pc := 1333) C dL_law_1333 rfl rfl ?_
  refine j_iload_n (pc := 1334) C dL_law_1334 rfl rfl ?_
  refine j_iconst (pc := 1335) (v := nI 1) C dL_law_1335 (by decide) ?_
  refine j_iadd (pc := 1336) C dL_law_1336 ?_
  refine x_sld (pc := 1337) (j := i + 1) C hX hb hL9 (nI_add _ _) (by omega) dL_law_1337 ?_
  replace hk := bd2_some hk
  obtain ⟨r2, I2, hc2, hk⟩ := hk
  refine j_callV (pc := 1338) C (ct_X9_learn hM hc2) mv_X9_learn (stM_o hM) rfl rfl q2468 dL_law_1338 rfl rfl (Nat.le_of_ble_eq_true rfl) (rmOK.i (Nat.le_of_ble_eq_true rfl) (Nat.le_of_ble_eq_true rfl) (by show S.1 + 0 ≤ 601024; omega) (by show 200 * S.1 + 8000 + 0 ≤ 7293034; omega)) ?_
  refine j_kn (k' := S.1) (n' := 200 * S.1 + 8000) rfl rfl ?_
  replace hk := og_some hk
  obtain ⟨he, hk⟩ := hk
  obtain rfl := Option.some.inj hk
  exact j_icmp_eq (pc := 1341) 1392 C dL_law_1341 (by decide) (fun _ => kk) (fun h => absurd he h)
def f_arm_37 (F : Nat) (a1 : Int32) (S : SH) (I : II) : Option (SH × II) := bd2 (f_X0_count F S a1 I) fun r1 I1 => bd2 (f_X9_count F a1 I1) fun r2 I2 => og (r1 = r2) <| some (S, I2)
set_option maxHeartbeats 4000000 in
theorem law_arm_37 {hh : List (Nat × Nat × Nat × Nat)} {G : WG} {p : Program} {l : Launch} {e : Env} {s : State} {m : MethodId} {args : Array Value} {below : List Frame} {meth : Method} {c : Code} {mn : String} {Xf : XX} {mc ms F b L i : Nat} {xs : Nat → Int32} {S : SH} {I : II} {Z : SH × II} (C : Cx G p room_1 s m args meth c cL_law "NineDemandsLaw" 4 (some .boolean) hh mn) (hX : va_X b L xs s G.2.2.2.2.1) (hb : b < gb G) (hL9 : L ≤ 384) (hi : i + 6 ≤ L) (hS36 : S.1 ≤ 36000) (hS : stN S) (hM : StM S) (hk : f_arm_37 F (xs (i + 1)) S I = some Z) (kk : J G p l e room_1 s m args below meth c 4 (.returned (some (.int (nI 1)))) Xf mc ms Z Z.1.1 (200 * Z.1.1 + 8000) 1392 [some (.ref b), some (.ref (wad G 0)), some (.ref (wad G 27)), some (.int (nI i))] []) : J G p l e room_1 s m args below meth c 4 (.returned (some (.int (nI 1)))) Xf mc ms (S, I) S.1 (200 * S.1 + 8000) 1346 [some (.ref b), some (.ref (wad G 0)), some (.ref (wad G 27)), some (.int (nI i))] [] := by
  unfold f_arm_37 at hk
  refine j_aload_n (pc := 1346) C dL_law_1346 rfl rfl ?_
  refine x_refl (pc := 1347) C dL_law_1347 rfl rfl ?_
  refine j_iload_n (pc := 1348) C dL_law_1348 rfl rfl ?_
  refine j_iconst (pc := 1349) (v := nI 1) C dL_law_1349 (by decide) ?_
  refine j_iadd (pc := 1350) C dL_law_1350 ?_
  refine x_sld (pc := 1351) (j := i + 1) C hX hb hL9 (nI_add _ _) (by omega) dL_law_1351 ?_
  replace hk := bd2_some hk
  obtain ⟨r1, I1, hc1, hk⟩ := hk
  refine x_callVW (pc := 1352) C (ct_X0_count hS hc1) mw_X0_count (stN_o0 hS).r rfl rfl q1969 dL_law_1352 rfl rfl (Nat.le_of_ble_eq_true rfl) (rmOK.i (Nat.le_of_ble_eq_true rfl) (Nat.le_of_ble_eq_true rfl) (by show S.1 + 0 ≤ 601024; omega) (by show 200 * S.1 + 8000 + 0 ≤ 7293034; omega)) ?_
  refine j_kn (k' := S.1) (n' := 200 * S.1 + 8000) rfl rfl ?_
  refine j_aload_n (pc := 1355) C dL_law_1355 rfl rfl ?_
  refine x_refl (pc := 1356) C dL_law_1356 rfl rfl ?_
  refine j_iload_n (pc := 1357) C dL_law_1357 rfl rfl ?_
  refine j_iconst (pc := 1358) (v := nI 1) C dL_law_1358 (by decide) ?_
  refine j_iadd (pc := 1359) C dL_law_1359 ?_
  refine x_sld (pc := 1360) (j := i + 1) C hX hb hL9 (nI_add _ _) (by omega) dL_law_1360 ?_
  replace hk := bd2_some hk
  obtain ⟨r2, I2, hc2, hk⟩ := hk
  refine j_callV (pc := 1361) C (ct_X9_count hM hc2) mv_X9_count (stM_o hM) rfl rfl q2472 dL_law_1361 rfl rfl (Nat.le_of_ble_eq_true rfl) (rmOK.i (Nat.le_of_ble_eq_true rfl) (Nat.le_of_ble_eq_true rfl) (by show S.1 + 0 ≤ 601024; omega) (by show 200 * S.1 + 8000 + 0 ≤ 7293034; omega)) ?_
  refine j_kn (k' := S.1) (n' := 200 * S.1 + 8000) rfl rfl ?_
  replace hk := og_some hk
  obtain ⟨he, hk⟩ := hk
  obtain rfl := Option.some.inj hk
  exact j_icmp_eq (pc := 1364) 1392 C dL_law_1364 (by decide) (fun _ => kk) (fun h => absurd he h)
def f_arm_38 (F : Nat) (a1 : Int32) (S : SH) (I : II) : Option (SH × II) := bd2 (f_X0_told S a1 I) fun r1 I1 => bd2 (f_X9_told a1 I1) fun r2 I2 => og (r1 = r2) <| some (S, I2)
set_option maxHeartbeats 4000000 in
theorem law_arm_38 {hh : List (Nat × Nat × Nat × Nat)} {G : WG} {p : Program} {l : Launch} {e : Env} {s : State} {m : MethodId} {args : Array Value} {below : List Frame} {meth : Method} {c : Code} {mn : String} {Xf : XX} {mc ms F b L i : Nat} {xs : Nat → Int32} {S : SH} {I : II} {Z : SH × II} (C : Cx G p room_1 s m args meth c cL_law "NineDemandsLaw" 4 (some .boolean) hh mn) (hX : va_X b L xs s G.2.2.2.2.1) (hb : b < gb G) (hL9 : L ≤ 384) (hi : i + 6 ≤ L) (hS36 : S.1 ≤ 36000) (hS : stN S) (hM : StM S) (hk : f_arm_38 F (xs (i + 1)) S I = some Z) (kk : J G p l e room_1 s m args below meth c 4 (.returned (some (.int (nI 1)))) Xf mc ms Z Z.1.1 (200 * Z.1.1 + 8000) 1392 [some (.ref b), some (.ref (wad G 0)), some (.ref (wad G 27)), some (.int (nI i))] []) : J G p l e room_1 s m args below meth c 4 (.returned (some (.int (nI 1)))) Xf mc ms (S, I) S.1 (200 * S.1 + 8000) 1369 [some (.ref b), some (.ref (wad G 0)), some (.ref (wad G 27)), some (.int (nI i))] [] := by
  unfold f_arm_38 at hk
  refine j_aload_n (pc := 1369) C dL_law_1369 rfl rfl ?_
  refine x_refl (pc := 1370) C dL_law_1370 rfl rfl ?_
  refine j_iload_n (pc := 1371) C dL_law_1371 rfl rfl ?_
  refine j_iconst (pc := 1372) (v := nI 1) C dL_law_1372 (by decide) ?_
  refine j_iadd (pc := 1373) C dL_law_1373 ?_
  refine x_sld (pc := 1374) (j := i + 1) C hX hb hL9 (nI_add _ _) (by omega) dL_law_1374 ?_
  replace hk := bd2_some hk
  obtain ⟨r1, I1, hc1, hk⟩ := hk
  refine x_callVW (pc := 1375) C (ct_X0_told hS hc1) mw_X0_told (stN_o0 hS).r rfl rfl q1973 dL_law_1375 rfl rfl (Nat.le_of_ble_eq_true rfl) (rmOK.i (Nat.le_of_ble_eq_true rfl) (Nat.le_of_ble_eq_true rfl) (by show S.1 + 0 ≤ 601024; omega) (by show 200 * S.1 + 8000 + 0 ≤ 7293034; omega)) ?_
  refine j_kn (k' := S.1) (n' := 200 * S.1 + 8000) rfl rfl ?_
  refine j_aload_n (pc := 1378) C dL_law_1378 rfl rfl ?_
  refine x_refl (pc := 1379) C dL_law_1379 rfl rfl ?_
  refine j_iload_n (pc := 1380) C dL_law_1380 rfl rfl ?_
  refine j_iconst (pc := 1381) (v := nI 1) C dL_law_1381 (by decide) ?_
  refine j_iadd (pc := 1382) C dL_law_1382 ?_
  refine x_sld (pc := 1383) (j := i + 1) C hX hb hL9 (nI_add _ _) (by omega) dL_law_1383 ?_
  replace hk := bd2_some hk
  obtain ⟨r2, I2, hc2, hk⟩ := hk
  refine j_callV (pc := 1384) C (ct_X9_told hM hc2) mv_X9_told (stM_o hM) rfl rfl q2476 dL_law_1384 rfl rfl (Nat.le_of_ble_eq_true rfl) (rmOK.i (Nat.le_of_ble_eq_true rfl) (Nat.le_of_ble_eq_true rfl) (by show S.1 + 0 ≤ 601024; omega) (by show 200 * S.1 + 8000 + 0 ≤ 7293034; omega)) ?_
  refine j_kn (k' := S.1) (n' := 200 * S.1 + 8000) rfl rfl ?_
  replace hk := og_some hk
  obtain ⟨he, hk⟩ := hk
  obtain rfl := Option.some.inj hk
  exact j_icmp_eq (pc := 1387) 1392 C dL_law_1387 (by decide) (fun _ => kk) (fun h => absurd he h)
def f_arm (F : Nat) (a0 a1 a2 a3 a4 a5 : Int32) (S : SH) (I : II) : Option (SH × II) := if a0 = nI 0 then f_arm_0 F a1 a2 S I else if a0 = nI 1 then f_arm_1 F a1 a2 S I else if a0 = nI 2 then f_arm_2 F a1 a2 S I else if a0 = nI 3 then f_arm_3 F a1 S I else if a0 = nI 4 then f_arm_4 F a1 S I else if a0 = nI 5 then f_arm_5 F a1 S I else if a0 = nI 6 then f_arm_6 F a1 a2 a3 S I else if a0 = nI 7 then f_arm_7 F a1 a2 S I else if a0 = nI 8 then f_arm_8 F a1 a2 S I else if a0 = nI 9 then f_arm_9 F a1 a2 S I else if a0 = nI 10 then f_arm_10 F a1 a2 a3 S I else if a0 = nI 11 then f_arm_11 F a1 a2 a3 a4 S I else if a0 = nI 12 then f_arm_12 F a1 S I else if a0 = nI 13 then f_arm_13 F S I else if a0 = nI 14 then f_arm_14 F a1 a2 S I else if a0 = nI 15 then f_arm_15 F a1 S I else if a0 = nI 16 then f_arm_16 F a1 S I else if a0 = nI 17 then f_arm_17 F a1 a2 S I else if a0 = nI 18 then f_arm_18 F a1 S I else if a0 = nI 19 then f_arm_19 F a1 S I else if a0 = nI 20 then f_arm_20 F a1 a2 S I else if a0 = nI 21 then f_arm_21 F a1 a2 S I else if a0 = nI 22 then f_arm_22 F a1 S I else if a0 = nI 23 then f_arm_23 F a1 S I else if a0 = nI 24 then f_arm_24 F a1 a2 S I else if a0 = nI 25 then f_arm_25 F a1 a2 S I else if a0 = nI 26 then f_arm_26 F a1 S I else if a0 = nI 27 then f_arm_27 F a1 a2 S I else if a0 = nI 28 then f_arm_28 F a1 a2 a3 S I else if a0 = nI 29 then f_arm_29 F a1 S I else if a0 = nI 30 then f_arm_30 F a1 a2 a3 S I else if a0 = nI 31 then f_arm_31 F a1 a2 a3 S I else if a0 = nI 32 then f_arm_32 F a1 a2 a3 a4 a5 S I else if a0 = nI 33 then f_arm_33 F S I else if a0 = nI 34 then f_arm_34 F S I else if a0 = nI 35 then f_arm_35 F a1 S I else if a0 = nI 36 then f_arm_36 F a1 S I else if a0 = nI 37 then f_arm_37 F a1 S I else if a0 = nI 38 then f_arm_38 F a1 S I else some (S, I)
set_option maxHeartbeats 4000000 in
theorem law_switch {hh : List (Nat × Nat × Nat × Nat)} {G : WG} {p : Program} {l : Launch} {e : Env} {s : State} {m : MethodId} {args : Array Value} {below : List Frame} {meth : Method} {c : Code} {mn : String} {Xf : XX} {mc ms F b L i : Nat} {xs : Nat → Int32} {S : SH} {I : II} {Z : SH × II} (C : Cx G p room_1 s m args meth c cL_law "NineDemandsLaw" 4 (some .boolean) hh mn) (hX : va_X b L xs s G.2.2.2.2.1) (hb : b < gb G) (hL9 : L ≤ 384) (hi : i + 6 ≤ L) (hS36 : S.1 ≤ 36000) (hS : stN S) (hM : StM S) (hk : f_arm F (xs i &&& nI 63) (xs (i + 1)) (xs (i + 2)) (xs (i + 3)) (xs (i + 4)) (xs (i + 5)) S I = some Z) (kk : J G p l e room_1 s m args below meth c 4 (.returned (some (.int (nI 1)))) Xf mc ms Z Z.1.1 (200 * Z.1.1 + 8000) 1392 [some (.ref b), some (.ref (wad G 0)), some (.ref (wad G 27)), some (.int (nI i))] []) : J G p l e room_1 s m args below meth c 4 (.returned (some (.int (nI 1)))) Xf mc ms (S, I) S.1 (200 * S.1 + 8000) 33 [some (.ref b), some (.ref (wad G 0)), some (.ref (wad G 27)), some (.int (nI i))] [.int (xs i &&& nI 63)] := by
  unfold f_arm at hk
  generalize xs i &&& nI 63 = a0 at hk ⊢
  by_cases h0 : a0 = nI 0
  · replace hk := it_t h0 hk
    refine j_tableIn (pc := 33) 204 0 C dL_law_33 (sw_in h0 (by decide)) (by decide) (by decide) rfl (by decide) ?_
    exact law_arm_0 C hX hb hL9 hi hS36 hS hM hk kk
  replace hk := it_f h0 hk
  by_cases h1 : a0 = nI 1
  · replace hk := it_t h1 hk
    refine j_tableIn (pc := 33) 237 1 C dL_law_33 (sw_in h1 (by decide)) (by decide) (by decide) rfl (by decide) ?_
    exact law_arm_1 C hX hb hL9 hi hS36 hS hM hk kk
  replace hk := it_f h1 hk
  by_cases h2 : a0 = nI 2
  · replace hk := it_t h2 hk
    refine j_tableIn (pc := 33) 270 2 C dL_law_33 (sw_in h2 (by decide)) (by decide) (by decide) rfl (by decide) ?_
    exact law_arm_2 C hX hb hL9 hi hS36 hS hM hk kk
  replace hk := it_f h2 hk
  by_cases h3 : a0 = nI 3
  · replace hk := it_t h3 hk
    refine j_tableIn (pc := 33) 303 3 C dL_law_33 (sw_in h3 (by decide)) (by decide) (by decide) rfl (by decide) ?_
    exact law_arm_3 C hX hb hL9 hi hS36 hS hM hk kk
  replace hk := it_f h3 hk
  by_cases h4 : a0 = nI 4
  · replace hk := it_t h4 hk
    refine j_tableIn (pc := 33) 326 4 C dL_law_33 (sw_in h4 (by decide)) (by decide) (by decide) rfl (by decide) ?_
    exact law_arm_4 C hX hb hL9 hi hS36 hS hM hk kk
  replace hk := it_f h4 hk
  by_cases h5 : a0 = nI 5
  · replace hk := it_t h5 hk
    refine j_tableIn (pc := 33) 349 5 C dL_law_33 (sw_in h5 (by decide)) (by decide) (by decide) rfl (by decide) ?_
    exact law_arm_5 C hX hb hL9 hi hS36 hS hM hk kk
  replace hk := it_f h5 hk
  by_cases h6 : a0 = nI 6
  · replace hk := it_t h6 hk
    refine j_tableIn (pc := 33) 372 6 C dL_law_33 (sw_in h6 (by decide)) (by decide) (by decide) rfl (by decide) ?_
    exact law_arm_6 C hX hb hL9 hi hS36 hS hM hk kk
  replace hk := it_f h6 hk
  by_cases h7 : a0 = nI 7
  · replace hk := it_t h7 hk
    refine j_tableIn (pc := 33) 435 7 C dL_law_33 (sw_in h7 (by decide)) (by decide) (by decide) rfl (by decide) ?_
    exact law_arm_7 C hX hb hL9 hi hS36 hS hM hk kk
  replace hk := it_f h7 hk
  by_cases h8 : a0 = nI 8
  · replace hk := it_t h8 hk
    refine j_tableIn (pc := 33) 468 8 C dL_law_33 (sw_in h8 (by decide)) (by decide) (by decide) rfl (by decide) ?_
    exact law_arm_8 C hX hb hL9 hi hS36 hS hM hk kk
  replace hk := it_f h8 hk
  by_cases h9 : a0 = nI 9
  · replace hk := it_t h9 hk
    refine j_tableIn (pc := 33) 501 9 C dL_law_33 (sw_in h9 (by decide)) (by decide) (by decide) rfl (by decide) ?_
    exact law_arm_9 C hX hb hL9 hi hS36 hS hM hk kk
  replace hk := it_f h9 hk
  by_cases h10 : a0 = nI 10
  · replace hk := it_t h10 hk
    refine j_tableIn (pc := 33) 534 10 C dL_law_33 (sw_in h10 (by decide)) (by decide) (by decide) rfl (by decide) ?_
    exact law_arm_10 C hX hb hL9 hi hS36 hS hM hk kk
  replace hk := it_f h10 hk
  by_cases h11 : a0 = nI 11
  · replace hk := it_t h11 hk
    refine j_tableIn (pc := 33) 577 11 C dL_law_33 (sw_in h11 (by decide)) (by decide) (by decide) rfl (by decide) ?_
    exact law_arm_11 C hX hb hL9 hi hS36 hS hM hk kk
  replace hk := it_f h11 hk
  by_cases h12 : a0 = nI 12
  · replace hk := it_t h12 hk
    refine j_tableIn (pc := 33) 630 12 C dL_law_33 (sw_in h12 (by decide)) (by decide) (by decide) rfl (by decide) ?_
    exact law_arm_12 C hX hb hL9 hi hS36 hS hM hk kk
  replace hk := it_f h12 hk
  by_cases h13 : a0 = nI 13
  · replace hk := it_t h13 hk
    refine j_tableIn (pc := 33) 653 13 C dL_law_33 (sw_in h13 (by decide)) (by decide) (by decide) rfl (by decide) ?_
    exact law_arm_13 C hX hb hL9 hi hS36 hS hM hk kk
  replace hk := it_f h13 hk
  by_cases h14 : a0 = nI 14
  · replace hk := it_t h14 hk
    refine j_tableIn (pc := 33) 666 14 C dL_law_33 (sw_in h14 (by decide)) (by decide) (by decide) rfl (by decide) ?_
    exact law_arm_14 C hX hb hL9 hi hS36 hS hM hk kk
  replace hk := it_f h14 hk
  by_cases h15 : a0 = nI 15
  · replace hk := it_t h15 hk
    refine j_tableIn (pc := 33) 699 15 C dL_law_33 (sw_in h15 (by decide)) (by decide) (by decide) rfl (by decide) ?_
    exact law_arm_15 C hX hb hL9 hi hS36 hS hM hk kk
  replace hk := it_f h15 hk
  by_cases h16 : a0 = nI 16
  · replace hk := it_t h16 hk
    refine j_tableIn (pc := 33) 722 16 C dL_law_33 (sw_in h16 (by decide)) (by decide) (by decide) rfl (by decide) ?_
    exact law_arm_16 C hX hb hL9 hi hS36 hS hM hk kk
  replace hk := it_f h16 hk
  by_cases h17 : a0 = nI 17
  · replace hk := it_t h17 hk
    refine j_tableIn (pc := 33) 746 17 C dL_law_33 (sw_in h17 (by decide)) (by decide) (by decide) rfl (by decide) ?_
    exact law_arm_17 C hX hb hL9 hi hS36 hS hM hk kk
  replace hk := it_f h17 hk
  by_cases h18 : a0 = nI 18
  · replace hk := it_t h18 hk
    refine j_tableIn (pc := 33) 779 18 C dL_law_33 (sw_in h18 (by decide)) (by decide) (by decide) rfl (by decide) ?_
    exact law_arm_18 C hX hb hL9 hi hS36 hS hM hk kk
  replace hk := it_f h18 hk
  by_cases h19 : a0 = nI 19
  · replace hk := it_t h19 hk
    refine j_tableIn (pc := 33) 802 19 C dL_law_33 (sw_in h19 (by decide)) (by decide) (by decide) rfl (by decide) ?_
    exact law_arm_19 C hX hb hL9 hi hS36 hS hM hk kk
  replace hk := it_f h19 hk
  by_cases h20 : a0 = nI 20
  · replace hk := it_t h20 hk
    refine j_tableIn (pc := 33) 825 20 C dL_law_33 (sw_in h20 (by decide)) (by decide) (by decide) rfl (by decide) ?_
    exact law_arm_20 C hX hb hL9 hi hS36 hS hM hk kk
  replace hk := it_f h20 hk
  by_cases h21 : a0 = nI 21
  · replace hk := it_t h21 hk
    refine j_tableIn (pc := 33) 858 21 C dL_law_33 (sw_in h21 (by decide)) (by decide) (by decide) rfl (by decide) ?_
    exact law_arm_21 C hX hb hL9 hi hS36 hS hM hk kk
  replace hk := it_f h21 hk
  by_cases h22 : a0 = nI 22
  · replace hk := it_t h22 hk
    refine j_tableIn (pc := 33) 891 22 C dL_law_33 (sw_in h22 (by decide)) (by decide) (by decide) rfl (by decide) ?_
    exact law_arm_22 C hX hb hL9 hi hS36 hS hM hk kk
  replace hk := it_f h22 hk
  by_cases h23 : a0 = nI 23
  · replace hk := it_t h23 hk
    refine j_tableIn (pc := 33) 914 23 C dL_law_33 (sw_in h23 (by decide)) (by decide) (by decide) rfl (by decide) ?_
    exact law_arm_23 C hX hb hL9 hi hS36 hS hM hk kk
  replace hk := it_f h23 hk
  by_cases h24 : a0 = nI 24
  · replace hk := it_t h24 hk
    refine j_tableIn (pc := 33) 937 24 C dL_law_33 (sw_in h24 (by decide)) (by decide) (by decide) rfl (by decide) ?_
    exact law_arm_24 C hX hb hL9 hi hS36 hS hM hk kk
  replace hk := it_f h24 hk
  by_cases h25 : a0 = nI 25
  · replace hk := it_t h25 hk
    refine j_tableIn (pc := 33) 970 25 C dL_law_33 (sw_in h25 (by decide)) (by decide) (by decide) rfl (by decide) ?_
    exact law_arm_25 C hX hb hL9 hi hS36 hS hM hk kk
  replace hk := it_f h25 hk
  by_cases h26 : a0 = nI 26
  · replace hk := it_t h26 hk
    refine j_tableIn (pc := 33) 1003 26 C dL_law_33 (sw_in h26 (by decide)) (by decide) (by decide) rfl (by decide) ?_
    exact law_arm_26 C hX hb hL9 hi hS36 hS hM hk kk
  replace hk := it_f h26 hk
  by_cases h27 : a0 = nI 27
  · replace hk := it_t h27 hk
    refine j_tableIn (pc := 33) 1026 27 C dL_law_33 (sw_in h27 (by decide)) (by decide) (by decide) rfl (by decide) ?_
    exact law_arm_27 C hX hb hL9 hi hS36 hS hM hk kk
  replace hk := it_f h27 hk
  by_cases h28 : a0 = nI 28
  · replace hk := it_t h28 hk
    refine j_tableIn (pc := 33) 1059 28 C dL_law_33 (sw_in h28 (by decide)) (by decide) (by decide) rfl (by decide) ?_
    exact law_arm_28 C hX hb hL9 hi hS36 hS hM hk kk
  replace hk := it_f h28 hk
  by_cases h29 : a0 = nI 29
  · replace hk := it_t h29 hk
    refine j_tableIn (pc := 33) 1102 29 C dL_law_33 (sw_in h29 (by decide)) (by decide) (by decide) rfl (by decide) ?_
    exact law_arm_29 C hX hb hL9 hi hS36 hS hM hk kk
  replace hk := it_f h29 hk
  by_cases h30 : a0 = nI 30
  · replace hk := it_t h30 hk
    refine j_tableIn (pc := 33) 1125 30 C dL_law_33 (sw_in h30 (by decide)) (by decide) (by decide) rfl (by decide) ?_
    exact law_arm_30 C hX hb hL9 hi hS36 hS hM hk kk
  replace hk := it_f h30 hk
  by_cases h31 : a0 = nI 31
  · replace hk := it_t h31 hk
    refine j_tableIn (pc := 33) 1168 31 C dL_law_33 (sw_in h31 (by decide)) (by decide) (by decide) rfl (by decide) ?_
    exact law_arm_31 C hX hb hL9 hi hS36 hS hM hk kk
  replace hk := it_f h31 hk
  by_cases h32 : a0 = nI 32
  · replace hk := it_t h32 hk
    refine j_tableIn (pc := 33) 1211 32 C dL_law_33 (sw_in h32 (by decide)) (by decide) (by decide) rfl (by decide) ?_
    exact law_arm_32 C hX hb hL9 hi hS36 hS hM hk kk
  replace hk := it_f h32 hk
  by_cases h33 : a0 = nI 33
  · replace hk := it_t h33 hk
    refine j_tableIn (pc := 33) 1274 33 C dL_law_33 (sw_in h33 (by decide)) (by decide) (by decide) rfl (by decide) ?_
    exact law_arm_33 C hX hb hL9 hi hS36 hS hM hk kk
  replace hk := it_f h33 hk
  by_cases h34 : a0 = nI 34
  · replace hk := it_t h34 hk
    refine j_tableIn (pc := 33) 1287 34 C dL_law_33 (sw_in h34 (by decide)) (by decide) (by decide) rfl (by decide) ?_
    exact law_arm_34 C hX hb hL9 hi hS36 hS hM hk kk
  replace hk := it_f h34 hk
  by_cases h35 : a0 = nI 35
  · replace hk := it_t h35 hk
    refine j_tableIn (pc := 33) 1300 35 C dL_law_33 (sw_in h35 (by decide)) (by decide) (by decide) rfl (by decide) ?_
    exact law_arm_35 C hX hb hL9 hi hS36 hS hM hk kk
  replace hk := it_f h35 hk
  by_cases h36 : a0 = nI 36
  · replace hk := it_t h36 hk
    refine j_tableIn (pc := 33) 1323 36 C dL_law_33 (sw_in h36 (by decide)) (by decide) (by decide) rfl (by decide) ?_
    exact law_arm_36 C hX hb hL9 hi hS36 hS hM hk kk
  replace hk := it_f h36 hk
  by_cases h37 : a0 = nI 37
  · replace hk := it_t h37 hk
    refine j_tableIn (pc := 33) 1346 37 C dL_law_33 (sw_in h37 (by decide)) (by decide) (by decide) rfl (by decide) ?_
    exact law_arm_37 C hX hb hL9 hi hS36 hS hM hk kk
  replace hk := it_f h37 hk
  by_cases h38 : a0 = nI 38
  · replace hk := it_t h38 hk
    refine j_tableIn (pc := 33) 1369 38 C dL_law_33 (sw_in h38 (by decide)) (by decide) (by decide) rfl (by decide) ?_
    exact law_arm_38 C hX hb hL9 hi hS36 hS hM hk kk
  replace hk := it_f h38 hk
  obtain rfl := Option.some.inj hk
  refine j_tableOut (pc := 33) 1392 C dL_law_33 (sw_out (lo := 0) (hi := 38) (by decide) (fun j a1 a2 => by
    have a3 : j = 0 ∨ j = 1 ∨ j = 2 ∨ j = 3 ∨ j = 4 ∨ j = 5 ∨ j = 6 ∨ j = 7 ∨ j = 8 ∨ j = 9 ∨ j = 10 ∨ j = 11 ∨ j = 12 ∨ j = 13 ∨ j = 14 ∨ j = 15 ∨ j = 16 ∨ j = 17 ∨ j = 18 ∨ j = 19 ∨ j = 20 ∨ j = 21 ∨ j = 22 ∨ j = 23 ∨ j = 24 ∨ j = 25 ∨ j = 26 ∨ j = 27 ∨ j = 28 ∨ j = 29 ∨ j = 30 ∨ j = 31 ∨ j = 32 ∨ j = 33 ∨ j = 34 ∨ j = 35 ∨ j = 36 ∨ j = 37 ∨ j = 38 := by omega
    rcases a3 with rfl | rfl | rfl | rfl | rfl | rfl | rfl | rfl | rfl | rfl | rfl | rfl | rfl | rfl | rfl | rfl | rfl | rfl | rfl | rfl | rfl | rfl | rfl | rfl | rfl | rfl | rfl | rfl | rfl | rfl | rfl | rfl | rfl | rfl | rfl | rfl | rfl | rfl | rfl
    · exact h0
    · exact h1
    · exact h2
    · exact h3
    · exact h4
    · exact h5
    · exact h6
    · exact h7
    · exact h8
    · exact h9
    · exact h10
    · exact h11
    · exact h12
    · exact h13
    · exact h14
    · exact h15
    · exact h16
    · exact h17
    · exact h18
    · exact h19
    · exact h20
    · exact h21
    · exact h22
    · exact h23
    · exact h24
    · exact h25
    · exact h26
    · exact h27
    · exact h28
    · exact h29
    · exact h30
    · exact h31
    · exact h32
    · exact h33
    · exact h34
    · exact h35
    · exact h36
    · exact h37
    · exact h38)) (by decide) kk
def f_law (F L : Nat) (xs : Nat → Int32) : Nat → Nat → SH → II → Option (SH × II)
  | 0, _, _, _ => none
  | q + 1, i, S, I => og (S.1 ≤ 36000) <| ost S <| ostM S <| if (nI L - nI 6) < nI i then some (S, I) else og (i + 6 ≤ L) <| bd2 (f_arm F (xs i &&& nI 63) (xs (i + 1)) (xs (i + 2)) (xs (i + 3)) (xs (i + 4)) (xs (i + 5)) S I) fun S1 I1 => f_law F L xs q (i + 6) S1 I1
set_option maxHeartbeats 4000000 in
theorem law_loop {hh : List (Nat × Nat × Nat × Nat)} {G : WG} {p : Program} {l : Launch} {e : Env} {s : State} {m : MethodId} {args : Array Value} {below : List Frame} {meth : Method} {c : Code} {mn : String} {F b L : Nat} {xs : Nat → Int32} (C : Cx G p room_1 s m args meth c cL_law "NineDemandsLaw" 4 (some .boolean) hh mn) (hX : va_X b L xs s G.2.2.2.2.1) (hb : b < gb G) (hL9 : L ≤ 384) {Z : SH × II} : ∀ (q i : Nat) (S : SH) (I : II), f_law F L xs q i S I = some Z → J G p l e room_1 s m args below meth c 4 (.returned (some (.int (nI 1)))) Z 601024 7293034 (S, I) S.1 (200 * S.1 + 8000) 18 [some (.ref b), some (.ref (wad G 0)), some (.ref (wad G 27)), some (.int (nI i))] [] := by
  intro q
  induction q with
  | zero => intro i S I hk; rw [f_law] at hk; cases hk
  | succ q ih =>
    intro i S I hk
    rw [f_law] at hk
    replace hk := og_some hk
    obtain ⟨hS36, hk⟩ := hk
    replace hk := ost_some hk
    obtain ⟨hS, hk⟩ := hk
    replace hk := ostM_some hk
    obtain ⟨hM, hk⟩ := hk
    refine j_iload_n (pc := 18) C dL_law_18 rfl rfl ?_
    refine x_refl (pc := 19) C dL_law_19 rfl rfl ?_
    refine x_slen (pc := 20) C hX hb dL_law_20 ?_
    refine j_bipush (pc := 21) (v := nI 6) C dL_law_21 (by decide) ?_
    refine j_isub (pc := 23) C dL_law_23 ?_
    refine j_icmp_gt (pc := 24) 1398 C dL_law_24 (by decide) (fun h1 => ?_) (fun h1 => ?_)
    · replace hk := it_t h1 hk
      obtain rfl := Option.some.inj hk
      refine j_iconst (pc := 1398) (v := nI 1) C dL_law_1398 (by decide) ?_
      exact j_zret (pc := 1399) C dL_law_1399 (by show S.1 ≤ 601024; omega) (by show 200 * S.1 + 8000 ≤ 7293034; omega) (isB.nar (v := (nI 1)) (by unfold isB; decide))
    · replace hk := it_f h1 hk
      replace hk := og_some hk
      obtain ⟨hi, hk⟩ := hk
      replace hk := bd2_some hk
      obtain ⟨S1, I1, h2, hk⟩ := hk
      refine x_refl (pc := 27) C dL_law_27 rfl rfl ?_
      refine j_iload_n (pc := 28) C dL_law_28 rfl rfl ?_
      refine x_sld (pc := 29) (j := i) C hX hb hL9 rfl (by omega) dL_law_29 ?_
      refine j_bipush (pc := 30) (v := nI 63) C dL_law_30 (by decide) ?_
      refine j_iand (pc := 32) C dL_law_32 ?_
      refine law_switch C hX hb hL9 hi hS36 hS hM h2 ?_
      refine j_iinc (pc := 1392) (nI 6) C dL_law_1392 rfl (by decide) (Nat.le_of_ble_eq_true rfl) rfl ?_
      refine j_goto (pc := 1395) 18 C dL_law_1395 (by decide) ?_
      refine j_lv (lv' := [some (.ref b), some (.ref (wad G 0)), some (.ref (wad G 27)), some (.int (nI (i + 6)))]) (by show [some (Value.ref b), some (Value.ref (wad G 0)), some (Value.ref (wad G 27)), some (Value.int (nI i + nI 6))] = _; rw [nI_add]) ?_
      exact ih _ _ _ hk
