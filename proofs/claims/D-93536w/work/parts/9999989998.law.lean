/-! ===== the law: the cases of its switch ===== -/
abbrev lEnv (i : Nat) : List (Nat × Value) := [(0, .ref 8), (1, .ref 1040), (2, .ref 1000), (3, .ref 1038), (4, .ref 1039), (5, .int (iI i))]
def lNx (X : zX) (Q : zO → zH → Prop) (L : Nat) (xs : Nat → Int) (i k n : Nat) : Prop := ∀ h' w', LI L xs h' w' → ∀ env, zsub env (lEnv i) → zW X Q h' (k + 3000) (n + 34000) 2164 env []
section LC
variable {X : zX} {Q : zO → zH → Prop} {L : Nat} {xs : Nat → Int} {h h1 : zH} {w w' : tW} {i k n : Nat}
theorem li_lo (hH : LH h w) {f : Nat → Int64} (lo : ∀ m, m < 1040 → m ≠ 1038 → h1 m = h m) (e38 : h1 1038 = some (.inl (4, 1, .inr (.inl f)))) : LH h1 w := ⟨fun m m1 m2 => (lo m (by omega) (by omega)).trans (hH.1 m m1 m2), ⟨f, e38⟩, by rw [lo 1039 (by omega) (by omega)]; exact hH.2.2⟩
theorem li_lod (hH : LH h w) {f : Nat → UInt64} (lo : ∀ m, m < 1040 → m ≠ 1039 → h1 m = h m) (e39 : h1 1039 = some (.inl (5, 1, .inr (.inr (.inr (.inl f)))))) : LH h1 w := ⟨fun m m1 m2 => (lo m (by omega) (by omega)).trans (hH.1 m m1 m2), by rw [lo 1038 (by omega) (by omega)]; exact hH.2.1, ⟨f, e39⟩⟩
theorem li_end (hH : LH h1 w) (c : CX h1 w') (j : RJ w') : LI L xs (ov w' h1) w' := ⟨c.lo hH.n6 (fun m q => ov_out (by omega)), j, hH.ref⟩
theorem lgc_s {a : Int64} : lg_cmp a a = iI 0 := by
  unfold lg_cmp
  rw [if_neg (by simp), if_pos rfl]
  rfl
theorem tnc0 : (iI 0).toNatClampNeg = 0 := by decide +kernel
theorem i2c_ex (y : Int32) : ∃ c : Int, 0 ≤ c ∧ c < 65536 ∧ (y.toUInt32 % 65536).toInt32 = iI c := by
  have lt : (y.toUInt32 % 65536).toNat < 65536 := by rw [UInt32.toNat_mod]; exact Nat.mod_lt _ (by decide)
  refine ⟨((y.toUInt32 % 65536).toNat : Int), by omega, by omega, ?_⟩
  generalize y.toUInt32 % 65536 = U at *
  have h2 : (iI ((U.toNat : Nat) : Int)).toUInt32 = U := by
    apply UInt32.toBitVec_inj.mp
    rw [show (iI ((U.toNat : Nat) : Int)).toUInt32.toBitVec = (iI ((U.toNat : Nat) : Int)).toBitVec from rfl, iI_bv]
    apply BitVec.eq_of_toNat_eq
    simp
  rw [show U.toInt32 = (iI ((U.toNat : Nat) : Int)).toUInt32.toInt32 by rw [h2]]
  rfl
theorem lc_0 (K : zK x cL_law 9 (some .boolean) [] 20 694190 6900895 X) (hz : zScr X L xs) (hI : LI L xs h w) (hx : ∀ j : Nat, j < L → i32 (xs j)) (hi : i + 5 ≤ L) (hL : L ≤ 320) (hk : k + 3000 ≤ 694190) (hn : n + 34000 ≤ 6900895) (nx : lNx X Q L xs i k n) : ∀ env, zsub env (lEnv i) → zW X Q h k n 208 env [] := by
  intro env he
  refine zW.cut he ?_
  obtain ⟨hC, hJ, hH⟩ := id hI
  have hs := hC.S
  have hT := hJ.TI hs
  have hac := hJ.hac hs
  have hA := hJ.ac hs
  have h9 : 0 ≤ w 9 0 ∧ w 9 0 ≤ 1 := by have := hJ.2.2.2.2.2.2.2.2.1; omega
  have h6 := hH.n6
  have hxx := hC.x
  obtain ⟨b, N, u, g, rfl, hG⟩ := id hC
  have kM := x1_addJob hG  (hx ((i : Int) + 1).toNat (by omega)) (hx ((i : Int) + 2).toNat (by omega)) (hx ((i : Int) + 3).toNat (by omega))
  have kw := lw_addJob kM hxx h6 hH.2.1
  refine z_aload_n K dL_law_208 rfl rfl rfl ?_
  refine z_aload_n K dL_law_209 rfl rfl rfl ?_
  refine z_iload K dL_law_210 rfl ?_
  refine j_iconst K dL_law_212 ?_
  refine j_iadd K dL_law_213 ?_
  refine s_ld K (hz) (by omega) (by omega) dL_law_214 ?_
  refine z_aload_n K dL_law_215 rfl rfl rfl ?_
  refine z_iload K dL_law_216 rfl ?_
  refine j_iconst K dL_law_218 ?_
  refine j_iadd K dL_law_219 ?_
  refine s_ld K (hz) (by omega) (by omega) dL_law_220 ?_
  refine z_aload_n K dL_law_221 rfl rfl rfl ?_
  refine z_iload K dL_law_222 rfl ?_
  refine j_iconst K dL_law_224 ?_
  refine j_iadd K dL_law_225 ?_
  refine s_ld K (hz) (by omega) (by omega) dL_law_226 ?_
  refine z_aload_n K dL_law_227 rfl rfl rfl ?_
  refine z_cSW (fs := []) K (kw) cS_X0_118 rfl rfl (by omega) (by omega) (by omega) (Nat.le_of_ble_eq_true rfl) dL_law_228 (fun q h1 hq => by obtain ⟨_, _, z, -⟩ := hq; cases z) ?_
  rintro v9 h1 ⟨kk, f, z, hkk, lo, e38, hr⟩
  cases z
  have hH1 : LH h1 w := li_lo hH lo e38
  have lkm : h1 1000 = some (.inr (0, tF w)) := (hH1.1 1000 (by omega) (by omega)).trans (tH_this w)
  refine z_istore K dL_law_231 (by decide) rfl ?_
  have kr := tMi.rf (as := [.int (iI (xs ((i : Int) + 1).toNat)), .int (iI (xs ((i : Int) + 2).toNat)), .int (iI (xs ((i : Int) + 3).toNat))]) (tw_addJob (hx ((i : Int) + 1).toNat (by omega)) (hx ((i : Int) + 2).toNat (by omega)) (hx ((i : Int) + 3).toNat (by omega)) hs.1.1.1) rfl h1 (fun v w' p => ⟨p, hJ.pub (fun f hf => wJob_f hf) p⟩)
  rw [hH1.oe] at kr
  refine z_aload_n K dL_law_233 rfl rfl rfl ?_
  refine z_aload_n K dL_law_234 rfl rfl rfl ?_
  refine z_iload K dL_law_235 rfl ?_
  refine j_iconst K dL_law_237 ?_
  refine j_iadd K dL_law_238 ?_
  refine s_ld K (hz) (by omega) (by omega) dL_law_239 ?_
  refine z_aload_n K dL_law_240 rfl rfl rfl ?_
  refine z_iload K dL_law_241 rfl ?_
  refine j_iconst K dL_law_243 ?_
  refine j_iadd K dL_law_244 ?_
  refine s_ld K (hz) (by omega) (by omega) dL_law_245 ?_
  refine z_aload_n K dL_law_246 rfl rfl rfl ?_
  refine z_iload K dL_law_247 rfl ?_
  refine j_iconst K dL_law_249 ?_
  refine j_iadd K dL_law_250 ?_
  refine s_ld K (hz) (by omega) (by omega) dL_law_251 ?_
  refine z_callV K (kr) cV_X0_123_X4 (lkm) rfl rfl rfl (by omega) (by omega) (by omega) (Nat.le_of_ble_eq_true rfl) dL_law_252 (fun q h2 hq => by obtain ⟨_, _, z, -⟩ := hq; cases z) ?_
  rintro v8 h2 ⟨v, w', z, rfl, hR, hJ'⟩
  cases z
  obtain ⟨e3, hc', hf⟩ := hr v w' hR
  have lkn : ov w' h1 1000 = some (.inr (0, tF w')) := (ov_in (by omega) (by omega)).trans (tH_this w')
  have kt := tMi.bs (as := []) (tw_thrown (w := w')) rfl h1
  refine z_istore K dL_law_255 (by decide) rfl ?_
  refine z_aload_n K dL_law_257 rfl rfl rfl ?_
  refine z_callV K (kt) cV_X0_124_X4 (lkn) rfl rfl rfl (by omega) (by omega) (by omega) (Nat.le_of_ble_eq_true rfl) dL_law_258 (fun q h2 hq => by obtain ⟨_, _, z, -⟩ := hq; cases z) ?_
  rintro v7 h3 ⟨v3, w3, z, eh, ev, ew⟩
  cases z
  rw [ew] at eh
  rw [eh, ev]
  refine z_iload K dL_law_261 rfl ?_
  refine j_icmp_eq (tgt := 268) K dL_law_263 rfl (by omega) (by omega) (fun c_263 => ?_) (fun c_263 => ?_)
  · refine z_iload K dL_law_268 rfl ?_
    refine j_if_ne (tgt := 285) K dL_law_270 rfl (by omega) (fun c_270 => ?_) (fun c_270 => ?_)
    · refine z_goto (tgt := 2164) K dL_law_285 rfl ?_
      exact zW.widen (by omega) (by omega) (nx (ov w' h1) w' (li_end hH1 hc' hJ') _ ⟨rfl, rfl, rfl, rfl, rfl, rfl, trivial⟩)
    · refine z_aload_n K dL_law_273 rfl rfl rfl ?_
      refine j_iconst K dL_law_274 ?_
      refine z_lald K ((ov_out (by omega)).trans e38) vp0 dL_law_275 ?_
      rw [tnc0, hf (by omega)]
      refine z_iload K dL_law_276 rfl ?_
      refine z_i2l K dL_law_278 ?_
      refine z_lcmp K dL_law_279 ?_
      rw [lgc_s]
      refine j_if_eq (tgt := 285) K dL_law_280 rfl (by omega) (fun c_280 => ?_) (fun c_280 => ?_)
      · refine z_goto (tgt := 2164) K dL_law_285 rfl ?_
        exact zW.widen (by omega) (by omega) (nx (ov w' h1) w' (li_end hH1 hc' hJ') _ ⟨rfl, rfl, rfl, rfl, rfl, rfl, trivial⟩)
      · exact absurd rfl c_280
  · exact absurd (by omega) c_263
theorem lc_1 (K : zK x cL_law 9 (some .boolean) [] 20 694190 6900895 X) (hz : zScr X L xs) (hI : LI L xs h w) (hx : ∀ j : Nat, j < L → i32 (xs j)) (hi : i + 5 ≤ L) (hL : L ≤ 320) (hk : k + 3000 ≤ 694190) (hn : n + 34000 ≤ 6900895) (nx : lNx X Q L xs i k n) : ∀ env, zsub env (lEnv i) → zW X Q h k n 288 env [] := by
  intro env he
  refine zW.cut he ?_
  obtain ⟨hC, hJ, hH⟩ := id hI
  have hs := hC.S
  have hT := hJ.TI hs
  have hac := hJ.hac hs
  have hA := hJ.ac hs
  have h9 : 0 ≤ w 9 0 ∧ w 9 0 ≤ 1 := by have := hJ.2.2.2.2.2.2.2.2.1; omega
  have h6 := hH.n6
  have hxx := hC.x
  obtain ⟨b, N, u, g, rfl, hG⟩ := id hC
  have kM := x1_addOperation hG  (hx ((i : Int) + 1).toNat (by omega)) (hx ((i : Int) + 2).toNat (by omega)) (hx ((i : Int) + 3).toNat (by omega)) (hx ((i : Int) + 4).toNat (by omega))
  have kw := lw_addOperation kM hxx h6 hH.2.1
  refine z_aload_n K dL_law_288 rfl rfl rfl ?_
  refine z_aload_n K dL_law_289 rfl rfl rfl ?_
  refine z_iload K dL_law_290 rfl ?_
  refine j_iconst K dL_law_292 ?_
  refine j_iadd K dL_law_293 ?_
  refine s_ld K (hz) (by omega) (by omega) dL_law_294 ?_
  refine z_aload_n K dL_law_295 rfl rfl rfl ?_
  refine z_iload K dL_law_296 rfl ?_
  refine j_iconst K dL_law_298 ?_
  refine j_iadd K dL_law_299 ?_
  refine s_ld K (hz) (by omega) (by omega) dL_law_300 ?_
  refine z_aload_n K dL_law_301 rfl rfl rfl ?_
  refine z_iload K dL_law_302 rfl ?_
  refine j_iconst K dL_law_304 ?_
  refine j_iadd K dL_law_305 ?_
  refine s_ld K (hz) (by omega) (by omega) dL_law_306 ?_
  refine z_aload_n K dL_law_307 rfl rfl rfl ?_
  refine z_iload K dL_law_308 rfl ?_
  refine j_iconst K dL_law_310 ?_
  refine j_iadd K dL_law_311 ?_
  refine s_ld K (hz) (by omega) (by omega) dL_law_312 ?_
  refine z_aload_n K dL_law_313 rfl rfl rfl ?_
  refine z_cSW (fs := []) K (kw) cS_X0_127 rfl rfl (by omega) (by omega) (by omega) (Nat.le_of_ble_eq_true rfl) dL_law_314 (fun q h1 hq => by obtain ⟨_, _, z, -⟩ := hq; cases z) ?_
  rintro v9 h1 ⟨kk, f, z, hkk, lo, e38, hr⟩
  cases z
  have hH1 : LH h1 w := li_lo hH lo e38
  have lkm : h1 1000 = some (.inr (0, tF w)) := (hH1.1 1000 (by omega) (by omega)).trans (tH_this w)
  refine z_istore K dL_law_317 (by decide) rfl ?_
  have kr := rf_addOperation hJ hs (hx ((i : Int) + 1).toNat (by omega)) (hx ((i : Int) + 2).toNat (by omega)) (hx ((i : Int) + 3).toNat (by omega)) (hx ((i : Int) + 4).toNat (by omega)) h1
  rw [hH1.oe] at kr
  refine z_aload_n K dL_law_319 rfl rfl rfl ?_
  refine z_aload_n K dL_law_320 rfl rfl rfl ?_
  refine z_iload K dL_law_321 rfl ?_
  refine j_iconst K dL_law_323 ?_
  refine j_iadd K dL_law_324 ?_
  refine s_ld K (hz) (by omega) (by omega) dL_law_325 ?_
  refine z_aload_n K dL_law_326 rfl rfl rfl ?_
  refine z_iload K dL_law_327 rfl ?_
  refine j_iconst K dL_law_329 ?_
  refine j_iadd K dL_law_330 ?_
  refine s_ld K (hz) (by omega) (by omega) dL_law_331 ?_
  refine z_aload_n K dL_law_332 rfl rfl rfl ?_
  refine z_iload K dL_law_333 rfl ?_
  refine j_iconst K dL_law_335 ?_
  refine j_iadd K dL_law_336 ?_
  refine s_ld K (hz) (by omega) (by omega) dL_law_337 ?_
  refine z_aload_n K dL_law_338 rfl rfl rfl ?_
  refine z_iload K dL_law_339 rfl ?_
  refine j_iconst K dL_law_341 ?_
  refine j_iadd K dL_law_342 ?_
  refine s_ld K (hz) (by omega) (by omega) dL_law_343 ?_
  refine z_callV K (kr) cV_X0_130_X4 (lkm) rfl rfl rfl (by omega) (by omega) (by omega) (Nat.le_of_ble_eq_true rfl) dL_law_344 (fun q h2 hq => by obtain ⟨_, _, z, -⟩ := hq; cases z) ?_
  rintro v8 h2 ⟨v, w', z, rfl, hR, hJ'⟩
  cases z
  obtain ⟨e3, hc', hf⟩ := hr v w' hR
  have lkn : ov w' h1 1000 = some (.inr (0, tF w')) := (ov_in (by omega) (by omega)).trans (tH_this w')
  have kt := tMi.bs (as := []) (tw_thrown (w := w')) rfl h1
  refine z_istore K dL_law_347 (by decide) rfl ?_
  refine z_aload_n K dL_law_349 rfl rfl rfl ?_
  refine z_callV K (kt) cV_X0_124_X4 (lkn) rfl rfl rfl (by omega) (by omega) (by omega) (Nat.le_of_ble_eq_true rfl) dL_law_350 (fun q h2 hq => by obtain ⟨_, _, z, -⟩ := hq; cases z) ?_
  rintro v7 h3 ⟨v3, w3, z, eh, ev, ew⟩
  cases z
  rw [ew] at eh
  rw [eh, ev]
  refine z_iload K dL_law_353 rfl ?_
  refine j_icmp_eq (tgt := 360) K dL_law_355 rfl (by omega) (by omega) (fun c_355 => ?_) (fun c_355 => ?_)
  · refine z_iload K dL_law_360 rfl ?_
    refine j_if_ne (tgt := 377) K dL_law_362 rfl (by omega) (fun c_362 => ?_) (fun c_362 => ?_)
    · refine z_goto (tgt := 2164) K dL_law_377 rfl ?_
      exact zW.widen (by omega) (by omega) (nx (ov w' h1) w' (li_end hH1 hc' hJ') _ ⟨rfl, rfl, rfl, rfl, rfl, rfl, trivial⟩)
    · refine z_aload_n K dL_law_365 rfl rfl rfl ?_
      refine j_iconst K dL_law_366 ?_
      refine z_lald K ((ov_out (by omega)).trans e38) vp0 dL_law_367 ?_
      rw [tnc0, hf (by omega)]
      refine z_iload K dL_law_368 rfl ?_
      refine z_i2l K dL_law_370 ?_
      refine z_lcmp K dL_law_371 ?_
      rw [lgc_s]
      refine j_if_eq (tgt := 377) K dL_law_372 rfl (by omega) (fun c_372 => ?_) (fun c_372 => ?_)
      · refine z_goto (tgt := 2164) K dL_law_377 rfl ?_
        exact zW.widen (by omega) (by omega) (nx (ov w' h1) w' (li_end hH1 hc' hJ') _ ⟨rfl, rfl, rfl, rfl, rfl, rfl, trivial⟩)
      · exact absurd rfl c_372
  · exact absurd (by omega) c_355
theorem lc_2 (K : zK x cL_law 9 (some .boolean) [] 20 694190 6900895 X) (hz : zScr X L xs) (hI : LI L xs h w) (hx : ∀ j : Nat, j < L → i32 (xs j)) (hi : i + 5 ≤ L) (hL : L ≤ 320) (hk : k + 3000 ≤ 694190) (hn : n + 34000 ≤ 6900895) (nx : lNx X Q L xs i k n) : ∀ env, zsub env (lEnv i) → zW X Q h k n 380 env [] := by
  intro env he
  refine zW.cut he ?_
  obtain ⟨hC, hJ, hH⟩ := id hI
  have hs := hC.S
  have hT := hJ.TI hs
  have hac := hJ.hac hs
  have hA := hJ.ac hs
  have h9 : 0 ≤ w 9 0 ∧ w 9 0 ≤ 1 := by have := hJ.2.2.2.2.2.2.2.2.1; omega
  have h6 := hH.n6
  have hxx := hC.x
  obtain ⟨b, N, u, g, rfl, hG⟩ := id hC
  have kM := x1_setJob hG  (hx ((i : Int) + 1).toNat (by omega)) (hx ((i : Int) + 2).toNat (by omega)) (hx ((i : Int) + 3).toNat (by omega))
  have kw := lw_setJob kM hxx h6 hH.2.1
  refine z_aload_n K dL_law_380 rfl rfl rfl ?_
  refine z_aload_n K dL_law_381 rfl rfl rfl ?_
  refine z_iload K dL_law_382 rfl ?_
  refine j_iconst K dL_law_384 ?_
  refine j_iadd K dL_law_385 ?_
  refine s_ld K (hz) (by omega) (by omega) dL_law_386 ?_
  refine z_aload_n K dL_law_387 rfl rfl rfl ?_
  refine z_iload K dL_law_388 rfl ?_
  refine j_iconst K dL_law_390 ?_
  refine j_iadd K dL_law_391 ?_
  refine s_ld K (hz) (by omega) (by omega) dL_law_392 ?_
  refine z_aload_n K dL_law_393 rfl rfl rfl ?_
  refine z_iload K dL_law_394 rfl ?_
  refine j_iconst K dL_law_396 ?_
  refine j_iadd K dL_law_397 ?_
  refine s_ld K (hz) (by omega) (by omega) dL_law_398 ?_
  refine z_aload_n K dL_law_399 rfl rfl rfl ?_
  refine z_cSW (fs := []) K (kw) cS_X0_131 rfl rfl (by omega) (by omega) (by omega) (Nat.le_of_ble_eq_true rfl) dL_law_400 (fun q h1 hq => by obtain ⟨_, _, z, -⟩ := hq; cases z) ?_
  rintro v9 h1 ⟨kk, f, z, hkk, lo, e38, hr⟩
  cases z
  have hH1 : LH h1 w := li_lo hH lo e38
  have lkm : h1 1000 = some (.inr (0, tF w)) := (hH1.1 1000 (by omega) (by omega)).trans (tH_this w)
  refine z_istore K dL_law_403 (by decide) rfl ?_
  have kr := tMi.rf (as := [.int (iI (xs ((i : Int) + 1).toNat)), .int (iI (xs ((i : Int) + 2).toNat)), .int (iI (xs ((i : Int) + 3).toNat))]) (tw_setJob (hx ((i : Int) + 1).toNat (by omega)) (hx ((i : Int) + 2).toNat (by omega)) (hx ((i : Int) + 3).toNat (by omega)) hs.1.1.1) rfl h1 (fun v w' p => ⟨p, hJ.pub (fun f hf => tsG hf) p⟩)
  rw [hH1.oe] at kr
  refine z_aload_n K dL_law_405 rfl rfl rfl ?_
  refine z_aload_n K dL_law_406 rfl rfl rfl ?_
  refine z_iload K dL_law_407 rfl ?_
  refine j_iconst K dL_law_409 ?_
  refine j_iadd K dL_law_410 ?_
  refine s_ld K (hz) (by omega) (by omega) dL_law_411 ?_
  refine z_aload_n K dL_law_412 rfl rfl rfl ?_
  refine z_iload K dL_law_413 rfl ?_
  refine j_iconst K dL_law_415 ?_
  refine j_iadd K dL_law_416 ?_
  refine s_ld K (hz) (by omega) (by omega) dL_law_417 ?_
  refine z_aload_n K dL_law_418 rfl rfl rfl ?_
  refine z_iload K dL_law_419 rfl ?_
  refine j_iconst K dL_law_421 ?_
  refine j_iadd K dL_law_422 ?_
  refine s_ld K (hz) (by omega) (by omega) dL_law_423 ?_
  refine z_callV K (kr) cV_X0_133_X4 (lkm) rfl rfl rfl (by omega) (by omega) (by omega) (Nat.le_of_ble_eq_true rfl) dL_law_424 (fun q h2 hq => by obtain ⟨_, _, z, -⟩ := hq; cases z) ?_
  rintro v8 h2 ⟨v, w', z, rfl, hR, hJ'⟩
  cases z
  obtain ⟨e3, hc', hf⟩ := hr v w' hR
  have lkn : ov w' h1 1000 = some (.inr (0, tF w')) := (ov_in (by omega) (by omega)).trans (tH_this w')
  have kt := tMi.bs (as := []) (tw_thrown (w := w')) rfl h1
  refine z_istore K dL_law_427 (by decide) rfl ?_
  refine z_aload_n K dL_law_429 rfl rfl rfl ?_
  refine z_callV K (kt) cV_X0_124_X4 (lkn) rfl rfl rfl (by omega) (by omega) (by omega) (Nat.le_of_ble_eq_true rfl) dL_law_430 (fun q h2 hq => by obtain ⟨_, _, z, -⟩ := hq; cases z) ?_
  rintro v7 h3 ⟨v3, w3, z, eh, ev, ew⟩
  cases z
  rw [ew] at eh
  rw [eh, ev]
  refine z_iload K dL_law_433 rfl ?_
  refine j_icmp_eq (tgt := 440) K dL_law_435 rfl (by omega) (by omega) (fun c_435 => ?_) (fun c_435 => ?_)
  · refine z_iload K dL_law_440 rfl ?_
    refine j_if_ne (tgt := 457) K dL_law_442 rfl (by omega) (fun c_442 => ?_) (fun c_442 => ?_)
    · refine z_goto (tgt := 2164) K dL_law_457 rfl ?_
      exact zW.widen (by omega) (by omega) (nx (ov w' h1) w' (li_end hH1 hc' hJ') _ ⟨rfl, rfl, rfl, rfl, rfl, rfl, trivial⟩)
    · refine z_aload_n K dL_law_445 rfl rfl rfl ?_
      refine j_iconst K dL_law_446 ?_
      refine z_lald K ((ov_out (by omega)).trans e38) vp0 dL_law_447 ?_
      rw [tnc0, hf (by omega)]
      refine z_iload K dL_law_448 rfl ?_
      refine z_i2l K dL_law_450 ?_
      refine z_lcmp K dL_law_451 ?_
      rw [lgc_s]
      refine j_if_eq (tgt := 457) K dL_law_452 rfl (by omega) (fun c_452 => ?_) (fun c_452 => ?_)
      · refine z_goto (tgt := 2164) K dL_law_457 rfl ?_
        exact zW.widen (by omega) (by omega) (nx (ov w' h1) w' (li_end hH1 hc' hJ') _ ⟨rfl, rfl, rfl, rfl, rfl, rfl, trivial⟩)
      · exact absurd rfl c_452
  · exact absurd (by omega) c_435
theorem lc_3 (K : zK x cL_law 9 (some .boolean) [] 20 694190 6900895 X) (hz : zScr X L xs) (hI : LI L xs h w) (hx : ∀ j : Nat, j < L → i32 (xs j)) (hi : i + 5 ≤ L) (hL : L ≤ 320) (hk : k + 3000 ≤ 694190) (hn : n + 34000 ≤ 6900895) (nx : lNx X Q L xs i k n) : ∀ env, zsub env (lEnv i) → zW X Q h k n 460 env [] := by
  intro env he
  refine zW.cut he ?_
  obtain ⟨hC, hJ, hH⟩ := id hI
  have hs := hC.S
  have hT := hJ.TI hs
  have hac := hJ.hac hs
  have hA := hJ.ac hs
  have h9 : 0 ≤ w 9 0 ∧ w 9 0 ≤ 1 := by have := hJ.2.2.2.2.2.2.2.2.1; omega
  have h6 := hH.n6
  have hxx := hC.x
  obtain ⟨b, N, u, g, rfl, hG⟩ := id hC
  have kM := x1_setDuration hG  (hx ((i : Int) + 1).toNat (by omega)) (hx ((i : Int) + 2).toNat (by omega))
  have kw := lw_setDuration kM hxx h6 hH.2.1
  refine z_aload_n K dL_law_460 rfl rfl rfl ?_
  refine z_aload_n K dL_law_461 rfl rfl rfl ?_
  refine z_iload K dL_law_462 rfl ?_
  refine j_iconst K dL_law_464 ?_
  refine j_iadd K dL_law_465 ?_
  refine s_ld K (hz) (by omega) (by omega) dL_law_466 ?_
  refine z_aload_n K dL_law_467 rfl rfl rfl ?_
  refine z_iload K dL_law_468 rfl ?_
  refine j_iconst K dL_law_470 ?_
  refine j_iadd K dL_law_471 ?_
  refine s_ld K (hz) (by omega) (by omega) dL_law_472 ?_
  refine z_aload_n K dL_law_473 rfl rfl rfl ?_
  refine z_cSW (fs := []) K (kw) cS_X0_134 rfl rfl (by omega) (by omega) (by omega) (Nat.le_of_ble_eq_true rfl) dL_law_474 (fun q h1 hq => by obtain ⟨_, _, z, -⟩ := hq; cases z) ?_
  rintro v9 h1 ⟨kk, f, z, hkk, lo, e38, hr⟩
  cases z
  have hH1 : LH h1 w := li_lo hH lo e38
  have lkm : h1 1000 = some (.inr (0, tF w)) := (hH1.1 1000 (by omega) (by omega)).trans (tH_this w)
  refine z_istore K dL_law_477 (by decide) rfl ?_
  have kr := tMi.rf (as := [.int (iI (xs ((i : Int) + 1).toNat)), .int (iI (xs ((i : Int) + 2).toNat))]) (tw_setDuration (hx ((i : Int) + 1).toNat (by omega)) (hx ((i : Int) + 2).toNat (by omega)) hs.1.2.1.1) rfl h1 (fun v w' p => ⟨p, hJ.pub (fun f hf => tsG hf) p⟩)
  rw [hH1.oe] at kr
  refine z_aload_n K dL_law_479 rfl rfl rfl ?_
  refine z_aload_n K dL_law_480 rfl rfl rfl ?_
  refine z_iload K dL_law_481 rfl ?_
  refine j_iconst K dL_law_483 ?_
  refine j_iadd K dL_law_484 ?_
  refine s_ld K (hz) (by omega) (by omega) dL_law_485 ?_
  refine z_aload_n K dL_law_486 rfl rfl rfl ?_
  refine z_iload K dL_law_487 rfl ?_
  refine j_iconst K dL_law_489 ?_
  refine j_iadd K dL_law_490 ?_
  refine s_ld K (hz) (by omega) (by omega) dL_law_491 ?_
  refine z_callV K (kr) cV_X0_137_X4 (lkm) rfl rfl rfl (by omega) (by omega) (by omega) (Nat.le_of_ble_eq_true rfl) dL_law_492 (fun q h2 hq => by obtain ⟨_, _, z, -⟩ := hq; cases z) ?_
  rintro v8 h2 ⟨v, w', z, rfl, hR, hJ'⟩
  cases z
  obtain ⟨e3, hc', hf⟩ := hr v w' hR
  have lkn : ov w' h1 1000 = some (.inr (0, tF w')) := (ov_in (by omega) (by omega)).trans (tH_this w')
  have kt := tMi.bs (as := []) (tw_thrown (w := w')) rfl h1
  refine z_istore K dL_law_495 (by decide) rfl ?_
  refine z_aload_n K dL_law_497 rfl rfl rfl ?_
  refine z_callV K (kt) cV_X0_124_X4 (lkn) rfl rfl rfl (by omega) (by omega) (by omega) (Nat.le_of_ble_eq_true rfl) dL_law_498 (fun q h2 hq => by obtain ⟨_, _, z, -⟩ := hq; cases z) ?_
  rintro v7 h3 ⟨v3, w3, z, eh, ev, ew⟩
  cases z
  rw [ew] at eh
  rw [eh, ev]
  refine z_iload K dL_law_501 rfl ?_
  refine j_icmp_eq (tgt := 508) K dL_law_503 rfl (by omega) (by omega) (fun c_503 => ?_) (fun c_503 => ?_)
  · refine z_iload K dL_law_508 rfl ?_
    refine j_if_ne (tgt := 525) K dL_law_510 rfl (by omega) (fun c_510 => ?_) (fun c_510 => ?_)
    · refine z_goto (tgt := 2164) K dL_law_525 rfl ?_
      exact zW.widen (by omega) (by omega) (nx (ov w' h1) w' (li_end hH1 hc' hJ') _ ⟨rfl, rfl, rfl, rfl, rfl, rfl, trivial⟩)
    · refine z_aload_n K dL_law_513 rfl rfl rfl ?_
      refine j_iconst K dL_law_514 ?_
      refine z_lald K ((ov_out (by omega)).trans e38) vp0 dL_law_515 ?_
      rw [tnc0, hf (by omega)]
      refine z_iload K dL_law_516 rfl ?_
      refine z_i2l K dL_law_518 ?_
      refine z_lcmp K dL_law_519 ?_
      rw [lgc_s]
      refine j_if_eq (tgt := 525) K dL_law_520 rfl (by omega) (fun c_520 => ?_) (fun c_520 => ?_)
      · refine z_goto (tgt := 2164) K dL_law_525 rfl ?_
        exact zW.widen (by omega) (by omega) (nx (ov w' h1) w' (li_end hH1 hc' hJ') _ ⟨rfl, rfl, rfl, rfl, rfl, rfl, trivial⟩)
      · exact absurd rfl c_520
  · exact absurd (by omega) c_503
theorem lc_4 (K : zK x cL_law 9 (some .boolean) [] 20 694190 6900895 X) (hz : zScr X L xs) (hI : LI L xs h w) (hx : ∀ j : Nat, j < L → i32 (xs j)) (hi : i + 5 ≤ L) (hL : L ≤ 320) (hk : k + 3000 ≤ 694190) (hn : n + 34000 ≤ 6900895) (nx : lNx X Q L xs i k n) : ∀ env, zsub env (lEnv i) → zW X Q h k n 528 env [] := by
  intro env he
  refine zW.cut he ?_
  obtain ⟨hC, hJ, hH⟩ := id hI
  have hs := hC.S
  have hT := hJ.TI hs
  have hac := hJ.hac hs
  have hA := hJ.ac hs
  have h9 : 0 ≤ w 9 0 ∧ w 9 0 ≤ 1 := by have := hJ.2.2.2.2.2.2.2.2.1; omega
  have h6 := hH.n6
  have hxx := hC.x
  obtain ⟨b, N, u, g, rfl, hG⟩ := id hC
  have kM := x1_setSetup hG  (hx ((i : Int) + 1).toNat (by omega)) (hx ((i : Int) + 2).toNat (by omega)) (hx ((i : Int) + 3).toNat (by omega))
  have kw := lw_setSetup kM hxx h6 hH.2.1
  refine z_aload_n K dL_law_528 rfl rfl rfl ?_
  refine z_aload_n K dL_law_529 rfl rfl rfl ?_
  refine z_iload K dL_law_530 rfl ?_
  refine j_iconst K dL_law_532 ?_
  refine j_iadd K dL_law_533 ?_
  refine s_ld K (hz) (by omega) (by omega) dL_law_534 ?_
  refine z_aload_n K dL_law_535 rfl rfl rfl ?_
  refine z_iload K dL_law_536 rfl ?_
  refine j_iconst K dL_law_538 ?_
  refine j_iadd K dL_law_539 ?_
  refine s_ld K (hz) (by omega) (by omega) dL_law_540 ?_
  refine z_aload_n K dL_law_541 rfl rfl rfl ?_
  refine z_iload K dL_law_542 rfl ?_
  refine j_iconst K dL_law_544 ?_
  refine j_iadd K dL_law_545 ?_
  refine s_ld K (hz) (by omega) (by omega) dL_law_546 ?_
  refine z_aload_n K dL_law_547 rfl rfl rfl ?_
  refine z_cSW (fs := []) K (kw) cS_X0_138 rfl rfl (by omega) (by omega) (by omega) (Nat.le_of_ble_eq_true rfl) dL_law_548 (fun q h1 hq => by obtain ⟨_, _, z, -⟩ := hq; cases z) ?_
  rintro v9 h1 ⟨kk, f, z, hkk, lo, e38, hr⟩
  cases z
  have hH1 : LH h1 w := li_lo hH lo e38
  have lkm : h1 1000 = some (.inr (0, tF w)) := (hH1.1 1000 (by omega) (by omega)).trans (tH_this w)
  refine z_istore K dL_law_551 (by decide) rfl ?_
  have kr := tMi.rf (as := [.int (iI (xs ((i : Int) + 1).toNat)), .int (iI (xs ((i : Int) + 2).toNat)), .int (iI (xs ((i : Int) + 3).toNat))]) (tw_setSetup (hx ((i : Int) + 1).toNat (by omega)) (hx ((i : Int) + 2).toNat (by omega)) (hx ((i : Int) + 3).toNat (by omega)) ) rfl h1 (fun v w' p => ⟨p, hJ.pub (fun f hf => tsG hf) p⟩)
  rw [hH1.oe] at kr
  refine z_aload_n K dL_law_553 rfl rfl rfl ?_
  refine z_aload_n K dL_law_554 rfl rfl rfl ?_
  refine z_iload K dL_law_555 rfl ?_
  refine j_iconst K dL_law_557 ?_
  refine j_iadd K dL_law_558 ?_
  refine s_ld K (hz) (by omega) (by omega) dL_law_559 ?_
  refine z_aload_n K dL_law_560 rfl rfl rfl ?_
  refine z_iload K dL_law_561 rfl ?_
  refine j_iconst K dL_law_563 ?_
  refine j_iadd K dL_law_564 ?_
  refine s_ld K (hz) (by omega) (by omega) dL_law_565 ?_
  refine z_aload_n K dL_law_566 rfl rfl rfl ?_
  refine z_iload K dL_law_567 rfl ?_
  refine j_iconst K dL_law_569 ?_
  refine j_iadd K dL_law_570 ?_
  refine s_ld K (hz) (by omega) (by omega) dL_law_571 ?_
  refine z_callV K (kr) cV_X0_140_X4 (lkm) rfl rfl rfl (by omega) (by omega) (by omega) (Nat.le_of_ble_eq_true rfl) dL_law_572 (fun q h2 hq => by obtain ⟨_, _, z, -⟩ := hq; cases z) ?_
  rintro v8 h2 ⟨v, w', z, rfl, hR, hJ'⟩
  cases z
  obtain ⟨e3, hc', hf⟩ := hr v w' hR
  have lkn : ov w' h1 1000 = some (.inr (0, tF w')) := (ov_in (by omega) (by omega)).trans (tH_this w')
  have kt := tMi.bs (as := []) (tw_thrown (w := w')) rfl h1
  refine z_istore K dL_law_575 (by decide) rfl ?_
  refine z_aload_n K dL_law_577 rfl rfl rfl ?_
  refine z_callV K (kt) cV_X0_124_X4 (lkn) rfl rfl rfl (by omega) (by omega) (by omega) (Nat.le_of_ble_eq_true rfl) dL_law_578 (fun q h2 hq => by obtain ⟨_, _, z, -⟩ := hq; cases z) ?_
  rintro v7 h3 ⟨v3, w3, z, eh, ev, ew⟩
  cases z
  rw [ew] at eh
  rw [eh, ev]
  refine z_iload K dL_law_581 rfl ?_
  refine j_icmp_eq (tgt := 588) K dL_law_583 rfl (by omega) (by omega) (fun c_583 => ?_) (fun c_583 => ?_)
  · refine z_iload K dL_law_588 rfl ?_
    refine j_if_ne (tgt := 605) K dL_law_590 rfl (by omega) (fun c_590 => ?_) (fun c_590 => ?_)
    · refine z_goto (tgt := 2164) K dL_law_605 rfl ?_
      exact zW.widen (by omega) (by omega) (nx (ov w' h1) w' (li_end hH1 hc' hJ') _ ⟨rfl, rfl, rfl, rfl, rfl, rfl, trivial⟩)
    · refine z_aload_n K dL_law_593 rfl rfl rfl ?_
      refine j_iconst K dL_law_594 ?_
      refine z_lald K ((ov_out (by omega)).trans e38) vp0 dL_law_595 ?_
      rw [tnc0, hf (by omega)]
      refine z_iload K dL_law_596 rfl ?_
      refine z_i2l K dL_law_598 ?_
      refine z_lcmp K dL_law_599 ?_
      rw [lgc_s]
      refine j_if_eq (tgt := 605) K dL_law_600 rfl (by omega) (fun c_600 => ?_) (fun c_600 => ?_)
      · refine z_goto (tgt := 2164) K dL_law_605 rfl ?_
        exact zW.widen (by omega) (by omega) (nx (ov w' h1) w' (li_end hH1 hc' hJ') _ ⟨rfl, rfl, rfl, rfl, rfl, rfl, trivial⟩)
      · exact absurd rfl c_600
  · exact absurd (by omega) c_583
theorem lc_5 (K : zK x cL_law 9 (some .boolean) [] 20 694190 6900895 X) (hz : zScr X L xs) (hI : LI L xs h w) (hx : ∀ j : Nat, j < L → i32 (xs j)) (hi : i + 5 ≤ L) (hL : L ≤ 320) (hk : k + 3000 ≤ 694190) (hn : n + 34000 ≤ 6900895) (nx : lNx X Q L xs i k n) : ∀ env, zsub env (lEnv i) → zW X Q h k n 608 env [] := by
  intro env he
  refine zW.cut he ?_
  obtain ⟨hC, hJ, hH⟩ := id hI
  have hs := hC.S
  have hT := hJ.TI hs
  have hac := hJ.hac hs
  have hA := hJ.ac hs
  have h9 : 0 ≤ w 9 0 ∧ w 9 0 ≤ 1 := by have := hJ.2.2.2.2.2.2.2.2.1; omega
  have h6 := hH.n6
  have hxx := hC.x
  obtain ⟨b, N, u, g, rfl, hG⟩ := id hC
  have kM := x1_addBreakdown hG  (hx ((i : Int) + 1).toNat (by omega)) (hx ((i : Int) + 2).toNat (by omega)) (hx ((i : Int) + 3).toNat (by omega))
  have kw := lw_addBreakdown kM hxx h6 hH.2.1
  refine z_aload_n K dL_law_608 rfl rfl rfl ?_
  refine z_aload_n K dL_law_609 rfl rfl rfl ?_
  refine z_iload K dL_law_610 rfl ?_
  refine j_iconst K dL_law_612 ?_
  refine j_iadd K dL_law_613 ?_
  refine s_ld K (hz) (by omega) (by omega) dL_law_614 ?_
  refine z_aload_n K dL_law_615 rfl rfl rfl ?_
  refine z_iload K dL_law_616 rfl ?_
  refine j_iconst K dL_law_618 ?_
  refine j_iadd K dL_law_619 ?_
  refine s_ld K (hz) (by omega) (by omega) dL_law_620 ?_
  refine z_aload_n K dL_law_621 rfl rfl rfl ?_
  refine z_iload K dL_law_622 rfl ?_
  refine j_iconst K dL_law_624 ?_
  refine j_iadd K dL_law_625 ?_
  refine s_ld K (hz) (by omega) (by omega) dL_law_626 ?_
  refine z_aload_n K dL_law_627 rfl rfl rfl ?_
  refine z_cSW (fs := []) K (kw) cS_X0_141 rfl rfl (by omega) (by omega) (by omega) (Nat.le_of_ble_eq_true rfl) dL_law_628 (fun q h1 hq => by obtain ⟨_, _, z, -⟩ := hq; cases z) ?_
  rintro v9 h1 ⟨kk, f, z, hkk, lo, e38, hr⟩
  cases z
  have hH1 : LH h1 w := li_lo hH lo e38
  have lkm : h1 1000 = some (.inr (0, tF w)) := (hH1.1 1000 (by omega) (by omega)).trans (tH_this w)
  refine z_istore K dL_law_631 (by decide) rfl ?_
  have kr := tMi.rf (as := [.int (iI (xs ((i : Int) + 1).toNat)), .int (iI (xs ((i : Int) + 2).toNat)), .int (iI (xs ((i : Int) + 3).toNat))]) (tw_addBreakdown (hx ((i : Int) + 1).toNat (by omega)) (hx ((i : Int) + 2).toNat (by omega)) (hx ((i : Int) + 3).toNat (by omega)) hs.1.2.2.2.2.2) rfl h1 (fun v w' p => ⟨p, hJ.pub (fun f hf => wBreak_f hf) p⟩)
  rw [hH1.oe] at kr
  refine z_aload_n K dL_law_633 rfl rfl rfl ?_
  refine z_aload_n K dL_law_634 rfl rfl rfl ?_
  refine z_iload K dL_law_635 rfl ?_
  refine j_iconst K dL_law_637 ?_
  refine j_iadd K dL_law_638 ?_
  refine s_ld K (hz) (by omega) (by omega) dL_law_639 ?_
  refine z_aload_n K dL_law_640 rfl rfl rfl ?_
  refine z_iload K dL_law_641 rfl ?_
  refine j_iconst K dL_law_643 ?_
  refine j_iadd K dL_law_644 ?_
  refine s_ld K (hz) (by omega) (by omega) dL_law_645 ?_
  refine z_aload_n K dL_law_646 rfl rfl rfl ?_
  refine z_iload K dL_law_647 rfl ?_
  refine j_iconst K dL_law_649 ?_
  refine j_iadd K dL_law_650 ?_
  refine s_ld K (hz) (by omega) (by omega) dL_law_651 ?_
  refine z_callV K (kr) cV_X0_143_X4 (lkm) rfl rfl rfl (by omega) (by omega) (by omega) (Nat.le_of_ble_eq_true rfl) dL_law_652 (fun q h2 hq => by obtain ⟨_, _, z, -⟩ := hq; cases z) ?_
  rintro v8 h2 ⟨v, w', z, rfl, hR, hJ'⟩
  cases z
  obtain ⟨e3, hc', hf⟩ := hr v w' hR
  have lkn : ov w' h1 1000 = some (.inr (0, tF w')) := (ov_in (by omega) (by omega)).trans (tH_this w')
  have kt := tMi.bs (as := []) (tw_thrown (w := w')) rfl h1
  refine z_istore K dL_law_655 (by decide) rfl ?_
  refine z_aload_n K dL_law_657 rfl rfl rfl ?_
  refine z_callV K (kt) cV_X0_124_X4 (lkn) rfl rfl rfl (by omega) (by omega) (by omega) (Nat.le_of_ble_eq_true rfl) dL_law_658 (fun q h2 hq => by obtain ⟨_, _, z, -⟩ := hq; cases z) ?_
  rintro v7 h3 ⟨v3, w3, z, eh, ev, ew⟩
  cases z
  rw [ew] at eh
  rw [eh, ev]
  refine z_iload K dL_law_661 rfl ?_
  refine j_icmp_eq (tgt := 668) K dL_law_663 rfl (by omega) (by omega) (fun c_663 => ?_) (fun c_663 => ?_)
  · refine z_iload K dL_law_668 rfl ?_
    refine j_if_ne (tgt := 685) K dL_law_670 rfl (by omega) (fun c_670 => ?_) (fun c_670 => ?_)
    · refine z_goto (tgt := 2164) K dL_law_685 rfl ?_
      exact zW.widen (by omega) (by omega) (nx (ov w' h1) w' (li_end hH1 hc' hJ') _ ⟨rfl, rfl, rfl, rfl, rfl, rfl, trivial⟩)
    · refine z_aload_n K dL_law_673 rfl rfl rfl ?_
      refine j_iconst K dL_law_674 ?_
      refine z_lald K ((ov_out (by omega)).trans e38) vp0 dL_law_675 ?_
      rw [tnc0, hf (by omega)]
      refine z_iload K dL_law_676 rfl ?_
      refine z_i2l K dL_law_678 ?_
      refine z_lcmp K dL_law_679 ?_
      rw [lgc_s]
      refine j_if_eq (tgt := 685) K dL_law_680 rfl (by omega) (fun c_680 => ?_) (fun c_680 => ?_)
      · refine z_goto (tgt := 2164) K dL_law_685 rfl ?_
        exact zW.widen (by omega) (by omega) (nx (ov w' h1) w' (li_end hH1 hc' hJ') _ ⟨rfl, rfl, rfl, rfl, rfl, rfl, trivial⟩)
      · exact absurd rfl c_680
  · exact absurd (by omega) c_663
theorem lc_6 (K : zK x cL_law 9 (some .boolean) [] 20 694190 6900895 X) (hz : zScr X L xs) (hI : LI L xs h w) (hx : ∀ j : Nat, j < L → i32 (xs j)) (hi : i + 5 ≤ L) (hL : L ≤ 320) (hk : k + 3000 ≤ 694190) (hn : n + 34000 ≤ 6900895) (nx : lNx X Q L xs i k n) : ∀ env, zsub env (lEnv i) → zW X Q h k n 688 env [] := by
  intro env he
  refine zW.cut he ?_
  obtain ⟨hC, hJ, hH⟩ := id hI
  have hs := hC.S
  have hT := hJ.TI hs
  have hac := hJ.hac hs
  have hA := hJ.ac hs
  have h9 : 0 ≤ w 9 0 ∧ w 9 0 ≤ 1 := by have := hJ.2.2.2.2.2.2.2.2.1; omega
  have h6 := hH.n6
  have hxx := hC.x
  obtain ⟨b, N, u, g, rfl, hG⟩ := id hC
  have kM := x1_clearBreakdowns hG  (hx ((i : Int) + 1).toNat (by omega))
  have kw := lw_clearBreakdowns kM hxx h6 hH.2.1
  refine z_aload_n K dL_law_688 rfl rfl rfl ?_
  refine z_aload_n K dL_law_689 rfl rfl rfl ?_
  refine z_iload K dL_law_690 rfl ?_
  refine j_iconst K dL_law_692 ?_
  refine j_iadd K dL_law_693 ?_
  refine s_ld K (hz) (by omega) (by omega) dL_law_694 ?_
  refine z_aload_n K dL_law_695 rfl rfl rfl ?_
  refine z_cSW (fs := []) K (kw) cS_X0_144 rfl rfl (by omega) (by omega) (by omega) (Nat.le_of_ble_eq_true rfl) dL_law_696 (fun q h1 hq => by obtain ⟨_, _, z, -⟩ := hq; cases z) ?_
  rintro v9 h1 ⟨kk, f, z, hkk, lo, e38, hr⟩
  cases z
  have hH1 : LH h1 w := li_lo hH lo e38
  have lkm : h1 1000 = some (.inr (0, tF w)) := (hH1.1 1000 (by omega) (by omega)).trans (tH_this w)
  refine z_istore K dL_law_699 (by decide) rfl ?_
  have kr := tMi.rf (as := [.int (iI (xs ((i : Int) + 1).toNat))]) (tw_clearBreakdowns (hx ((i : Int) + 1).toNat (by omega)) ) rfl h1 (fun v w' p => ⟨p, hJ.pub (fun f hf => tsG hf) p⟩)
  rw [hH1.oe] at kr
  refine z_aload_n K dL_law_701 rfl rfl rfl ?_
  refine z_aload_n K dL_law_702 rfl rfl rfl ?_
  refine z_iload K dL_law_703 rfl ?_
  refine j_iconst K dL_law_705 ?_
  refine j_iadd K dL_law_706 ?_
  refine s_ld K (hz) (by omega) (by omega) dL_law_707 ?_
  refine z_callV K (kr) cV_X0_147_X4 (lkm) rfl rfl rfl (by omega) (by omega) (by omega) (Nat.le_of_ble_eq_true rfl) dL_law_708 (fun q h2 hq => by obtain ⟨_, _, z, -⟩ := hq; cases z) ?_
  rintro v8 h2 ⟨v, w', z, rfl, hR, hJ'⟩
  cases z
  obtain ⟨e3, hc', hf⟩ := hr v w' hR
  have lkn : ov w' h1 1000 = some (.inr (0, tF w')) := (ov_in (by omega) (by omega)).trans (tH_this w')
  have kt := tMi.bs (as := []) (tw_thrown (w := w')) rfl h1
  refine z_istore K dL_law_711 (by decide) rfl ?_
  refine z_aload_n K dL_law_713 rfl rfl rfl ?_
  refine z_callV K (kt) cV_X0_124_X4 (lkn) rfl rfl rfl (by omega) (by omega) (by omega) (Nat.le_of_ble_eq_true rfl) dL_law_714 (fun q h2 hq => by obtain ⟨_, _, z, -⟩ := hq; cases z) ?_
  rintro v7 h3 ⟨v3, w3, z, eh, ev, ew⟩
  cases z
  rw [ew] at eh
  rw [eh, ev]
  refine z_iload K dL_law_717 rfl ?_
  refine j_icmp_eq (tgt := 724) K dL_law_719 rfl (by omega) (by omega) (fun c_719 => ?_) (fun c_719 => ?_)
  · refine z_iload K dL_law_724 rfl ?_
    refine j_if_ne (tgt := 741) K dL_law_726 rfl (by omega) (fun c_726 => ?_) (fun c_726 => ?_)
    · refine z_goto (tgt := 2164) K dL_law_741 rfl ?_
      exact zW.widen (by omega) (by omega) (nx (ov w' h1) w' (li_end hH1 hc' hJ') _ ⟨rfl, rfl, rfl, rfl, rfl, rfl, trivial⟩)
    · refine z_aload_n K dL_law_729 rfl rfl rfl ?_
      refine j_iconst K dL_law_730 ?_
      refine z_lald K ((ov_out (by omega)).trans e38) vp0 dL_law_731 ?_
      rw [tnc0, hf (by omega)]
      refine z_iload K dL_law_732 rfl ?_
      refine z_i2l K dL_law_734 ?_
      refine z_lcmp K dL_law_735 ?_
      rw [lgc_s]
      refine j_if_eq (tgt := 741) K dL_law_736 rfl (by omega) (fun c_736 => ?_) (fun c_736 => ?_)
      · refine z_goto (tgt := 2164) K dL_law_741 rfl ?_
        exact zW.widen (by omega) (by omega) (nx (ov w' h1) w' (li_end hH1 hc' hJ') _ ⟨rfl, rfl, rfl, rfl, rfl, rfl, trivial⟩)
      · exact absurd rfl c_736
  · exact absurd (by omega) c_719
theorem lc_7 (K : zK x cL_law 9 (some .boolean) [] 20 694190 6900895 X) (hz : zScr X L xs) (hI : LI L xs h w) (hx : ∀ j : Nat, j < L → i32 (xs j)) (hi : i + 5 ≤ L) (hL : L ≤ 320) (hk : k + 3000 ≤ 694190) (hn : n + 34000 ≤ 6900895) (nx : lNx X Q L xs i k n) : ∀ env, zsub env (lEnv i) → zW X Q h k n 744 env [] := by
  intro env he
  refine zW.cut he ?_
  obtain ⟨hC, hJ, hH⟩ := id hI
  have hs := hC.S
  have hT := hJ.TI hs
  have hac := hJ.hac hs
  have hA := hJ.ac hs
  have h9 : 0 ≤ w 9 0 ∧ w 9 0 ≤ 1 := by have := hJ.2.2.2.2.2.2.2.2.1; omega
  have h6 := hH.n6
  have hxx := hC.x
  obtain ⟨b, N, u, g, rfl, hG⟩ := id hC
  have kM := x1_count hG  (hx ((i : Int) + 1).toNat (by omega))
  have kw := lw_count kM hxx h6 hH.2.1
  refine z_aload_n K dL_law_744 rfl rfl rfl ?_
  refine z_aload_n K dL_law_745 rfl rfl rfl ?_
  refine z_iload K dL_law_746 rfl ?_
  refine j_iconst K dL_law_748 ?_
  refine j_iadd K dL_law_749 ?_
  refine s_ld K (hz) (by omega) (by omega) dL_law_750 ?_
  refine z_aload_n K dL_law_751 rfl rfl rfl ?_
  refine z_cSW (fs := []) K (kw) cS_X0_148 rfl rfl (by omega) (by omega) (by omega) (Nat.le_of_ble_eq_true rfl) dL_law_752 (fun q h1 hq => by obtain ⟨_, _, z, -⟩ := hq; cases z) ?_
  rintro v9 h1 ⟨kk, f, z, hkk, lo, e38, hr⟩
  cases z
  have hH1 : LH h1 w := li_lo hH lo e38
  have lkm : h1 1000 = some (.inr (0, tF w)) := (hH1.1 1000 (by omega) (by omega)).trans (tH_this w)
  refine z_istore K dL_law_755 (by decide) rfl ?_
  have kr := tMi.rf (as := [.int (iI (xs ((i : Int) + 1).toNat))]) (tw_count (hx ((i : Int) + 1).toNat (by omega)) ) rfl h1 (fun v w' p => ⟨p, hJ.pub (fun f hf => rfl) p⟩)
  rw [hH1.oe] at kr
  refine z_aload_n K dL_law_757 rfl rfl rfl ?_
  refine z_aload_n K dL_law_758 rfl rfl rfl ?_
  refine z_iload K dL_law_759 rfl ?_
  refine j_iconst K dL_law_761 ?_
  refine j_iadd K dL_law_762 ?_
  refine s_ld K (hz) (by omega) (by omega) dL_law_763 ?_
  refine z_callV K (kr) cV_X0_150_X4 (lkm) rfl rfl rfl (by omega) (by omega) (by omega) (Nat.le_of_ble_eq_true rfl) dL_law_764 (fun q h2 hq => by obtain ⟨_, _, z, -⟩ := hq; cases z) ?_
  rintro v8 h2 ⟨v, w', z, rfl, hR, hJ'⟩
  cases z
  obtain ⟨e3, hc', hf⟩ := hr v w' hR
  have lkn : ov w' h1 1000 = some (.inr (0, tF w')) := (ov_in (by omega) (by omega)).trans (tH_this w')
  have kt := tMi.bs (as := []) (tw_thrown (w := w')) rfl h1
  refine z_istore K dL_law_767 (by decide) rfl ?_
  refine z_aload_n K dL_law_769 rfl rfl rfl ?_
  refine z_callV K (kt) cV_X0_124_X4 (lkn) rfl rfl rfl (by omega) (by omega) (by omega) (Nat.le_of_ble_eq_true rfl) dL_law_770 (fun q h2 hq => by obtain ⟨_, _, z, -⟩ := hq; cases z) ?_
  rintro v7 h3 ⟨v3, w3, z, eh, ev, ew⟩
  cases z
  rw [ew] at eh
  rw [eh, ev]
  refine z_iload K dL_law_773 rfl ?_
  refine j_icmp_eq (tgt := 780) K dL_law_775 rfl (by omega) (by omega) (fun c_775 => ?_) (fun c_775 => ?_)
  · refine z_iload K dL_law_780 rfl ?_
    refine j_if_ne (tgt := 797) K dL_law_782 rfl (by omega) (fun c_782 => ?_) (fun c_782 => ?_)
    · refine z_goto (tgt := 2164) K dL_law_797 rfl ?_
      exact zW.widen (by omega) (by omega) (nx (ov w' h1) w' (li_end hH1 hc' hJ') _ ⟨rfl, rfl, rfl, rfl, rfl, rfl, trivial⟩)
    · refine z_aload_n K dL_law_785 rfl rfl rfl ?_
      refine j_iconst K dL_law_786 ?_
      refine z_lald K ((ov_out (by omega)).trans e38) vp0 dL_law_787 ?_
      rw [tnc0, hf (by omega)]
      refine z_iload K dL_law_788 rfl ?_
      refine z_i2l K dL_law_790 ?_
      refine z_lcmp K dL_law_791 ?_
      rw [lgc_s]
      refine j_if_eq (tgt := 797) K dL_law_792 rfl (by omega) (fun c_792 => ?_) (fun c_792 => ?_)
      · refine z_goto (tgt := 2164) K dL_law_797 rfl ?_
        exact zW.widen (by omega) (by omega) (nx (ov w' h1) w' (li_end hH1 hc' hJ') _ ⟨rfl, rfl, rfl, rfl, rfl, rfl, trivial⟩)
      · exact absurd rfl c_792
  · exact absurd (by omega) c_775
theorem lc_8 (K : zK x cL_law 9 (some .boolean) [] 20 694190 6900895 X) (hz : zScr X L xs) (hI : LI L xs h w) (hx : ∀ j : Nat, j < L → i32 (xs j)) (hi : i + 5 ≤ L) (hL : L ≤ 320) (hk : k + 3000 ≤ 694190) (hn : n + 34000 ≤ 6900895) (nx : lNx X Q L xs i k n) : ∀ env, zsub env (lEnv i) → zW X Q h k n 800 env [] := by
  intro env he
  refine zW.cut he ?_
  obtain ⟨hC, hJ, hH⟩ := id hI
  have hs := hC.S
  have hT := hJ.TI hs
  have hac := hJ.hac hs
  have hA := hJ.ac hs
  have h9 : 0 ≤ w 9 0 ∧ w 9 0 ≤ 1 := by have := hJ.2.2.2.2.2.2.2.2.1; omega
  have h6 := hH.n6
  have hxx := hC.x
  obtain ⟨b, N, u, g, rfl, hG⟩ := id hC
  have kM := x1_property hG  (hx ((i : Int) + 1).toNat (by omega)) (hx ((i : Int) + 2).toNat (by omega))
  have kw := lw_property kM hxx h6 hH.2.1
  refine z_aload_n K dL_law_800 rfl rfl rfl ?_
  refine z_aload_n K dL_law_801 rfl rfl rfl ?_
  refine z_iload K dL_law_802 rfl ?_
  refine j_iconst K dL_law_804 ?_
  refine j_iadd K dL_law_805 ?_
  refine s_ld K (hz) (by omega) (by omega) dL_law_806 ?_
  refine z_aload_n K dL_law_807 rfl rfl rfl ?_
  refine z_iload K dL_law_808 rfl ?_
  refine j_iconst K dL_law_810 ?_
  refine j_iadd K dL_law_811 ?_
  refine s_ld K (hz) (by omega) (by omega) dL_law_812 ?_
  refine z_aload_n K dL_law_813 rfl rfl rfl ?_
  refine z_cSW (fs := []) K (kw) cS_X0_151 rfl rfl (by omega) (by omega) (by omega) (Nat.le_of_ble_eq_true rfl) dL_law_814 (fun q h1 hq => by obtain ⟨_, _, z, -⟩ := hq; cases z) ?_
  rintro v9 h1 ⟨kk, f, z, hkk, lo, e38, hr⟩
  cases z
  have hH1 : LH h1 w := li_lo hH lo e38
  have lkm : h1 1000 = some (.inr (0, tF w)) := (hH1.1 1000 (by omega) (by omega)).trans (tH_this w)
  refine z_istore K dL_law_817 (by decide) rfl ?_
  have kr := tMi.rf (as := [.int (iI (xs ((i : Int) + 1).toNat)), .int (iI (xs ((i : Int) + 2).toNat))]) (tw_property (hx ((i : Int) + 1).toNat (by omega)) (hx ((i : Int) + 2).toNat (by omega)) hs.1 hs.2.1) rfl h1 (fun v w' p => ⟨p, hJ.pub (fun f hf => rfl) p⟩)
  rw [hH1.oe] at kr
  refine z_aload_n K dL_law_819 rfl rfl rfl ?_
  refine z_aload_n K dL_law_820 rfl rfl rfl ?_
  refine z_iload K dL_law_821 rfl ?_
  refine j_iconst K dL_law_823 ?_
  refine j_iadd K dL_law_824 ?_
  refine s_ld K (hz) (by omega) (by omega) dL_law_825 ?_
  refine z_aload_n K dL_law_826 rfl rfl rfl ?_
  refine z_iload K dL_law_827 rfl ?_
  refine j_iconst K dL_law_829 ?_
  refine j_iadd K dL_law_830 ?_
  refine s_ld K (hz) (by omega) (by omega) dL_law_831 ?_
  refine z_callV K (kr) cV_X0_153_X4 (lkm) rfl rfl rfl (by omega) (by omega) (by omega) (Nat.le_of_ble_eq_true rfl) dL_law_832 (fun q h2 hq => by obtain ⟨_, _, z, -⟩ := hq; cases z) ?_
  rintro v8 h2 ⟨v, w', z, rfl, hR, hJ'⟩
  cases z
  obtain ⟨e3, hc', hf⟩ := hr v w' hR
  have lkn : ov w' h1 1000 = some (.inr (0, tF w')) := (ov_in (by omega) (by omega)).trans (tH_this w')
  have kt := tMi.bs (as := []) (tw_thrown (w := w')) rfl h1
  refine z_istore K dL_law_835 (by decide) rfl ?_
  refine z_aload_n K dL_law_837 rfl rfl rfl ?_
  refine z_callV K (kt) cV_X0_124_X4 (lkn) rfl rfl rfl (by omega) (by omega) (by omega) (Nat.le_of_ble_eq_true rfl) dL_law_838 (fun q h2 hq => by obtain ⟨_, _, z, -⟩ := hq; cases z) ?_
  rintro v7 h3 ⟨v3, w3, z, eh, ev, ew⟩
  cases z
  rw [ew] at eh
  rw [eh, ev]
  refine z_iload K dL_law_841 rfl ?_
  refine j_icmp_eq (tgt := 848) K dL_law_843 rfl (by omega) (by omega) (fun c_843 => ?_) (fun c_843 => ?_)
  · refine z_iload K dL_law_848 rfl ?_
    refine j_if_ne (tgt := 865) K dL_law_850 rfl (by omega) (fun c_850 => ?_) (fun c_850 => ?_)
    · refine z_goto (tgt := 2164) K dL_law_865 rfl ?_
      exact zW.widen (by omega) (by omega) (nx (ov w' h1) w' (li_end hH1 hc' hJ') _ ⟨rfl, rfl, rfl, rfl, rfl, rfl, trivial⟩)
    · refine z_aload_n K dL_law_853 rfl rfl rfl ?_
      refine j_iconst K dL_law_854 ?_
      refine z_lald K ((ov_out (by omega)).trans e38) vp0 dL_law_855 ?_
      rw [tnc0, hf (by omega)]
      refine z_iload K dL_law_856 rfl ?_
      refine z_i2l K dL_law_858 ?_
      refine z_lcmp K dL_law_859 ?_
      rw [lgc_s]
      refine j_if_eq (tgt := 865) K dL_law_860 rfl (by omega) (fun c_860 => ?_) (fun c_860 => ?_)
      · refine z_goto (tgt := 2164) K dL_law_865 rfl ?_
        exact zW.widen (by omega) (by omega) (nx (ov w' h1) w' (li_end hH1 hc' hJ') _ ⟨rfl, rfl, rfl, rfl, rfl, rfl, trivial⟩)
      · exact absurd rfl c_860
  · exact absurd (by omega) c_843
theorem lc_9 (K : zK x cL_law 9 (some .boolean) [] 20 694190 6900895 X) (hz : zScr X L xs) (hI : LI L xs h w) (hx : ∀ j : Nat, j < L → i32 (xs j)) (hi : i + 5 ≤ L) (hL : L ≤ 320) (hk : k + 3000 ≤ 694190) (hn : n + 34000 ≤ 6900895) (nx : lNx X Q L xs i k n) : ∀ env, zsub env (lEnv i) → zW X Q h k n 868 env [] := by
  intro env he
  refine zW.cut he ?_
  obtain ⟨hC, hJ, hH⟩ := id hI
  have hs := hC.S
  have hT := hJ.TI hs
  have hac := hJ.hac hs
  have hA := hJ.ac hs
  have h9 : 0 ≤ w 9 0 ∧ w 9 0 ≤ 1 := by have := hJ.2.2.2.2.2.2.2.2.1; omega
  have h6 := hH.n6
  have hxx := hC.x
  obtain ⟨b, N, u, g, rfl, hG⟩ := id hC
  have kM := x1_order hG  (hx ((i : Int) + 1).toNat (by omega)) (hx ((i : Int) + 2).toNat (by omega))
  have kw := lw_order kM hxx h6 hH.2.1
  refine z_aload_n K dL_law_868 rfl rfl rfl ?_
  refine z_aload_n K dL_law_869 rfl rfl rfl ?_
  refine z_iload K dL_law_870 rfl ?_
  refine j_iconst K dL_law_872 ?_
  refine j_iadd K dL_law_873 ?_
  refine s_ld K (hz) (by omega) (by omega) dL_law_874 ?_
  refine z_aload_n K dL_law_875 rfl rfl rfl ?_
  refine z_iload K dL_law_876 rfl ?_
  refine j_iconst K dL_law_878 ?_
  refine j_iadd K dL_law_879 ?_
  refine s_ld K (hz) (by omega) (by omega) dL_law_880 ?_
  refine z_aload_n K dL_law_881 rfl rfl rfl ?_
  refine z_cSW (fs := []) K (kw) cS_X0_154 rfl rfl (by omega) (by omega) (by omega) (Nat.le_of_ble_eq_true rfl) dL_law_882 (fun q h1 hq => by obtain ⟨_, _, z, -⟩ := hq; cases z) ?_
  rintro v9 h1 ⟨kk, f, z, hkk, lo, e38, hr⟩
  cases z
  have hH1 : LH h1 w := li_lo hH lo e38
  have lkm : h1 1000 = some (.inr (0, tF w)) := (hH1.1 1000 (by omega) (by omega)).trans (tH_this w)
  refine z_istore K dL_law_885 (by decide) rfl ?_
  have kr := tMi.rf (as := [.int (iI (xs ((i : Int) + 1).toNat)), .int (iI (xs ((i : Int) + 2).toNat))]) (tw_order (hx ((i : Int) + 1).toNat (by omega)) (hx ((i : Int) + 2).toNat (by omega)) hs.2.1) rfl h1 (fun v w' p => ⟨p, hJ.pub (fun f hf => rfl) p⟩)
  rw [hH1.oe] at kr
  refine z_aload_n K dL_law_887 rfl rfl rfl ?_
  refine z_aload_n K dL_law_888 rfl rfl rfl ?_
  refine z_iload K dL_law_889 rfl ?_
  refine j_iconst K dL_law_891 ?_
  refine j_iadd K dL_law_892 ?_
  refine s_ld K (hz) (by omega) (by omega) dL_law_893 ?_
  refine z_aload_n K dL_law_894 rfl rfl rfl ?_
  refine z_iload K dL_law_895 rfl ?_
  refine j_iconst K dL_law_897 ?_
  refine j_iadd K dL_law_898 ?_
  refine s_ld K (hz) (by omega) (by omega) dL_law_899 ?_
  refine z_callV K (kr) cV_X0_156_X4 (lkm) rfl rfl rfl (by omega) (by omega) (by omega) (Nat.le_of_ble_eq_true rfl) dL_law_900 (fun q h2 hq => by obtain ⟨_, _, z, -⟩ := hq; cases z) ?_
  rintro v8 h2 ⟨v, w', z, rfl, hR, hJ'⟩
  cases z
  obtain ⟨e3, hc', hf⟩ := hr v w' hR
  have lkn : ov w' h1 1000 = some (.inr (0, tF w')) := (ov_in (by omega) (by omega)).trans (tH_this w')
  have kt := tMi.bs (as := []) (tw_thrown (w := w')) rfl h1
  refine z_istore K dL_law_903 (by decide) rfl ?_
  refine z_aload_n K dL_law_905 rfl rfl rfl ?_
  refine z_callV K (kt) cV_X0_124_X4 (lkn) rfl rfl rfl (by omega) (by omega) (by omega) (Nat.le_of_ble_eq_true rfl) dL_law_906 (fun q h2 hq => by obtain ⟨_, _, z, -⟩ := hq; cases z) ?_
  rintro v7 h3 ⟨v3, w3, z, eh, ev, ew⟩
  cases z
  rw [ew] at eh
  rw [eh, ev]
  refine z_iload K dL_law_909 rfl ?_
  refine j_icmp_eq (tgt := 916) K dL_law_911 rfl (by omega) (by omega) (fun c_911 => ?_) (fun c_911 => ?_)
  · refine z_iload K dL_law_916 rfl ?_
    refine j_if_ne (tgt := 933) K dL_law_918 rfl (by omega) (fun c_918 => ?_) (fun c_918 => ?_)
    · refine z_goto (tgt := 2164) K dL_law_933 rfl ?_
      exact zW.widen (by omega) (by omega) (nx (ov w' h1) w' (li_end hH1 hc' hJ') _ ⟨rfl, rfl, rfl, rfl, rfl, rfl, trivial⟩)
    · refine z_aload_n K dL_law_921 rfl rfl rfl ?_
      refine j_iconst K dL_law_922 ?_
      refine z_lald K ((ov_out (by omega)).trans e38) vp0 dL_law_923 ?_
      rw [tnc0, hf (by omega)]
      refine z_iload K dL_law_924 rfl ?_
      refine z_i2l K dL_law_926 ?_
      refine z_lcmp K dL_law_927 ?_
      rw [lgc_s]
      refine j_if_eq (tgt := 933) K dL_law_928 rfl (by omega) (fun c_928 => ?_) (fun c_928 => ?_)
      · refine z_goto (tgt := 2164) K dL_law_933 rfl ?_
        exact zW.widen (by omega) (by omega) (nx (ov w' h1) w' (li_end hH1 hc' hJ') _ ⟨rfl, rfl, rfl, rfl, rfl, rfl, trivial⟩)
      · exact absurd rfl c_928
  · exact absurd (by omega) c_911
theorem lc_10 (K : zK x cL_law 9 (some .boolean) [] 20 694190 6900895 X) (hz : zScr X L xs) (hI : LI L xs h w) (hx : ∀ j : Nat, j < L → i32 (xs j)) (hi : i + 5 ≤ L) (hL : L ≤ 320) (hk : k + 3000 ≤ 694190) (hn : n + 34000 ≤ 6900895) (nx : lNx X Q L xs i k n) : ∀ env, zsub env (lEnv i) → zW X Q h k n 936 env [] := by
  intro env he
  refine zW.cut he ?_
  obtain ⟨hC, hJ, hH⟩ := id hI
  have hs := hC.S
  have hT := hJ.TI hs
  have hac := hJ.hac hs
  have hA := hJ.ac hs
  have h9 : 0 ≤ w 9 0 ∧ w 9 0 ≤ 1 := by have := hJ.2.2.2.2.2.2.2.2.1; omega
  have h6 := hH.n6
  have hxx := hC.x
  obtain ⟨b, N, u, g, rfl, hG⟩ := id hC
  have kM := x1_time hG hT (hx ((i : Int) + 1).toNat (by omega)) (hx ((i : Int) + 2).toNat (by omega))
  have kw := lw_time kM hxx h6 hH.2.1
  refine z_aload_n K dL_law_936 rfl rfl rfl ?_
  refine z_aload_n K dL_law_937 rfl rfl rfl ?_
  refine z_iload K dL_law_938 rfl ?_
  refine j_iconst K dL_law_940 ?_
  refine j_iadd K dL_law_941 ?_
  refine s_ld K (hz) (by omega) (by omega) dL_law_942 ?_
  refine z_aload_n K dL_law_943 rfl rfl rfl ?_
  refine z_iload K dL_law_944 rfl ?_
  refine j_iconst K dL_law_946 ?_
  refine j_iadd K dL_law_947 ?_
  refine s_ld K (hz) (by omega) (by omega) dL_law_948 ?_
  refine z_aload_n K dL_law_949 rfl rfl rfl ?_
  refine z_cSW (fs := []) K (kw) cS_X0_157 rfl rfl (by omega) (by omega) (by omega) (Nat.le_of_ble_eq_true rfl) dL_law_950 (fun q h1 hq => by obtain ⟨_, _, z, -⟩ := hq; cases z) ?_
  rintro v9 h1 ⟨kk, f, z, hkk, lo, e38, hr⟩
  cases z
  have hH1 : LH h1 w := li_lo hH lo e38
  have lkm : h1 1000 = some (.inr (0, tF w)) := (hH1.1 1000 (by omega) (by omega)).trans (tH_this w)
  refine z_istore K dL_law_953 (by decide) rfl ?_
  have kr := tMi.rf (as := [.int (iI (xs ((i : Int) + 1).toNat)), .int (iI (xs ((i : Int) + 2).toNat))]) (tw_time (hx ((i : Int) + 1).toNat (by omega)) (hx ((i : Int) + 2).toNat (by omega)) hT) rfl h1 (fun v w' p => ⟨p, hJ.pubQ (fun v w' ⟨rd, st, e, _⟩ => by rw [e]; exact hJ.wt) p⟩)
  rw [hH1.oe] at kr
  refine z_aload_n K dL_law_955 rfl rfl rfl ?_
  refine z_aload_n K dL_law_956 rfl rfl rfl ?_
  refine z_iload K dL_law_957 rfl ?_
  refine j_iconst K dL_law_959 ?_
  refine j_iadd K dL_law_960 ?_
  refine s_ld K (hz) (by omega) (by omega) dL_law_961 ?_
  refine z_aload_n K dL_law_962 rfl rfl rfl ?_
  refine z_iload K dL_law_963 rfl ?_
  refine j_iconst K dL_law_965 ?_
  refine j_iadd K dL_law_966 ?_
  refine s_ld K (hz) (by omega) (by omega) dL_law_967 ?_
  refine z_callV K (kr) cV_X0_159_X4 (lkm) rfl rfl rfl (by omega) (by omega) (by omega) (Nat.le_of_ble_eq_true rfl) dL_law_968 (fun q h2 hq => by obtain ⟨_, _, z, -⟩ := hq; cases z) ?_
  rintro v8 h2 ⟨v, w', z, rfl, hR, hJ'⟩
  cases z
  obtain ⟨e3, hc', hf⟩ := hr v w' hR
  have lkn : ov w' h1 1000 = some (.inr (0, tF w')) := (ov_in (by omega) (by omega)).trans (tH_this w')
  have kt := tMi.bs (as := []) (tw_thrown (w := w')) rfl h1
  refine z_istore K dL_law_971 (by decide) rfl ?_
  refine z_aload_n K dL_law_973 rfl rfl rfl ?_
  refine z_callV K (kt) cV_X0_124_X4 (lkn) rfl rfl rfl (by omega) (by omega) (by omega) (Nat.le_of_ble_eq_true rfl) dL_law_974 (fun q h2 hq => by obtain ⟨_, _, z, -⟩ := hq; cases z) ?_
  rintro v7 h3 ⟨v3, w3, z, eh, ev, ew⟩
  cases z
  rw [ew] at eh
  rw [eh, ev]
  refine z_iload K dL_law_977 rfl ?_
  refine j_icmp_eq (tgt := 984) K dL_law_979 rfl (by omega) (by omega) (fun c_979 => ?_) (fun c_979 => ?_)
  · refine z_iload K dL_law_984 rfl ?_
    refine j_if_ne (tgt := 1001) K dL_law_986 rfl (by omega) (fun c_986 => ?_) (fun c_986 => ?_)
    · refine z_goto (tgt := 2164) K dL_law_1001 rfl ?_
      exact zW.widen (by omega) (by omega) (nx (ov w' h1) w' (li_end hH1 hc' hJ') _ ⟨rfl, rfl, rfl, rfl, rfl, rfl, trivial⟩)
    · refine z_aload_n K dL_law_989 rfl rfl rfl ?_
      refine j_iconst K dL_law_990 ?_
      refine z_lald K ((ov_out (by omega)).trans e38) vp0 dL_law_991 ?_
      rw [tnc0, hf (by omega)]
      refine z_iload K dL_law_992 rfl ?_
      refine z_i2l K dL_law_994 ?_
      refine z_lcmp K dL_law_995 ?_
      rw [lgc_s]
      refine j_if_eq (tgt := 1001) K dL_law_996 rfl (by omega) (fun c_996 => ?_) (fun c_996 => ?_)
      · refine z_goto (tgt := 2164) K dL_law_1001 rfl ?_
        exact zW.widen (by omega) (by omega) (nx (ov w' h1) w' (li_end hH1 hc' hJ') _ ⟨rfl, rfl, rfl, rfl, rfl, rfl, trivial⟩)
      · exact absurd rfl c_996
  · exact absurd (by omega) c_979
theorem lc_11 (K : zK x cL_law 9 (some .boolean) [] 20 694190 6900895 X) (hz : zScr X L xs) (hI : LI L xs h w) (hx : ∀ j : Nat, j < L → i32 (xs j)) (hi : i + 5 ≤ L) (hL : L ≤ 320) (hk : k + 3000 ≤ 694190) (hn : n + 34000 ≤ 6900895) (nx : lNx X Q L xs i k n) : ∀ env, zsub env (lEnv i) → zW X Q h k n 1004 env [] := by
  intro env he
  refine zW.cut he ?_
  obtain ⟨hC, hJ, hH⟩ := id hI
  have hs := hC.S
  have hT := hJ.TI hs
  have hac := hJ.hac hs
  have hA := hJ.ac hs
  have h9 : 0 ≤ w 9 0 ∧ w 9 0 ≤ 1 := by have := hJ.2.2.2.2.2.2.2.2.1; omega
  have h6 := hH.n6
  have hxx := hC.x
  obtain ⟨b, N, u, g, rfl, hG⟩ := id hC
  have kM := x1_makespan hG hT
  obtain ⟨fs0, hx0⟩ := hxx
  refine z_aload_n K dL_law_1004 rfl rfl rfl ?_
  refine z_callV K kM cV_X0_160_X1 hx0 rfl rfl rfl (by omega) (by omega) (by omega) (Nat.le_of_ble_eq_true rfl) dL_law_1005 (fun q h1 hq => ?_) (fun v h1 hq => ?_)
  · obtain ⟨lo, ⟨_, z, _⟩ | ⟨q9, ci, fs, z, hq9, hcd, hr⟩⟩ := hq
    · cases z
    rcases cdA_c hcd with ⟨rfl, e⟩ | ⟨rfl, e⟩ | ⟨rfl, e⟩ <;> (cases z; exact z_noT hq9 (by decide) rfl)
  obtain ⟨lo, ⟨v9, z, hr⟩ | ⟨_, _, _, z, _⟩⟩ := hq
  rotate_left
  · cases z
  cases z
  have hH1 : LH h1 w := hH.lo lo
  have lkm : h1 1000 = some (.inr (0, tF w)) := (hH1.1 1000 (by omega) (by omega)).trans (tH_this w)
  have kr := tMi.rf (as := []) (w := w) (tw_makespan hT) rfl h1 (fun v w' p => ⟨p, (by obtain ⟨rd, st, e, _⟩ := p; rw [e]; exact hJ.wt)⟩)
  rw [hH1.oe] at kr
  refine z_aload_n K dL_law_1008 rfl rfl rfl ?_
  refine z_callV K (kr) cV_X0_163_X4 (lkm) rfl rfl rfl (by omega) (by omega) (by omega) (Nat.le_of_ble_eq_true rfl) dL_law_1009 (fun q h2 hq => by obtain ⟨_, _, z, -⟩ := hq; cases z) ?_
  rintro v8 h2 ⟨v, w', z, rfl, hR, hJ'⟩
  cases z
  obtain ⟨e3, rfl, hc'⟩ := hr v w' hR
  refine z_icmp_eq (tgt := 2164) K dL_law_1012 rfl (fun _ => ?_) (fun c => absurd rfl c)
  exact zW.widen (by omega) (by omega) (nx (ov w' h1) w' (li_end hH1 hc' hJ') _ ⟨rfl, rfl, rfl, rfl, rfl, rfl, trivial⟩)
theorem lc_12 (K : zK x cL_law 9 (some .boolean) [] 20 694190 6900895 X) (hz : zScr X L xs) (hI : LI L xs h w) (hx : ∀ j : Nat, j < L → i32 (xs j)) (hi : i + 5 ≤ L) (hL : L ≤ 320) (hk : k + 3000 ≤ 694190) (hn : n + 34000 ≤ 6900895) (nx : lNx X Q L xs i k n) : ∀ env, zsub env (lEnv i) → zW X Q h k n 1017 env [] := by
  intro env he
  refine zW.cut he ?_
  obtain ⟨hC, hJ, hH⟩ := id hI
  have hs := hC.S
  have hT := hJ.TI hs
  have hac := hJ.hac hs
  have hA := hJ.ac hs
  have h9 : 0 ≤ w 9 0 ∧ w 9 0 ≤ 1 := by have := hJ.2.2.2.2.2.2.2.2.1; omega
  have h6 := hH.n6
  have hxx := hC.x
  obtain ⟨b, N, u, g, rfl, hG⟩ := id hC
  have kM := x1_slack hG hT (hx ((i : Int) + 1).toNat (by omega))
  have kw := lw_slack kM hxx h6 hH.2.1
  refine z_aload_n K dL_law_1017 rfl rfl rfl ?_
  refine z_aload_n K dL_law_1018 rfl rfl rfl ?_
  refine z_iload K dL_law_1019 rfl ?_
  refine j_iconst K dL_law_1021 ?_
  refine j_iadd K dL_law_1022 ?_
  refine s_ld K (hz) (by omega) (by omega) dL_law_1023 ?_
  refine z_aload_n K dL_law_1024 rfl rfl rfl ?_
  refine z_cSW (fs := []) K (kw) cS_X0_164 rfl rfl (by omega) (by omega) (by omega) (Nat.le_of_ble_eq_true rfl) dL_law_1025 (fun q h1 hq => by obtain ⟨_, _, z, -⟩ := hq; cases z) ?_
  rintro v9 h1 ⟨kk, f, z, hkk, lo, e38, hr⟩
  cases z
  have hH1 : LH h1 w := li_lo hH lo e38
  have lkm : h1 1000 = some (.inr (0, tF w)) := (hH1.1 1000 (by omega) (by omega)).trans (tH_this w)
  refine z_istore K dL_law_1028 (by decide) rfl ?_
  have kr := tMi.rf (as := [.int (iI (xs ((i : Int) + 1).toNat))]) (tw_slack (hx ((i : Int) + 1).toNat (by omega)) hT hac) rfl h1 (fun v w' p => ⟨p, hJ.pubQ (fun v w' ⟨_, rd, st, hu, h1, e⟩ => by rw [e]; exact rj_slk hJ h1) p⟩)
  rw [hH1.oe] at kr
  refine z_aload_n K dL_law_1030 rfl rfl rfl ?_
  refine z_aload_n K dL_law_1031 rfl rfl rfl ?_
  refine z_iload K dL_law_1032 rfl ?_
  refine j_iconst K dL_law_1034 ?_
  refine j_iadd K dL_law_1035 ?_
  refine s_ld K (hz) (by omega) (by omega) dL_law_1036 ?_
  refine z_callV K (kr) cV_X0_166_X4 (lkm) rfl rfl rfl (by omega) (by omega) (by omega) (Nat.le_of_ble_eq_true rfl) dL_law_1037 (fun q h2 hq => by obtain ⟨_, _, z, -⟩ := hq; cases z) ?_
  rintro v8 h2 ⟨v, w', z, rfl, hR, hJ'⟩
  cases z
  obtain ⟨e3, hc', hf⟩ := hr v w' hR
  have lkn : ov w' h1 1000 = some (.inr (0, tF w')) := (ov_in (by omega) (by omega)).trans (tH_this w')
  have kt := tMi.bs (as := []) (tw_thrown (w := w')) rfl h1
  refine z_istore K dL_law_1040 (by decide) rfl ?_
  refine z_aload_n K dL_law_1042 rfl rfl rfl ?_
  refine z_callV K (kt) cV_X0_124_X4 (lkn) rfl rfl rfl (by omega) (by omega) (by omega) (Nat.le_of_ble_eq_true rfl) dL_law_1043 (fun q h2 hq => by obtain ⟨_, _, z, -⟩ := hq; cases z) ?_
  rintro v7 h3 ⟨v3, w3, z, eh, ev, ew⟩
  cases z
  rw [ew] at eh
  rw [eh, ev]
  refine z_iload K dL_law_1046 rfl ?_
  refine j_icmp_eq (tgt := 1053) K dL_law_1048 rfl (by omega) (by omega) (fun c_1048 => ?_) (fun c_1048 => ?_)
  · refine z_iload K dL_law_1053 rfl ?_
    refine j_if_ne (tgt := 1070) K dL_law_1055 rfl (by omega) (fun c_1055 => ?_) (fun c_1055 => ?_)
    · refine z_goto (tgt := 2164) K dL_law_1070 rfl ?_
      exact zW.widen (by omega) (by omega) (nx (ov w' h1) w' (li_end hH1 hc' hJ') _ ⟨rfl, rfl, rfl, rfl, rfl, rfl, trivial⟩)
    · refine z_aload_n K dL_law_1058 rfl rfl rfl ?_
      refine j_iconst K dL_law_1059 ?_
      refine z_lald K ((ov_out (by omega)).trans e38) vp0 dL_law_1060 ?_
      rw [tnc0, hf (by omega)]
      refine z_iload K dL_law_1061 rfl ?_
      refine z_i2l K dL_law_1063 ?_
      refine z_lcmp K dL_law_1064 ?_
      rw [lgc_s]
      refine j_if_eq (tgt := 1070) K dL_law_1065 rfl (by omega) (fun c_1065 => ?_) (fun c_1065 => ?_)
      · refine z_goto (tgt := 2164) K dL_law_1070 rfl ?_
        exact zW.widen (by omega) (by omega) (nx (ov w' h1) w' (li_end hH1 hc' hJ') _ ⟨rfl, rfl, rfl, rfl, rfl, rfl, trivial⟩)
      · exact absurd rfl c_1065
  · exact absurd (by omega) c_1048
theorem lc_13 (K : zK x cL_law 9 (some .boolean) [] 20 694190 6900895 X) (hz : zScr X L xs) (hI : LI L xs h w) (hx : ∀ j : Nat, j < L → i32 (xs j)) (hi : i + 5 ≤ L) (hL : L ≤ 320) (hk : k + 3000 ≤ 694190) (hn : n + 34000 ≤ 6900895) (nx : lNx X Q L xs i k n) : ∀ env, zsub env (lEnv i) → zW X Q h k n 1073 env [] := by
  intro env he
  refine zW.cut he ?_
  obtain ⟨hC, hJ, hH⟩ := id hI
  have hs := hC.S
  have hT := hJ.TI hs
  have hac := hJ.hac hs
  have hA := hJ.ac hs
  have h9 : 0 ≤ w 9 0 ∧ w 9 0 ≤ 1 := by have := hJ.2.2.2.2.2.2.2.2.1; omega
  have h6 := hH.n6
  have hxx := hC.x
  obtain ⟨b, N, u, g, rfl, hG⟩ := id hC
  have kM := x1_completion hG hT (hx ((i : Int) + 1).toNat (by omega))
  have kw := lw_completion kM hxx h6 hH.2.1
  refine z_aload_n K dL_law_1073 rfl rfl rfl ?_
  refine z_aload_n K dL_law_1074 rfl rfl rfl ?_
  refine z_iload K dL_law_1075 rfl ?_
  refine j_iconst K dL_law_1077 ?_
  refine j_iadd K dL_law_1078 ?_
  refine s_ld K (hz) (by omega) (by omega) dL_law_1079 ?_
  refine z_aload_n K dL_law_1080 rfl rfl rfl ?_
  refine z_cSW (fs := []) K (kw) cS_X0_167 rfl rfl (by omega) (by omega) (by omega) (Nat.le_of_ble_eq_true rfl) dL_law_1081 (fun q h1 hq => by obtain ⟨_, _, z, -⟩ := hq; cases z) ?_
  rintro v9 h1 ⟨kk, f, z, hkk, lo, e38, hr⟩
  cases z
  have hH1 : LH h1 w := li_lo hH lo e38
  have lkm : h1 1000 = some (.inr (0, tF w)) := (hH1.1 1000 (by omega) (by omega)).trans (tH_this w)
  refine z_istore K dL_law_1084 (by decide) rfl ?_
  have kr := tMi.rf (as := [.int (iI (xs ((i : Int) + 1).toNat))]) (tw_completion (hx ((i : Int) + 1).toNat (by omega)) hT) rfl h1 (fun v w' p => ⟨p, hJ.pubQ (fun v w' ⟨rd, st, e, _⟩ => by rw [e]; exact hJ.wt) p⟩)
  rw [hH1.oe] at kr
  refine z_aload_n K dL_law_1086 rfl rfl rfl ?_
  refine z_aload_n K dL_law_1087 rfl rfl rfl ?_
  refine z_iload K dL_law_1088 rfl ?_
  refine j_iconst K dL_law_1090 ?_
  refine j_iadd K dL_law_1091 ?_
  refine s_ld K (hz) (by omega) (by omega) dL_law_1092 ?_
  refine z_callV K (kr) cV_X0_169_X4 (lkm) rfl rfl rfl (by omega) (by omega) (by omega) (Nat.le_of_ble_eq_true rfl) dL_law_1093 (fun q h2 hq => by obtain ⟨_, _, z, -⟩ := hq; cases z) ?_
  rintro v8 h2 ⟨v, w', z, rfl, hR, hJ'⟩
  cases z
  obtain ⟨e3, hc', hf⟩ := hr v w' hR
  have lkn : ov w' h1 1000 = some (.inr (0, tF w')) := (ov_in (by omega) (by omega)).trans (tH_this w')
  have kt := tMi.bs (as := []) (tw_thrown (w := w')) rfl h1
  refine z_istore K dL_law_1096 (by decide) rfl ?_
  refine z_aload_n K dL_law_1098 rfl rfl rfl ?_
  refine z_callV K (kt) cV_X0_124_X4 (lkn) rfl rfl rfl (by omega) (by omega) (by omega) (Nat.le_of_ble_eq_true rfl) dL_law_1099 (fun q h2 hq => by obtain ⟨_, _, z, -⟩ := hq; cases z) ?_
  rintro v7 h3 ⟨v3, w3, z, eh, ev, ew⟩
  cases z
  rw [ew] at eh
  rw [eh, ev]
  refine z_iload K dL_law_1102 rfl ?_
  refine j_icmp_eq (tgt := 1109) K dL_law_1104 rfl (by omega) (by omega) (fun c_1104 => ?_) (fun c_1104 => ?_)
  · refine z_iload K dL_law_1109 rfl ?_
    refine j_if_ne (tgt := 1126) K dL_law_1111 rfl (by omega) (fun c_1111 => ?_) (fun c_1111 => ?_)
    · refine z_goto (tgt := 2164) K dL_law_1126 rfl ?_
      exact zW.widen (by omega) (by omega) (nx (ov w' h1) w' (li_end hH1 hc' hJ') _ ⟨rfl, rfl, rfl, rfl, rfl, rfl, trivial⟩)
    · refine z_aload_n K dL_law_1114 rfl rfl rfl ?_
      refine j_iconst K dL_law_1115 ?_
      refine z_lald K ((ov_out (by omega)).trans e38) vp0 dL_law_1116 ?_
      rw [tnc0, hf (by omega)]
      refine z_iload K dL_law_1117 rfl ?_
      refine z_i2l K dL_law_1119 ?_
      refine z_lcmp K dL_law_1120 ?_
      rw [lgc_s]
      refine j_if_eq (tgt := 1126) K dL_law_1121 rfl (by omega) (fun c_1121 => ?_) (fun c_1121 => ?_)
      · refine z_goto (tgt := 2164) K dL_law_1126 rfl ?_
        exact zW.widen (by omega) (by omega) (nx (ov w' h1) w' (li_end hH1 hc' hJ') _ ⟨rfl, rfl, rfl, rfl, rfl, rfl, trivial⟩)
      · exact absurd rfl c_1121
  · exact absurd (by omega) c_1104
theorem lc_14 (K : zK x cL_law 9 (some .boolean) [] 20 694190 6900895 X) (hz : zScr X L xs) (hI : LI L xs h w) (hx : ∀ j : Nat, j < L → i32 (xs j)) (hi : i + 5 ≤ L) (hL : L ≤ 320) (hk : k + 3000 ≤ 694190) (hn : n + 34000 ≤ 6900895) (nx : lNx X Q L xs i k n) : ∀ env, zsub env (lEnv i) → zW X Q h k n 1129 env [] := by
  intro env he
  refine zW.cut he ?_
  obtain ⟨hC, hJ, hH⟩ := id hI
  have hs := hC.S
  have hT := hJ.TI hs
  have hac := hJ.hac hs
  have hA := hJ.ac hs
  have h9 : 0 ≤ w 9 0 ∧ w 9 0 ≤ 1 := by have := hJ.2.2.2.2.2.2.2.2.1; omega
  have h6 := hH.n6
  have hxx := hC.x
  obtain ⟨b, N, u, g, rfl, hG⟩ := id hC
  have kM := x1_objective hG hT (hx ((i : Int) + 1).toNat (by omega))
  have kw := lw_objective kM hxx h6 hH.2.1
  refine z_aload_n K dL_law_1129 rfl rfl rfl ?_
  refine z_aload_n K dL_law_1130 rfl rfl rfl ?_
  refine z_iload K dL_law_1131 rfl ?_
  refine j_iconst K dL_law_1133 ?_
  refine j_iadd K dL_law_1134 ?_
  refine s_ld K (hz) (by omega) (by omega) dL_law_1135 ?_
  refine z_aload_n K dL_law_1136 rfl rfl rfl ?_
  refine z_cSW (fs := []) K (kw) cS_X0_170 rfl rfl (by omega) (by omega) (by omega) (Nat.le_of_ble_eq_true rfl) dL_law_1137 (fun q h1 hq => by obtain ⟨_, _, z, -⟩ := hq; cases z) ?_
  rintro v9 h1 ⟨kk, f, z, hkk, lo, e38, hr⟩
  cases z
  have hH1 : LH h1 w := li_lo hH lo e38
  have lkm : h1 1000 = some (.inr (0, tF w)) := (hH1.1 1000 (by omega) (by omega)).trans (tH_this w)
  refine z_istore K dL_law_1140 (by decide) rfl ?_
  have kr := tMi.rf (as := [.int (iI (xs ((i : Int) + 1).toNat))]) (tw_objective (hx ((i : Int) + 1).toNat (by omega)) hT) rfl h1 (fun v w' p => ⟨p, hJ.pubQ (fun v w' ⟨rd, st, e, _⟩ => by rw [e]; exact hJ.wt) p⟩)
  rw [hH1.oe] at kr
  refine z_aload_n K dL_law_1142 rfl rfl rfl ?_
  refine z_aload_n K dL_law_1143 rfl rfl rfl ?_
  refine z_iload K dL_law_1144 rfl ?_
  refine j_iconst K dL_law_1146 ?_
  refine j_iadd K dL_law_1147 ?_
  refine s_ld K (hz) (by omega) (by omega) dL_law_1148 ?_
  refine z_callV K (kr) cV_X0_172_X4 (lkm) rfl rfl rfl (by omega) (by omega) (by omega) (Nat.le_of_ble_eq_true rfl) dL_law_1149 (fun q h2 hq => by obtain ⟨_, _, z, -⟩ := hq; cases z) ?_
  rintro v8 h2 ⟨v, w', z, rfl, hR, hJ'⟩
  cases z
  obtain ⟨e3, hc', hf⟩ := hr v w' hR
  have lkn : ov w' h1 1000 = some (.inr (0, tF w')) := (ov_in (by omega) (by omega)).trans (tH_this w')
  have kt := tMi.bs (as := []) (tw_thrown (w := w')) rfl h1
  refine z_istore K dL_law_1152 (by decide) rfl ?_
  refine z_aload_n K dL_law_1154 rfl rfl rfl ?_
  refine z_callV K (kt) cV_X0_124_X4 (lkn) rfl rfl rfl (by omega) (by omega) (by omega) (Nat.le_of_ble_eq_true rfl) dL_law_1155 (fun q h2 hq => by obtain ⟨_, _, z, -⟩ := hq; cases z) ?_
  rintro v7 h3 ⟨v3, w3, z, eh, ev, ew⟩
  cases z
  rw [ew] at eh
  rw [eh, ev]
  refine z_iload K dL_law_1158 rfl ?_
  refine j_icmp_eq (tgt := 1165) K dL_law_1160 rfl (by omega) (by omega) (fun c_1160 => ?_) (fun c_1160 => ?_)
  · refine z_iload K dL_law_1165 rfl ?_
    refine j_if_ne (tgt := 1182) K dL_law_1167 rfl (by omega) (fun c_1167 => ?_) (fun c_1167 => ?_)
    · refine z_goto (tgt := 2164) K dL_law_1182 rfl ?_
      exact zW.widen (by omega) (by omega) (nx (ov w' h1) w' (li_end hH1 hc' hJ') _ ⟨rfl, rfl, rfl, rfl, rfl, rfl, trivial⟩)
    · refine z_aload_n K dL_law_1170 rfl rfl rfl ?_
      refine j_iconst K dL_law_1171 ?_
      refine z_lald K ((ov_out (by omega)).trans e38) vp0 dL_law_1172 ?_
      rw [tnc0, hf (by omega)]
      refine z_iload K dL_law_1173 rfl ?_
      refine z_i2l K dL_law_1175 ?_
      refine z_lcmp K dL_law_1176 ?_
      rw [lgc_s]
      refine j_if_eq (tgt := 1182) K dL_law_1177 rfl (by omega) (fun c_1177 => ?_) (fun c_1177 => ?_)
      · refine z_goto (tgt := 2164) K dL_law_1182 rfl ?_
        exact zW.widen (by omega) (by omega) (nx (ov w' h1) w' (li_end hH1 hc' hJ') _ ⟨rfl, rfl, rfl, rfl, rfl, rfl, trivial⟩)
      · exact absurd rfl c_1177
  · exact absurd (by omega) c_1160
theorem lc_15 (K : zK x cL_law 9 (some .boolean) [] 20 694190 6900895 X) (hz : zScr X L xs) (hI : LI L xs h w) (hx : ∀ j : Nat, j < L → i32 (xs j)) (hi : i + 5 ≤ L) (hL : L ≤ 320) (hk : k + 3000 ≤ 694190) (hn : n + 34000 ≤ 6900895) (nx : lNx X Q L xs i k n) : ∀ env, zsub env (lEnv i) → zW X Q h k n 1185 env [] := by
  intro env he
  refine zW.cut he ?_
  obtain ⟨hC, hJ, hH⟩ := id hI
  have hs := hC.S
  have hT := hJ.TI hs
  have hac := hJ.hac hs
  have hA := hJ.ac hs
  have h9 : 0 ≤ w 9 0 ∧ w 9 0 ≤ 1 := by have := hJ.2.2.2.2.2.2.2.2.1; omega
  have h6 := hH.n6
  have hxx := hC.x
  obtain ⟨b, N, u, g, rfl, hG⟩ := id hC
  have kM := x1_utilization hG hT (hx ((i : Int) + 1).toNat (by omega))
  have kw := lw_utilization kM hxx h6 hH.2.2
  refine z_aload_n K dL_law_1185 rfl rfl rfl ?_
  refine z_aload_n K dL_law_1186 rfl rfl rfl ?_
  refine z_iload K dL_law_1187 rfl ?_
  refine j_iconst K dL_law_1189 ?_
  refine j_iadd K dL_law_1190 ?_
  refine s_ld K (hz) (by omega) (by omega) dL_law_1191 ?_
  refine z_aload K dL_law_1192 rfl rfl ?_
  refine z_cSW (fs := []) K (kw) cS_X0_173 rfl rfl (by omega) (by omega) (by omega) (Nat.le_of_ble_eq_true rfl) dL_law_1194 (fun q h1 hq => by obtain ⟨_, _, z, -⟩ := hq; cases z) ?_
  rintro v9 h1 ⟨kk, f, z, hkk, lo, e39, hr⟩
  cases z
  have hH1 : LH h1 w := li_lod hH lo e39
  have lkm : h1 1000 = some (.inr (0, tF w)) := (hH1.1 1000 (by omega) (by omega)).trans (tH_this w)
  refine z_istore K dL_law_1197 (by decide) rfl ?_
  have kr := rf_utilization hJ hs (hx ((i : Int) + 1).toNat (by omega)) h1
  rw [hH1.oe] at kr
  refine z_aload_n K dL_law_1199 rfl rfl rfl ?_
  refine z_aload_n K dL_law_1200 rfl rfl rfl ?_
  refine z_iload K dL_law_1201 rfl ?_
  refine j_iconst K dL_law_1203 ?_
  refine j_iadd K dL_law_1204 ?_
  refine s_ld K (hz) (by omega) (by omega) dL_law_1205 ?_
  refine z_callV K (kr) cV_X0_176_X4 (lkm) rfl rfl rfl (by omega) (by omega) (by omega) (Nat.le_of_ble_eq_true rfl) dL_law_1206 (fun q h2 hq => by obtain ⟨_, _, z, -⟩ := hq; cases z) ?_
  rintro v8 h2 ⟨v, w', z, rfl, hR, hJ'⟩
  cases z
  obtain ⟨e3, hc', hf⟩ := hr v w' hR
  have lkn : ov w' h1 1000 = some (.inr (0, tF w')) := (ov_in (by omega) (by omega)).trans (tH_this w')
  have kt := tMi.bs (as := []) (tw_thrown (w := w')) rfl h1
  refine z_dstore K dL_law_1209 (by decide) rfl rfl ?_
  refine z_aload_n K dL_law_1211 rfl rfl rfl ?_
  refine z_callV K (kt) cV_X0_124_X4 (lkn) rfl rfl rfl (by omega) (by omega) (by omega) (Nat.le_of_ble_eq_true rfl) dL_law_1212 (fun q h2 hq => by obtain ⟨_, _, z, -⟩ := hq; cases z) ?_
  rintro v7 h3 ⟨v3, w3, z, eh, ev, ew⟩
  cases z
  rw [ew] at eh
  rw [eh, ev]
  refine z_iload K dL_law_1215 rfl ?_
  refine j_icmp_eq (tgt := 1222) K dL_law_1217 rfl (by omega) (by omega) (fun c_1217 => ?_) (fun c_1217 => ?_)
  · refine z_iload K dL_law_1222 rfl ?_
    refine j_if_ne (tgt := 1259) K dL_law_1224 rfl (by omega) (fun c_1224 => ?_) (fun c_1224 => ?_)
    · refine z_goto (tgt := 2164) K dL_law_1259 rfl ?_
      exact zW.widen (by omega) (by omega) (nx (ov w' h1) w' (li_end hH1 hc' hJ') _ ⟨rfl, rfl, rfl, rfl, rfl, rfl, trivial⟩)
    · refine z_aload K dL_law_1227 rfl rfl ?_
      refine j_iconst K dL_law_1229 ?_
      refine z_dald K ((ov_out (by omega)).trans e39) vp0 dL_law_1230 ?_
      rw [tnc0, hf (by omega)]
      refine z_dload K dL_law_1231 rfl ?_
      refine z_dcmp K dL_law_1233 ?_
      refine z_if_eq (tgt := 1259) K dL_law_1234 rfl (fun c_1234 => ?_) (fun c_1234 => ?_)
      · refine z_goto (tgt := 2164) K dL_law_1259 rfl ?_
        exact zW.widen (by omega) (by omega) (nx (ov w' h1) w' (li_end hH1 hc' hJ') _ ⟨rfl, rfl, rfl, rfl, rfl, rfl, trivial⟩)
      refine z_aload K dL_law_1237 rfl rfl ?_
      refine j_iconst K dL_law_1239 ?_
      refine z_dald K ((ov_out (by omega)).trans e39) vp0 dL_law_1240 ?_
      rw [tnc0, hf (by omega)]
      refine z_aload K dL_law_1241 rfl rfl ?_
      refine j_iconst K dL_law_1243 ?_
      refine z_dald K ((ov_out (by omega)).trans e39) vp0 dL_law_1244 ?_
      rw [tnc0, hf (by omega)]
      refine z_dcmp K dL_law_1245 ?_
      refine z_if_eq (tgt := 1257) K dL_law_1246 rfl (fun c_1246 => absurd c_1246 c_1234) (fun c_1246 => ?_)
      refine z_dload K dL_law_1249 rfl ?_
      refine z_dload K dL_law_1251 rfl ?_
      refine z_dcmp K dL_law_1253 ?_
      refine z_if_ne (tgt := 1259) K dL_law_1254 rfl (fun c_1254 => ?_) (fun c_1254 => absurd c_1254 c_1234)
      refine z_goto (tgt := 2164) K dL_law_1259 rfl ?_
      exact zW.widen (by omega) (by omega) (nx (ov w' h1) w' (li_end hH1 hc' hJ') _ ⟨rfl, rfl, rfl, rfl, rfl, rfl, trivial⟩)
  · exact absurd (by omega) c_1217
theorem lc_16 (K : zK x cL_law 9 (some .boolean) [] 20 694190 6900895 X) (hz : zScr X L xs) (hI : LI L xs h w) (hx : ∀ j : Nat, j < L → i32 (xs j)) (hi : i + 5 ≤ L) (hL : L ≤ 320) (hk : k + 3000 ≤ 694190) (hn : n + 34000 ≤ 6900895) (nx : lNx X Q L xs i k n) : ∀ env, zsub env (lEnv i) → zW X Q h k n 1262 env [] := by
  intro env he
  refine zW.cut he ?_
  obtain ⟨hC, hJ, hH⟩ := id hI
  have hs := hC.S
  have hT := hJ.TI hs
  have hac := hJ.hac hs
  have hA := hJ.ac hs
  have h9 : 0 ≤ w 9 0 ∧ w 9 0 ≤ 1 := by have := hJ.2.2.2.2.2.2.2.2.1; omega
  have h6 := hH.n6
  have hxx := hC.x
  obtain ⟨b, N, u, g, rfl, hG⟩ := id hC
  have kM := x1_pathLength hG hT
  obtain ⟨fs0, hx0⟩ := hxx
  refine z_aload_n K dL_law_1262 rfl rfl rfl ?_
  refine z_callV K kM cV_X0_177_X1 hx0 rfl rfl rfl (by omega) (by omega) (by omega) (Nat.le_of_ble_eq_true rfl) dL_law_1263 (fun q h1 hq => ?_) (fun v h1 hq => ?_)
  · obtain ⟨lo, ⟨_, z, _⟩ | ⟨q9, ci, fs, z, hq9, hcd, hr⟩⟩ := hq
    · cases z
    rcases cdA_c hcd with ⟨rfl, e⟩ | ⟨rfl, e⟩ | ⟨rfl, e⟩ <;> (cases z; exact z_noT hq9 (by decide) rfl)
  obtain ⟨lo, ⟨v9, z, hr⟩ | ⟨_, _, _, z, _⟩⟩ := hq
  rotate_left
  · cases z
  cases z
  have hH1 : LH h1 w := hH.lo lo
  have lkm : h1 1000 = some (.inr (0, tF w)) := (hH1.1 1000 (by omega) (by omega)).trans (tH_this w)
  have kr := tMi.rf (as := []) (w := w) (tw_pathLength hT hac) rfl h1 (fun v w' p => ⟨p, (by obtain ⟨rd, st, pw, _⟩ := p; exact hJ.F pw.2.1 (fun f hf => by have := hf.n; unfold jf at hf; simp; omega))⟩)
  rw [hH1.oe] at kr
  refine z_aload_n K dL_law_1266 rfl rfl rfl ?_
  refine z_callV K (kr) cV_X0_180_X4 (lkm) rfl rfl rfl (by omega) (by omega) (by omega) (Nat.le_of_ble_eq_true rfl) dL_law_1267 (fun q h2 hq => by obtain ⟨_, _, z, -⟩ := hq; cases z) ?_
  rintro v8 h2 ⟨v, w', z, rfl, hR, hJ'⟩
  cases z
  obtain ⟨e3, rfl, hc'⟩ := hr v w' hR
  refine z_icmp_eq (tgt := 2164) K dL_law_1270 rfl (fun _ => ?_) (fun c => absurd rfl c)
  exact zW.widen (by omega) (by omega) (nx (ov w' h1) w' (li_end hH1 hc' hJ') _ ⟨rfl, rfl, rfl, rfl, rfl, rfl, trivial⟩)
theorem lc_17 (K : zK x cL_law 9 (some .boolean) [] 20 694190 6900895 X) (hz : zScr X L xs) (hI : LI L xs h w) (hx : ∀ j : Nat, j < L → i32 (xs j)) (hi : i + 5 ≤ L) (hL : L ≤ 320) (hk : k + 3000 ≤ 694190) (hn : n + 34000 ≤ 6900895) (nx : lNx X Q L xs i k n) : ∀ env, zsub env (lEnv i) → zW X Q h k n 1275 env [] := by
  intro env he
  refine zW.cut he ?_
  obtain ⟨hC, hJ, hH⟩ := id hI
  have hs := hC.S
  have hT := hJ.TI hs
  have hac := hJ.hac hs
  have hA := hJ.ac hs
  have h9 : 0 ≤ w 9 0 ∧ w 9 0 ≤ 1 := by have := hJ.2.2.2.2.2.2.2.2.1; omega
  have h6 := hH.n6
  have hxx := hC.x
  obtain ⟨b, N, u, g, rfl, hG⟩ := id hC
  have kM := x1_path hG hT (hx ((i : Int) + 1).toNat (by omega))
  have kw := lw_path kM hxx h6 hH.2.1
  refine z_aload_n K dL_law_1275 rfl rfl rfl ?_
  refine z_aload_n K dL_law_1276 rfl rfl rfl ?_
  refine z_iload K dL_law_1277 rfl ?_
  refine j_iconst K dL_law_1279 ?_
  refine j_iadd K dL_law_1280 ?_
  refine s_ld K (hz) (by omega) (by omega) dL_law_1281 ?_
  refine z_aload_n K dL_law_1282 rfl rfl rfl ?_
  refine z_cSW (fs := []) K (kw) cS_X0_181 rfl rfl (by omega) (by omega) (by omega) (Nat.le_of_ble_eq_true rfl) dL_law_1283 (fun q h1 hq => by obtain ⟨_, _, z, -⟩ := hq; cases z) ?_
  rintro v9 h1 ⟨kk, f, z, hkk, lo, e38, hr⟩
  cases z
  have hH1 : LH h1 w := li_lo hH lo e38
  have lkm : h1 1000 = some (.inr (0, tF w)) := (hH1.1 1000 (by omega) (by omega)).trans (tH_this w)
  refine z_istore K dL_law_1286 (by decide) rfl ?_
  have kr := tMi.rf (as := [.int (iI (xs ((i : Int) + 1).toNat))]) (tw_path (hx ((i : Int) + 1).toNat (by omega)) hT hac) rfl h1 (fun v w' p => ⟨p, (by obtain ⟨rd, st, pw, _⟩ := p; exact hJ.F pw.2.1 (fun f hf => by have := hf.n; unfold jf at hf; simp; omega))⟩)
  rw [hH1.oe] at kr
  refine z_aload_n K dL_law_1288 rfl rfl rfl ?_
  refine z_aload_n K dL_law_1289 rfl rfl rfl ?_
  refine z_iload K dL_law_1290 rfl ?_
  refine j_iconst K dL_law_1292 ?_
  refine j_iadd K dL_law_1293 ?_
  refine s_ld K (hz) (by omega) (by omega) dL_law_1294 ?_
  refine z_callV K (kr) cV_X0_183_X4 (lkm) rfl rfl rfl (by omega) (by omega) (by omega) (Nat.le_of_ble_eq_true rfl) dL_law_1295 (fun q h2 hq => by obtain ⟨_, _, z, -⟩ := hq; cases z) ?_
  rintro v8 h2 ⟨v, w', z, rfl, hR, hJ'⟩
  cases z
  obtain ⟨e3, hc', hf⟩ := hr v w' hR
  have lkn : ov w' h1 1000 = some (.inr (0, tF w')) := (ov_in (by omega) (by omega)).trans (tH_this w')
  have kt := tMi.bs (as := []) (tw_thrown (w := w')) rfl h1
  refine z_istore K dL_law_1298 (by decide) rfl ?_
  refine z_aload_n K dL_law_1300 rfl rfl rfl ?_
  refine z_callV K (kt) cV_X0_124_X4 (lkn) rfl rfl rfl (by omega) (by omega) (by omega) (Nat.le_of_ble_eq_true rfl) dL_law_1301 (fun q h2 hq => by obtain ⟨_, _, z, -⟩ := hq; cases z) ?_
  rintro v7 h3 ⟨v3, w3, z, eh, ev, ew⟩
  cases z
  rw [ew] at eh
  rw [eh, ev]
  refine z_iload K dL_law_1304 rfl ?_
  refine j_icmp_eq (tgt := 1311) K dL_law_1306 rfl (by omega) (by omega) (fun c_1306 => ?_) (fun c_1306 => ?_)
  · refine z_iload K dL_law_1311 rfl ?_
    refine j_if_ne (tgt := 1328) K dL_law_1313 rfl (by omega) (fun c_1313 => ?_) (fun c_1313 => ?_)
    · refine z_goto (tgt := 2164) K dL_law_1328 rfl ?_
      exact zW.widen (by omega) (by omega) (nx (ov w' h1) w' (li_end hH1 hc' hJ') _ ⟨rfl, rfl, rfl, rfl, rfl, rfl, trivial⟩)
    · refine z_aload_n K dL_law_1316 rfl rfl rfl ?_
      refine j_iconst K dL_law_1317 ?_
      refine z_lald K ((ov_out (by omega)).trans e38) vp0 dL_law_1318 ?_
      rw [tnc0, hf (by omega)]
      refine z_iload K dL_law_1319 rfl ?_
      refine z_i2l K dL_law_1321 ?_
      refine z_lcmp K dL_law_1322 ?_
      rw [lgc_s]
      refine j_if_eq (tgt := 1328) K dL_law_1323 rfl (by omega) (fun c_1323 => ?_) (fun c_1323 => ?_)
      · refine z_goto (tgt := 2164) K dL_law_1328 rfl ?_
        exact zW.widen (by omega) (by omega) (nx (ov w' h1) w' (li_end hH1 hc' hJ') _ ⟨rfl, rfl, rfl, rfl, rfl, rfl, trivial⟩)
      · exact absurd rfl c_1323
  · exact absurd (by omega) c_1306
theorem lc_18 (K : zK x cL_law 9 (some .boolean) [] 20 694190 6900895 X) (hz : zScr X L xs) (hI : LI L xs h w) (hx : ∀ j : Nat, j < L → i32 (xs j)) (hi : i + 5 ≤ L) (hL : L ≤ 320) (hk : k + 3000 ≤ 694190) (hn : n + 34000 ≤ 6900895) (nx : lNx X Q L xs i k n) : ∀ env, zsub env (lEnv i) → zW X Q h k n 1331 env [] := by
  intro env he
  refine zW.cut he ?_
  obtain ⟨hC, hJ, hH⟩ := id hI
  have hs := hC.S
  have hT := hJ.TI hs
  have hac := hJ.hac hs
  have hA := hJ.ac hs
  have h9 : 0 ≤ w 9 0 ∧ w 9 0 ≤ 1 := by have := hJ.2.2.2.2.2.2.2.2.1; omega
  have h6 := hH.n6
  have hxx := hC.x
  obtain ⟨b, N, u, g, rfl, hG⟩ := id hC
  have kM := x1_blocks hG hT
  obtain ⟨fs0, hx0⟩ := hxx
  refine z_aload_n K dL_law_1331 rfl rfl rfl ?_
  refine z_callV K kM cV_X0_184_X1 hx0 rfl rfl rfl (by omega) (by omega) (by omega) (Nat.le_of_ble_eq_true rfl) dL_law_1332 (fun q h1 hq => ?_) (fun v h1 hq => ?_)
  · obtain ⟨lo, ⟨_, z, _⟩ | ⟨q9, ci, fs, z, hq9, hcd, hr⟩⟩ := hq
    · cases z
    rcases cdA_c hcd with ⟨rfl, e⟩ | ⟨rfl, e⟩ | ⟨rfl, e⟩ <;> (cases z; exact z_noT hq9 (by decide) rfl)
  obtain ⟨lo, ⟨v9, z, hr⟩ | ⟨_, _, _, z, _⟩⟩ := hq
  rotate_left
  · cases z
  cases z
  have hH1 : LH h1 w := hH.lo lo
  have lkm : h1 1000 = some (.inr (0, tF w)) := (hH1.1 1000 (by omega) (by omega)).trans (tH_this w)
  have kr := tMi.rf (as := []) (w := w) (tw_blocks hT hac) rfl h1 (fun v w' p => ⟨p, (by obtain ⟨rd, st, pw, _⟩ := p; exact hJ.F pw.2.1 (fun f hf => by have := hf.n; unfold jf at hf; simp; omega))⟩)
  rw [hH1.oe] at kr
  refine z_aload_n K dL_law_1335 rfl rfl rfl ?_
  refine z_callV K (kr) cV_X0_187_X4 (lkm) rfl rfl rfl (by omega) (by omega) (by omega) (Nat.le_of_ble_eq_true rfl) dL_law_1336 (fun q h2 hq => by obtain ⟨_, _, z, -⟩ := hq; cases z) ?_
  rintro v8 h2 ⟨v, w', z, rfl, hR, hJ'⟩
  cases z
  obtain ⟨e3, rfl, hc'⟩ := hr v w' hR
  refine z_icmp_eq (tgt := 2164) K dL_law_1339 rfl (fun _ => ?_) (fun c => absurd rfl c)
  exact zW.widen (by omega) (by omega) (nx (ov w' h1) w' (li_end hH1 hc' hJ') _ ⟨rfl, rfl, rfl, rfl, rfl, rfl, trivial⟩)
theorem lc_19 (K : zK x cL_law 9 (some .boolean) [] 20 694190 6900895 X) (hz : zScr X L xs) (hI : LI L xs h w) (hx : ∀ j : Nat, j < L → i32 (xs j)) (hi : i + 5 ≤ L) (hL : L ≤ 320) (hk : k + 3000 ≤ 694190) (hn : n + 34000 ≤ 6900895) (nx : lNx X Q L xs i k n) : ∀ env, zsub env (lEnv i) → zW X Q h k n 1344 env [] := by
  intro env he
  refine zW.cut he ?_
  obtain ⟨hC, hJ, hH⟩ := id hI
  have hs := hC.S
  have hT := hJ.TI hs
  have hac := hJ.hac hs
  have hA := hJ.ac hs
  have h9 : 0 ≤ w 9 0 ∧ w 9 0 ≤ 1 := by have := hJ.2.2.2.2.2.2.2.2.1; omega
  have h6 := hH.n6
  have hxx := hC.x
  obtain ⟨b, N, u, g, rfl, hG⟩ := id hC
  have kM := x1_blockLength hG hT (hx ((i : Int) + 1).toNat (by omega))
  have kw := lw_blockLength kM hxx h6 hH.2.1
  refine z_aload_n K dL_law_1344 rfl rfl rfl ?_
  refine z_aload_n K dL_law_1345 rfl rfl rfl ?_
  refine z_iload K dL_law_1346 rfl ?_
  refine j_iconst K dL_law_1348 ?_
  refine j_iadd K dL_law_1349 ?_
  refine s_ld K (hz) (by omega) (by omega) dL_law_1350 ?_
  refine z_aload_n K dL_law_1351 rfl rfl rfl ?_
  refine z_cSW (fs := []) K (kw) cS_X0_188 rfl rfl (by omega) (by omega) (by omega) (Nat.le_of_ble_eq_true rfl) dL_law_1352 (fun q h1 hq => by obtain ⟨_, _, z, -⟩ := hq; cases z) ?_
  rintro v9 h1 ⟨kk, f, z, hkk, lo, e38, hr⟩
  cases z
  have hH1 : LH h1 w := li_lo hH lo e38
  have lkm : h1 1000 = some (.inr (0, tF w)) := (hH1.1 1000 (by omega) (by omega)).trans (tH_this w)
  refine z_istore K dL_law_1355 (by decide) rfl ?_
  have kr := tMi.rf (as := [.int (iI (xs ((i : Int) + 1).toNat))]) (tw_blockLength (hx ((i : Int) + 1).toNat (by omega)) hT hac) rfl h1 (fun v w' p => ⟨p, (by obtain ⟨rd, st, pw, _⟩ := p; exact hJ.F pw.2.1 (fun f hf => by have := hf.n; unfold jf at hf; simp; omega))⟩)
  rw [hH1.oe] at kr
  refine z_aload_n K dL_law_1357 rfl rfl rfl ?_
  refine z_aload_n K dL_law_1358 rfl rfl rfl ?_
  refine z_iload K dL_law_1359 rfl ?_
  refine j_iconst K dL_law_1361 ?_
  refine j_iadd K dL_law_1362 ?_
  refine s_ld K (hz) (by omega) (by omega) dL_law_1363 ?_
  refine z_callV K (kr) cV_X0_190_X4 (lkm) rfl rfl rfl (by omega) (by omega) (by omega) (Nat.le_of_ble_eq_true rfl) dL_law_1364 (fun q h2 hq => by obtain ⟨_, _, z, -⟩ := hq; cases z) ?_
  rintro v8 h2 ⟨v, w', z, rfl, hR, hJ'⟩
  cases z
  obtain ⟨e3, hc', hf⟩ := hr v w' hR
  have lkn : ov w' h1 1000 = some (.inr (0, tF w')) := (ov_in (by omega) (by omega)).trans (tH_this w')
  have kt := tMi.bs (as := []) (tw_thrown (w := w')) rfl h1
  refine z_istore K dL_law_1367 (by decide) rfl ?_
  refine z_aload_n K dL_law_1369 rfl rfl rfl ?_
  refine z_callV K (kt) cV_X0_124_X4 (lkn) rfl rfl rfl (by omega) (by omega) (by omega) (Nat.le_of_ble_eq_true rfl) dL_law_1370 (fun q h2 hq => by obtain ⟨_, _, z, -⟩ := hq; cases z) ?_
  rintro v7 h3 ⟨v3, w3, z, eh, ev, ew⟩
  cases z
  rw [ew] at eh
  rw [eh, ev]
  refine z_iload K dL_law_1373 rfl ?_
  refine j_icmp_eq (tgt := 1380) K dL_law_1375 rfl (by omega) (by omega) (fun c_1375 => ?_) (fun c_1375 => ?_)
  · refine z_iload K dL_law_1380 rfl ?_
    refine j_if_ne (tgt := 1397) K dL_law_1382 rfl (by omega) (fun c_1382 => ?_) (fun c_1382 => ?_)
    · refine z_goto (tgt := 2164) K dL_law_1397 rfl ?_
      exact zW.widen (by omega) (by omega) (nx (ov w' h1) w' (li_end hH1 hc' hJ') _ ⟨rfl, rfl, rfl, rfl, rfl, rfl, trivial⟩)
    · refine z_aload_n K dL_law_1385 rfl rfl rfl ?_
      refine j_iconst K dL_law_1386 ?_
      refine z_lald K ((ov_out (by omega)).trans e38) vp0 dL_law_1387 ?_
      rw [tnc0, hf (by omega)]
      refine z_iload K dL_law_1388 rfl ?_
      refine z_i2l K dL_law_1390 ?_
      refine z_lcmp K dL_law_1391 ?_
      rw [lgc_s]
      refine j_if_eq (tgt := 1397) K dL_law_1392 rfl (by omega) (fun c_1392 => ?_) (fun c_1392 => ?_)
      · refine z_goto (tgt := 2164) K dL_law_1397 rfl ?_
        exact zW.widen (by omega) (by omega) (nx (ov w' h1) w' (li_end hH1 hc' hJ') _ ⟨rfl, rfl, rfl, rfl, rfl, rfl, trivial⟩)
      · exact absurd rfl c_1392
  · exact absurd (by omega) c_1375
theorem lc_20 (K : zK x cL_law 9 (some .boolean) [] 20 694190 6900895 X) (hz : zScr X L xs) (hI : LI L xs h w) (hx : ∀ j : Nat, j < L → i32 (xs j)) (hi : i + 5 ≤ L) (hL : L ≤ 320) (hk : k + 3000 ≤ 694190) (hn : n + 34000 ≤ 6900895) (nx : lNx X Q L xs i k n) : ∀ env, zsub env (lEnv i) → zW X Q h k n 1400 env [] := by
  intro env he
  refine zW.cut he ?_
  obtain ⟨hC, hJ, hH⟩ := id hI
  have hs := hC.S
  have hT := hJ.TI hs
  have hac := hJ.hac hs
  have hA := hJ.ac hs
  have h9 : 0 ≤ w 9 0 ∧ w 9 0 ≤ 1 := by have := hJ.2.2.2.2.2.2.2.2.1; omega
  have h6 := hH.n6
  have hxx := hC.x
  obtain ⟨b, N, u, g, rfl, hG⟩ := id hC
  have kM := x1_swap hG hT (hx ((i : Int) + 1).toNat (by omega)) (hx ((i : Int) + 2).toNat (by omega))
  have kw := lw_swap kM hxx h6 hH.2.1
  refine z_aload_n K dL_law_1400 rfl rfl rfl ?_
  refine z_aload_n K dL_law_1401 rfl rfl rfl ?_
  refine z_iload K dL_law_1402 rfl ?_
  refine j_iconst K dL_law_1404 ?_
  refine j_iadd K dL_law_1405 ?_
  refine s_ld K (hz) (by omega) (by omega) dL_law_1406 ?_
  refine z_aload_n K dL_law_1407 rfl rfl rfl ?_
  refine z_iload K dL_law_1408 rfl ?_
  refine j_iconst K dL_law_1410 ?_
  refine j_iadd K dL_law_1411 ?_
  refine s_ld K (hz) (by omega) (by omega) dL_law_1412 ?_
  refine z_aload_n K dL_law_1413 rfl rfl rfl ?_
  refine z_cSW (fs := []) K (kw) cS_X0_191 rfl rfl (by omega) (by omega) (by omega) (Nat.le_of_ble_eq_true rfl) dL_law_1414 (fun q h1 hq => by obtain ⟨_, _, z, -⟩ := hq; cases z) ?_
  rintro v9 h1 ⟨kk, f, z, hkk, lo, e38, hr⟩
  cases z
  have hH1 : LH h1 w := li_lo hH lo e38
  have lkm : h1 1000 = some (.inr (0, tF w)) := (hH1.1 1000 (by omega) (by omega)).trans (tH_this w)
  refine z_istore K dL_law_1417 (by decide) rfl ?_
  have kr := tMi.rfa (as := [.int (iI (xs ((i : Int) + 1).toNat)), .int (iI (xs ((i : Int) + 2).toNat))]) (tw_swap (hx ((i : Int) + 1).toNat (by omega)) (hx ((i : Int) + 2).toNat (by omega)) hT) rfl h1 (fun v w' p => chE_of hJ p)
  rw [hH1.oe] at kr
  refine z_aload_n K dL_law_1419 rfl rfl rfl ?_
  refine z_aload_n K dL_law_1420 rfl rfl rfl ?_
  refine z_iload K dL_law_1421 rfl ?_
  refine j_iconst K dL_law_1423 ?_
  refine j_iadd K dL_law_1424 ?_
  refine s_ld K (hz) (by omega) (by omega) dL_law_1425 ?_
  refine z_aload_n K dL_law_1426 rfl rfl rfl ?_
  refine z_iload K dL_law_1427 rfl ?_
  refine j_iconst K dL_law_1429 ?_
  refine j_iadd K dL_law_1430 ?_
  refine s_ld K (hz) (by omega) (by omega) dL_law_1431 ?_
  refine z_callV K (kr) cV_X0_193_X4 (lkm) rfl rfl rfl (by omega) (by omega) (by omega) (Nat.le_of_ble_eq_true rfl) dL_law_1432 (fun q h2 hq => by obtain ⟨_, _, z, -⟩ := hq; cases z) ?_
  rintro v8 h2 ⟨v, w', z, rfl, hR, hJ'⟩
  cases z
  obtain ⟨e3, hc', hf⟩ := hr v w' hR
  have lkn : ov w' h1 1000 = some (.inr (0, tF w')) := (ov_in (by omega) (by omega)).trans (tH_this w')
  have kt := tMi.bs (as := []) (tw_thrown (w := w')) rfl h1
  refine z_istore K dL_law_1435 (by decide) rfl ?_
  refine z_aload_n K dL_law_1437 rfl rfl rfl ?_
  refine z_callV K (kt) cV_X0_124_X4 (lkn) rfl rfl rfl (by omega) (by omega) (by omega) (Nat.le_of_ble_eq_true rfl) dL_law_1438 (fun q h2 hq => by obtain ⟨_, _, z, -⟩ := hq; cases z) ?_
  rintro v7 h3 ⟨v3, w3, z, eh, ev, ew⟩
  cases z
  rw [ew] at eh
  rw [eh, ev]
  refine z_iload K dL_law_1441 rfl ?_
  refine j_icmp_eq (tgt := 1448) K dL_law_1443 rfl (by omega) (by omega) (fun c_1443 => ?_) (fun c_1443 => ?_)
  · refine z_iload K dL_law_1448 rfl ?_
    refine j_if_ne (tgt := 1465) K dL_law_1450 rfl (by omega) (fun c_1450 => ?_) (fun c_1450 => ?_)
    · refine z_goto (tgt := 2164) K dL_law_1465 rfl ?_
      exact zW.widen (by omega) (by omega) (nx (ov w' h1) w' (li_end hH1 hc' hJ') _ ⟨rfl, rfl, rfl, rfl, rfl, rfl, trivial⟩)
    · refine z_aload_n K dL_law_1453 rfl rfl rfl ?_
      refine j_iconst K dL_law_1454 ?_
      refine z_lald K ((ov_out (by omega)).trans e38) vp0 dL_law_1455 ?_
      rw [tnc0, hf (by omega)]
      refine z_iload K dL_law_1456 rfl ?_
      refine z_i2l K dL_law_1458 ?_
      refine z_lcmp K dL_law_1459 ?_
      rw [lgc_s]
      refine j_if_eq (tgt := 1465) K dL_law_1460 rfl (by omega) (fun c_1460 => ?_) (fun c_1460 => ?_)
      · refine z_goto (tgt := 2164) K dL_law_1465 rfl ?_
        exact zW.widen (by omega) (by omega) (nx (ov w' h1) w' (li_end hH1 hc' hJ') _ ⟨rfl, rfl, rfl, rfl, rfl, rfl, trivial⟩)
      · exact absurd rfl c_1460
  · exact absurd (by omega) c_1443
theorem lc_21 (K : zK x cL_law 9 (some .boolean) [] 20 694190 6900895 X) (hz : zScr X L xs) (hI : LI L xs h w) (hx : ∀ j : Nat, j < L → i32 (xs j)) (hi : i + 5 ≤ L) (hL : L ≤ 320) (hk : k + 3000 ≤ 694190) (hn : n + 34000 ≤ 6900895) (nx : lNx X Q L xs i k n) : ∀ env, zsub env (lEnv i) → zW X Q h k n 1468 env [] := by
  intro env he
  refine zW.cut he ?_
  obtain ⟨hC, hJ, hH⟩ := id hI
  have hs := hC.S
  have hT := hJ.TI hs
  have hac := hJ.hac hs
  have hA := hJ.ac hs
  have h9 : 0 ≤ w 9 0 ∧ w 9 0 ≤ 1 := by have := hJ.2.2.2.2.2.2.2.2.1; omega
  have h6 := hH.n6
  have hxx := hC.x
  obtain ⟨b, N, u, g, rfl, hG⟩ := id hC
  have kM := x1_move hG hT (hx ((i : Int) + 1).toNat (by omega)) (hx ((i : Int) + 2).toNat (by omega))
  have kw := lw_move kM hxx h6 hH.2.1
  refine z_aload_n K dL_law_1468 rfl rfl rfl ?_
  refine z_aload_n K dL_law_1469 rfl rfl rfl ?_
  refine z_iload K dL_law_1470 rfl ?_
  refine j_iconst K dL_law_1472 ?_
  refine j_iadd K dL_law_1473 ?_
  refine s_ld K (hz) (by omega) (by omega) dL_law_1474 ?_
  refine z_aload_n K dL_law_1475 rfl rfl rfl ?_
  refine z_iload K dL_law_1476 rfl ?_
  refine j_iconst K dL_law_1478 ?_
  refine j_iadd K dL_law_1479 ?_
  refine s_ld K (hz) (by omega) (by omega) dL_law_1480 ?_
  refine z_aload_n K dL_law_1481 rfl rfl rfl ?_
  refine z_cSW (fs := []) K (kw) cS_X0_194 rfl rfl (by omega) (by omega) (by omega) (Nat.le_of_ble_eq_true rfl) dL_law_1482 (fun q h1 hq => by obtain ⟨_, _, z, -⟩ := hq; cases z) ?_
  rintro v9 h1 ⟨kk, f, z, hkk, lo, e38, hr⟩
  cases z
  have hH1 : LH h1 w := li_lo hH lo e38
  have lkm : h1 1000 = some (.inr (0, tF w)) := (hH1.1 1000 (by omega) (by omega)).trans (tH_this w)
  refine z_istore K dL_law_1485 (by decide) rfl ?_
  have kr := tMi.rfa (as := [.int (iI (xs ((i : Int) + 1).toNat)), .int (iI (xs ((i : Int) + 2).toNat))]) (tw_move (hx ((i : Int) + 1).toNat (by omega)) (hx ((i : Int) + 2).toNat (by omega)) hT) rfl h1 (fun v w' p => chE_of hJ p)
  rw [hH1.oe] at kr
  refine z_aload_n K dL_law_1487 rfl rfl rfl ?_
  refine z_aload_n K dL_law_1488 rfl rfl rfl ?_
  refine z_iload K dL_law_1489 rfl ?_
  refine j_iconst K dL_law_1491 ?_
  refine j_iadd K dL_law_1492 ?_
  refine s_ld K (hz) (by omega) (by omega) dL_law_1493 ?_
  refine z_aload_n K dL_law_1494 rfl rfl rfl ?_
  refine z_iload K dL_law_1495 rfl ?_
  refine j_iconst K dL_law_1497 ?_
  refine j_iadd K dL_law_1498 ?_
  refine s_ld K (hz) (by omega) (by omega) dL_law_1499 ?_
  refine z_callV K (kr) cV_X0_196_X4 (lkm) rfl rfl rfl (by omega) (by omega) (by omega) (Nat.le_of_ble_eq_true rfl) dL_law_1500 (fun q h2 hq => by obtain ⟨_, _, z, -⟩ := hq; cases z) ?_
  rintro v8 h2 ⟨v, w', z, rfl, hR, hJ'⟩
  cases z
  obtain ⟨e3, hc', hf⟩ := hr v w' hR
  have lkn : ov w' h1 1000 = some (.inr (0, tF w')) := (ov_in (by omega) (by omega)).trans (tH_this w')
  have kt := tMi.bs (as := []) (tw_thrown (w := w')) rfl h1
  refine z_istore K dL_law_1503 (by decide) rfl ?_
  refine z_aload_n K dL_law_1505 rfl rfl rfl ?_
  refine z_callV K (kt) cV_X0_124_X4 (lkn) rfl rfl rfl (by omega) (by omega) (by omega) (Nat.le_of_ble_eq_true rfl) dL_law_1506 (fun q h2 hq => by obtain ⟨_, _, z, -⟩ := hq; cases z) ?_
  rintro v7 h3 ⟨v3, w3, z, eh, ev, ew⟩
  cases z
  rw [ew] at eh
  rw [eh, ev]
  refine z_iload K dL_law_1509 rfl ?_
  refine j_icmp_eq (tgt := 1516) K dL_law_1511 rfl (by omega) (by omega) (fun c_1511 => ?_) (fun c_1511 => ?_)
  · refine z_iload K dL_law_1516 rfl ?_
    refine j_if_ne (tgt := 1533) K dL_law_1518 rfl (by omega) (fun c_1518 => ?_) (fun c_1518 => ?_)
    · refine z_goto (tgt := 2164) K dL_law_1533 rfl ?_
      exact zW.widen (by omega) (by omega) (nx (ov w' h1) w' (li_end hH1 hc' hJ') _ ⟨rfl, rfl, rfl, rfl, rfl, rfl, trivial⟩)
    · refine z_aload_n K dL_law_1521 rfl rfl rfl ?_
      refine j_iconst K dL_law_1522 ?_
      refine z_lald K ((ov_out (by omega)).trans e38) vp0 dL_law_1523 ?_
      rw [tnc0, hf (by omega)]
      refine z_iload K dL_law_1524 rfl ?_
      refine z_i2l K dL_law_1526 ?_
      refine z_lcmp K dL_law_1527 ?_
      rw [lgc_s]
      refine j_if_eq (tgt := 1533) K dL_law_1528 rfl (by omega) (fun c_1528 => ?_) (fun c_1528 => ?_)
      · refine z_goto (tgt := 2164) K dL_law_1533 rfl ?_
        exact zW.widen (by omega) (by omega) (nx (ov w' h1) w' (li_end hH1 hc' hJ') _ ⟨rfl, rfl, rfl, rfl, rfl, rfl, trivial⟩)
      · exact absurd rfl c_1528
  · exact absurd (by omega) c_1511
theorem lc_22 (K : zK x cL_law 9 (some .boolean) [] 20 694190 6900895 X) (hz : zScr X L xs) (hI : LI L xs h w) (hx : ∀ j : Nat, j < L → i32 (xs j)) (hi : i + 5 ≤ L) (hL : L ≤ 320) (hk : k + 3000 ≤ 694190) (hn : n + 34000 ≤ 6900895) (nx : lNx X Q L xs i k n) : ∀ env, zsub env (lEnv i) → zW X Q h k n 1536 env [] := by
  intro env he
  refine zW.cut he ?_
  obtain ⟨hC, hJ, hH⟩ := id hI
  have hs := hC.S
  have hT := hJ.TI hs
  have hac := hJ.hac hs
  have hA := hJ.ac hs
  have h9 : 0 ≤ w 9 0 ∧ w 9 0 ≤ 1 := by have := hJ.2.2.2.2.2.2.2.2.1; omega
  have h6 := hH.n6
  have hxx := hC.x
  obtain ⟨b, N, u, g, rfl, hG⟩ := id hC
  have kM := x1_dispatch hG hT (hx ((i : Int) + 1).toNat (by omega))
  have kw := lw_dispatch kM hxx h6 hH.2.1
  refine z_aload_n K dL_law_1536 rfl rfl rfl ?_
  refine z_aload_n K dL_law_1537 rfl rfl rfl ?_
  refine z_iload K dL_law_1538 rfl ?_
  refine j_iconst K dL_law_1540 ?_
  refine j_iadd K dL_law_1541 ?_
  refine s_ld K (hz) (by omega) (by omega) dL_law_1542 ?_
  refine z_aload_n K dL_law_1543 rfl rfl rfl ?_
  refine z_cSW (fs := []) K (kw) cS_X0_197 rfl rfl (by omega) (by omega) (by omega) (Nat.le_of_ble_eq_true rfl) dL_law_1544 (fun q h1 hq => by obtain ⟨_, _, z, -⟩ := hq; cases z) ?_
  rintro v9 h1 ⟨kk, f, z, hkk, lo, e38, hr⟩
  cases z
  have hH1 : LH h1 w := li_lo hH lo e38
  have lkm : h1 1000 = some (.inr (0, tF w)) := (hH1.1 1000 (by omega) (by omega)).trans (tH_this w)
  refine z_istore K dL_law_1547 (by decide) rfl ?_
  have kr := tMi.rf (as := [.int (iI (xs ((i : Int) + 1).toNat))]) (tw_dispatch (hx ((i : Int) + 1).toNat (by omega)) hT) rfl h1 (fun v w' p => ⟨p, hJ.pubQ (fun v w' c => by obtain ⟨rd, st, _, _, fr, _⟩ := c; exact hJ.F fr (fun f hf => by have := hf.n; unfold jf at hf; simp; omega)) p⟩)
  rw [hH1.oe] at kr
  refine z_aload_n K dL_law_1549 rfl rfl rfl ?_
  refine z_aload_n K dL_law_1550 rfl rfl rfl ?_
  refine z_iload K dL_law_1551 rfl ?_
  refine j_iconst K dL_law_1553 ?_
  refine j_iadd K dL_law_1554 ?_
  refine s_ld K (hz) (by omega) (by omega) dL_law_1555 ?_
  refine z_callV K (kr) cV_X0_199_X4 (lkm) rfl rfl rfl (by omega) (by omega) (by omega) (Nat.le_of_ble_eq_true rfl) dL_law_1556 (fun q h2 hq => by obtain ⟨_, _, z, -⟩ := hq; cases z) ?_
  rintro v8 h2 ⟨v, w', z, rfl, hR, hJ'⟩
  cases z
  obtain ⟨e3, hc', hf⟩ := hr v w' hR
  have lkn : ov w' h1 1000 = some (.inr (0, tF w')) := (ov_in (by omega) (by omega)).trans (tH_this w')
  have kt := tMi.bs (as := []) (tw_thrown (w := w')) rfl h1
  refine z_istore K dL_law_1559 (by decide) rfl ?_
  refine z_aload_n K dL_law_1561 rfl rfl rfl ?_
  refine z_callV K (kt) cV_X0_124_X4 (lkn) rfl rfl rfl (by omega) (by omega) (by omega) (Nat.le_of_ble_eq_true rfl) dL_law_1562 (fun q h2 hq => by obtain ⟨_, _, z, -⟩ := hq; cases z) ?_
  rintro v7 h3 ⟨v3, w3, z, eh, ev, ew⟩
  cases z
  rw [ew] at eh
  rw [eh, ev]
  refine z_iload K dL_law_1565 rfl ?_
  refine j_icmp_eq (tgt := 1572) K dL_law_1567 rfl (by omega) (by omega) (fun c_1567 => ?_) (fun c_1567 => ?_)
  · refine z_iload K dL_law_1572 rfl ?_
    refine j_if_ne (tgt := 1589) K dL_law_1574 rfl (by omega) (fun c_1574 => ?_) (fun c_1574 => ?_)
    · refine z_goto (tgt := 2164) K dL_law_1589 rfl ?_
      exact zW.widen (by omega) (by omega) (nx (ov w' h1) w' (li_end hH1 hc' hJ') _ ⟨rfl, rfl, rfl, rfl, rfl, rfl, trivial⟩)
    · refine z_aload_n K dL_law_1577 rfl rfl rfl ?_
      refine j_iconst K dL_law_1578 ?_
      refine z_lald K ((ov_out (by omega)).trans e38) vp0 dL_law_1579 ?_
      rw [tnc0, hf (by omega)]
      refine z_iload K dL_law_1580 rfl ?_
      refine z_i2l K dL_law_1582 ?_
      refine z_lcmp K dL_law_1583 ?_
      rw [lgc_s]
      refine j_if_eq (tgt := 1589) K dL_law_1584 rfl (by omega) (fun c_1584 => ?_) (fun c_1584 => ?_)
      · refine z_goto (tgt := 2164) K dL_law_1589 rfl ?_
        exact zW.widen (by omega) (by omega) (nx (ov w' h1) w' (li_end hH1 hc' hJ') _ ⟨rfl, rfl, rfl, rfl, rfl, rfl, trivial⟩)
      · exact absurd rfl c_1584
  · exact absurd (by omega) c_1567
theorem lc_23 (K : zK x cL_law 9 (some .boolean) [] 20 694190 6900895 X) (hz : zScr X L xs) (hI : LI L xs h w) (hx : ∀ j : Nat, j < L → i32 (xs j)) (hi : i + 5 ≤ L) (hL : L ≤ 320) (hk : k + 3000 ≤ 694190) (hn : n + 34000 ≤ 6900895) (nx : lNx X Q L xs i k n) : ∀ env, zsub env (lEnv i) → zW X Q h k n 1592 env [] := by
  intro env he
  refine zW.cut he ?_
  obtain ⟨hC, hJ, hH⟩ := id hI
  have hs := hC.S
  have hT := hJ.TI hs
  have hac := hJ.hac hs
  have hA := hJ.ac hs
  have h9 : 0 ≤ w 9 0 ∧ w 9 0 ≤ 1 := by have := hJ.2.2.2.2.2.2.2.2.1; omega
  have h6 := hH.n6
  have hxx := hC.x
  obtain ⟨b, N, u, g, rfl, hG⟩ := id hC
  have kM := x1_repair hG hT (hx ((i : Int) + 1).toNat (by omega)) (hx ((i : Int) + 2).toNat (by omega))
  have kw := lw_repair kM hxx h6 hH.2.1
  refine z_aload_n K dL_law_1592 rfl rfl rfl ?_
  refine z_aload_n K dL_law_1593 rfl rfl rfl ?_
  refine z_iload K dL_law_1594 rfl ?_
  refine j_iconst K dL_law_1596 ?_
  refine j_iadd K dL_law_1597 ?_
  refine s_ld K (hz) (by omega) (by omega) dL_law_1598 ?_
  refine z_aload_n K dL_law_1599 rfl rfl rfl ?_
  refine z_iload K dL_law_1600 rfl ?_
  refine j_iconst K dL_law_1602 ?_
  refine j_iadd K dL_law_1603 ?_
  refine s_ld K (hz) (by omega) (by omega) dL_law_1604 ?_
  refine z_aload_n K dL_law_1605 rfl rfl rfl ?_
  refine z_cSW (fs := []) K (kw) cS_X0_200 rfl rfl (by omega) (by omega) (by omega) (Nat.le_of_ble_eq_true rfl) dL_law_1606 (fun q h1 hq => by obtain ⟨_, _, z, -⟩ := hq; cases z) ?_
  rintro v9 h1 ⟨kk, f, z, hkk, lo, e38, hr⟩
  cases z
  have hH1 : LH h1 w := li_lo hH lo e38
  have lkm : h1 1000 = some (.inr (0, tF w)) := (hH1.1 1000 (by omega) (by omega)).trans (tH_this w)
  refine z_istore K dL_law_1609 (by decide) rfl ?_
  have kr := tMi.rf (as := [.int (iI (xs ((i : Int) + 1).toNat)), .int (iI (xs ((i : Int) + 2).toNat))]) (tw_repair (hx ((i : Int) + 1).toNat (by omega)) (hx ((i : Int) + 2).toNat (by omega)) hT hac) rfl h1 (fun v w' p => ⟨p, hJ.pubQ (fun v w' c => by obtain ⟨_, _, _, _, _, _, _, rd, st, _, _, fr, _⟩ := c; exact hJ.F fr (fun f hf => by have := hf.n; unfold jf at hf; simp; omega)) p⟩)
  rw [hH1.oe] at kr
  refine z_aload_n K dL_law_1611 rfl rfl rfl ?_
  refine z_aload_n K dL_law_1612 rfl rfl rfl ?_
  refine z_iload K dL_law_1613 rfl ?_
  refine j_iconst K dL_law_1615 ?_
  refine j_iadd K dL_law_1616 ?_
  refine s_ld K (hz) (by omega) (by omega) dL_law_1617 ?_
  refine z_aload_n K dL_law_1618 rfl rfl rfl ?_
  refine z_iload K dL_law_1619 rfl ?_
  refine j_iconst K dL_law_1621 ?_
  refine j_iadd K dL_law_1622 ?_
  refine s_ld K (hz) (by omega) (by omega) dL_law_1623 ?_
  refine z_callV K (kr) cV_X0_202_X4 (lkm) rfl rfl rfl (by omega) (by omega) (by omega) (Nat.le_of_ble_eq_true rfl) dL_law_1624 (fun q h2 hq => by obtain ⟨_, _, z, -⟩ := hq; cases z) ?_
  rintro v8 h2 ⟨v, w', z, rfl, hR, hJ'⟩
  cases z
  obtain ⟨e3, hc', hf⟩ := hr v w' hR
  have lkn : ov w' h1 1000 = some (.inr (0, tF w')) := (ov_in (by omega) (by omega)).trans (tH_this w')
  have kt := tMi.bs (as := []) (tw_thrown (w := w')) rfl h1
  refine z_istore K dL_law_1627 (by decide) rfl ?_
  refine z_aload_n K dL_law_1629 rfl rfl rfl ?_
  refine z_callV K (kt) cV_X0_124_X4 (lkn) rfl rfl rfl (by omega) (by omega) (by omega) (Nat.le_of_ble_eq_true rfl) dL_law_1630 (fun q h2 hq => by obtain ⟨_, _, z, -⟩ := hq; cases z) ?_
  rintro v7 h3 ⟨v3, w3, z, eh, ev, ew⟩
  cases z
  rw [ew] at eh
  rw [eh, ev]
  refine z_iload K dL_law_1633 rfl ?_
  refine j_icmp_eq (tgt := 1640) K dL_law_1635 rfl (by omega) (by omega) (fun c_1635 => ?_) (fun c_1635 => ?_)
  · refine z_iload K dL_law_1640 rfl ?_
    refine j_if_ne (tgt := 1657) K dL_law_1642 rfl (by omega) (fun c_1642 => ?_) (fun c_1642 => ?_)
    · refine z_goto (tgt := 2164) K dL_law_1657 rfl ?_
      exact zW.widen (by omega) (by omega) (nx (ov w' h1) w' (li_end hH1 hc' hJ') _ ⟨rfl, rfl, rfl, rfl, rfl, rfl, trivial⟩)
    · refine z_aload_n K dL_law_1645 rfl rfl rfl ?_
      refine j_iconst K dL_law_1646 ?_
      refine z_lald K ((ov_out (by omega)).trans e38) vp0 dL_law_1647 ?_
      rw [tnc0, hf (by omega)]
      refine z_iload K dL_law_1648 rfl ?_
      refine z_i2l K dL_law_1650 ?_
      refine z_lcmp K dL_law_1651 ?_
      rw [lgc_s]
      refine j_if_eq (tgt := 1657) K dL_law_1652 rfl (by omega) (fun c_1652 => ?_) (fun c_1652 => ?_)
      · refine z_goto (tgt := 2164) K dL_law_1657 rfl ?_
        exact zW.widen (by omega) (by omega) (nx (ov w' h1) w' (li_end hH1 hc' hJ') _ ⟨rfl, rfl, rfl, rfl, rfl, rfl, trivial⟩)
      · exact absurd rfl c_1652
  · exact absurd (by omega) c_1635
theorem lc_24 (K : zK x cL_law 9 (some .boolean) [] 20 694190 6900895 X) (hz : zScr X L xs) (hI : LI L xs h w) (hx : ∀ j : Nat, j < L → i32 (xs j)) (hi : i + 5 ≤ L) (hL : L ≤ 320) (hk : k + 3000 ≤ 694190) (hn : n + 34000 ≤ 6900895) (nx : lNx X Q L xs i k n) : ∀ env, zsub env (lEnv i) → zW X Q h k n 1660 env [] := by
  intro env he
  refine zW.cut he ?_
  obtain ⟨hC, hJ, hH⟩ := id hI
  have hs := hC.S
  have hT := hJ.TI hs
  have hac := hJ.hac hs
  have hA := hJ.ac hs
  have h9 : 0 ≤ w 9 0 ∧ w 9 0 ≤ 1 := by have := hJ.2.2.2.2.2.2.2.2.1; omega
  have h6 := hH.n6
  have hxx := hC.x
  obtain ⟨b, N, u, g, rfl, hG⟩ := id hC
  have kM := x1_best hG hT (hx ((i : Int) + 1).toNat (by omega))
  have kw := lw_best kM hxx h6 hH.2.1
  refine z_aload_n K dL_law_1660 rfl rfl rfl ?_
  refine z_aload_n K dL_law_1661 rfl rfl rfl ?_
  refine z_iload K dL_law_1662 rfl ?_
  refine j_iconst K dL_law_1664 ?_
  refine j_iadd K dL_law_1665 ?_
  refine s_ld K (hz) (by omega) (by omega) dL_law_1666 ?_
  refine z_aload_n K dL_law_1667 rfl rfl rfl ?_
  refine z_cSW (fs := []) K (kw) cS_X0_203 rfl rfl (by omega) (by omega) (by omega) (Nat.le_of_ble_eq_true rfl) dL_law_1668 (fun q h1 hq => by obtain ⟨_, _, z, -⟩ := hq; cases z) ?_
  rintro v9 h1 ⟨kk, f, z, hkk, lo, e38, hr⟩
  cases z
  have hH1 : LH h1 w := li_lo hH lo e38
  have lkm : h1 1000 = some (.inr (0, tF w)) := (hH1.1 1000 (by omega) (by omega)).trans (tH_this w)
  refine z_istore K dL_law_1671 (by decide) rfl ?_
  have kr := tMi.rf (as := [.int (iI (xs ((i : Int) + 1).toNat))]) (tw_best (hx ((i : Int) + 1).toNat (by omega)) hT) rfl h1 (fun v w' p => ⟨p, hJ.pubQ (fun v w' c => by obtain ⟨bo, _, fr, _⟩ := c; exact hJ.F fr (fun f hf => by have := hf.n; unfold jf at hf; simp; omega)) p⟩)
  rw [hH1.oe] at kr
  refine z_aload_n K dL_law_1673 rfl rfl rfl ?_
  refine z_aload_n K dL_law_1674 rfl rfl rfl ?_
  refine z_iload K dL_law_1675 rfl ?_
  refine j_iconst K dL_law_1677 ?_
  refine j_iadd K dL_law_1678 ?_
  refine s_ld K (hz) (by omega) (by omega) dL_law_1679 ?_
  refine z_callV K (kr) cV_X0_205_X4 (lkm) rfl rfl rfl (by omega) (by omega) (by omega) (Nat.le_of_ble_eq_true rfl) dL_law_1680 (fun q h2 hq => by obtain ⟨_, _, z, -⟩ := hq; cases z) ?_
  rintro v8 h2 ⟨v, w', z, rfl, hR, hJ'⟩
  cases z
  obtain ⟨e3, hc', hf⟩ := hr v w' hR
  have lkn : ov w' h1 1000 = some (.inr (0, tF w')) := (ov_in (by omega) (by omega)).trans (tH_this w')
  have kt := tMi.bs (as := []) (tw_thrown (w := w')) rfl h1
  refine z_istore K dL_law_1683 (by decide) rfl ?_
  refine z_aload_n K dL_law_1685 rfl rfl rfl ?_
  refine z_callV K (kt) cV_X0_124_X4 (lkn) rfl rfl rfl (by omega) (by omega) (by omega) (Nat.le_of_ble_eq_true rfl) dL_law_1686 (fun q h2 hq => by obtain ⟨_, _, z, -⟩ := hq; cases z) ?_
  rintro v7 h3 ⟨v3, w3, z, eh, ev, ew⟩
  cases z
  rw [ew] at eh
  rw [eh, ev]
  refine z_iload K dL_law_1689 rfl ?_
  refine j_icmp_eq (tgt := 1696) K dL_law_1691 rfl (by omega) (by omega) (fun c_1691 => ?_) (fun c_1691 => ?_)
  · refine z_iload K dL_law_1696 rfl ?_
    refine j_if_ne (tgt := 1713) K dL_law_1698 rfl (by omega) (fun c_1698 => ?_) (fun c_1698 => ?_)
    · refine z_goto (tgt := 2164) K dL_law_1713 rfl ?_
      exact zW.widen (by omega) (by omega) (nx (ov w' h1) w' (li_end hH1 hc' hJ') _ ⟨rfl, rfl, rfl, rfl, rfl, rfl, trivial⟩)
    · refine z_aload_n K dL_law_1701 rfl rfl rfl ?_
      refine j_iconst K dL_law_1702 ?_
      refine z_lald K ((ov_out (by omega)).trans e38) vp0 dL_law_1703 ?_
      rw [tnc0, hf (by omega)]
      refine z_iload K dL_law_1704 rfl ?_
      refine z_i2l K dL_law_1706 ?_
      refine z_lcmp K dL_law_1707 ?_
      rw [lgc_s]
      refine j_if_eq (tgt := 1713) K dL_law_1708 rfl (by omega) (fun c_1708 => ?_) (fun c_1708 => ?_)
      · refine z_goto (tgt := 2164) K dL_law_1713 rfl ?_
        exact zW.widen (by omega) (by omega) (nx (ov w' h1) w' (li_end hH1 hc' hJ') _ ⟨rfl, rfl, rfl, rfl, rfl, rfl, trivial⟩)
      · exact absurd rfl c_1708
  · exact absurd (by omega) c_1691
theorem lc_25 (K : zK x cL_law 9 (some .boolean) [] 20 694190 6900895 X) (hz : zScr X L xs) (hI : LI L xs h w) (hx : ∀ j : Nat, j < L → i32 (xs j)) (hi : i + 5 ≤ L) (hL : L ≤ 320) (hk : k + 3000 ≤ 694190) (hn : n + 34000 ≤ 6900895) (nx : lNx X Q L xs i k n) : ∀ env, zsub env (lEnv i) → zW X Q h k n 1716 env [] := by
  intro env he
  refine zW.cut he ?_
  obtain ⟨hC, hJ, hH⟩ := id hI
  have hs := hC.S
  have hT := hJ.TI hs
  have hac := hJ.hac hs
  have hA := hJ.ac hs
  have h9 : 0 ≤ w 9 0 ∧ w 9 0 ≤ 1 := by have := hJ.2.2.2.2.2.2.2.2.1; omega
  have h6 := hH.n6
  have hxx := hC.x
  obtain ⟨b, N, u, g, rfl, hG⟩ := id hC
  have kM := x1_reoptimize hG hT (hx ((i : Int) + 1).toNat (by omega))
  have kw := lw_reoptimize kM hxx h6 hH.2.1
  refine z_aload_n K dL_law_1716 rfl rfl rfl ?_
  refine z_aload_n K dL_law_1717 rfl rfl rfl ?_
  refine z_iload K dL_law_1718 rfl ?_
  refine j_iconst K dL_law_1720 ?_
  refine j_iadd K dL_law_1721 ?_
  refine s_ld K (hz) (by omega) (by omega) dL_law_1722 ?_
  refine z_aload_n K dL_law_1723 rfl rfl rfl ?_
  refine z_cSW (fs := []) K (kw) cS_X0_206 rfl rfl (by omega) (by omega) (by omega) (Nat.le_of_ble_eq_true rfl) dL_law_1724 (fun q h1 hq => by obtain ⟨_, _, z, -⟩ := hq; cases z) ?_
  rintro v9 h1 ⟨kk, f, z, hkk, lo, e38, hr⟩
  cases z
  have hH1 : LH h1 w := li_lo hH lo e38
  have lkm : h1 1000 = some (.inr (0, tF w)) := (hH1.1 1000 (by omega) (by omega)).trans (tH_this w)
  refine z_istore K dL_law_1727 (by decide) rfl ?_
  have kr := tMi.rf (as := [.int (iI (xs ((i : Int) + 1).toNat))]) (tw_reoptimize (hx ((i : Int) + 1).toNat (by omega)) hT hA) rfl h1 (fun v w' p => ⟨p, hJ.pubQ (fun v w' c => by obtain ⟨bm, bo, _, _, _, fr, _⟩ := c; exact hJ.F fr (fun f hf => by have := hf.n; unfold jf at hf; simp; omega)) p⟩)
  rw [hH1.oe] at kr
  refine z_aload_n K dL_law_1729 rfl rfl rfl ?_
  refine z_aload_n K dL_law_1730 rfl rfl rfl ?_
  refine z_iload K dL_law_1731 rfl ?_
  refine j_iconst K dL_law_1733 ?_
  refine j_iadd K dL_law_1734 ?_
  refine s_ld K (hz) (by omega) (by omega) dL_law_1735 ?_
  refine z_callV K (kr) cV_X0_208_X4 (lkm) rfl rfl rfl (by omega) (by omega) (by omega) (Nat.le_of_ble_eq_true rfl) dL_law_1736 (fun q h2 hq => by obtain ⟨_, _, z, -⟩ := hq; cases z) ?_
  rintro v8 h2 ⟨v, w', z, rfl, hR, hJ'⟩
  cases z
  obtain ⟨e3, hc', hf⟩ := hr v w' hR
  have lkn : ov w' h1 1000 = some (.inr (0, tF w')) := (ov_in (by omega) (by omega)).trans (tH_this w')
  have kt := tMi.bs (as := []) (tw_thrown (w := w')) rfl h1
  refine z_istore K dL_law_1739 (by decide) rfl ?_
  refine z_aload_n K dL_law_1741 rfl rfl rfl ?_
  refine z_callV K (kt) cV_X0_124_X4 (lkn) rfl rfl rfl (by omega) (by omega) (by omega) (Nat.le_of_ble_eq_true rfl) dL_law_1742 (fun q h2 hq => by obtain ⟨_, _, z, -⟩ := hq; cases z) ?_
  rintro v7 h3 ⟨v3, w3, z, eh, ev, ew⟩
  cases z
  rw [ew] at eh
  rw [eh, ev]
  refine z_iload K dL_law_1745 rfl ?_
  refine j_icmp_eq (tgt := 1752) K dL_law_1747 rfl (by omega) (by omega) (fun c_1747 => ?_) (fun c_1747 => ?_)
  · refine z_iload K dL_law_1752 rfl ?_
    refine j_if_ne (tgt := 1769) K dL_law_1754 rfl (by omega) (fun c_1754 => ?_) (fun c_1754 => ?_)
    · refine z_goto (tgt := 2164) K dL_law_1769 rfl ?_
      exact zW.widen (by omega) (by omega) (nx (ov w' h1) w' (li_end hH1 hc' hJ') _ ⟨rfl, rfl, rfl, rfl, rfl, rfl, trivial⟩)
    · refine z_aload_n K dL_law_1757 rfl rfl rfl ?_
      refine j_iconst K dL_law_1758 ?_
      refine z_lald K ((ov_out (by omega)).trans e38) vp0 dL_law_1759 ?_
      rw [tnc0, hf (by omega)]
      refine z_iload K dL_law_1760 rfl ?_
      refine z_i2l K dL_law_1762 ?_
      refine z_lcmp K dL_law_1763 ?_
      rw [lgc_s]
      refine j_if_eq (tgt := 1769) K dL_law_1764 rfl (by omega) (fun c_1764 => ?_) (fun c_1764 => ?_)
      · refine z_goto (tgt := 2164) K dL_law_1769 rfl ?_
        exact zW.widen (by omega) (by omega) (nx (ov w' h1) w' (li_end hH1 hc' hJ') _ ⟨rfl, rfl, rfl, rfl, rfl, rfl, trivial⟩)
      · exact absurd rfl c_1764
  · exact absurd (by omega) c_1747
theorem lc_26 (K : zK x cL_law 9 (some .boolean) [] 20 694190 6900895 X) (hz : zScr X L xs) (hI : LI L xs h w) (hx : ∀ j : Nat, j < L → i32 (xs j)) (hi : i + 5 ≤ L) (hL : L ≤ 320) (hk : k + 3000 ≤ 694190) (hn : n + 34000 ≤ 6900895) (nx : lNx X Q L xs i k n) : ∀ env, zsub env (lEnv i) → zW X Q h k n 1772 env [] := by
  intro env he
  refine zW.cut he ?_
  obtain ⟨hC, hJ, hH⟩ := id hI
  have hs := hC.S
  have hT := hJ.TI hs
  have hac := hJ.hac hs
  have hA := hJ.ac hs
  have h9 : 0 ≤ w 9 0 ∧ w 9 0 ≤ 1 := by have := hJ.2.2.2.2.2.2.2.2.1; omega
  have h6 := hH.n6
  have hxx := hC.x
  obtain ⟨b, N, u, g, rfl, hG⟩ := id hC
  have kM := x1_shiftBottlenecks hG hT hA
  obtain ⟨fs0, hx0⟩ := hxx
  refine z_aload_n K dL_law_1772 rfl rfl rfl ?_
  refine z_callV K kM cV_X0_209_X1 hx0 rfl rfl rfl (by omega) (by omega) (by omega) (Nat.le_of_ble_eq_true rfl) dL_law_1773 (fun q h1 hq => ?_) (fun v h1 hq => ?_)
  · obtain ⟨lo, ⟨_, z, _⟩ | ⟨q9, ci, fs, z, hq9, hcd, hr⟩⟩ := hq
    · cases z
    rcases cdA_c hcd with ⟨rfl, e⟩ | ⟨rfl, e⟩ | ⟨rfl, e⟩ <;> (cases z; exact z_noT hq9 (by decide) rfl)
  obtain ⟨lo, ⟨v9, z, hr⟩ | ⟨_, _, _, z, _⟩⟩ := hq
  rotate_left
  · cases z
  cases z
  have hH1 : LH h1 w := hH.lo lo
  have lkm : h1 1000 = some (.inr (0, tF w)) := (hH1.1 1000 (by omega) (by omega)).trans (tH_this w)
  have kr := tMi.rf (as := []) (w := w) (tw_shiftBottlenecks hT hA) rfl h1 (fun v w' p => ⟨p, hJ.sh p⟩)
  rw [hH1.oe] at kr
  refine z_aload_n K dL_law_1776 rfl rfl rfl ?_
  refine z_callV K (kr) cV_X0_212_X4 (lkm) rfl rfl rfl (by omega) (by omega) (by omega) (Nat.le_of_ble_eq_true rfl) dL_law_1777 (fun q h2 hq => by obtain ⟨_, _, z, -⟩ := hq; cases z) ?_
  rintro v8 h2 ⟨v, w', z, rfl, hR, hJ'⟩
  cases z
  obtain ⟨e3, rfl, hc'⟩ := hr v w' hR
  refine z_icmp_eq (tgt := 2164) K dL_law_1780 rfl (fun _ => ?_) (fun c => absurd rfl c)
  exact zW.widen (by omega) (by omega) (nx (ov w' h1) w' (li_end hH1 hc' hJ') _ ⟨rfl, rfl, rfl, rfl, rfl, rfl, trivial⟩)
theorem lc_27 (K : zK x cL_law 9 (some .boolean) [] 20 694190 6900895 X) (hz : zScr X L xs) (hI : LI L xs h w) (hx : ∀ j : Nat, j < L → i32 (xs j)) (hi : i + 5 ≤ L) (hL : L ≤ 320) (hk : k + 3000 ≤ 694190) (hn : n + 34000 ≤ 6900895) (nx : lNx X Q L xs i k n) : ∀ env, zsub env (lEnv i) → zW X Q h k n 1785 env [] := by
  intro env he
  refine zW.cut he ?_
  obtain ⟨hC, hJ, hH⟩ := id hI
  have hs := hC.S
  have hT := hJ.TI hs
  have hac := hJ.hac hs
  have hA := hJ.ac hs
  have h9 : 0 ≤ w 9 0 ∧ w 9 0 ≤ 1 := by have := hJ.2.2.2.2.2.2.2.2.1; omega
  have h6 := hH.n6
  have hxx := hC.x
  obtain ⟨b, N, u, g, rfl, hG⟩ := id hC
  have kM := x1_bottleneck hG (hx ((i : Int) + 1).toNat (by omega)) hJ.2.2.2.2.2.2.2.2.1
  have kw := lw_bottleneck kM hxx h6 hH.2.1
  refine z_aload_n K dL_law_1785 rfl rfl rfl ?_
  refine z_aload_n K dL_law_1786 rfl rfl rfl ?_
  refine z_iload K dL_law_1787 rfl ?_
  refine j_iconst K dL_law_1789 ?_
  refine j_iadd K dL_law_1790 ?_
  refine s_ld K (hz) (by omega) (by omega) dL_law_1791 ?_
  refine z_aload_n K dL_law_1792 rfl rfl rfl ?_
  refine z_cSW (fs := []) K (kw) cS_X0_213 rfl rfl (by omega) (by omega) (by omega) (Nat.le_of_ble_eq_true rfl) dL_law_1793 (fun q h1 hq => by obtain ⟨_, _, z, -⟩ := hq; cases z) ?_
  rintro v9 h1 ⟨kk, f, z, hkk, lo, e38, hr⟩
  cases z
  have hH1 : LH h1 w := li_lo hH lo e38
  have lkm : h1 1000 = some (.inr (0, tF w)) := (hH1.1 1000 (by omega) (by omega)).trans (tH_this w)
  refine z_istore K dL_law_1796 (by decide) rfl ?_
  have kr := tMi.rf (as := [.int (iI (xs ((i : Int) + 1).toNat))]) (tw_bottleneck (hx ((i : Int) + 1).toNat (by omega)) h9) rfl h1 (fun v w' p => ⟨p, hJ.pubQ (fun v w' ⟨_, e⟩ => by rw [e]; exact hJ.s3) p⟩)
  rw [hH1.oe] at kr
  refine z_aload_n K dL_law_1798 rfl rfl rfl ?_
  refine z_aload_n K dL_law_1799 rfl rfl rfl ?_
  refine z_iload K dL_law_1800 rfl ?_
  refine j_iconst K dL_law_1802 ?_
  refine j_iadd K dL_law_1803 ?_
  refine s_ld K (hz) (by omega) (by omega) dL_law_1804 ?_
  refine z_callV K (kr) cV_X0_215_X4 (lkm) rfl rfl rfl (by omega) (by omega) (by omega) (Nat.le_of_ble_eq_true rfl) dL_law_1805 (fun q h2 hq => by obtain ⟨_, _, z, -⟩ := hq; cases z) ?_
  rintro v8 h2 ⟨v, w', z, rfl, hR, hJ'⟩
  cases z
  obtain ⟨e3, hc', hf⟩ := hr v w' hR
  have lkn : ov w' h1 1000 = some (.inr (0, tF w')) := (ov_in (by omega) (by omega)).trans (tH_this w')
  have kt := tMi.bs (as := []) (tw_thrown (w := w')) rfl h1
  refine z_istore K dL_law_1808 (by decide) rfl ?_
  refine z_aload_n K dL_law_1810 rfl rfl rfl ?_
  refine z_callV K (kt) cV_X0_124_X4 (lkn) rfl rfl rfl (by omega) (by omega) (by omega) (Nat.le_of_ble_eq_true rfl) dL_law_1811 (fun q h2 hq => by obtain ⟨_, _, z, -⟩ := hq; cases z) ?_
  rintro v7 h3 ⟨v3, w3, z, eh, ev, ew⟩
  cases z
  rw [ew] at eh
  rw [eh, ev]
  refine z_iload K dL_law_1814 rfl ?_
  refine j_icmp_eq (tgt := 1821) K dL_law_1816 rfl (by omega) (by omega) (fun c_1816 => ?_) (fun c_1816 => ?_)
  · refine z_iload K dL_law_1821 rfl ?_
    refine j_if_ne (tgt := 1838) K dL_law_1823 rfl (by omega) (fun c_1823 => ?_) (fun c_1823 => ?_)
    · refine z_goto (tgt := 2164) K dL_law_1838 rfl ?_
      exact zW.widen (by omega) (by omega) (nx (ov w' h1) w' (li_end hH1 hc' hJ') _ ⟨rfl, rfl, rfl, rfl, rfl, rfl, trivial⟩)
    · refine z_aload_n K dL_law_1826 rfl rfl rfl ?_
      refine j_iconst K dL_law_1827 ?_
      refine z_lald K ((ov_out (by omega)).trans e38) vp0 dL_law_1828 ?_
      rw [tnc0, hf (by omega)]
      refine z_iload K dL_law_1829 rfl ?_
      refine z_i2l K dL_law_1831 ?_
      refine z_lcmp K dL_law_1832 ?_
      rw [lgc_s]
      refine j_if_eq (tgt := 1838) K dL_law_1833 rfl (by omega) (fun c_1833 => ?_) (fun c_1833 => ?_)
      · refine z_goto (tgt := 2164) K dL_law_1838 rfl ?_
        exact zW.widen (by omega) (by omega) (nx (ov w' h1) w' (li_end hH1 hc' hJ') _ ⟨rfl, rfl, rfl, rfl, rfl, rfl, trivial⟩)
      · exact absurd rfl c_1833
  · exact absurd (by omega) c_1816
theorem lc_28 (K : zK x cL_law 9 (some .boolean) [] 20 694190 6900895 X) (hz : zScr X L xs) (hI : LI L xs h w) (hx : ∀ j : Nat, j < L → i32 (xs j)) (hi : i + 5 ≤ L) (hL : L ≤ 320) (hk : k + 3000 ≤ 694190) (hn : n + 34000 ≤ 6900895) (nx : lNx X Q L xs i k n) : ∀ env, zsub env (lEnv i) → zW X Q h k n 1841 env [] := by
  intro env he
  refine zW.cut he ?_
  obtain ⟨hC, hJ, hH⟩ := id hI
  have hs := hC.S
  have hT := hJ.TI hs
  have hac := hJ.hac hs
  have hA := hJ.ac hs
  have h9 : 0 ≤ w 9 0 ∧ w 9 0 ≤ 1 := by have := hJ.2.2.2.2.2.2.2.2.1; omega
  have h6 := hH.n6
  have hxx := hC.x
  obtain ⟨b, N, u, g, rfl, hG⟩ := id hC
  have kM := x1_tabu hG hT (hx ((i : Int) + 1).toNat (by omega)) (hx ((i : Int) + 2).toNat (by omega))
  have kw := lw_tabu kM hxx h6 hH.2.1
  refine z_aload_n K dL_law_1841 rfl rfl rfl ?_
  refine z_aload_n K dL_law_1842 rfl rfl rfl ?_
  refine z_iload K dL_law_1843 rfl ?_
  refine j_iconst K dL_law_1845 ?_
  refine j_iadd K dL_law_1846 ?_
  refine s_ld K (hz) (by omega) (by omega) dL_law_1847 ?_
  refine z_aload_n K dL_law_1848 rfl rfl rfl ?_
  refine z_iload K dL_law_1849 rfl ?_
  refine j_iconst K dL_law_1851 ?_
  refine j_iadd K dL_law_1852 ?_
  refine s_ld K (hz) (by omega) (by omega) dL_law_1853 ?_
  refine z_aload_n K dL_law_1854 rfl rfl rfl ?_
  refine z_cSW (fs := []) K (kw) cS_X0_216 rfl rfl (by omega) (by omega) (by omega) (Nat.le_of_ble_eq_true rfl) dL_law_1855 (fun q h1 hq => by obtain ⟨_, _, z, -⟩ := hq; cases z) ?_
  rintro v9 h1 ⟨kk, f, z, hkk, lo, e38, hr⟩
  cases z
  have hH1 : LH h1 w := li_lo hH lo e38
  have lkm : h1 1000 = some (.inr (0, tF w)) := (hH1.1 1000 (by omega) (by omega)).trans (tH_this w)
  refine z_istore K dL_law_1858 (by decide) rfl ?_
  have kr := tMi.rf (as := [.int (iI (xs ((i : Int) + 1).toNat)), .int (iI (xs ((i : Int) + 2).toNat))]) (tw_tabu (hx ((i : Int) + 1).toNat (by omega)) (hx ((i : Int) + 2).toNat (by omega)) hT hA) rfl h1 (fun v w' p => ⟨p, hJ.pubQ (fun v w' c => by obtain ⟨_, _, _, _, _, _, _, _, _, _, _, fr, _⟩ := c; exact hJ.F fr (fun f hf => by have := hf.n; unfold jf at hf; simp; omega)) p⟩)
  rw [hH1.oe] at kr
  refine z_aload_n K dL_law_1860 rfl rfl rfl ?_
  refine z_aload_n K dL_law_1861 rfl rfl rfl ?_
  refine z_iload K dL_law_1862 rfl ?_
  refine j_iconst K dL_law_1864 ?_
  refine j_iadd K dL_law_1865 ?_
  refine s_ld K (hz) (by omega) (by omega) dL_law_1866 ?_
  refine z_aload_n K dL_law_1867 rfl rfl rfl ?_
  refine z_iload K dL_law_1868 rfl ?_
  refine j_iconst K dL_law_1870 ?_
  refine j_iadd K dL_law_1871 ?_
  refine s_ld K (hz) (by omega) (by omega) dL_law_1872 ?_
  refine z_callV K (kr) cV_X0_218_X4 (lkm) rfl rfl rfl (by omega) (by omega) (by omega) (Nat.le_of_ble_eq_true rfl) dL_law_1873 (fun q h2 hq => by obtain ⟨_, _, z, -⟩ := hq; cases z) ?_
  rintro v8 h2 ⟨v, w', z, rfl, hR, hJ'⟩
  cases z
  obtain ⟨e3, hc', hf⟩ := hr v w' hR
  have lkn : ov w' h1 1000 = some (.inr (0, tF w')) := (ov_in (by omega) (by omega)).trans (tH_this w')
  have kt := tMi.bs (as := []) (tw_thrown (w := w')) rfl h1
  refine z_istore K dL_law_1876 (by decide) rfl ?_
  refine z_aload_n K dL_law_1878 rfl rfl rfl ?_
  refine z_callV K (kt) cV_X0_124_X4 (lkn) rfl rfl rfl (by omega) (by omega) (by omega) (Nat.le_of_ble_eq_true rfl) dL_law_1879 (fun q h2 hq => by obtain ⟨_, _, z, -⟩ := hq; cases z) ?_
  rintro v7 h3 ⟨v3, w3, z, eh, ev, ew⟩
  cases z
  rw [ew] at eh
  rw [eh, ev]
  refine z_iload K dL_law_1882 rfl ?_
  refine j_icmp_eq (tgt := 1889) K dL_law_1884 rfl (by omega) (by omega) (fun c_1884 => ?_) (fun c_1884 => ?_)
  · refine z_iload K dL_law_1889 rfl ?_
    refine j_if_ne (tgt := 1906) K dL_law_1891 rfl (by omega) (fun c_1891 => ?_) (fun c_1891 => ?_)
    · refine z_goto (tgt := 2164) K dL_law_1906 rfl ?_
      exact zW.widen (by omega) (by omega) (nx (ov w' h1) w' (li_end hH1 hc' hJ') _ ⟨rfl, rfl, rfl, rfl, rfl, rfl, trivial⟩)
    · refine z_aload_n K dL_law_1894 rfl rfl rfl ?_
      refine j_iconst K dL_law_1895 ?_
      refine z_lald K ((ov_out (by omega)).trans e38) vp0 dL_law_1896 ?_
      rw [tnc0, hf (by omega)]
      refine z_iload K dL_law_1897 rfl ?_
      refine z_i2l K dL_law_1899 ?_
      refine z_lcmp K dL_law_1900 ?_
      rw [lgc_s]
      refine j_if_eq (tgt := 1906) K dL_law_1901 rfl (by omega) (fun c_1901 => ?_) (fun c_1901 => ?_)
      · refine z_goto (tgt := 2164) K dL_law_1906 rfl ?_
        exact zW.widen (by omega) (by omega) (nx (ov w' h1) w' (li_end hH1 hc' hJ') _ ⟨rfl, rfl, rfl, rfl, rfl, rfl, trivial⟩)
      · exact absurd rfl c_1901
  · exact absurd (by omega) c_1884
theorem lc_29 (K : zK x cL_law 9 (some .boolean) [] 20 694190 6900895 X) (hz : zScr X L xs) (hI : LI L xs h w) (hx : ∀ j : Nat, j < L → i32 (xs j)) (hi : i + 5 ≤ L) (hL : L ≤ 320) (hk : k + 3000 ≤ 694190) (hn : n + 34000 ≤ 6900895) (nx : lNx X Q L xs i k n) : ∀ env, zsub env (lEnv i) → zW X Q h k n 1909 env [] := by
  intro env he
  refine zW.cut he ?_
  obtain ⟨hC, hJ, hH⟩ := id hI
  have hs := hC.S
  have hT := hJ.TI hs
  have hac := hJ.hac hs
  have hA := hJ.ac hs
  have h9 : 0 ≤ w 9 0 ∧ w 9 0 ≤ 1 := by have := hJ.2.2.2.2.2.2.2.2.1; omega
  have h6 := hH.n6
  have hxx := hC.x
  obtain ⟨b, N, u, g, rfl, hG⟩ := id hC
  have kM := x1_tabuSteps hG trivial
  obtain ⟨fs0, hx0⟩ := hxx
  refine z_aload_n K dL_law_1909 rfl rfl rfl ?_
  refine z_callV K kM cV_X0_219_X1 hx0 rfl rfl rfl (by omega) (by omega) (by omega) (Nat.le_of_ble_eq_true rfl) dL_law_1910 (fun q h1 hq => ?_) (fun v h1 hq => ?_)
  · obtain ⟨lo, ⟨_, z, _⟩ | ⟨q9, ci, fs, z, hq9, hcd, hr⟩⟩ := hq
    · cases z
    rcases cdA_c hcd with ⟨rfl, e⟩ | ⟨rfl, e⟩ | ⟨rfl, e⟩ <;> (cases z; exact z_noT hq9 (by decide) rfl)
  obtain ⟨lo, ⟨v9, z, hr⟩ | ⟨_, _, _, z, _⟩⟩ := hq
  rotate_left
  · cases z
  cases z
  have hH1 : LH h1 w := hH.lo lo
  have lkm : h1 1000 = some (.inr (0, tF w)) := (hH1.1 1000 (by omega) (by omega)).trans (tH_this w)
  have kr := tMi.rf (as := []) (w := w) (tw_tabuSteps ) rfl h1 (fun v w' p => ⟨p, (by rw [p.2]; exact hJ.s3)⟩)
  rw [hH1.oe] at kr
  refine z_aload_n K dL_law_1913 rfl rfl rfl ?_
  refine z_callV K (kr) cV_X0_222_X4 (lkm) rfl rfl rfl (by omega) (by omega) (by omega) (Nat.le_of_ble_eq_true rfl) dL_law_1914 (fun q h2 hq => by obtain ⟨_, _, z, -⟩ := hq; cases z) ?_
  rintro v8 h2 ⟨v, w', z, rfl, hR, hJ'⟩
  cases z
  obtain ⟨e3, rfl, hc'⟩ := hr v w' hR
  refine z_icmp_eq (tgt := 2164) K dL_law_1917 rfl (fun _ => ?_) (fun c => absurd rfl c)
  exact zW.widen (by omega) (by omega) (nx (ov w' h1) w' (li_end hH1 hc' hJ') _ ⟨rfl, rfl, rfl, rfl, rfl, rfl, trivial⟩)
theorem lc_30 (K : zK x cL_law 9 (some .boolean) [] 20 694190 6900895 X) (hz : zScr X L xs) (hI : LI L xs h w) (hx : ∀ j : Nat, j < L → i32 (xs j)) (hi : i + 5 ≤ L) (hL : L ≤ 320) (hk : k + 3000 ≤ 694190) (hn : n + 34000 ≤ 6900895) (nx : lNx X Q L xs i k n) : ∀ env, zsub env (lEnv i) → zW X Q h k n 1922 env [] := by
  intro env he
  refine zW.cut he ?_
  obtain ⟨hC, hJ, hH⟩ := id hI
  have hs := hC.S
  have hT := hJ.TI hs
  have hac := hJ.hac hs
  have hA := hJ.ac hs
  have h9 : 0 ≤ w 9 0 ∧ w 9 0 ≤ 1 := by have := hJ.2.2.2.2.2.2.2.2.1; omega
  have h6 := hH.n6
  have hxx := hC.x
  obtain ⟨b, N, u, g, rfl, hG⟩ := id hC
  have kM := x1_bound hG  (hx ((i : Int) + 1).toNat (by omega))
  have kw := lw_bound kM hxx h6 hH.2.1
  refine z_aload_n K dL_law_1922 rfl rfl rfl ?_
  refine z_aload_n K dL_law_1923 rfl rfl rfl ?_
  refine z_iload K dL_law_1924 rfl ?_
  refine j_iconst K dL_law_1926 ?_
  refine j_iadd K dL_law_1927 ?_
  refine s_ld K (hz) (by omega) (by omega) dL_law_1928 ?_
  refine z_aload_n K dL_law_1929 rfl rfl rfl ?_
  refine z_cSW (fs := []) K (kw) cS_X0_223 rfl rfl (by omega) (by omega) (by omega) (Nat.le_of_ble_eq_true rfl) dL_law_1930 (fun q h1 hq => by obtain ⟨_, _, z, -⟩ := hq; cases z) ?_
  rintro v9 h1 ⟨kk, f, z, hkk, lo, e38, hr⟩
  cases z
  have hH1 : LH h1 w := li_lo hH lo e38
  have lkm : h1 1000 = some (.inr (0, tF w)) := (hH1.1 1000 (by omega) (by omega)).trans (tH_this w)
  refine z_istore K dL_law_1933 (by decide) rfl ?_
  have kr := tMi.rf (as := [.int (iI (xs ((i : Int) + 1).toNat))]) (tw_bound (hx ((i : Int) + 1).toNat (by omega)) hs.1 hs.2.1) rfl h1 (fun v w' p => ⟨p, hJ.pubQ (fun v w' c => by obtain ⟨_, fr, _⟩ := c; exact hJ.F fr (fun f hf => by have := hf.n; unfold jf at hf; simp; omega)) p⟩)
  rw [hH1.oe] at kr
  refine z_aload_n K dL_law_1935 rfl rfl rfl ?_
  refine z_aload_n K dL_law_1936 rfl rfl rfl ?_
  refine z_iload K dL_law_1937 rfl ?_
  refine j_iconst K dL_law_1939 ?_
  refine j_iadd K dL_law_1940 ?_
  refine s_ld K (hz) (by omega) (by omega) dL_law_1941 ?_
  refine z_callV K (kr) cV_X0_225_X4 (lkm) rfl rfl rfl (by omega) (by omega) (by omega) (Nat.le_of_ble_eq_true rfl) dL_law_1942 (fun q h2 hq => by obtain ⟨_, _, z, -⟩ := hq; cases z) ?_
  rintro v8 h2 ⟨v, w', z, rfl, hR, hJ'⟩
  cases z
  obtain ⟨e3, hc', hf⟩ := hr v w' hR
  have lkn : ov w' h1 1000 = some (.inr (0, tF w')) := (ov_in (by omega) (by omega)).trans (tH_this w')
  have kt := tMi.bs (as := []) (tw_thrown (w := w')) rfl h1
  refine z_istore K dL_law_1945 (by decide) rfl ?_
  refine z_aload_n K dL_law_1947 rfl rfl rfl ?_
  refine z_callV K (kt) cV_X0_124_X4 (lkn) rfl rfl rfl (by omega) (by omega) (by omega) (Nat.le_of_ble_eq_true rfl) dL_law_1948 (fun q h2 hq => by obtain ⟨_, _, z, -⟩ := hq; cases z) ?_
  rintro v7 h3 ⟨v3, w3, z, eh, ev, ew⟩
  cases z
  rw [ew] at eh
  rw [eh, ev]
  refine z_iload K dL_law_1951 rfl ?_
  refine j_icmp_eq (tgt := 1958) K dL_law_1953 rfl (by omega) (by omega) (fun c_1953 => ?_) (fun c_1953 => ?_)
  · refine z_iload K dL_law_1958 rfl ?_
    refine j_if_ne (tgt := 1975) K dL_law_1960 rfl (by omega) (fun c_1960 => ?_) (fun c_1960 => ?_)
    · refine z_goto (tgt := 2164) K dL_law_1975 rfl ?_
      exact zW.widen (by omega) (by omega) (nx (ov w' h1) w' (li_end hH1 hc' hJ') _ ⟨rfl, rfl, rfl, rfl, rfl, rfl, trivial⟩)
    · refine z_aload_n K dL_law_1963 rfl rfl rfl ?_
      refine j_iconst K dL_law_1964 ?_
      refine z_lald K ((ov_out (by omega)).trans e38) vp0 dL_law_1965 ?_
      rw [tnc0, hf (by omega)]
      refine z_iload K dL_law_1966 rfl ?_
      refine z_i2l K dL_law_1968 ?_
      refine z_lcmp K dL_law_1969 ?_
      rw [lgc_s]
      refine j_if_eq (tgt := 1975) K dL_law_1970 rfl (by omega) (fun c_1970 => ?_) (fun c_1970 => ?_)
      · refine z_goto (tgt := 2164) K dL_law_1975 rfl ?_
        exact zW.widen (by omega) (by omega) (nx (ov w' h1) w' (li_end hH1 hc' hJ') _ ⟨rfl, rfl, rfl, rfl, rfl, rfl, trivial⟩)
      · exact absurd rfl c_1970
  · exact absurd (by omega) c_1953
theorem lc_31 (K : zK x cL_law 9 (some .boolean) [] 20 694190 6900895 X) (hz : zScr X L xs) (hI : LI L xs h w) (hx : ∀ j : Nat, j < L → i32 (xs j)) (hi : i + 5 ≤ L) (hL : L ≤ 320) (hk : k + 3000 ≤ 694190) (hn : n + 34000 ≤ 6900895) (nx : lNx X Q L xs i k n) : ∀ env, zsub env (lEnv i) → zW X Q h k n 1978 env [] := by
  intro env he
  refine zW.cut he ?_
  obtain ⟨hC, hJ, hH⟩ := id hI
  have hs := hC.S
  have hT := hJ.TI hs
  have hac := hJ.hac hs
  have hA := hJ.ac hs
  have h9 : 0 ≤ w 9 0 ∧ w 9 0 ≤ 1 := by have := hJ.2.2.2.2.2.2.2.2.1; omega
  have h6 := hH.n6
  have hxx := hC.x
  obtain ⟨b, N, u, g, rfl, hG⟩ := id hC
  have kM := x1_lowerBound hG 
  obtain ⟨fs0, hx0⟩ := hxx
  refine z_aload_n K dL_law_1978 rfl rfl rfl ?_
  refine z_callV K kM cV_X0_226_X1 hx0 rfl rfl rfl (by omega) (by omega) (by omega) (Nat.le_of_ble_eq_true rfl) dL_law_1979 (fun q h1 hq => ?_) (fun v h1 hq => ?_)
  · obtain ⟨lo, ⟨_, z, _⟩ | ⟨q9, ci, fs, z, hq9, hcd, hr⟩⟩ := hq
    · cases z
    rcases cdA_c hcd with ⟨rfl, e⟩ | ⟨rfl, e⟩ | ⟨rfl, e⟩ <;> (cases z; exact z_noT hq9 (by decide) rfl)
  obtain ⟨lo, ⟨v9, z, hr⟩ | ⟨_, _, _, z, _⟩⟩ := hq
  rotate_left
  · cases z
  cases z
  have hH1 : LH h1 w := hH.lo lo
  have lkm : h1 1000 = some (.inr (0, tF w)) := (hH1.1 1000 (by omega) (by omega)).trans (tH_this w)
  have kr := tMi.rf (as := []) (w := w) (tw_lowerBound hs.1 hs.2.1) rfl h1 (fun v w' p => ⟨p, (by obtain ⟨_, fr, _⟩ := p; exact hJ.F fr (fun f hf => by have := hf.n; unfold jf at hf; simp; omega))⟩)
  rw [hH1.oe] at kr
  refine z_aload_n K dL_law_1982 rfl rfl rfl ?_
  refine z_callV K (kr) cV_X0_229_X4 (lkm) rfl rfl rfl (by omega) (by omega) (by omega) (Nat.le_of_ble_eq_true rfl) dL_law_1983 (fun q h2 hq => by obtain ⟨_, _, z, -⟩ := hq; cases z) ?_
  rintro v8 h2 ⟨v, w', z, rfl, hR, hJ'⟩
  cases z
  obtain ⟨e3, rfl, hc'⟩ := hr v w' hR
  refine z_icmp_eq (tgt := 2164) K dL_law_1986 rfl (fun _ => ?_) (fun c => absurd rfl c)
  exact zW.widen (by omega) (by omega) (nx (ov w' h1) w' (li_end hH1 hc' hJ') _ ⟨rfl, rfl, rfl, rfl, rfl, rfl, trivial⟩)
theorem lc_32 (K : zK x cL_law 9 (some .boolean) [] 20 694190 6900895 X) (hz : zScr X L xs) (hI : LI L xs h w) (hx : ∀ j : Nat, j < L → i32 (xs j)) (hi : i + 5 ≤ L) (hL : L ≤ 320) (hk : k + 3000 ≤ 694190) (hn : n + 34000 ≤ 6900895) (nx : lNx X Q L xs i k n) : ∀ env, zsub env (lEnv i) → zW X Q h k n 1991 env [] := by
  intro env he
  refine zW.cut he ?_
  obtain ⟨hC, hJ, hH⟩ := id hI
  have hs := hC.S
  have hT := hJ.TI hs
  have hac := hJ.hac hs
  have hA := hJ.ac hs
  have h9 : 0 ≤ w 9 0 ∧ w 9 0 ≤ 1 := by have := hJ.2.2.2.2.2.2.2.2.1; omega
  have h6 := hH.n6
  have hxx := hC.x
  obtain ⟨b, N, u, g, rfl, hG⟩ := id hC
  obtain ⟨ch, ch0, ch1, ech⟩ := i2c_ex (iI (xs ((i : Int) + 1).toNat))
  have kM := x1_append hG hJ.2.2.2.2.1 ch0 ch1
  have kw := lw_append kM hxx h6
  refine z_aload_n K dL_law_1991 rfl rfl rfl ?_
  refine z_aload_n K dL_law_1992 rfl rfl rfl ?_
  refine z_iload K dL_law_1993 rfl ?_
  refine j_iconst K dL_law_1995 ?_
  refine j_iadd K dL_law_1996 ?_
  refine s_ld K (hz) (by omega) (by omega) dL_law_1997 ?_
  refine z_i2c K dL_law_1998 ?_
  rw [ech]
  refine z_cSW (fs := []) K (kw) cS_X0_230 rfl rfl (by omega) (by omega) (by omega) (Nat.le_of_ble_eq_true rfl) dL_law_1999 (fun q h1 hq => by obtain ⟨_, z, -⟩ := hq; cases z) ?_
  rintro v9 h1 ⟨kk, z, hkk, lo, hr⟩
  cases z
  have hH1 : LH h1 w := hH.lo lo
  have lkm : h1 1000 = some (.inr (0, tF w)) := (hH1.1 1000 (by omega) (by omega)).trans (tH_this w)
  refine z_istore K dL_law_2002 (by decide) rfl ?_
  have kr := rf_append hJ ⟨ch0, ch1⟩ (by unfold vp_nar; rw [na_c ch0 ch1]) h1
  rw [hH1.oe] at kr
  refine z_aload_n K dL_law_2004 rfl rfl rfl ?_
  refine z_aload_n K dL_law_2005 rfl rfl rfl ?_
  refine z_iload K dL_law_2006 rfl ?_
  refine j_iconst K dL_law_2008 ?_
  refine j_iadd K dL_law_2009 ?_
  refine s_ld K (hz) (by omega) (by omega) dL_law_2010 ?_
  refine z_i2c K dL_law_2011 ?_
  rw [ech]
  refine z_callV K (kr) cV_X0_233_X4 (lkm) rfl rfl rfl (by omega) (by omega) (by omega) (Nat.le_of_ble_eq_true rfl) dL_law_2012 (fun q h2 hq => by obtain ⟨_, z, -⟩ := hq; cases z) ?_
  rintro v8 h2 ⟨w', z, rfl, hR, hJ'⟩
  cases z
  obtain ⟨e3, hc'⟩ := hr w' hR
  have lkn : ov w' h1 1000 = some (.inr (0, tF w')) := (ov_in (by omega) (by omega)).trans (tH_this w')
  have kt := tMi.bs (as := []) (tw_thrown (w := w')) rfl h1
  refine z_aload_n K dL_law_2015 rfl rfl rfl ?_
  refine z_callV K (kt) cV_X0_124_X4 (lkn) rfl rfl rfl (by omega) (by omega) (by omega) (Nat.le_of_ble_eq_true rfl) dL_law_2016 (fun q h2 hq => by obtain ⟨_, _, z, -⟩ := hq; cases z) ?_
  rintro v7 h3 ⟨v3, w3, z, eh, ev, ew⟩
  cases z
  rw [ew] at eh
  rw [eh, ev]
  refine z_iload K dL_law_2019 rfl ?_
  refine j_icmp_eq (tgt := 2026) K dL_law_2021 rfl (by omega) (by omega) (fun c_2021 => ?_) (fun c_2021 => ?_)
  · refine z_goto (tgt := 2164) K dL_law_2026 rfl ?_
    exact zW.widen (by omega) (by omega) (nx (ov w' h1) w' (li_end hH1 hc' hJ') _ ⟨rfl, rfl, rfl, rfl, rfl, rfl, trivial⟩)
  · exact absurd (by omega) c_2021
theorem lc_33 (K : zK x cL_law 9 (some .boolean) [] 20 694190 6900895 X) (hz : zScr X L xs) (hI : LI L xs h w) (hx : ∀ j : Nat, j < L → i32 (xs j)) (hi : i + 5 ≤ L) (hL : L ≤ 320) (hk : k + 3000 ≤ 694190) (hn : n + 34000 ≤ 6900895) (nx : lNx X Q L xs i k n) : ∀ env, zsub env (lEnv i) → zW X Q h k n 2029 env [] := by
  intro env he
  refine zW.cut he ?_
  obtain ⟨hC, hJ, hH⟩ := id hI
  have hs := hC.S
  have hT := hJ.TI hs
  have hac := hJ.hac hs
  have hA := hJ.ac hs
  have h9 : 0 ≤ w 9 0 ∧ w 9 0 ≤ 1 := by have := hJ.2.2.2.2.2.2.2.2.1; omega
  have h6 := hH.n6
  have hxx := hC.x
  obtain ⟨b, N, u, g, rfl, hG⟩ := id hC
  have kM := x1_read hG hJ.2.2.2.2.1 hJ.2.2.2.2.2.1 hJ.2.2.2.2.2.2.1
  have kw := lw_read kM hxx h6 hH.2.1
  refine z_aload_n K dL_law_2029 rfl rfl rfl ?_
  refine z_aload_n K dL_law_2030 rfl rfl rfl ?_
  refine z_cSW (fs := []) K (kw) cS_X0_234 rfl rfl (by omega) (by omega) (by omega) (Nat.le_of_ble_eq_true rfl) dL_law_2031 (fun q h1 hq => by obtain ⟨_, _, z, -⟩ := hq; cases z) ?_
  rintro v9 h1 ⟨kk, f, z, hkk, lo, e38, hr⟩
  cases z
  have hH1 : LH h1 w := li_lo hH lo e38
  have lkm : h1 1000 = some (.inr (0, tF w)) := (hH1.1 1000 (by omega) (by omega)).trans (tH_this w)
  refine z_istore K dL_law_2034 (by decide) rfl ?_
  have kr := tMi.rfa (as := []) (tw_read hJ.2.2.2.2.1 hJ.2.2.2.2.2.1 hJ.2.2.2.2.2.2.1 hs.1 hs.2.1) rfl h1 (fun v w' p => rdE_of hJ p)
  rw [hH1.oe] at kr
  refine z_aload_n K dL_law_2036 rfl rfl rfl ?_
  refine z_callV K (kr) cV_X0_237_X4 (lkm) rfl rfl rfl (by omega) (by omega) (by omega) (Nat.le_of_ble_eq_true rfl) dL_law_2037 (fun q h2 hq => by obtain ⟨_, _, z, -⟩ := hq; cases z) ?_
  rintro v8 h2 ⟨v, w', z, rfl, hR, hJ'⟩
  cases z
  obtain ⟨e3, hc', hf⟩ := hr v w' hR
  have lkn : ov w' h1 1000 = some (.inr (0, tF w')) := (ov_in (by omega) (by omega)).trans (tH_this w')
  have kt := tMi.bs (as := []) (tw_thrown (w := w')) rfl h1
  refine z_istore K dL_law_2040 (by decide) rfl ?_
  refine z_aload_n K dL_law_2042 rfl rfl rfl ?_
  refine z_callV K (kt) cV_X0_124_X4 (lkn) rfl rfl rfl (by omega) (by omega) (by omega) (Nat.le_of_ble_eq_true rfl) dL_law_2043 (fun q h2 hq => by obtain ⟨_, _, z, -⟩ := hq; cases z) ?_
  rintro v7 h3 ⟨v3, w3, z, eh, ev, ew⟩
  cases z
  rw [ew] at eh
  rw [eh, ev]
  refine z_iload K dL_law_2046 rfl ?_
  refine j_icmp_eq (tgt := 2053) K dL_law_2048 rfl (by omega) (by omega) (fun c_2048 => ?_) (fun c_2048 => ?_)
  · refine z_iload K dL_law_2053 rfl ?_
    refine j_if_ne (tgt := 2070) K dL_law_2055 rfl (by omega) (fun c_2055 => ?_) (fun c_2055 => ?_)
    · refine z_goto (tgt := 2164) K dL_law_2070 rfl ?_
      exact zW.widen (by omega) (by omega) (nx (ov w' h1) w' (li_end hH1 hc' hJ') _ ⟨rfl, rfl, rfl, rfl, rfl, rfl, trivial⟩)
    · refine z_aload_n K dL_law_2058 rfl rfl rfl ?_
      refine j_iconst K dL_law_2059 ?_
      refine z_lald K ((ov_out (by omega)).trans e38) vp0 dL_law_2060 ?_
      rw [tnc0, hf (by omega)]
      refine z_iload K dL_law_2061 rfl ?_
      refine z_i2l K dL_law_2063 ?_
      refine z_lcmp K dL_law_2064 ?_
      rw [lgc_s]
      refine j_if_eq (tgt := 2070) K dL_law_2065 rfl (by omega) (fun c_2065 => ?_) (fun c_2065 => ?_)
      · refine z_goto (tgt := 2164) K dL_law_2070 rfl ?_
        exact zW.widen (by omega) (by omega) (nx (ov w' h1) w' (li_end hH1 hc' hJ') _ ⟨rfl, rfl, rfl, rfl, rfl, rfl, trivial⟩)
      · exact absurd rfl c_2065
  · exact absurd (by omega) c_2048
theorem lc_34 (K : zK x cL_law 9 (some .boolean) [] 20 694190 6900895 X) (hz : zScr X L xs) (hI : LI L xs h w) (hx : ∀ j : Nat, j < L → i32 (xs j)) (hi : i + 5 ≤ L) (hL : L ≤ 320) (hk : k + 3000 ≤ 694190) (hn : n + 34000 ≤ 6900895) (nx : lNx X Q L xs i k n) : ∀ env, zsub env (lEnv i) → zW X Q h k n 2073 env [] := by
  intro env he
  refine zW.cut he ?_
  obtain ⟨hC, hJ, hH⟩ := id hI
  have hs := hC.S
  have hT := hJ.TI hs
  have hac := hJ.hac hs
  have hA := hJ.ac hs
  have h9 : 0 ≤ w 9 0 ∧ w 9 0 ≤ 1 := by have := hJ.2.2.2.2.2.2.2.2.1; omega
  have h6 := hH.n6
  have hxx := hC.x
  obtain ⟨b, N, u, g, rfl, hG⟩ := id hC
  have kM := x1_failure hG  (hx ((i : Int) + 1).toNat (by omega))
  have kw := lw_failure kM hxx h6 hH.2.1
  refine z_aload_n K dL_law_2073 rfl rfl rfl ?_
  refine z_aload_n K dL_law_2074 rfl rfl rfl ?_
  refine z_iload K dL_law_2075 rfl ?_
  refine j_iconst K dL_law_2077 ?_
  refine j_iadd K dL_law_2078 ?_
  refine s_ld K (hz) (by omega) (by omega) dL_law_2079 ?_
  refine z_aload_n K dL_law_2080 rfl rfl rfl ?_
  refine z_cSW (fs := []) K (kw) cS_X0_238 rfl rfl (by omega) (by omega) (by omega) (Nat.le_of_ble_eq_true rfl) dL_law_2081 (fun q h1 hq => by obtain ⟨_, _, z, -⟩ := hq; cases z) ?_
  rintro v9 h1 ⟨kk, f, z, hkk, lo, e38, hr⟩
  cases z
  have hH1 : LH h1 w := li_lo hH lo e38
  have lkm : h1 1000 = some (.inr (0, tF w)) := (hH1.1 1000 (by omega) (by omega)).trans (tH_this w)
  refine z_istore K dL_law_2084 (by decide) rfl ?_
  have kr := tMi.rf (as := [.int (iI (xs ((i : Int) + 1).toNat))]) (tw_failure (hx ((i : Int) + 1).toNat (by omega)) hJ.2.2.2.2.2.2.2.1) rfl h1 (fun v w' p => ⟨p, hJ.pubQ (fun v w' ⟨_, e⟩ => by rw [e]; exact hJ.s3) p⟩)
  rw [hH1.oe] at kr
  refine z_aload_n K dL_law_2086 rfl rfl rfl ?_
  refine z_aload_n K dL_law_2087 rfl rfl rfl ?_
  refine z_iload K dL_law_2088 rfl ?_
  refine j_iconst K dL_law_2090 ?_
  refine j_iadd K dL_law_2091 ?_
  refine s_ld K (hz) (by omega) (by omega) dL_law_2092 ?_
  refine z_callV K (kr) cV_X0_240_X4 (lkm) rfl rfl rfl (by omega) (by omega) (by omega) (Nat.le_of_ble_eq_true rfl) dL_law_2093 (fun q h2 hq => by obtain ⟨_, _, z, -⟩ := hq; cases z) ?_
  rintro v8 h2 ⟨v, w', z, rfl, hR, hJ'⟩
  cases z
  obtain ⟨e3, hc', hf⟩ := hr v w' hR
  have lkn : ov w' h1 1000 = some (.inr (0, tF w')) := (ov_in (by omega) (by omega)).trans (tH_this w')
  have kt := tMi.bs (as := []) (tw_thrown (w := w')) rfl h1
  refine z_istore K dL_law_2096 (by decide) rfl ?_
  refine z_aload_n K dL_law_2098 rfl rfl rfl ?_
  refine z_callV K (kt) cV_X0_124_X4 (lkn) rfl rfl rfl (by omega) (by omega) (by omega) (Nat.le_of_ble_eq_true rfl) dL_law_2099 (fun q h2 hq => by obtain ⟨_, _, z, -⟩ := hq; cases z) ?_
  rintro v7 h3 ⟨v3, w3, z, eh, ev, ew⟩
  cases z
  rw [ew] at eh
  rw [eh, ev]
  refine z_iload K dL_law_2102 rfl ?_
  refine j_icmp_eq (tgt := 2109) K dL_law_2104 rfl (by omega) (by omega) (fun c_2104 => ?_) (fun c_2104 => ?_)
  · refine z_iload K dL_law_2109 rfl ?_
    refine j_if_ne (tgt := 2126) K dL_law_2111 rfl (by omega) (fun c_2111 => ?_) (fun c_2111 => ?_)
    · refine z_goto (tgt := 2164) K dL_law_2126 rfl ?_
      exact zW.widen (by omega) (by omega) (nx (ov w' h1) w' (li_end hH1 hc' hJ') _ ⟨rfl, rfl, rfl, rfl, rfl, rfl, trivial⟩)
    · refine z_aload_n K dL_law_2114 rfl rfl rfl ?_
      refine j_iconst K dL_law_2115 ?_
      refine z_lald K ((ov_out (by omega)).trans e38) vp0 dL_law_2116 ?_
      rw [tnc0, hf (by omega)]
      refine z_iload K dL_law_2117 rfl ?_
      refine z_i2l K dL_law_2119 ?_
      refine z_lcmp K dL_law_2120 ?_
      rw [lgc_s]
      refine j_if_eq (tgt := 2126) K dL_law_2121 rfl (by omega) (fun c_2121 => ?_) (fun c_2121 => ?_)
      · refine z_goto (tgt := 2164) K dL_law_2126 rfl ?_
        exact zW.widen (by omega) (by omega) (nx (ov w' h1) w' (li_end hH1 hc' hJ') _ ⟨rfl, rfl, rfl, rfl, rfl, rfl, trivial⟩)
      · exact absurd rfl c_2121
  · exact absurd (by omega) c_2104
theorem lc_35 (K : zK x cL_law 9 (some .boolean) [] 20 694190 6900895 X) (hz : zScr X L xs) (hI : LI L xs h w) (hx : ∀ j : Nat, j < L → i32 (xs j)) (hi : i + 5 ≤ L) (hL : L ≤ 320) (hk : k + 3000 ≤ 694190) (hn : n + 34000 ≤ 6900895) (nx : lNx X Q L xs i k n) : ∀ env, zsub env (lEnv i) → zW X Q h k n 2129 env [] := by
  intro env he
  refine zW.cut he ?_
  obtain ⟨hC, hJ, hH⟩ := id hI
  have hs := hC.S
  have hT := hJ.TI hs
  have hac := hJ.hac hs
  have hA := hJ.ac hs
  have h9 : 0 ≤ w 9 0 ∧ w 9 0 ≤ 1 := by have := hJ.2.2.2.2.2.2.2.2.1; omega
  have h6 := hH.n6
  have hxx := hC.x
  obtain ⟨b, N, u, g, rfl, hG⟩ := id hC
  have kM := x1_save hG (fun m fs m1 m2 e => h6 m fs m1 m2 ((hG.lo m m2).trans e))
  obtain ⟨fs0, hx0⟩ := hxx
  refine z_aload_n K dL_law_2129 rfl rfl rfl ?_
  refine z_callV K kM cV_X0_241_X1 hx0 rfl rfl rfl (by omega) (by omega) (by omega) (Nat.le_of_ble_eq_true rfl) dL_law_2130 (fun q h1 hq => ?_) (fun v h1 hq => ?_)
  · obtain ⟨lo, ⟨z, _⟩ | ⟨q9, ci, fs, z, hq9, hcd, hr⟩⟩ := hq
    · cases z
    rcases cdA_c hcd with ⟨rfl, e⟩ | ⟨rfl, e⟩ | ⟨rfl, e⟩ <;> (cases z; exact z_noT hq9 (by decide) rfl)
  obtain ⟨lo, ⟨z, hr⟩ | ⟨_, _, _, z, _⟩⟩ := hq
  rotate_left
  · cases z
  cases z
  have hH1 : LH h1 w := hH.lo lo
  have lkm : h1 1000 = some (.inr (0, tF w)) := (hH1.1 1000 (by omega) (by omega)).trans (tH_this w)
  have kr := rf_save hJ h1
  rw [hH1.oe] at kr
  refine z_aload_n K dL_law_2133 rfl rfl rfl ?_
  refine z_callV K (kr) cV_X0_244_X4 (lkm) rfl rfl rfl (by omega) (by omega) (by omega) (Nat.le_of_ble_eq_true rfl) dL_law_2134 (fun q h2 hq => by obtain ⟨_, z, -⟩ := hq; cases z) ?_
  rintro v8 h2 ⟨w', z, rfl, hR, hJ'⟩
  cases z
  obtain ⟨e3, hc'⟩ := hr w' hR
  refine z_goto (tgt := 2164) K dL_law_2137 rfl ?_
  exact zW.widen (by omega) (by omega) (nx (ov w' h1) w' (li_end hH1 hc' hJ') _ ⟨rfl, rfl, rfl, rfl, rfl, rfl, trivial⟩)
theorem lc_36 (K : zK x cL_law 9 (some .boolean) [] 20 694190 6900895 X) (hz : zScr X L xs) (hI : LI L xs h w) (hx : ∀ j : Nat, j < L → i32 (xs j)) (hi : i + 5 ≤ L) (hL : L ≤ 320) (hk : k + 3000 ≤ 694190) (hn : n + 34000 ≤ 6900895) (nx : lNx X Q L xs i k n) : ∀ env, zsub env (lEnv i) → zW X Q h k n 2140 env [] := by
  intro env he
  refine zW.cut he ?_
  obtain ⟨hC, hJ, hH⟩ := id hI
  have hs := hC.S
  have hT := hJ.TI hs
  have hac := hJ.hac hs
  have hA := hJ.ac hs
  have h9 : 0 ≤ w 9 0 ∧ w 9 0 ≤ 1 := by have := hJ.2.2.2.2.2.2.2.2.1; omega
  have h6 := hH.n6
  have hxx := hC.x
  obtain ⟨b, N, u, g, rfl, hG⟩ := id hC
  have kM := x1_restore hG
  have kw := lw_restore kM hxx h6
  refine z_aload_n K dL_law_2140 rfl rfl rfl ?_
  refine z_cSW (fs := []) K (kw) cS_X0_245 rfl rfl (by omega) (by omega) (by omega) (Nat.le_of_ble_eq_true rfl) dL_law_2141 (fun q h1 hq => by obtain ⟨_, z, -⟩ := hq; cases z) ?_
  rintro v9 h1 ⟨kk, z, hkk, lo, hr⟩
  cases z
  have hH1 : LH h1 w := hH.lo lo
  have lkm : h1 1000 = some (.inr (0, tF w)) := (hH1.1 1000 (by omega) (by omega)).trans (tH_this w)
  refine z_istore K dL_law_2144 (by decide) rfl ?_
  have kr := rf_restore hJ h1
  rw [hH1.oe] at kr
  refine z_aload_n K dL_law_2146 rfl rfl rfl ?_
  refine z_callV K (kr) cV_X0_248_X4 (lkm) rfl rfl rfl (by omega) (by omega) (by omega) (Nat.le_of_ble_eq_true rfl) dL_law_2147 (fun q h2 hq => by obtain ⟨_, z, -⟩ := hq; cases z) ?_
  rintro v8 h2 ⟨w', z, rfl, hR, hJ'⟩
  cases z
  obtain ⟨e3, hc'⟩ := hr w' hR
  have lkn : ov w' h1 1000 = some (.inr (0, tF w')) := (ov_in (by omega) (by omega)).trans (tH_this w')
  have kt := tMi.bs (as := []) (tw_thrown (w := w')) rfl h1
  refine z_aload_n K dL_law_2150 rfl rfl rfl ?_
  refine z_callV K (kt) cV_X0_124_X4 (lkn) rfl rfl rfl (by omega) (by omega) (by omega) (Nat.le_of_ble_eq_true rfl) dL_law_2151 (fun q h2 hq => by obtain ⟨_, _, z, -⟩ := hq; cases z) ?_
  rintro v7 h3 ⟨v3, w3, z, eh, ev, ew⟩
  cases z
  rw [ew] at eh
  rw [eh, ev]
  refine z_iload K dL_law_2154 rfl ?_
  refine j_icmp_eq (tgt := 2161) K dL_law_2156 rfl (by omega) (by omega) (fun c_2156 => ?_) (fun c_2156 => ?_)
  · refine z_goto (tgt := 2164) K dL_law_2161 rfl ?_
    exact zW.widen (by omega) (by omega) (nx (ov w' h1) w' (li_end hH1 hc' hJ') _ ⟨rfl, rfl, rfl, rfl, rfl, rfl, trivial⟩)
  · exact absurd (by omega) c_2156
end LC

