/-! ===== the arms ===== -/
set_option maxRecDepth 100000
theorem a_machine {w : Wd} {K : KT} {ret : Option FieldType} {nm : String} (C : Cx w K RL cL_law 10 ret nm 25 12986 600192 7294250) {h : Hp} {n k b x m o od N j : Nat} {X : XL} {σ : Sg} {L : ML} {th : Int} {s : Int64} {f : Int → Int} (B : isB w h x X σ m L σ th s o od b N f) (I : Inv σ j) (hf : ∀ i, i32 (f i)) (hj : 7 * j + 7 ≤ N ∧ N ≤ 224) (hnk : n ≤ NN j σ.n ∧ k ≤ SS j σ.n) (G : GoOn w K b x m o od N f j) : Wk w K h n k 152 (Lc b x m o od (7 * (j : Int))) [] := by
  have hr := room_at (j := j) (c := σ.n) (by omega) I.1.1 I.2.1
  have hB := Bc_le σ.n
  have hS := Bs_le σ.n
  have hc := I.1.1
  have hb : h.2 b = some (aI 7 N f) := B.2.2.2.2.2.2.2
  obtain ⟨g, ho⟩ := B.2.2.2.2.2.1
  have hK3 : machK σ (f (7 * (j : Int) + 1)) ≤ 3 := by unfold machK; (repeat' split) <;> omega
  generalize hKe : machK σ (f (7 * (j : Int) + 1)) = K0 at hK3
  refine k_aload_n C dL_law_152 rfl ?_
  refine k_aload_n C dL_law_153 rfl ?_
  refine k_iload C dL_law_154 rfl ?_
  refine k_iconst C dL_law_156 ?_
  refine k_iadd C dL_law_157 ?_
  refine k_iald C dL_law_158 (by assumption) (by rfl) (by omega) ?_
  refine k_aload_n C dL_law_159 rfl ?_
  refine kx_SW C rfl ms_L_90 dL_law_160 (w_machine B.1 B.2.1 I.1 (hf _) ho) rfl rfl (Nat.le_of_ble_eq_true rfl) ⟨(Nat.le_of_ble_eq_true rfl), (Nat.le_of_ble_eq_true rfl)⟩ (by omega) (fun v h1 hp_ => ?_) (fun _ _ hx => hx.elim)
  obtain ⟨rfl, ⟨g1, ho1, hv1⟩, ST⟩ := hp_
  rw [hKe] at hv1 ST ⊢
  obtain ⟨X1, B1⟩ := B.goX I.1 ST (Or.inl ⟨rfl, _, ho1⟩)
  have hb1 : h1.2 b = some (aI 7 N f) := B1.2.2.2.2.2.2.2
  have hm1 := B1.2.2.1.1
  refine k_istore C dL_law_163 (Nat.le_of_ble_eq_true rfl) rfl ?_
  refine k_aload_n C dL_law_165 rfl ?_
  refine k_aload_n C dL_law_166 rfl ?_
  refine k_iload C dL_law_167 rfl ?_
  refine k_iconst C dL_law_169 ?_
  refine k_iadd C dL_law_170 ?_
  refine k_iald C dL_law_171 (by assumption) (by rfl) (by omega) ?_
  refine kx_V C rfl mv_L_95 dL_law_172 (c_mMachineX B1.2.2.1 B1.2.2.2.1 I.1 (hf _)) hm1 rfl rfl (Nat.le_of_ble_eq_true rfl) ⟨(Nat.le_of_ble_eq_true rfl), (Nat.le_of_ble_eq_true rfl)⟩ (by omega) (fun v h2 hp_ => ?_) (fun _ _ hx => hx.elim)
  obtain ⟨r, rfl, hA, hZ⟩ := hp_
  rw [hKe] at hA hZ
  by_cases h0 : K0 = 0
  · subst h0
    obtain ⟨rfl, SM⟩ := hA rfl
    rw [if_pos rfl] at B1
    have S := mach_stp I.1 hKe
    have ho2 := B1.arrM SM ho1 (by decide) (by decide)
    obtain ⟨L2, B2⟩ := B1.goM S.1 SM
    exact tl_int (K0 := 0) C B2.2.2.1 ho2 hv1 hK3 (by omega) dL_law_175 dL_law_177 dL_law_178 dL_law_181 dL_law_183 dL_law_188 dL_law_190 dL_law_193 dL_law_194 dL_law_195 dL_law_196 dL_law_198 dL_law_199 dL_law_200 dL_law_205 (by decide) (G.grow I S B2 rfl hnk (by omega))
  · have SM := hZ h0
    rw [if_neg h0] at B1
    have ho2 := B1.arrM SM ho1 (by decide) (by decide)
    obtain ⟨L2, B2⟩ := B1.goM I.1 SM
    exact tl_int C B2.2.2.1 ho2 (fun e => absurd e h0) hK3 (by omega) dL_law_175 dL_law_177 dL_law_178 dL_law_181 dL_law_183 dL_law_188 dL_law_190 dL_law_193 dL_law_194 dL_law_195 dL_law_196 dL_law_198 dL_law_199 dL_law_200 dL_law_205 (by decide) (G.same I (stp.refl I.1) B2 rfl hnk (by omega))
theorem a_tell {w : Wd} {K : KT} {ret : Option FieldType} {nm : String} (C : Cx w K RL cL_law 10 ret nm 25 12986 600192 7294250) {h : Hp} {n k b x m o od N j : Nat} {X : XL} {σ : Sg} {L : ML} {th : Int} {s : Int64} {f : Int → Int} (B : isB w h x X σ m L σ th s o od b N f) (I : Inv σ j) (hf : ∀ i, i32 (f i)) (hj : 7 * j + 7 ≤ N ∧ N ≤ 224) (hnk : n ≤ NN j σ.n ∧ k ≤ SS j σ.n) (G : GoOn w K b x m o od N f j) : Wk w K h n k 208 (Lc b x m o od (7 * (j : Int))) [] := by
  have hr := room_at (j := j) (c := σ.n) (by omega) I.1.1 I.2.1
  have hB := Bc_le σ.n
  have hS := Bs_le σ.n
  have hc := I.1.1
  have hb : h.2 b = some (aI 7 N f) := B.2.2.2.2.2.2.2
  obtain ⟨g, ho⟩ := B.2.2.2.2.2.1
  have hK3 : refK σ (f (7 * (j : Int) + 1)) (f (7 * (j : Int) + 2)) (f (7 * (j : Int) + 3)) (f (7 * (j : Int) + 4)) (f (7 * (j : Int) + 5)) (f (7 * (j : Int) + 6)) true ≤ 3 := by unfold refK; (repeat' split) <;> omega
  generalize hKe : refK σ (f (7 * (j : Int) + 1)) (f (7 * (j : Int) + 2)) (f (7 * (j : Int) + 3)) (f (7 * (j : Int) + 4)) (f (7 * (j : Int) + 5)) (f (7 * (j : Int) + 6)) true = K0 at hK3
  refine k_aload_n C dL_law_208 rfl ?_
  refine k_aload_n C dL_law_209 rfl ?_
  refine k_iload C dL_law_210 rfl ?_
  refine k_iconst C dL_law_212 ?_
  refine k_iadd C dL_law_213 ?_
  refine k_iald C dL_law_214 (by assumption) (by rfl) (by omega) ?_
  refine k_aload_n C dL_law_215 rfl ?_
  refine k_iload C dL_law_216 rfl ?_
  refine k_iconst C dL_law_218 ?_
  refine k_iadd C dL_law_219 ?_
  refine k_iald C dL_law_220 (by assumption) (by rfl) (by omega) ?_
  refine k_aload_n C dL_law_221 rfl ?_
  refine k_iload C dL_law_222 rfl ?_
  refine k_iconst C dL_law_224 ?_
  refine k_iadd C dL_law_225 ?_
  refine k_iald C dL_law_226 (by assumption) (by rfl) (by omega) ?_
  refine k_aload_n C dL_law_227 rfl ?_
  refine k_iload C dL_law_228 rfl ?_
  refine k_iconst C dL_law_230 ?_
  refine k_iadd C dL_law_231 ?_
  refine k_iald C dL_law_232 (by assumption) (by rfl) (by omega) ?_
  refine k_aload_n C dL_law_233 rfl ?_
  refine k_iload C dL_law_234 rfl ?_
  refine k_iconst C dL_law_236 ?_
  refine k_iadd C dL_law_237 ?_
  refine k_iald C dL_law_238 (by assumption) (by rfl) (by omega) ?_
  refine k_aload_n C dL_law_239 rfl ?_
  refine k_iload C dL_law_240 rfl ?_
  refine k_bipush C dL_law_242 (by decide) ?_
  refine k_iadd C dL_law_244 ?_
  refine k_iald C dL_law_245 (by assumption) (by rfl) (by omega) ?_
  refine k_aload_n C dL_law_246 rfl ?_
  refine kx_SW C rfl ms_L_100 dL_law_247 (w_tell B.1 B.2.1 I.1 (hf _) (hf _) (hf _) (hf _) (hf _) (hf _) ho) rfl rfl (Nat.le_of_ble_eq_true rfl) ⟨(Nat.le_of_ble_eq_true rfl), (Nat.le_of_ble_eq_true rfl)⟩ (by omega) (fun v h1 hp_ => ?_) (fun _ _ hx => hx.elim)
  obtain ⟨rfl, ⟨g1, ho1, hv1⟩, ST⟩ := hp_
  rw [hKe] at hv1 ST ⊢
  obtain ⟨X1, B1⟩ := B.goX I.1 ST (Or.inl ⟨rfl, _, ho1⟩)
  have hb1 : h1.2 b = some (aI 7 N f) := B1.2.2.2.2.2.2.2
  have hm1 := B1.2.2.1.1
  refine k_istore C dL_law_250 (Nat.le_of_ble_eq_true rfl) rfl ?_
  refine k_aload_n C dL_law_252 rfl ?_
  refine k_aload_n C dL_law_253 rfl ?_
  refine k_iload C dL_law_254 rfl ?_
  refine k_iconst C dL_law_256 ?_
  refine k_iadd C dL_law_257 ?_
  refine k_iald C dL_law_258 (by assumption) (by rfl) (by omega) ?_
  refine k_aload_n C dL_law_259 rfl ?_
  refine k_iload C dL_law_260 rfl ?_
  refine k_iconst C dL_law_262 ?_
  refine k_iadd C dL_law_263 ?_
  refine k_iald C dL_law_264 (by assumption) (by rfl) (by omega) ?_
  refine k_aload_n C dL_law_265 rfl ?_
  refine k_iload C dL_law_266 rfl ?_
  refine k_iconst C dL_law_268 ?_
  refine k_iadd C dL_law_269 ?_
  refine k_iald C dL_law_270 (by assumption) (by rfl) (by omega) ?_
  refine k_aload_n C dL_law_271 rfl ?_
  refine k_iload C dL_law_272 rfl ?_
  refine k_iconst C dL_law_274 ?_
  refine k_iadd C dL_law_275 ?_
  refine k_iald C dL_law_276 (by assumption) (by rfl) (by omega) ?_
  refine k_aload_n C dL_law_277 rfl ?_
  refine k_iload C dL_law_278 rfl ?_
  refine k_iconst C dL_law_280 ?_
  refine k_iadd C dL_law_281 ?_
  refine k_iald C dL_law_282 (by assumption) (by rfl) (by omega) ?_
  refine k_aload_n C dL_law_283 rfl ?_
  refine k_iload C dL_law_284 rfl ?_
  refine k_bipush C dL_law_286 (by decide) ?_
  refine k_iadd C dL_law_288 ?_
  refine k_iald C dL_law_289 (by assumption) (by rfl) (by omega) ?_
  refine kx_V C rfl mv_L_103 dL_law_290 (c_mTellX B1.2.2.1 B1.2.2.2.1 I.1 (hf _) (hf _) (hf _) (hf _) (hf _) (hf _)) hm1 rfl rfl (Nat.le_of_ble_eq_true rfl) ⟨(Nat.le_of_ble_eq_true rfl), (Nat.le_of_ble_eq_true rfl)⟩ (by omega) (fun v h2 hp_ => ?_) (fun _ _ hx => hx.elim)
  obtain ⟨r, rfl, hA, hZ⟩ := hp_
  rw [hKe] at hA hZ
  by_cases h0 : K0 = 0
  · subst h0
    obtain ⟨rfl, SM⟩ := hA rfl
    rw [if_pos rfl] at B1
    have S := ref_stp I.1 (by have := I.2.2.2.2; omega) hKe
    have ho2 := B1.arrM SM ho1 (by decide) (by decide)
    obtain ⟨L2, B2⟩ := B1.goM S.1 SM
    exact tl_int (K0 := 0) C B2.2.2.1 ho2 hv1 hK3 (by omega) dL_law_293 dL_law_295 dL_law_296 dL_law_299 dL_law_301 dL_law_306 dL_law_308 dL_law_311 dL_law_312 dL_law_313 dL_law_314 dL_law_316 dL_law_317 dL_law_318 dL_law_323 (by decide) (G.same I S B2 rfl hnk (by omega))
  · have SM := hZ h0
    rw [if_neg h0] at B1
    have ho2 := B1.arrM SM ho1 (by decide) (by decide)
    obtain ⟨L2, B2⟩ := B1.goM I.1 SM
    exact tl_int C B2.2.2.1 ho2 (fun e => absurd e h0) hK3 (by omega) dL_law_293 dL_law_295 dL_law_296 dL_law_299 dL_law_301 dL_law_306 dL_law_308 dL_law_311 dL_law_312 dL_law_313 dL_law_314 dL_law_316 dL_law_317 dL_law_318 dL_law_323 (by decide) (G.same I (stp.refl I.1) B2 rfl hnk (by omega))
theorem a_amend {w : Wd} {K : KT} {ret : Option FieldType} {nm : String} (C : Cx w K RL cL_law 10 ret nm 25 12986 600192 7294250) {h : Hp} {n k b x m o od N j : Nat} {X : XL} {σ : Sg} {L : ML} {th : Int} {s : Int64} {f : Int → Int} (B : isB w h x X σ m L σ th s o od b N f) (I : Inv σ j) (hf : ∀ i, i32 (f i)) (hj : 7 * j + 7 ≤ N ∧ N ≤ 224) (hnk : n ≤ NN j σ.n ∧ k ≤ SS j σ.n) (G : GoOn w K b x m o od N f j) : Wk w K h n k 326 (Lc b x m o od (7 * (j : Int))) [] := by
  have hr := room_at (j := j) (c := σ.n) (by omega) I.1.1 I.2.1
  have hB := Bc_le σ.n
  have hS := Bs_le σ.n
  have hc := I.1.1
  have hb : h.2 b = some (aI 7 N f) := B.2.2.2.2.2.2.2
  obtain ⟨g, ho⟩ := B.2.2.2.2.2.1
  have hK3 : refK σ (f (7 * (j : Int) + 1)) (f (7 * (j : Int) + 2)) (f (7 * (j : Int) + 3)) (f (7 * (j : Int) + 4)) (f (7 * (j : Int) + 5)) (f (7 * (j : Int) + 6)) false ≤ 3 := by unfold refK; (repeat' split) <;> omega
  generalize hKe : refK σ (f (7 * (j : Int) + 1)) (f (7 * (j : Int) + 2)) (f (7 * (j : Int) + 3)) (f (7 * (j : Int) + 4)) (f (7 * (j : Int) + 5)) (f (7 * (j : Int) + 6)) false = K0 at hK3
  refine k_aload_n C dL_law_326 rfl ?_
  refine k_aload_n C dL_law_327 rfl ?_
  refine k_iload C dL_law_328 rfl ?_
  refine k_iconst C dL_law_330 ?_
  refine k_iadd C dL_law_331 ?_
  refine k_iald C dL_law_332 (by assumption) (by rfl) (by omega) ?_
  refine k_aload_n C dL_law_333 rfl ?_
  refine k_iload C dL_law_334 rfl ?_
  refine k_iconst C dL_law_336 ?_
  refine k_iadd C dL_law_337 ?_
  refine k_iald C dL_law_338 (by assumption) (by rfl) (by omega) ?_
  refine k_aload_n C dL_law_339 rfl ?_
  refine k_iload C dL_law_340 rfl ?_
  refine k_iconst C dL_law_342 ?_
  refine k_iadd C dL_law_343 ?_
  refine k_iald C dL_law_344 (by assumption) (by rfl) (by omega) ?_
  refine k_aload_n C dL_law_345 rfl ?_
  refine k_iload C dL_law_346 rfl ?_
  refine k_iconst C dL_law_348 ?_
  refine k_iadd C dL_law_349 ?_
  refine k_iald C dL_law_350 (by assumption) (by rfl) (by omega) ?_
  refine k_aload_n C dL_law_351 rfl ?_
  refine k_iload C dL_law_352 rfl ?_
  refine k_iconst C dL_law_354 ?_
  refine k_iadd C dL_law_355 ?_
  refine k_iald C dL_law_356 (by assumption) (by rfl) (by omega) ?_
  refine k_aload_n C dL_law_357 rfl ?_
  refine k_iload C dL_law_358 rfl ?_
  refine k_bipush C dL_law_360 (by decide) ?_
  refine k_iadd C dL_law_362 ?_
  refine k_iald C dL_law_363 (by assumption) (by rfl) (by omega) ?_
  refine k_aload_n C dL_law_364 rfl ?_
  refine kx_SW C rfl ms_L_104 dL_law_365 (w_amend B.1 B.2.1 I.1 (hf _) (hf _) (hf _) (hf _) (hf _) (hf _) ho) rfl rfl (Nat.le_of_ble_eq_true rfl) ⟨(Nat.le_of_ble_eq_true rfl), (Nat.le_of_ble_eq_true rfl)⟩ (by omega) (fun v h1 hp_ => ?_) (fun _ _ hx => hx.elim)
  obtain ⟨rfl, ⟨g1, ho1, hv1⟩, ST⟩ := hp_
  rw [hKe] at hv1 ST ⊢
  obtain ⟨X1, B1⟩ := B.goX I.1 ST (Or.inl ⟨rfl, _, ho1⟩)
  have hb1 : h1.2 b = some (aI 7 N f) := B1.2.2.2.2.2.2.2
  have hm1 := B1.2.2.1.1
  refine k_istore C dL_law_368 (Nat.le_of_ble_eq_true rfl) rfl ?_
  refine k_aload_n C dL_law_370 rfl ?_
  refine k_aload_n C dL_law_371 rfl ?_
  refine k_iload C dL_law_372 rfl ?_
  refine k_iconst C dL_law_374 ?_
  refine k_iadd C dL_law_375 ?_
  refine k_iald C dL_law_376 (by assumption) (by rfl) (by omega) ?_
  refine k_aload_n C dL_law_377 rfl ?_
  refine k_iload C dL_law_378 rfl ?_
  refine k_iconst C dL_law_380 ?_
  refine k_iadd C dL_law_381 ?_
  refine k_iald C dL_law_382 (by assumption) (by rfl) (by omega) ?_
  refine k_aload_n C dL_law_383 rfl ?_
  refine k_iload C dL_law_384 rfl ?_
  refine k_iconst C dL_law_386 ?_
  refine k_iadd C dL_law_387 ?_
  refine k_iald C dL_law_388 (by assumption) (by rfl) (by omega) ?_
  refine k_aload_n C dL_law_389 rfl ?_
  refine k_iload C dL_law_390 rfl ?_
  refine k_iconst C dL_law_392 ?_
  refine k_iadd C dL_law_393 ?_
  refine k_iald C dL_law_394 (by assumption) (by rfl) (by omega) ?_
  refine k_aload_n C dL_law_395 rfl ?_
  refine k_iload C dL_law_396 rfl ?_
  refine k_iconst C dL_law_398 ?_
  refine k_iadd C dL_law_399 ?_
  refine k_iald C dL_law_400 (by assumption) (by rfl) (by omega) ?_
  refine k_aload_n C dL_law_401 rfl ?_
  refine k_iload C dL_law_402 rfl ?_
  refine k_bipush C dL_law_404 (by decide) ?_
  refine k_iadd C dL_law_406 ?_
  refine k_iald C dL_law_407 (by assumption) (by rfl) (by omega) ?_
  refine kx_V C rfl mv_L_106 dL_law_408 (c_mAmendX B1.2.2.1 B1.2.2.2.1 I.1 (hf _) (hf _) (hf _) (hf _) (hf _) (hf _)) hm1 rfl rfl (Nat.le_of_ble_eq_true rfl) ⟨(Nat.le_of_ble_eq_true rfl), (Nat.le_of_ble_eq_true rfl)⟩ (by omega) (fun v h2 hp_ => ?_) (fun _ _ hx => hx.elim)
  obtain ⟨r, rfl, hA, hZ⟩ := hp_
  rw [hKe] at hA hZ
  by_cases h0 : K0 = 0
  · subst h0
    obtain ⟨rfl, SM⟩ := hA rfl
    rw [if_pos rfl] at B1
    have S := ref_stp I.1 (by have := I.2.2.2.2; omega) hKe
    have ho2 := B1.arrM SM ho1 (by decide) (by decide)
    obtain ⟨L2, B2⟩ := B1.goM S.1 SM
    exact tl_bool (K0 := 0) C B2.2.2.1 ho2 hv1 hK3 (by omega) dL_law_411 dL_law_413 dL_law_414 dL_law_417 dL_law_419 dL_law_424 dL_law_426 dL_law_429 dL_law_430 dL_law_431 dL_law_432 dL_law_434 dL_law_437 dL_law_438 dL_law_441 dL_law_442 dL_law_443 dL_law_448 (by decide) (G.same I S B2 rfl hnk (by omega))
  · have SM := hZ h0
    rw [if_neg h0] at B1
    have ho2 := B1.arrM SM ho1 (by decide) (by decide)
    obtain ⟨L2, B2⟩ := B1.goM I.1 SM
    exact tl_bool C B2.2.2.1 ho2 (fun e => absurd e h0) hK3 (by omega) dL_law_411 dL_law_413 dL_law_414 dL_law_417 dL_law_419 dL_law_424 dL_law_426 dL_law_429 dL_law_430 dL_law_431 dL_law_432 dL_law_434 dL_law_437 dL_law_438 dL_law_441 dL_law_442 dL_law_443 dL_law_448 (by decide) (G.same I (stp.refl I.1) B2 rfl hnk (by omega))
theorem a_child {w : Wd} {K : KT} {ret : Option FieldType} {nm : String} (C : Cx w K RL cL_law 10 ret nm 25 12986 600192 7294250) {h : Hp} {n k b x m o od N j : Nat} {X : XL} {σ : Sg} {L : ML} {th : Int} {s : Int64} {f : Int → Int} (B : isB w h x X σ m L σ th s o od b N f) (I : Inv σ j) (hf : ∀ i, i32 (f i)) (hj : 7 * j + 7 ≤ N ∧ N ≤ 224) (hnk : n ≤ NN j σ.n ∧ k ≤ SS j σ.n) (G : GoOn w K b x m o od N f j) : Wk w K h n k 451 (Lc b x m o od (7 * (j : Int))) [] := by
  have hr := room_at (j := j) (c := σ.n) (by omega) I.1.1 I.2.1
  have hB := Bc_le σ.n
  have hS := Bs_le σ.n
  have hc := I.1.1
  have hb : h.2 b = some (aI 7 N f) := B.2.2.2.2.2.2.2
  obtain ⟨g, ho⟩ := B.2.2.2.2.2.1
  have hK3 : childK σ (f (7 * (j : Int) + 1)) (f (7 * (j : Int) + 2)) ≤ 3 := by unfold childK; (repeat' split) <;> omega
  generalize hKe : childK σ (f (7 * (j : Int) + 1)) (f (7 * (j : Int) + 2)) = K0 at hK3
  refine k_aload_n C dL_law_451 rfl ?_
  refine k_aload_n C dL_law_452 rfl ?_
  refine k_iload C dL_law_453 rfl ?_
  refine k_iconst C dL_law_455 ?_
  refine k_iadd C dL_law_456 ?_
  refine k_iald C dL_law_457 (by assumption) (by rfl) (by omega) ?_
  refine k_aload_n C dL_law_458 rfl ?_
  refine k_iload C dL_law_459 rfl ?_
  refine k_iconst C dL_law_461 ?_
  refine k_iadd C dL_law_462 ?_
  refine k_iald C dL_law_463 (by assumption) (by rfl) (by omega) ?_
  refine k_aload_n C dL_law_464 rfl ?_
  refine kx_SW C rfl ms_L_107 dL_law_465 (w_child B.1 B.2.1 I.1 (hf _) (hf _) ho) rfl rfl (Nat.le_of_ble_eq_true rfl) ⟨(Nat.le_of_ble_eq_true rfl), (Nat.le_of_ble_eq_true rfl)⟩ (by omega) (fun v h1 hp_ => ?_) (fun _ _ hx => hx.elim)
  obtain ⟨rfl, ⟨g1, ho1, hv1⟩, ST⟩ := hp_
  rw [hKe] at hv1 ST ⊢
  obtain ⟨X1, B1⟩ := B.goX I.1 ST (Or.inl ⟨rfl, _, ho1⟩)
  have hb1 : h1.2 b = some (aI 7 N f) := B1.2.2.2.2.2.2.2
  have hm1 := B1.2.2.1.1
  refine k_istore C dL_law_468 (Nat.le_of_ble_eq_true rfl) rfl ?_
  refine k_aload_n C dL_law_470 rfl ?_
  refine k_aload_n C dL_law_471 rfl ?_
  refine k_iload C dL_law_472 rfl ?_
  refine k_iconst C dL_law_474 ?_
  refine k_iadd C dL_law_475 ?_
  refine k_iald C dL_law_476 (by assumption) (by rfl) (by omega) ?_
  refine k_aload_n C dL_law_477 rfl ?_
  refine k_iload C dL_law_478 rfl ?_
  refine k_iconst C dL_law_480 ?_
  refine k_iadd C dL_law_481 ?_
  refine k_iald C dL_law_482 (by assumption) (by rfl) (by omega) ?_
  refine kx_V C rfl mv_L_110 dL_law_483 (c_mChildX B1.2.2.1 B1.2.2.2.1 I.1 (hf _) (hf _)) hm1 rfl rfl (Nat.le_of_ble_eq_true rfl) ⟨(Nat.le_of_ble_eq_true rfl), (Nat.le_of_ble_eq_true rfl)⟩ (by omega) (fun v h2 hp_ => ?_) (fun _ _ hx => hx.elim)
  obtain ⟨r, rfl, hA, hZ⟩ := hp_
  rw [hKe] at hA hZ
  by_cases h0 : K0 = 0
  · subst h0
    obtain ⟨rfl, SM⟩ := hA rfl
    rw [if_pos rfl] at B1
    have S := child_stp I.1 hKe
    have ho2 := B1.arrM SM ho1 (by decide) (by decide)
    obtain ⟨L2, B2⟩ := B1.goM S.1 SM
    exact tl_int (K0 := 0) C B2.2.2.1 ho2 hv1 hK3 (by omega) dL_law_486 dL_law_488 dL_law_489 dL_law_492 dL_law_494 dL_law_499 dL_law_501 dL_law_504 dL_law_505 dL_law_506 dL_law_507 dL_law_509 dL_law_510 dL_law_511 dL_law_516 (by decide) (G.grow I S B2 rfl hnk (by omega))
  · have SM := hZ h0
    rw [if_neg h0] at B1
    have ho2 := B1.arrM SM ho1 (by decide) (by decide)
    obtain ⟨L2, B2⟩ := B1.goM I.1 SM
    exact tl_int C B2.2.2.1 ho2 (fun e => absurd e h0) hK3 (by omega) dL_law_486 dL_law_488 dL_law_489 dL_law_492 dL_law_494 dL_law_499 dL_law_501 dL_law_504 dL_law_505 dL_law_506 dL_law_507 dL_law_509 dL_law_510 dL_law_511 dL_law_516 (by decide) (G.same I (stp.refl I.1) B2 rfl hnk (by omega))
theorem a_tag {w : Wd} {K : KT} {ret : Option FieldType} {nm : String} (C : Cx w K RL cL_law 10 ret nm 25 12986 600192 7294250) {h : Hp} {n k b x m o od N j : Nat} {X : XL} {σ : Sg} {L : ML} {th : Int} {s : Int64} {f : Int → Int} (B : isB w h x X σ m L σ th s o od b N f) (I : Inv σ j) (hf : ∀ i, i32 (f i)) (hj : 7 * j + 7 ≤ N ∧ N ≤ 224) (hnk : n ≤ NN j σ.n ∧ k ≤ SS j σ.n) (G : GoOn w K b x m o od N f j) : Wk w K h n k 519 (Lc b x m o od (7 * (j : Int))) [] := by
  have hr := room_at (j := j) (c := σ.n) (by omega) I.1.1 I.2.1
  have hB := Bc_le σ.n
  have hS := Bs_le σ.n
  have hc := I.1.1
  have hb : h.2 b = some (aI 7 N f) := B.2.2.2.2.2.2.2
  obtain ⟨g, ho⟩ := B.2.2.2.2.2.1
  have hK3 : tgK σ (f (7 * (j : Int) + 1)) (f (7 * (j : Int) + 2)) (f (7 * (j : Int) + 3)) ≤ 3 := by unfold tgK; (repeat' split) <;> omega
  generalize hKe : tgK σ (f (7 * (j : Int) + 1)) (f (7 * (j : Int) + 2)) (f (7 * (j : Int) + 3)) = K0 at hK3
  refine k_aload_n C dL_law_519 rfl ?_
  refine k_aload_n C dL_law_520 rfl ?_
  refine k_iload C dL_law_521 rfl ?_
  refine k_iconst C dL_law_523 ?_
  refine k_iadd C dL_law_524 ?_
  refine k_iald C dL_law_525 (by assumption) (by rfl) (by omega) ?_
  refine k_aload_n C dL_law_526 rfl ?_
  refine k_iload C dL_law_527 rfl ?_
  refine k_iconst C dL_law_529 ?_
  refine k_iadd C dL_law_530 ?_
  refine k_iald C dL_law_531 (by assumption) (by rfl) (by omega) ?_
  refine k_aload_n C dL_law_532 rfl ?_
  refine k_iload C dL_law_533 rfl ?_
  refine k_iconst C dL_law_535 ?_
  refine k_iadd C dL_law_536 ?_
  refine k_iald C dL_law_537 (by assumption) (by rfl) (by omega) ?_
  refine k_aload_n C dL_law_538 rfl ?_
  refine kx_SW C rfl ms_L_111 dL_law_539 (w_tag B.1 B.2.1 I.1 (hf _) (hf _) (hf _) ho) rfl rfl (Nat.le_of_ble_eq_true rfl) ⟨(Nat.le_of_ble_eq_true rfl), (Nat.le_of_ble_eq_true rfl)⟩ (by omega) (fun v h1 hp_ => ?_) (fun _ _ hx => hx.elim)
  obtain ⟨rfl, ⟨g1, ho1, hv1⟩, ST⟩ := hp_
  rw [hKe] at hv1 ST ⊢
  obtain ⟨X1, B1⟩ := B.goX I.1 ST (Or.inl ⟨rfl, _, ho1⟩)
  have hb1 : h1.2 b = some (aI 7 N f) := B1.2.2.2.2.2.2.2
  have hm1 := B1.2.2.1.1
  refine k_istore C dL_law_542 (Nat.le_of_ble_eq_true rfl) rfl ?_
  refine k_aload_n C dL_law_544 rfl ?_
  refine k_aload_n C dL_law_545 rfl ?_
  refine k_iload C dL_law_546 rfl ?_
  refine k_iconst C dL_law_548 ?_
  refine k_iadd C dL_law_549 ?_
  refine k_iald C dL_law_550 (by assumption) (by rfl) (by omega) ?_
  refine k_aload_n C dL_law_551 rfl ?_
  refine k_iload C dL_law_552 rfl ?_
  refine k_iconst C dL_law_554 ?_
  refine k_iadd C dL_law_555 ?_
  refine k_iald C dL_law_556 (by assumption) (by rfl) (by omega) ?_
  refine k_aload_n C dL_law_557 rfl ?_
  refine k_iload C dL_law_558 rfl ?_
  refine k_iconst C dL_law_560 ?_
  refine k_iadd C dL_law_561 ?_
  refine k_iald C dL_law_562 (by assumption) (by rfl) (by omega) ?_
  refine kx_V C rfl mv_L_114 dL_law_563 (c_mTagX B1.2.2.1 B1.2.2.2.1 I.1 (hf _) (hf _) (hf _)) hm1 rfl rfl (Nat.le_of_ble_eq_true rfl) ⟨(Nat.le_of_ble_eq_true rfl), (Nat.le_of_ble_eq_true rfl)⟩ (by omega) (fun v h2 hp_ => ?_) (fun _ _ hx => hx.elim)
  obtain ⟨r, rfl, hA, hZ⟩ := hp_
  rw [hKe] at hA hZ
  by_cases h0 : K0 = 0
  · subst h0
    obtain ⟨rfl, SM⟩ := hA rfl
    rw [if_pos rfl] at B1
    have S := tag_stp I.1 hKe
    have ho2 := B1.arrM SM ho1 (by decide) (by decide)
    obtain ⟨L2, B2⟩ := B1.goM S.1 SM
    exact tl_int (K0 := 0) C B2.2.2.1 ho2 hv1 hK3 (by omega) dL_law_566 dL_law_568 dL_law_569 dL_law_572 dL_law_574 dL_law_579 dL_law_581 dL_law_584 dL_law_585 dL_law_586 dL_law_587 dL_law_589 dL_law_590 dL_law_591 dL_law_596 (by decide) (G.same I S B2 rfl hnk (by omega))
  · have SM := hZ h0
    rw [if_neg h0] at B1
    have ho2 := B1.arrM SM ho1 (by decide) (by decide)
    obtain ⟨L2, B2⟩ := B1.goM I.1 SM
    exact tl_int C B2.2.2.1 ho2 (fun e => absurd e h0) hK3 (by omega) dL_law_566 dL_law_568 dL_law_569 dL_law_572 dL_law_574 dL_law_579 dL_law_581 dL_law_584 dL_law_585 dL_law_586 dL_law_587 dL_law_589 dL_law_590 dL_law_591 dL_law_596 (by decide) (G.same I (stp.refl I.1) B2 rfl hnk (by omega))
theorem a_prove {w : Wd} {K : KT} {ret : Option FieldType} {nm : String} (C : Cx w K RL cL_law 10 ret nm 25 12986 600192 7294250) {h : Hp} {n k b x m o od N j : Nat} {X : XL} {σ : Sg} {L : ML} {th : Int} {s : Int64} {f : Int → Int} (B : isB w h x X σ m L σ th s o od b N f) (I : Inv σ j) (hf : ∀ i, i32 (f i)) (hj : 7 * j + 7 ≤ N ∧ N ≤ 224) (hnk : n ≤ NN j σ.n ∧ k ≤ SS j σ.n) (G : GoOn w K b x m o od N f j) : Wk w K h n k 599 (Lc b x m o od (7 * (j : Int))) [] := by
  have hr := room_at (j := j) (c := σ.n) (by omega) I.1.1 I.2.1
  have hB := Bc_le σ.n
  have hS := Bs_le σ.n
  have hc := I.1.1
  have hb : h.2 b = some (aI 7 N f) := B.2.2.2.2.2.2.2
  obtain ⟨g, ho⟩ := B.2.2.2.2.2.1
  have hK3 : prvK σ (f (7 * (j : Int) + 1)) (f (7 * (j : Int) + 2)) (f (7 * (j : Int) + 3)) (f (7 * (j : Int) + 4)) ≤ 3 := by unfold prvK; (repeat' split) <;> omega
  generalize hKe : prvK σ (f (7 * (j : Int) + 1)) (f (7 * (j : Int) + 2)) (f (7 * (j : Int) + 3)) (f (7 * (j : Int) + 4)) = K0 at hK3
  refine k_aload_n C dL_law_599 rfl ?_
  refine k_aload_n C dL_law_600 rfl ?_
  refine k_iload C dL_law_601 rfl ?_
  refine k_iconst C dL_law_603 ?_
  refine k_iadd C dL_law_604 ?_
  refine k_iald C dL_law_605 (by assumption) (by rfl) (by omega) ?_
  refine k_aload_n C dL_law_606 rfl ?_
  refine k_iload C dL_law_607 rfl ?_
  refine k_iconst C dL_law_609 ?_
  refine k_iadd C dL_law_610 ?_
  refine k_iald C dL_law_611 (by assumption) (by rfl) (by omega) ?_
  refine k_aload_n C dL_law_612 rfl ?_
  refine k_iload C dL_law_613 rfl ?_
  refine k_iconst C dL_law_615 ?_
  refine k_iadd C dL_law_616 ?_
  refine k_iald C dL_law_617 (by assumption) (by rfl) (by omega) ?_
  refine k_aload_n C dL_law_618 rfl ?_
  refine k_iload C dL_law_619 rfl ?_
  refine k_iconst C dL_law_621 ?_
  refine k_iadd C dL_law_622 ?_
  refine k_iald C dL_law_623 (by assumption) (by rfl) (by omega) ?_
  refine k_aload_n C dL_law_624 rfl ?_
  refine kx_SW C rfl ms_L_115 dL_law_625 (w_prove B.1 B.2.1 I.1 (hf _) (hf _) (hf _) (hf _) ho) rfl rfl (Nat.le_of_ble_eq_true rfl) ⟨(Nat.le_of_ble_eq_true rfl), (Nat.le_of_ble_eq_true rfl)⟩ (by omega) (fun v h1 hp_ => ?_) (fun _ _ hx => hx.elim)
  obtain ⟨rfl, ⟨g1, ho1, hv1⟩, ST⟩ := hp_
  rw [hKe] at hv1 ST ⊢
  obtain ⟨X1, B1⟩ := B.goX I.1 ST (Or.inl ⟨rfl, _, ho1⟩)
  have hb1 : h1.2 b = some (aI 7 N f) := B1.2.2.2.2.2.2.2
  have hm1 := B1.2.2.1.1
  refine k_istore C dL_law_628 (Nat.le_of_ble_eq_true rfl) rfl ?_
  refine k_aload_n C dL_law_630 rfl ?_
  refine k_aload_n C dL_law_631 rfl ?_
  refine k_iload C dL_law_632 rfl ?_
  refine k_iconst C dL_law_634 ?_
  refine k_iadd C dL_law_635 ?_
  refine k_iald C dL_law_636 (by assumption) (by rfl) (by omega) ?_
  refine k_aload_n C dL_law_637 rfl ?_
  refine k_iload C dL_law_638 rfl ?_
  refine k_iconst C dL_law_640 ?_
  refine k_iadd C dL_law_641 ?_
  refine k_iald C dL_law_642 (by assumption) (by rfl) (by omega) ?_
  refine k_aload_n C dL_law_643 rfl ?_
  refine k_iload C dL_law_644 rfl ?_
  refine k_iconst C dL_law_646 ?_
  refine k_iadd C dL_law_647 ?_
  refine k_iald C dL_law_648 (by assumption) (by rfl) (by omega) ?_
  refine k_aload_n C dL_law_649 rfl ?_
  refine k_iload C dL_law_650 rfl ?_
  refine k_iconst C dL_law_652 ?_
  refine k_iadd C dL_law_653 ?_
  refine k_iald C dL_law_654 (by assumption) (by rfl) (by omega) ?_
  refine kx_V C rfl mv_L_118 dL_law_655 (c_mProveX B1.2.2.1 B1.2.2.2.1 I.1 (hf _) (hf _) (hf _) (hf _)) hm1 rfl rfl (Nat.le_of_ble_eq_true rfl) ⟨(Nat.le_of_ble_eq_true rfl), (Nat.le_of_ble_eq_true rfl)⟩ (by omega) (fun v h2 hp_ => ?_) (fun _ _ hx => hx.elim)
  obtain ⟨r, rfl, hA, hZ⟩ := hp_
  rw [hKe] at hA hZ
  by_cases h0 : K0 = 0
  · subst h0
    obtain ⟨rfl, SM⟩ := hA rfl
    rw [if_pos rfl] at B1
    have S := prv_stp I.1 (by have := I.2.2; omega) hKe
    have ho2 := B1.arrM SM ho1 (by decide) (by decide)
    obtain ⟨L2, B2⟩ := B1.goM S.1 SM
    exact tl_bool (K0 := 0) C B2.2.2.1 ho2 hv1 hK3 (by omega) dL_law_658 dL_law_660 dL_law_661 dL_law_664 dL_law_666 dL_law_671 dL_law_673 dL_law_676 dL_law_677 dL_law_678 dL_law_679 dL_law_681 dL_law_684 dL_law_685 dL_law_688 dL_law_689 dL_law_690 dL_law_695 (by decide) (G.same I S B2 (by unfold prvG; split <;> rfl) hnk (by omega))
  · have SM := hZ h0
    rw [if_neg h0] at B1
    have ho2 := B1.arrM SM ho1 (by decide) (by decide)
    obtain ⟨L2, B2⟩ := B1.goM I.1 SM
    exact tl_bool C B2.2.2.1 ho2 (fun e => absurd e h0) hK3 (by omega) dL_law_658 dL_law_660 dL_law_661 dL_law_664 dL_law_666 dL_law_671 dL_law_673 dL_law_676 dL_law_677 dL_law_678 dL_law_679 dL_law_681 dL_law_684 dL_law_685 dL_law_688 dL_law_689 dL_law_690 dL_law_695 (by decide) (G.same I (stp.refl I.1) B2 rfl hnk (by omega))
theorem a_doubt {w : Wd} {K : KT} {ret : Option FieldType} {nm : String} (C : Cx w K RL cL_law 10 ret nm 25 12986 600192 7294250) {h : Hp} {n k b x m o od N j : Nat} {X : XL} {σ : Sg} {L : ML} {th : Int} {s : Int64} {f : Int → Int} (B : isB w h x X σ m L σ th s o od b N f) (I : Inv σ j) (hf : ∀ i, i32 (f i)) (hj : 7 * j + 7 ≤ N ∧ N ≤ 224) (hnk : n ≤ NN j σ.n ∧ k ≤ SS j σ.n) (G : GoOn w K b x m o od N f j) : Wk w K h n k 698 (Lc b x m o od (7 * (j : Int))) [] := by
  have hr := room_at (j := j) (c := σ.n) (by omega) I.1.1 I.2.1
  have hB := Bc_le σ.n
  have hS := Bs_le σ.n
  have hc := I.1.1
  have hb : h.2 b = some (aI 7 N f) := B.2.2.2.2.2.2.2
  obtain ⟨g, ho⟩ := B.2.2.2.2.2.1
  have hK3 : dbtK (f (7 * (j : Int) + 1)) ≤ 3 := by unfold dbtK; (repeat' split) <;> omega
  generalize hKe : dbtK (f (7 * (j : Int) + 1)) = K0 at hK3
  refine k_aload_n C dL_law_698 rfl ?_
  refine k_aload_n C dL_law_699 rfl ?_
  refine k_iload C dL_law_700 rfl ?_
  refine k_iconst C dL_law_702 ?_
  refine k_iadd C dL_law_703 ?_
  refine k_iald C dL_law_704 (by assumption) (by rfl) (by omega) ?_
  refine k_aload_n C dL_law_705 rfl ?_
  refine kx_SW C rfl ms_L_119 dL_law_706 (w_doubt B.1 B.2.1 I.1 (by have := I.2.2.2.2; omega) (hf _) ho) rfl rfl (Nat.le_of_ble_eq_true rfl) ⟨(Nat.le_of_ble_eq_true rfl), (Nat.le_of_ble_eq_true rfl)⟩ (by omega) (fun v h1 hp_ => ?_) (fun _ _ hx => hx.elim)
  obtain ⟨rfl, ⟨g1, ho1, hv1⟩, ST⟩ := hp_
  rw [hKe] at hv1 ST ⊢
  obtain ⟨X1, B1⟩ := B.goX I.1 ST (Or.inl ⟨rfl, _, ho1⟩)
  have hb1 : h1.2 b = some (aI 7 N f) := B1.2.2.2.2.2.2.2
  have hm1 := B1.2.2.1.1
  refine k_istore C dL_law_709 (Nat.le_of_ble_eq_true rfl) rfl ?_
  refine k_aload_n C dL_law_711 rfl ?_
  refine k_aload_n C dL_law_712 rfl ?_
  refine k_iload C dL_law_713 rfl ?_
  refine k_iconst C dL_law_715 ?_
  refine k_iadd C dL_law_716 ?_
  refine k_iald C dL_law_717 (by assumption) (by rfl) (by omega) ?_
  refine kx_V C rfl mv_L_121 dL_law_718 (c_mDoubtX B1.2.2.1 B1.2.2.2.1 I.1 (hf _)) hm1 rfl rfl (Nat.le_of_ble_eq_true rfl) ⟨(Nat.le_of_ble_eq_true rfl), (Nat.le_of_ble_eq_true rfl)⟩ (by omega) (fun v h2 hp_ => ?_) (fun _ _ hx => hx.elim)
  obtain ⟨r, rfl, hA, hZ⟩ := hp_
  rw [hKe] at hA hZ
  by_cases h0 : K0 = 0
  · subst h0
    obtain ⟨rfl, SM⟩ := hA rfl
    rw [if_pos rfl] at B1
    have S := dbt_stp (κ := f (7 * (j : Int) + 1)) I.1 (by have := I.2.2.2.2; omega)
    have ho2 := B1.arrM SM ho1 (by decide) (by decide)
    obtain ⟨L2, B2⟩ := B1.goM S.1 SM
    exact tl_int (K0 := 0) C B2.2.2.1 ho2 hv1 hK3 (by omega) dL_law_721 dL_law_723 dL_law_724 dL_law_727 dL_law_729 dL_law_734 dL_law_736 dL_law_739 dL_law_740 dL_law_741 dL_law_742 dL_law_744 dL_law_745 dL_law_746 dL_law_751 (by decide) (G.same I S B2 rfl hnk (by omega))
  · have SM := hZ h0
    rw [if_neg h0] at B1
    have ho2 := B1.arrM SM ho1 (by decide) (by decide)
    obtain ⟨L2, B2⟩ := B1.goM I.1 SM
    exact tl_int C B2.2.2.1 ho2 (fun e => absurd e h0) hK3 (by omega) dL_law_721 dL_law_723 dL_law_724 dL_law_727 dL_law_729 dL_law_734 dL_law_736 dL_law_739 dL_law_740 dL_law_741 dL_law_742 dL_law_744 dL_law_745 dL_law_746 dL_law_751 (by decide) (G.same I (stp.refl I.1) B2 rfl hnk (by omega))
theorem a_decide {w : Wd} {K : KT} {ret : Option FieldType} {nm : String} (C : Cx w K RL cL_law 10 ret nm 25 12986 600192 7294250) {h : Hp} {n k b x m o od N j : Nat} {X : XL} {σ : Sg} {L : ML} {th : Int} {s : Int64} {f : Int → Int} (B : isB w h x X σ m L σ th s o od b N f) (I : Inv σ j) (hf : ∀ i, i32 (f i)) (hj : 7 * j + 7 ≤ N ∧ N ≤ 224) (hnk : n ≤ NN j σ.n ∧ k ≤ SS j σ.n) (G : GoOn w K b x m o od N f j) : Wk w K h n k 754 (Lc b x m o od (7 * (j : Int))) [] := by
  have hr := room_at (j := j) (c := σ.n) (by omega) I.1.1 I.2.1
  have hB := Bc_le σ.n
  have hS := Bs_le σ.n
  have hc := I.1.1
  have hb : h.2 b = some (aI 7 N f) := B.2.2.2.2.2.2.2
  obtain ⟨g, ho⟩ := B.2.2.2.2.2.1
  have hK3 : decK σ (f (7 * (j : Int) + 1)) ≤ 3 := by unfold decK; (repeat' split) <;> omega
  generalize hKe : decK σ (f (7 * (j : Int) + 1)) = K0 at hK3
  refine k_aload_n C dL_law_754 rfl ?_
  refine k_aload_n C dL_law_755 rfl ?_
  refine k_iload C dL_law_756 rfl ?_
  refine k_iconst C dL_law_758 ?_
  refine k_iadd C dL_law_759 ?_
  refine k_iald C dL_law_760 (by assumption) (by rfl) (by omega) ?_
  refine k_aload_n C dL_law_761 rfl ?_
  refine kx_SW C rfl ms_L_122 dL_law_762 (w_decide B.1 B.2.1 I.1 (hf _) ho) rfl rfl (Nat.le_of_ble_eq_true rfl) ⟨(Nat.le_of_ble_eq_true rfl), (Nat.le_of_ble_eq_true rfl)⟩ (by omega) (fun v h1 hp_ => ?_) (fun _ _ hx => hx.elim)
  obtain ⟨rfl, ⟨g1, ho1, hv1⟩, ST⟩ := hp_
  rw [hKe] at hv1 ST ⊢
  obtain ⟨X1, B1⟩ := B.goX I.1 ST (Or.inl ⟨rfl, _, ho1⟩)
  have hb1 : h1.2 b = some (aI 7 N f) := B1.2.2.2.2.2.2.2
  have hm1 := B1.2.2.1.1
  refine k_istore C dL_law_765 (Nat.le_of_ble_eq_true rfl) rfl ?_
  refine k_aload_n C dL_law_767 rfl ?_
  refine k_aload_n C dL_law_768 rfl ?_
  refine k_iload C dL_law_769 rfl ?_
  refine k_iconst C dL_law_771 ?_
  refine k_iadd C dL_law_772 ?_
  refine k_iald C dL_law_773 (by assumption) (by rfl) (by omega) ?_
  refine kx_V C rfl mv_L_124 dL_law_774 (c_mDecideX B1.2.2.1 B1.2.2.2.1 I.1 (hf _)) hm1 rfl rfl (Nat.le_of_ble_eq_true rfl) ⟨(Nat.le_of_ble_eq_true rfl), (Nat.le_of_ble_eq_true rfl)⟩ (by omega) (fun v h2 hp_ => ?_) (fun _ _ hx => hx.elim)
  obtain ⟨r, rfl, hA, hZ⟩ := hp_
  rw [hKe] at hA hZ
  by_cases h0 : K0 = 0
  · subst h0
    obtain ⟨rfl, SM⟩ := hA rfl
    rw [if_pos rfl] at B1
    have S := dec_stp I.1 hKe
    have ho2 := B1.arrM SM ho1 (by decide) (by decide)
    obtain ⟨L2, B2⟩ := B1.goM S.1 SM
    exact tl_int (K0 := 0) C B2.2.2.1 ho2 hv1 hK3 (by omega) dL_law_777 dL_law_779 dL_law_780 dL_law_783 dL_law_785 dL_law_790 dL_law_792 dL_law_795 dL_law_796 dL_law_797 dL_law_798 dL_law_800 dL_law_801 dL_law_802 dL_law_807 (by decide) (G.same I S B2 rfl hnk (by omega))
  · have SM := hZ h0
    rw [if_neg h0] at B1
    have ho2 := B1.arrM SM ho1 (by decide) (by decide)
    obtain ⟨L2, B2⟩ := B1.goM I.1 SM
    exact tl_int C B2.2.2.1 ho2 (fun e => absurd e h0) hK3 (by omega) dL_law_777 dL_law_779 dL_law_780 dL_law_783 dL_law_785 dL_law_790 dL_law_792 dL_law_795 dL_law_796 dL_law_797 dL_law_798 dL_law_800 dL_law_801 dL_law_802 dL_law_807 (by decide) (G.same I (stp.refl I.1) B2 rfl hnk (by omega))
theorem a_cell {w : Wd} {K : KT} {ret : Option FieldType} {nm : String} (C : Cx w K RL cL_law 10 ret nm 25 12986 600192 7294250) {h : Hp} {n k b x m o od N j : Nat} {X : XL} {σ : Sg} {L : ML} {th : Int} {s : Int64} {f : Int → Int} (B : isB w h x X σ m L σ th s o od b N f) (I : Inv σ j) (hf : ∀ i, i32 (f i)) (hj : 7 * j + 7 ≤ N ∧ N ≤ 224) (hnk : n ≤ NN j σ.n ∧ k ≤ SS j σ.n) (G : GoOn w K b x m o od N f j) : Wk w K h n k 810 (Lc b x m o od (7 * (j : Int))) [] := by
  have hr := room_at (j := j) (c := σ.n) (by omega) I.1.1 I.2.1
  have hB := Bc_le σ.n
  have hS := Bs_le σ.n
  have hc := I.1.1
  have hb : h.2 b = some (aI 7 N f) := B.2.2.2.2.2.2.2
  obtain ⟨g, ho⟩ := B.2.2.2.2.2.1
  have hK3 : cellK σ (f (7 * (j : Int) + 1)) (f (7 * (j : Int) + 2)) (f (7 * (j : Int) + 3)) (f (7 * (j : Int) + 4)) ≤ 3 := by unfold cellK; (repeat' split) <;> omega
  generalize hKe : cellK σ (f (7 * (j : Int) + 1)) (f (7 * (j : Int) + 2)) (f (7 * (j : Int) + 3)) (f (7 * (j : Int) + 4)) = K0 at hK3
  refine k_aload_n C dL_law_810 rfl ?_
  refine k_aload_n C dL_law_811 rfl ?_
  refine k_iload C dL_law_812 rfl ?_
  refine k_iconst C dL_law_814 ?_
  refine k_iadd C dL_law_815 ?_
  refine k_iald C dL_law_816 (by assumption) (by rfl) (by omega) ?_
  refine k_aload_n C dL_law_817 rfl ?_
  refine k_iload C dL_law_818 rfl ?_
  refine k_iconst C dL_law_820 ?_
  refine k_iadd C dL_law_821 ?_
  refine k_iald C dL_law_822 (by assumption) (by rfl) (by omega) ?_
  refine k_aload_n C dL_law_823 rfl ?_
  refine k_iload C dL_law_824 rfl ?_
  refine k_iconst C dL_law_826 ?_
  refine k_iadd C dL_law_827 ?_
  refine k_iald C dL_law_828 (by assumption) (by rfl) (by omega) ?_
  refine k_aload_n C dL_law_829 rfl ?_
  refine k_iload C dL_law_830 rfl ?_
  refine k_iconst C dL_law_832 ?_
  refine k_iadd C dL_law_833 ?_
  refine k_iald C dL_law_834 (by assumption) (by rfl) (by omega) ?_
  refine k_aload_n C dL_law_835 rfl ?_
  refine kx_SW C rfl ms_L_125 dL_law_836 (w_cell B.1 B.2.1 I.1 (hf _) (hf _) (hf _) (hf _) ho) rfl rfl (Nat.le_of_ble_eq_true rfl) ⟨(Nat.le_of_ble_eq_true rfl), (Nat.le_of_ble_eq_true rfl)⟩ (by omega) (fun v h1 hp_ => ?_) (fun _ _ hx => hx.elim)
  obtain ⟨rfl, ⟨g1, ho1, hv1⟩, ST⟩ := hp_
  rw [hKe] at hv1 ST ⊢
  obtain ⟨X1, B1⟩ := B.goX I.1 ST (Or.inl ⟨rfl, _, ho1⟩)
  have hb1 : h1.2 b = some (aI 7 N f) := B1.2.2.2.2.2.2.2
  have hm1 := B1.2.2.1.1
  refine k_istore C dL_law_839 (Nat.le_of_ble_eq_true rfl) rfl ?_
  refine k_aload_n C dL_law_841 rfl ?_
  refine k_aload_n C dL_law_842 rfl ?_
  refine k_iload C dL_law_843 rfl ?_
  refine k_iconst C dL_law_845 ?_
  refine k_iadd C dL_law_846 ?_
  refine k_iald C dL_law_847 (by assumption) (by rfl) (by omega) ?_
  refine k_aload_n C dL_law_848 rfl ?_
  refine k_iload C dL_law_849 rfl ?_
  refine k_iconst C dL_law_851 ?_
  refine k_iadd C dL_law_852 ?_
  refine k_iald C dL_law_853 (by assumption) (by rfl) (by omega) ?_
  refine k_aload_n C dL_law_854 rfl ?_
  refine k_iload C dL_law_855 rfl ?_
  refine k_iconst C dL_law_857 ?_
  refine k_iadd C dL_law_858 ?_
  refine k_iald C dL_law_859 (by assumption) (by rfl) (by omega) ?_
  refine k_aload_n C dL_law_860 rfl ?_
  refine k_iload C dL_law_861 rfl ?_
  refine k_iconst C dL_law_863 ?_
  refine k_iadd C dL_law_864 ?_
  refine k_iald C dL_law_865 (by assumption) (by rfl) (by omega) ?_
  refine kx_V C rfl mv_L_127 dL_law_866 (c_mCellX B1.2.2.1 I.1 (hf _) (hf _) (hf _) (hf _)) hm1 rfl rfl (Nat.le_of_ble_eq_true rfl) ⟨(Nat.le_of_ble_eq_true rfl), (Nat.le_of_ble_eq_true rfl)⟩ (by omega) (fun v h2 hp_ => ?_) (fun _ _ hx => hx.elim)
  unfold qPost at hp_
  obtain ⟨M2, U2, r, rfl, hrv⟩ := hp_
  rw [hKe] at M2 hrv
  have SM := q_step M2 B1.2.2.2.1 U2
  rw [ite_self] at B1
  have ho2 := B1.arrM SM ho1 (by decide) (by decide)
  obtain ⟨L2, B2⟩ := B1.goM I.1 SM
  exact tl_int C B2.2.2.1 ho2 (fun e => by rw [hv1 e, hrv e]) hK3 (by omega) dL_law_869 dL_law_871 dL_law_872 dL_law_875 dL_law_877 dL_law_882 dL_law_884 dL_law_887 dL_law_888 dL_law_889 dL_law_890 dL_law_892 dL_law_893 dL_law_894 dL_law_899 (by decide) (G.same I (stp.refl I.1) B2 rfl hnk (by omega))
theorem a_ofMachine {w : Wd} {K : KT} {ret : Option FieldType} {nm : String} (C : Cx w K RL cL_law 10 ret nm 25 12986 600192 7294250) {h : Hp} {n k b x m o od N j : Nat} {X : XL} {σ : Sg} {L : ML} {th : Int} {s : Int64} {f : Int → Int} (B : isB w h x X σ m L σ th s o od b N f) (I : Inv σ j) (hf : ∀ i, i32 (f i)) (hj : 7 * j + 7 ≤ N ∧ N ≤ 224) (hnk : n ≤ NN j σ.n ∧ k ≤ SS j σ.n) (G : GoOn w K b x m o od N f j) : Wk w K h n k 902 (Lc b x m o od (7 * (j : Int))) [] := by
  have hr := room_at (j := j) (c := σ.n) (by omega) I.1.1 I.2.1
  have hB := Bc_le σ.n
  have hS := Bs_le σ.n
  have hc := I.1.1
  have hb : h.2 b = some (aI 7 N f) := B.2.2.2.2.2.2.2
  obtain ⟨g, ho⟩ := B.2.2.2.2.2.1
  have hK3 : ofmK σ (f (7 * (j : Int) + 1)) (f (7 * (j : Int) + 2)) ≤ 3 := by unfold ofmK; (repeat' split) <;> omega
  generalize hKe : ofmK σ (f (7 * (j : Int) + 1)) (f (7 * (j : Int) + 2)) = K0 at hK3
  refine k_aload_n C dL_law_902 rfl ?_
  refine k_aload_n C dL_law_903 rfl ?_
  refine k_iload C dL_law_904 rfl ?_
  refine k_iconst C dL_law_906 ?_
  refine k_iadd C dL_law_907 ?_
  refine k_iald C dL_law_908 (by assumption) (by rfl) (by omega) ?_
  refine k_aload_n C dL_law_909 rfl ?_
  refine k_iload C dL_law_910 rfl ?_
  refine k_iconst C dL_law_912 ?_
  refine k_iadd C dL_law_913 ?_
  refine k_iald C dL_law_914 (by assumption) (by rfl) (by omega) ?_
  refine k_aload_n C dL_law_915 rfl ?_
  refine kx_SW C rfl ms_L_128 dL_law_916 (w_ofMachine B.1 B.2.1 I.1 (hf _) (hf _) ho) rfl rfl (Nat.le_of_ble_eq_true rfl) ⟨(Nat.le_of_ble_eq_true rfl), (Nat.le_of_ble_eq_true rfl)⟩ (by omega) (fun v h1 hp_ => ?_) (fun _ _ hx => hx.elim)
  obtain ⟨rfl, ⟨g1, ho1, hv1⟩, ST⟩ := hp_
  rw [hKe] at hv1 ST ⊢
  obtain ⟨X1, B1⟩ := B.goX I.1 ST (Or.inl ⟨rfl, _, ho1⟩)
  have hb1 : h1.2 b = some (aI 7 N f) := B1.2.2.2.2.2.2.2
  have hm1 := B1.2.2.1.1
  refine k_istore C dL_law_919 (Nat.le_of_ble_eq_true rfl) rfl ?_
  refine k_aload_n C dL_law_921 rfl ?_
  refine k_aload_n C dL_law_922 rfl ?_
  refine k_iload C dL_law_923 rfl ?_
  refine k_iconst C dL_law_925 ?_
  refine k_iadd C dL_law_926 ?_
  refine k_iald C dL_law_927 (by assumption) (by rfl) (by omega) ?_
  refine k_aload_n C dL_law_928 rfl ?_
  refine k_iload C dL_law_929 rfl ?_
  refine k_iconst C dL_law_931 ?_
  refine k_iadd C dL_law_932 ?_
  refine k_iald C dL_law_933 (by assumption) (by rfl) (by omega) ?_
  refine kx_V C rfl mv_L_130 dL_law_934 (c_mOfMachineX B1.2.2.1 I.1 (hf _) (hf _)) hm1 rfl rfl (Nat.le_of_ble_eq_true rfl) ⟨(Nat.le_of_ble_eq_true rfl), (Nat.le_of_ble_eq_true rfl)⟩ (by omega) (fun v h2 hp_ => ?_) (fun _ _ hx => hx.elim)
  unfold qPost at hp_
  obtain ⟨M2, U2, r, rfl, hrv⟩ := hp_
  rw [hKe] at M2 hrv
  have SM := q_step M2 B1.2.2.2.1 U2
  rw [ite_self] at B1
  have ho2 := B1.arrM SM ho1 (by decide) (by decide)
  obtain ⟨L2, B2⟩ := B1.goM I.1 SM
  exact tl_int C B2.2.2.1 ho2 (fun e => by rw [hv1 e, hrv e]) hK3 (by omega) dL_law_937 dL_law_939 dL_law_940 dL_law_943 dL_law_945 dL_law_950 dL_law_952 dL_law_955 dL_law_956 dL_law_957 dL_law_958 dL_law_960 dL_law_961 dL_law_962 dL_law_967 (by decide) (G.same I (stp.refl I.1) B2 rfl hnk (by omega))
theorem a_at {w : Wd} {K : KT} {ret : Option FieldType} {nm : String} (C : Cx w K RL cL_law 10 ret nm 25 12986 600192 7294250) {h : Hp} {n k b x m o od N j : Nat} {X : XL} {σ : Sg} {L : ML} {th : Int} {s : Int64} {f : Int → Int} (B : isB w h x X σ m L σ th s o od b N f) (I : Inv σ j) (hf : ∀ i, i32 (f i)) (hj : 7 * j + 7 ≤ N ∧ N ≤ 224) (hnk : n ≤ NN j σ.n ∧ k ≤ SS j σ.n) (G : GoOn w K b x m o od N f j) : Wk w K h n k 970 (Lc b x m o od (7 * (j : Int))) [] := by
  have hr := room_at (j := j) (c := σ.n) (by omega) I.1.1 I.2.1
  have hB := Bc_le σ.n
  have hS := Bs_le σ.n
  have hc := I.1.1
  have hb : h.2 b = some (aI 7 N f) := B.2.2.2.2.2.2.2
  obtain ⟨g, ho⟩ := B.2.2.2.2.2.1
  have hK3 : atK σ (f (7 * (j : Int) + 1)) (f (7 * (j : Int) + 2)) (f (7 * (j : Int) + 3)) ≤ 3 := by unfold atK; (repeat' split) <;> omega
  generalize hKe : atK σ (f (7 * (j : Int) + 1)) (f (7 * (j : Int) + 2)) (f (7 * (j : Int) + 3)) = K0 at hK3
  refine k_aload_n C dL_law_970 rfl ?_
  refine k_aload_n C dL_law_971 rfl ?_
  refine k_iload C dL_law_972 rfl ?_
  refine k_iconst C dL_law_974 ?_
  refine k_iadd C dL_law_975 ?_
  refine k_iald C dL_law_976 (by assumption) (by rfl) (by omega) ?_
  refine k_aload_n C dL_law_977 rfl ?_
  refine k_iload C dL_law_978 rfl ?_
  refine k_iconst C dL_law_980 ?_
  refine k_iadd C dL_law_981 ?_
  refine k_iald C dL_law_982 (by assumption) (by rfl) (by omega) ?_
  refine k_aload_n C dL_law_983 rfl ?_
  refine k_iload C dL_law_984 rfl ?_
  refine k_iconst C dL_law_986 ?_
  refine k_iadd C dL_law_987 ?_
  refine k_iald C dL_law_988 (by assumption) (by rfl) (by omega) ?_
  refine k_aload_n C dL_law_989 rfl ?_
  refine kx_SW C rfl ms_L_131 dL_law_990 (w_at B.1 B.2.1 I.1 (hf _) (hf _) (hf _) ho) rfl rfl (Nat.le_of_ble_eq_true rfl) ⟨(Nat.le_of_ble_eq_true rfl), (Nat.le_of_ble_eq_true rfl)⟩ (by omega) (fun v h1 hp_ => ?_) (fun _ _ hx => hx.elim)
  obtain ⟨rfl, ⟨g1, ho1, hv1⟩, ST⟩ := hp_
  rw [hKe] at hv1 ST ⊢
  obtain ⟨X1, B1⟩ := B.goX I.1 ST (Or.inl ⟨rfl, _, ho1⟩)
  have hb1 : h1.2 b = some (aI 7 N f) := B1.2.2.2.2.2.2.2
  have hm1 := B1.2.2.1.1
  refine k_istore C dL_law_993 (Nat.le_of_ble_eq_true rfl) rfl ?_
  refine k_aload_n C dL_law_995 rfl ?_
  refine k_aload_n C dL_law_996 rfl ?_
  refine k_iload C dL_law_997 rfl ?_
  refine k_iconst C dL_law_999 ?_
  refine k_iadd C dL_law_1000 ?_
  refine k_iald C dL_law_1001 (by assumption) (by rfl) (by omega) ?_
  refine k_aload_n C dL_law_1002 rfl ?_
  refine k_iload C dL_law_1003 rfl ?_
  refine k_iconst C dL_law_1005 ?_
  refine k_iadd C dL_law_1006 ?_
  refine k_iald C dL_law_1007 (by assumption) (by rfl) (by omega) ?_
  refine k_aload_n C dL_law_1008 rfl ?_
  refine k_iload C dL_law_1009 rfl ?_
  refine k_iconst C dL_law_1011 ?_
  refine k_iadd C dL_law_1012 ?_
  refine k_iald C dL_law_1013 (by assumption) (by rfl) (by omega) ?_
  refine kx_V C rfl mv_L_133 dL_law_1014 (c_matX B1.2.2.1 I.1 (hf _) (hf _) (hf _)) hm1 rfl rfl (Nat.le_of_ble_eq_true rfl) ⟨(Nat.le_of_ble_eq_true rfl), (Nat.le_of_ble_eq_true rfl)⟩ (by omega) (fun v h2 hp_ => ?_) (fun _ _ hx => hx.elim)
  unfold qPost at hp_
  obtain ⟨M2, U2, r, rfl, hrv⟩ := hp_
  rw [hKe] at M2 hrv
  have SM := q_step M2 B1.2.2.2.1 U2
  rw [ite_self] at B1
  have ho2 := B1.arrM SM ho1 (by decide) (by decide)
  obtain ⟨L2, B2⟩ := B1.goM I.1 SM
  exact tl_int C B2.2.2.1 ho2 (fun e => by rw [hv1 e, hrv e]) hK3 (by omega) dL_law_1017 dL_law_1019 dL_law_1020 dL_law_1023 dL_law_1025 dL_law_1030 dL_law_1032 dL_law_1035 dL_law_1036 dL_law_1037 dL_law_1038 dL_law_1040 dL_law_1041 dL_law_1042 dL_law_1047 (by decide) (G.same I (stp.refl I.1) B2 rfl hnk (by omega))
theorem a_symbol {w : Wd} {K : KT} {ret : Option FieldType} {nm : String} (C : Cx w K RL cL_law 10 ret nm 25 12986 600192 7294250) {h : Hp} {n k b x m o od N j : Nat} {X : XL} {σ : Sg} {L : ML} {th : Int} {s : Int64} {f : Int → Int} (B : isB w h x X σ m L σ th s o od b N f) (I : Inv σ j) (hf : ∀ i, i32 (f i)) (hj : 7 * j + 7 ≤ N ∧ N ≤ 224) (hnk : n ≤ NN j σ.n ∧ k ≤ SS j σ.n) (G : GoOn w K b x m o od N f j) : Wk w K h n k 1050 (Lc b x m o od (7 * (j : Int))) [] := by
  have hr := room_at (j := j) (c := σ.n) (by omega) I.1.1 I.2.1
  have hB := Bc_le σ.n
  have hS := Bs_le σ.n
  have hc := I.1.1
  have hb : h.2 b = some (aI 7 N f) := B.2.2.2.2.2.2.2
  obtain ⟨g, ho⟩ := B.2.2.2.2.2.1
  have hK3 : symK σ (f (7 * (j : Int) + 1)) (f (7 * (j : Int) + 2)) (f (7 * (j : Int) + 3)) ≤ 3 := by unfold symK; (repeat' split) <;> omega
  generalize hKe : symK σ (f (7 * (j : Int) + 1)) (f (7 * (j : Int) + 2)) (f (7 * (j : Int) + 3)) = K0 at hK3
  refine k_aload_n C dL_law_1050 rfl ?_
  refine k_aload_n C dL_law_1051 rfl ?_
  refine k_iload C dL_law_1052 rfl ?_
  refine k_iconst C dL_law_1054 ?_
  refine k_iadd C dL_law_1055 ?_
  refine k_iald C dL_law_1056 (by assumption) (by rfl) (by omega) ?_
  refine k_aload_n C dL_law_1057 rfl ?_
  refine k_iload C dL_law_1058 rfl ?_
  refine k_iconst C dL_law_1060 ?_
  refine k_iadd C dL_law_1061 ?_
  refine k_iald C dL_law_1062 (by assumption) (by rfl) (by omega) ?_
  refine k_aload_n C dL_law_1063 rfl ?_
  refine k_iload C dL_law_1064 rfl ?_
  refine k_iconst C dL_law_1066 ?_
  refine k_iadd C dL_law_1067 ?_
  refine k_iald C dL_law_1068 (by assumption) (by rfl) (by omega) ?_
  refine k_aload_n C dL_law_1069 rfl ?_
  refine kx_SW C rfl ms_L_134 dL_law_1070 (w_symbol B.1 B.2.1 I.1 (hf _) (hf _) (hf _) ho) rfl rfl (Nat.le_of_ble_eq_true rfl) ⟨(Nat.le_of_ble_eq_true rfl), (Nat.le_of_ble_eq_true rfl)⟩ (by omega) (fun v h1 hp_ => ?_) (fun _ _ hx => hx.elim)
  obtain ⟨rfl, ⟨g1, ho1, hv1⟩, ST⟩ := hp_
  rw [hKe] at hv1 ST ⊢
  obtain ⟨X1, B1⟩ := B.goX I.1 ST (Or.inl ⟨rfl, _, ho1⟩)
  have hb1 : h1.2 b = some (aI 7 N f) := B1.2.2.2.2.2.2.2
  have hm1 := B1.2.2.1.1
  refine k_istore C dL_law_1073 (Nat.le_of_ble_eq_true rfl) rfl ?_
  refine k_aload_n C dL_law_1075 rfl ?_
  refine k_aload_n C dL_law_1076 rfl ?_
  refine k_iload C dL_law_1077 rfl ?_
  refine k_iconst C dL_law_1079 ?_
  refine k_iadd C dL_law_1080 ?_
  refine k_iald C dL_law_1081 (by assumption) (by rfl) (by omega) ?_
  refine k_aload_n C dL_law_1082 rfl ?_
  refine k_iload C dL_law_1083 rfl ?_
  refine k_iconst C dL_law_1085 ?_
  refine k_iadd C dL_law_1086 ?_
  refine k_iald C dL_law_1087 (by assumption) (by rfl) (by omega) ?_
  refine k_aload_n C dL_law_1088 rfl ?_
  refine k_iload C dL_law_1089 rfl ?_
  refine k_iconst C dL_law_1091 ?_
  refine k_iadd C dL_law_1092 ?_
  refine k_iald C dL_law_1093 (by assumption) (by rfl) (by omega) ?_
  refine kx_V C rfl mv_L_136 dL_law_1094 (c_msymbolX B1.2.2.1 I.1 (hf _) (hf _) (hf _)) hm1 rfl rfl (Nat.le_of_ble_eq_true rfl) ⟨(Nat.le_of_ble_eq_true rfl), (Nat.le_of_ble_eq_true rfl)⟩ (by omega) (fun v h2 hp_ => ?_) (fun _ _ hx => hx.elim)
  unfold qPost at hp_
  obtain ⟨M2, U2, r, rfl, hrv⟩ := hp_
  rw [hKe] at M2 hrv
  have SM := q_step M2 B1.2.2.2.1 U2
  rw [ite_self] at B1
  have ho2 := B1.arrM SM ho1 (by decide) (by decide)
  obtain ⟨L2, B2⟩ := B1.goM I.1 SM
  exact tl_int C B2.2.2.1 ho2 (fun e => by rw [hv1 e, hrv e]) hK3 (by omega) dL_law_1097 dL_law_1099 dL_law_1100 dL_law_1103 dL_law_1105 dL_law_1110 dL_law_1112 dL_law_1115 dL_law_1116 dL_law_1117 dL_law_1118 dL_law_1120 dL_law_1121 dL_law_1122 dL_law_1127 (by decide) (G.same I (stp.refl I.1) B2 rfl hnk (by omega))
theorem a_meets {w : Wd} {K : KT} {ret : Option FieldType} {nm : String} (C : Cx w K RL cL_law 10 ret nm 25 12986 600192 7294250) {h : Hp} {n k b x m o od N j : Nat} {X : XL} {σ : Sg} {L : ML} {th : Int} {s : Int64} {f : Int → Int} (B : isB w h x X σ m L σ th s o od b N f) (I : Inv σ j) (hf : ∀ i, i32 (f i)) (hj : 7 * j + 7 ≤ N ∧ N ≤ 224) (hnk : n ≤ NN j σ.n ∧ k ≤ SS j σ.n) (G : GoOn w K b x m o od N f j) : Wk w K h n k 1219 (Lc b x m o od (7 * (j : Int))) [] := by
  have hr := room_at (j := j) (c := σ.n) (by omega) I.1.1 I.2.1
  have hB := Bc_le σ.n
  have hS := Bs_le σ.n
  have hc := I.1.1
  have hb : h.2 b = some (aI 7 N f) := B.2.2.2.2.2.2.2
  obtain ⟨g, ho⟩ := B.2.2.2.2.2.1
  have hK3 : meetK σ (f (7 * (j : Int) + 1)) (f (7 * (j : Int) + 2)) (f (7 * (j : Int) + 3)) (f (7 * (j : Int) + 4)) ≤ 3 := by unfold meetK; (repeat' split) <;> omega
  generalize hKe : meetK σ (f (7 * (j : Int) + 1)) (f (7 * (j : Int) + 2)) (f (7 * (j : Int) + 3)) (f (7 * (j : Int) + 4)) = K0 at hK3
  refine k_aload_n C dL_law_1219 rfl ?_
  refine k_aload_n C dL_law_1220 rfl ?_
  refine k_iload C dL_law_1221 rfl ?_
  refine k_iconst C dL_law_1223 ?_
  refine k_iadd C dL_law_1224 ?_
  refine k_iald C dL_law_1225 (by assumption) (by rfl) (by omega) ?_
  refine k_aload_n C dL_law_1226 rfl ?_
  refine k_iload C dL_law_1227 rfl ?_
  refine k_iconst C dL_law_1229 ?_
  refine k_iadd C dL_law_1230 ?_
  refine k_iald C dL_law_1231 (by assumption) (by rfl) (by omega) ?_
  refine k_aload_n C dL_law_1232 rfl ?_
  refine k_iload C dL_law_1233 rfl ?_
  refine k_iconst C dL_law_1235 ?_
  refine k_iadd C dL_law_1236 ?_
  refine k_iald C dL_law_1237 (by assumption) (by rfl) (by omega) ?_
  refine k_aload_n C dL_law_1238 rfl ?_
  refine k_iload C dL_law_1239 rfl ?_
  refine k_iconst C dL_law_1241 ?_
  refine k_iadd C dL_law_1242 ?_
  refine k_iald C dL_law_1243 (by assumption) (by rfl) (by omega) ?_
  refine k_aload_n C dL_law_1244 rfl ?_
  refine kx_SW C rfl ms_L_141 dL_law_1245 (w_meets B.1 B.2.1 I.1 (hf _) (hf _) (hf _) (hf _) ho) rfl rfl (Nat.le_of_ble_eq_true rfl) ⟨(Nat.le_of_ble_eq_true rfl), (Nat.le_of_ble_eq_true rfl)⟩ (by omega) (fun v h1 hp_ => ?_) (fun _ _ hx => hx.elim)
  obtain ⟨rfl, ⟨g1, ho1, hv1⟩, ST⟩ := hp_
  rw [hKe] at hv1 ST ⊢
  obtain ⟨X1, B1⟩ := B.goX I.1 ST (Or.inl ⟨rfl, _, ho1⟩)
  have hb1 : h1.2 b = some (aI 7 N f) := B1.2.2.2.2.2.2.2
  have hm1 := B1.2.2.1.1
  refine k_istore C dL_law_1248 (Nat.le_of_ble_eq_true rfl) rfl ?_
  refine k_aload_n C dL_law_1250 rfl ?_
  refine k_aload_n C dL_law_1251 rfl ?_
  refine k_iload C dL_law_1252 rfl ?_
  refine k_iconst C dL_law_1254 ?_
  refine k_iadd C dL_law_1255 ?_
  refine k_iald C dL_law_1256 (by assumption) (by rfl) (by omega) ?_
  refine k_aload_n C dL_law_1257 rfl ?_
  refine k_iload C dL_law_1258 rfl ?_
  refine k_iconst C dL_law_1260 ?_
  refine k_iadd C dL_law_1261 ?_
  refine k_iald C dL_law_1262 (by assumption) (by rfl) (by omega) ?_
  refine k_aload_n C dL_law_1263 rfl ?_
  refine k_iload C dL_law_1264 rfl ?_
  refine k_iconst C dL_law_1266 ?_
  refine k_iadd C dL_law_1267 ?_
  refine k_iald C dL_law_1268 (by assumption) (by rfl) (by omega) ?_
  refine k_aload_n C dL_law_1269 rfl ?_
  refine k_iload C dL_law_1270 rfl ?_
  refine k_iconst C dL_law_1272 ?_
  refine k_iadd C dL_law_1273 ?_
  refine k_iald C dL_law_1274 (by assumption) (by rfl) (by omega) ?_
  refine kx_V C rfl mv_L_143 dL_law_1275 (c_mMeetsX B1.2.2.1 I.1 (hf _) (hf _) (hf _) (hf _)) hm1 rfl rfl (Nat.le_of_ble_eq_true rfl) ⟨(Nat.le_of_ble_eq_true rfl), (Nat.le_of_ble_eq_true rfl)⟩ (by omega) (fun v h2 hp_ => ?_) (fun _ _ hx => hx.elim)
  unfold qPost at hp_
  obtain ⟨M2, U2, r, rfl, hrv⟩ := hp_
  rw [hKe] at M2 hrv
  have SM := q_step M2 B1.2.2.2.1 U2
  rw [ite_self] at B1
  have ho2 := B1.arrM SM ho1 (by decide) (by decide)
  obtain ⟨L2, B2⟩ := B1.goM I.1 SM
  exact tl_int C B2.2.2.1 ho2 (fun e => by rw [hv1 e, hrv e]) hK3 (by omega) dL_law_1278 dL_law_1280 dL_law_1281 dL_law_1284 dL_law_1286 dL_law_1291 dL_law_1293 dL_law_1296 dL_law_1297 dL_law_1298 dL_law_1299 dL_law_1301 dL_law_1302 dL_law_1303 dL_law_1308 (by decide) (G.same I (stp.refl I.1) B2 rfl hnk (by omega))
theorem a_likeness {w : Wd} {K : KT} {ret : Option FieldType} {nm : String} (C : Cx w K RL cL_law 10 ret nm 25 12986 600192 7294250) {h : Hp} {n k b x m o od N j : Nat} {X : XL} {σ : Sg} {L : ML} {th : Int} {s : Int64} {f : Int → Int} (B : isB w h x X σ m L σ th s o od b N f) (I : Inv σ j) (hf : ∀ i, i32 (f i)) (hj : 7 * j + 7 ≤ N ∧ N ≤ 224) (hnk : n ≤ NN j σ.n ∧ k ≤ SS j σ.n) (G : GoOn w K b x m o od N f j) : Wk w K h n k 1311 (Lc b x m o od (7 * (j : Int))) [] := by
  have hr := room_at (j := j) (c := σ.n) (by omega) I.1.1 I.2.1
  have hB := Bc_le σ.n
  have hS := Bs_le σ.n
  have hc := I.1.1
  have hb : h.2 b = some (aI 7 N f) := B.2.2.2.2.2.2.2
  obtain ⟨g, ho⟩ := B.2.2.2.2.2.1
  have hK3 : likeK σ (f (7 * (j : Int) + 1)) (f (7 * (j : Int) + 2)) ≤ 3 := by unfold likeK; (repeat' split) <;> omega
  generalize hKe : likeK σ (f (7 * (j : Int) + 1)) (f (7 * (j : Int) + 2)) = K0 at hK3
  refine k_aload_n C dL_law_1311 rfl ?_
  refine k_aload_n C dL_law_1312 rfl ?_
  refine k_iload C dL_law_1313 rfl ?_
  refine k_iconst C dL_law_1315 ?_
  refine k_iadd C dL_law_1316 ?_
  refine k_iald C dL_law_1317 (by assumption) (by rfl) (by omega) ?_
  refine k_aload_n C dL_law_1318 rfl ?_
  refine k_iload C dL_law_1319 rfl ?_
  refine k_iconst C dL_law_1321 ?_
  refine k_iadd C dL_law_1322 ?_
  refine k_iald C dL_law_1323 (by assumption) (by rfl) (by omega) ?_
  refine k_aload_n C dL_law_1324 rfl ?_
  refine kx_SW C rfl ms_L_144 dL_law_1325 (w_likeness B.1 B.2.1 I.1 (hf _) (hf _) ho) rfl rfl (Nat.le_of_ble_eq_true rfl) ⟨(Nat.le_of_ble_eq_true rfl), (Nat.le_of_ble_eq_true rfl)⟩ (by omega) (fun v h1 hp_ => ?_) (fun _ _ hx => hx.elim)
  obtain ⟨rfl, ⟨g1, ho1, hv1⟩, ST⟩ := hp_
  rw [hKe] at hv1 ST ⊢
  obtain ⟨X1, B1⟩ := B.goX I.1 ST (Or.inl ⟨rfl, _, ho1⟩)
  have hb1 : h1.2 b = some (aI 7 N f) := B1.2.2.2.2.2.2.2
  have hm1 := B1.2.2.1.1
  refine k_istore C dL_law_1328 (Nat.le_of_ble_eq_true rfl) rfl ?_
  refine k_aload_n C dL_law_1330 rfl ?_
  refine k_aload_n C dL_law_1331 rfl ?_
  refine k_iload C dL_law_1332 rfl ?_
  refine k_iconst C dL_law_1334 ?_
  refine k_iadd C dL_law_1335 ?_
  refine k_iald C dL_law_1336 (by assumption) (by rfl) (by omega) ?_
  refine k_aload_n C dL_law_1337 rfl ?_
  refine k_iload C dL_law_1338 rfl ?_
  refine k_iconst C dL_law_1340 ?_
  refine k_iadd C dL_law_1341 ?_
  refine k_iald C dL_law_1342 (by assumption) (by rfl) (by omega) ?_
  refine kx_V C rfl mv_L_146 dL_law_1343 (c_mLikenessX B1.2.2.1 I.1 (hf _) (hf _)) hm1 rfl rfl (Nat.le_of_ble_eq_true rfl) ⟨(Nat.le_of_ble_eq_true rfl), (Nat.le_of_ble_eq_true rfl)⟩ (by omega) (fun v h2 hp_ => ?_) (fun _ _ hx => hx.elim)
  unfold qPost at hp_
  obtain ⟨M2, U2, r, rfl, hrv⟩ := hp_
  rw [hKe] at M2 hrv
  have SM := q_step M2 B1.2.2.2.1 U2
  rw [ite_self] at B1
  have ho2 := B1.arrM SM ho1 (by decide) (by decide)
  obtain ⟨L2, B2⟩ := B1.goM I.1 SM
  exact tl_int C B2.2.2.1 ho2 (fun e => by rw [hv1 e, hrv e]) hK3 (by omega) dL_law_1346 dL_law_1348 dL_law_1349 dL_law_1352 dL_law_1354 dL_law_1359 dL_law_1361 dL_law_1364 dL_law_1365 dL_law_1366 dL_law_1367 dL_law_1369 dL_law_1370 dL_law_1371 dL_law_1376 (by decide) (G.same I (stp.refl I.1) B2 rfl hnk (by omega))
theorem a_champion {w : Wd} {K : KT} {ret : Option FieldType} {nm : String} (C : Cx w K RL cL_law 10 ret nm 25 12986 600192 7294250) {h : Hp} {n k b x m o od N j : Nat} {X : XL} {σ : Sg} {L : ML} {th : Int} {s : Int64} {f : Int → Int} (B : isB w h x X σ m L σ th s o od b N f) (I : Inv σ j) (hf : ∀ i, i32 (f i)) (hj : 7 * j + 7 ≤ N ∧ N ≤ 224) (hnk : n ≤ NN j σ.n ∧ k ≤ SS j σ.n) (G : GoOn w K b x m o od N f j) : Wk w K h n k 1379 (Lc b x m o od (7 * (j : Int))) [] := by
  have hr := room_at (j := j) (c := σ.n) (by omega) I.1.1 I.2.1
  have hB := Bc_le σ.n
  have hS := Bs_le σ.n
  have hc := I.1.1
  have hb : h.2 b = some (aI 7 N f) := B.2.2.2.2.2.2.2
  obtain ⟨g, ho⟩ := B.2.2.2.2.2.1
  have hK3 : chamK (f (7 * (j : Int) + 1)) ≤ 3 := by unfold chamK; (repeat' split) <;> omega
  generalize hKe : chamK (f (7 * (j : Int) + 1)) = K0 at hK3
  refine k_aload_n C dL_law_1379 rfl ?_
  refine k_aload_n C dL_law_1380 rfl ?_
  refine k_iload C dL_law_1381 rfl ?_
  refine k_iconst C dL_law_1383 ?_
  refine k_iadd C dL_law_1384 ?_
  refine k_iald C dL_law_1385 (by assumption) (by rfl) (by omega) ?_
  refine k_aload_n C dL_law_1386 rfl ?_
  refine kx_SW C rfl ms_L_147 dL_law_1387 (w_champion B.1 B.2.1 I.1 (hf _) ho) rfl rfl (Nat.le_of_ble_eq_true rfl) ⟨(Nat.le_of_ble_eq_true rfl), (Nat.le_of_ble_eq_true rfl)⟩ (by omega) (fun v h1 hp_ => ?_) (fun _ _ hx => hx.elim)
  obtain ⟨rfl, ⟨g1, ho1, hv1⟩, ST⟩ := hp_
  rw [hKe] at hv1 ST ⊢
  obtain ⟨X1, B1⟩ := B.goX I.1 ST (Or.inl ⟨rfl, _, ho1⟩)
  have hb1 : h1.2 b = some (aI 7 N f) := B1.2.2.2.2.2.2.2
  have hm1 := B1.2.2.1.1
  refine k_istore C dL_law_1390 (Nat.le_of_ble_eq_true rfl) rfl ?_
  refine k_aload_n C dL_law_1392 rfl ?_
  refine k_aload_n C dL_law_1393 rfl ?_
  refine k_iload C dL_law_1394 rfl ?_
  refine k_iconst C dL_law_1396 ?_
  refine k_iadd C dL_law_1397 ?_
  refine k_iald C dL_law_1398 (by assumption) (by rfl) (by omega) ?_
  refine kx_V C rfl mv_L_149 dL_law_1399 (c_mChampionX B1.2.2.1 I.1 (hf _)) hm1 rfl rfl (Nat.le_of_ble_eq_true rfl) ⟨(Nat.le_of_ble_eq_true rfl), (Nat.le_of_ble_eq_true rfl)⟩ (by omega) (fun v h2 hp_ => ?_) (fun _ _ hx => hx.elim)
  unfold qPost at hp_
  obtain ⟨M2, U2, r, rfl, hrv⟩ := hp_
  rw [hKe] at M2 hrv
  have SM := q_step M2 B1.2.2.2.1 U2
  rw [ite_self] at B1
  have ho2 := B1.arrM SM ho1 (by decide) (by decide)
  obtain ⟨L2, B2⟩ := B1.goM I.1 SM
  exact tl_int C B2.2.2.1 ho2 (fun e => by rw [hv1 e, hrv e]) hK3 (by omega) dL_law_1402 dL_law_1404 dL_law_1405 dL_law_1408 dL_law_1410 dL_law_1415 dL_law_1417 dL_law_1420 dL_law_1421 dL_law_1422 dL_law_1423 dL_law_1425 dL_law_1426 dL_law_1427 dL_law_1432 (by decide) (G.same I (stp.refl I.1) B2 rfl hnk (by omega))
theorem a_tagged {w : Wd} {K : KT} {ret : Option FieldType} {nm : String} (C : Cx w K RL cL_law 10 ret nm 25 12986 600192 7294250) {h : Hp} {n k b x m o od N j : Nat} {X : XL} {σ : Sg} {L : ML} {th : Int} {s : Int64} {f : Int → Int} (B : isB w h x X σ m L σ th s o od b N f) (I : Inv σ j) (hf : ∀ i, i32 (f i)) (hj : 7 * j + 7 ≤ N ∧ N ≤ 224) (hnk : n ≤ NN j σ.n ∧ k ≤ SS j σ.n) (G : GoOn w K b x m o od N f j) : Wk w K h n k 1435 (Lc b x m o od (7 * (j : Int))) [] := by
  have hr := room_at (j := j) (c := σ.n) (by omega) I.1.1 I.2.1
  have hB := Bc_le σ.n
  have hS := Bs_le σ.n
  have hc := I.1.1
  have hb : h.2 b = some (aI 7 N f) := B.2.2.2.2.2.2.2
  obtain ⟨g, ho⟩ := B.2.2.2.2.2.1
  have hK3 : tagK σ (f (7 * (j : Int) + 1)) (f (7 * (j : Int) + 2)) (f (7 * (j : Int) + 3)) ≤ 3 := by unfold tagK; (repeat' split) <;> omega
  generalize hKe : tagK σ (f (7 * (j : Int) + 1)) (f (7 * (j : Int) + 2)) (f (7 * (j : Int) + 3)) = K0 at hK3
  refine k_aload_n C dL_law_1435 rfl ?_
  refine k_aload_n C dL_law_1436 rfl ?_
  refine k_iload C dL_law_1437 rfl ?_
  refine k_iconst C dL_law_1439 ?_
  refine k_iadd C dL_law_1440 ?_
  refine k_iald C dL_law_1441 (by assumption) (by rfl) (by omega) ?_
  refine k_aload_n C dL_law_1442 rfl ?_
  refine k_iload C dL_law_1443 rfl ?_
  refine k_iconst C dL_law_1445 ?_
  refine k_iadd C dL_law_1446 ?_
  refine k_iald C dL_law_1447 (by assumption) (by rfl) (by omega) ?_
  refine k_aload_n C dL_law_1448 rfl ?_
  refine k_iload C dL_law_1449 rfl ?_
  refine k_iconst C dL_law_1451 ?_
  refine k_iadd C dL_law_1452 ?_
  refine k_iald C dL_law_1453 (by assumption) (by rfl) (by omega) ?_
  refine k_aload_n C dL_law_1454 rfl ?_
  refine kx_SW C rfl ms_L_150 dL_law_1455 (w_tagged B.1 B.2.1 I.1 (hf _) (hf _) (hf _) ho) rfl rfl (Nat.le_of_ble_eq_true rfl) ⟨(Nat.le_of_ble_eq_true rfl), (Nat.le_of_ble_eq_true rfl)⟩ (by omega) (fun v h1 hp_ => ?_) (fun _ _ hx => hx.elim)
  obtain ⟨rfl, ⟨g1, ho1, hv1⟩, ST⟩ := hp_
  rw [hKe] at hv1 ST ⊢
  obtain ⟨X1, B1⟩ := B.goX I.1 ST (Or.inl ⟨rfl, _, ho1⟩)
  have hb1 : h1.2 b = some (aI 7 N f) := B1.2.2.2.2.2.2.2
  have hm1 := B1.2.2.1.1
  refine k_istore C dL_law_1458 (Nat.le_of_ble_eq_true rfl) rfl ?_
  refine k_aload_n C dL_law_1460 rfl ?_
  refine k_aload_n C dL_law_1461 rfl ?_
  refine k_iload C dL_law_1462 rfl ?_
  refine k_iconst C dL_law_1464 ?_
  refine k_iadd C dL_law_1465 ?_
  refine k_iald C dL_law_1466 (by assumption) (by rfl) (by omega) ?_
  refine k_aload_n C dL_law_1467 rfl ?_
  refine k_iload C dL_law_1468 rfl ?_
  refine k_iconst C dL_law_1470 ?_
  refine k_iadd C dL_law_1471 ?_
  refine k_iald C dL_law_1472 (by assumption) (by rfl) (by omega) ?_
  refine k_aload_n C dL_law_1473 rfl ?_
  refine k_iload C dL_law_1474 rfl ?_
  refine k_iconst C dL_law_1476 ?_
  refine k_iadd C dL_law_1477 ?_
  refine k_iald C dL_law_1478 (by assumption) (by rfl) (by omega) ?_
  refine kx_V C rfl mv_L_152 dL_law_1479 (c_mTaggedX B1.2.2.1 I.1 (hf _) (hf _) (hf _)) hm1 rfl rfl (Nat.le_of_ble_eq_true rfl) ⟨(Nat.le_of_ble_eq_true rfl), (Nat.le_of_ble_eq_true rfl)⟩ (by omega) (fun v h2 hp_ => ?_) (fun _ _ hx => hx.elim)
  unfold qPost at hp_
  obtain ⟨M2, U2, r, rfl, hrv⟩ := hp_
  rw [hKe] at M2 hrv
  have SM := q_step M2 B1.2.2.2.1 U2
  rw [ite_self] at B1
  have ho2 := B1.arrM SM ho1 (by decide) (by decide)
  obtain ⟨L2, B2⟩ := B1.goM I.1 SM
  exact tl_int C B2.2.2.1 ho2 (fun e => by rw [hv1 e, hrv e]) hK3 (by omega) dL_law_1482 dL_law_1484 dL_law_1485 dL_law_1488 dL_law_1490 dL_law_1495 dL_law_1497 dL_law_1500 dL_law_1501 dL_law_1502 dL_law_1503 dL_law_1505 dL_law_1506 dL_law_1507 dL_law_1512 (by decide) (G.same I (stp.refl I.1) B2 rfl hnk (by omega))
theorem a_many {w : Wd} {K : KT} {ret : Option FieldType} {nm : String} (C : Cx w K RL cL_law 10 ret nm 25 12986 600192 7294250) {h : Hp} {n k b x m o od N j : Nat} {X : XL} {σ : Sg} {L : ML} {th : Int} {s : Int64} {f : Int → Int} (B : isB w h x X σ m L σ th s o od b N f) (I : Inv σ j) (hf : ∀ i, i32 (f i)) (hj : 7 * j + 7 ≤ N ∧ N ≤ 224) (hnk : n ≤ NN j σ.n ∧ k ≤ SS j σ.n) (G : GoOn w K b x m o od N f j) : Wk w K h n k 1515 (Lc b x m o od (7 * (j : Int))) [] := by
  have hr := room_at (j := j) (c := σ.n) (by omega) I.1.1 I.2.1
  have hB := Bc_le σ.n
  have hS := Bs_le σ.n
  have hc := I.1.1
  have hb : h.2 b = some (aI 7 N f) := B.2.2.2.2.2.2.2
  obtain ⟨g, ho⟩ := B.2.2.2.2.2.1
  have hK3 : manyK (f (7 * (j : Int) + 1)) ≤ 3 := by unfold manyK; (repeat' split) <;> omega
  generalize hKe : manyK (f (7 * (j : Int) + 1)) = K0 at hK3
  refine k_aload_n C dL_law_1515 rfl ?_
  refine k_aload_n C dL_law_1516 rfl ?_
  refine k_iload C dL_law_1517 rfl ?_
  refine k_iconst C dL_law_1519 ?_
  refine k_iadd C dL_law_1520 ?_
  refine k_iald C dL_law_1521 (by assumption) (by rfl) (by omega) ?_
  refine k_aload_n C dL_law_1522 rfl ?_
  refine kx_SW C rfl ms_L_153 dL_law_1523 (w_many B.1 B.2.1 I.1 (hf _) ho) rfl rfl (Nat.le_of_ble_eq_true rfl) ⟨(Nat.le_of_ble_eq_true rfl), (Nat.le_of_ble_eq_true rfl)⟩ (by omega) (fun v h1 hp_ => ?_) (fun _ _ hx => hx.elim)
  obtain ⟨rfl, ⟨g1, ho1, hv1⟩, ST⟩ := hp_
  rw [hKe] at hv1 ST ⊢
  obtain ⟨X1, B1⟩ := B.goX I.1 ST (Or.inl ⟨rfl, _, ho1⟩)
  have hb1 : h1.2 b = some (aI 7 N f) := B1.2.2.2.2.2.2.2
  have hm1 := B1.2.2.1.1
  refine k_istore C dL_law_1526 (Nat.le_of_ble_eq_true rfl) rfl ?_
  refine k_aload_n C dL_law_1528 rfl ?_
  refine k_aload_n C dL_law_1529 rfl ?_
  refine k_iload C dL_law_1530 rfl ?_
  refine k_iconst C dL_law_1532 ?_
  refine k_iadd C dL_law_1533 ?_
  refine k_iald C dL_law_1534 (by assumption) (by rfl) (by omega) ?_
  refine kx_V C rfl mv_L_155 dL_law_1535 (c_mManyX B1.2.2.1 I.1 (hf _)) hm1 rfl rfl (Nat.le_of_ble_eq_true rfl) ⟨(Nat.le_of_ble_eq_true rfl), (Nat.le_of_ble_eq_true rfl)⟩ (by omega) (fun v h2 hp_ => ?_) (fun _ _ hx => hx.elim)
  unfold qPost at hp_
  obtain ⟨M2, U2, r, rfl, hrv⟩ := hp_
  rw [hKe] at M2 hrv
  have SM := q_step M2 B1.2.2.2.1 U2
  rw [ite_self] at B1
  have ho2 := B1.arrM SM ho1 (by decide) (by decide)
  obtain ⟨L2, B2⟩ := B1.goM I.1 SM
  exact tl_int C B2.2.2.1 ho2 (fun e => by rw [hv1 e, hrv e]) hK3 (by omega) dL_law_1538 dL_law_1540 dL_law_1541 dL_law_1544 dL_law_1546 dL_law_1551 dL_law_1553 dL_law_1556 dL_law_1557 dL_law_1558 dL_law_1559 dL_law_1561 dL_law_1562 dL_law_1563 dL_law_1568 (by decide) (G.same I (stp.refl I.1) B2 rfl hnk (by omega))
theorem a_cycleIn {w : Wd} {K : KT} {ret : Option FieldType} {nm : String} (C : Cx w K RL cL_law 10 ret nm 25 12986 600192 7294250) {h : Hp} {n k b x m o od N j : Nat} {X : XL} {σ : Sg} {L : ML} {th : Int} {s : Int64} {f : Int → Int} (B : isB w h x X σ m L σ th s o od b N f) (I : Inv σ j) (hf : ∀ i, i32 (f i)) (hj : 7 * j + 7 ≤ N ∧ N ≤ 224) (hnk : n ≤ NN j σ.n ∧ k ≤ SS j σ.n) (G : GoOn w K b x m o od N f j) : Wk w K h n k 1612 (Lc b x m o od (7 * (j : Int))) [] := by
  have hr := room_at (j := j) (c := σ.n) (by omega) I.1.1 I.2.1
  have hB := Bc_le σ.n
  have hS := Bs_le σ.n
  have hc := I.1.1
  have hb : h.2 b = some (aI 7 N f) := B.2.2.2.2.2.2.2
  obtain ⟨g, ho⟩ := B.2.2.2.2.2.1
  have hK3 : cycK σ (f (7 * (j : Int) + 1)) (f (7 * (j : Int) + 2)) ≤ 3 := by unfold cycK; (repeat' split) <;> omega
  generalize hKe : cycK σ (f (7 * (j : Int) + 1)) (f (7 * (j : Int) + 2)) = K0 at hK3
  refine k_aload_n C dL_law_1612 rfl ?_
  refine k_aload_n C dL_law_1613 rfl ?_
  refine k_iload C dL_law_1614 rfl ?_
  refine k_iconst C dL_law_1616 ?_
  refine k_iadd C dL_law_1617 ?_
  refine k_iald C dL_law_1618 (by assumption) (by rfl) (by omega) ?_
  refine k_aload_n C dL_law_1619 rfl ?_
  refine k_iload C dL_law_1620 rfl ?_
  refine k_iconst C dL_law_1622 ?_
  refine k_iadd C dL_law_1623 ?_
  refine k_iald C dL_law_1624 (by assumption) (by rfl) (by omega) ?_
  refine k_aload_n C dL_law_1625 rfl ?_
  refine kx_SW C rfl ms_L_161 dL_law_1626 (w_cycleIn B.1 B.2.1 I.1 (hf _) (hf _) ho) rfl rfl (Nat.le_of_ble_eq_true rfl) ⟨(Nat.le_of_ble_eq_true rfl), (Nat.le_of_ble_eq_true rfl)⟩ (by omega) (fun v h1 hp_ => ?_) (fun _ _ hx => hx.elim)
  obtain ⟨rfl, ⟨g1, ho1, hv1⟩, ST⟩ := hp_
  rw [hKe] at hv1 ST ⊢
  obtain ⟨X1, B1⟩ := B.goX I.1 ST (Or.inl ⟨rfl, _, ho1⟩)
  have hb1 : h1.2 b = some (aI 7 N f) := B1.2.2.2.2.2.2.2
  have hm1 := B1.2.2.1.1
  refine k_istore C dL_law_1629 (Nat.le_of_ble_eq_true rfl) rfl ?_
  refine k_aload_n C dL_law_1631 rfl ?_
  refine k_aload_n C dL_law_1632 rfl ?_
  refine k_iload C dL_law_1633 rfl ?_
  refine k_iconst C dL_law_1635 ?_
  refine k_iadd C dL_law_1636 ?_
  refine k_iald C dL_law_1637 (by assumption) (by rfl) (by omega) ?_
  refine k_aload_n C dL_law_1638 rfl ?_
  refine k_iload C dL_law_1639 rfl ?_
  refine k_iconst C dL_law_1641 ?_
  refine k_iadd C dL_law_1642 ?_
  refine k_iald C dL_law_1643 (by assumption) (by rfl) (by omega) ?_
  refine kx_V C rfl mv_L_163 dL_law_1644 (c_mcycleInX B1.2.2.1 I.1 (hf _) (hf _)) hm1 rfl rfl (Nat.le_of_ble_eq_true rfl) ⟨(Nat.le_of_ble_eq_true rfl), (Nat.le_of_ble_eq_true rfl)⟩ (by omega) (fun v h2 hp_ => ?_) (fun _ _ hx => hx.elim)
  unfold qPost at hp_
  obtain ⟨M2, U2, r, rfl, hrv⟩ := hp_
  rw [hKe] at M2 hrv
  have SM := q_step M2 B1.2.2.2.1 U2
  rw [ite_self] at B1
  have ho2 := B1.arrM SM ho1 (by decide) (by decide)
  obtain ⟨L2, B2⟩ := B1.goM I.1 SM
  exact tl_int C B2.2.2.1 ho2 (fun e => by rw [hv1 e, hrv e]) hK3 (by omega) dL_law_1647 dL_law_1649 dL_law_1650 dL_law_1653 dL_law_1655 dL_law_1660 dL_law_1662 dL_law_1665 dL_law_1666 dL_law_1667 dL_law_1668 dL_law_1670 dL_law_1671 dL_law_1672 dL_law_1677 (by decide) (G.same I (stp.refl I.1) B2 rfl hnk (by omega))
theorem a_backIn {w : Wd} {K : KT} {ret : Option FieldType} {nm : String} (C : Cx w K RL cL_law 10 ret nm 25 12986 600192 7294250) {h : Hp} {n k b x m o od N j : Nat} {X : XL} {σ : Sg} {L : ML} {th : Int} {s : Int64} {f : Int → Int} (B : isB w h x X σ m L σ th s o od b N f) (I : Inv σ j) (hf : ∀ i, i32 (f i)) (hj : 7 * j + 7 ≤ N ∧ N ≤ 224) (hnk : n ≤ NN j σ.n ∧ k ≤ SS j σ.n) (G : GoOn w K b x m o od N f j) : Wk w K h n k 1680 (Lc b x m o od (7 * (j : Int))) [] := by
  have hr := room_at (j := j) (c := σ.n) (by omega) I.1.1 I.2.1
  have hB := Bc_le σ.n
  have hS := Bs_le σ.n
  have hc := I.1.1
  have hb : h.2 b = some (aI 7 N f) := B.2.2.2.2.2.2.2
  obtain ⟨g, ho⟩ := B.2.2.2.2.2.1
  have hK3 : oneK σ (f (7 * (j : Int) + 1)) ≤ 3 := by unfold oneK; (repeat' split) <;> omega
  generalize hKe : oneK σ (f (7 * (j : Int) + 1)) = K0 at hK3
  refine k_aload_n C dL_law_1680 rfl ?_
  refine k_aload_n C dL_law_1681 rfl ?_
  refine k_iload C dL_law_1682 rfl ?_
  refine k_iconst C dL_law_1684 ?_
  refine k_iadd C dL_law_1685 ?_
  refine k_iald C dL_law_1686 (by assumption) (by rfl) (by omega) ?_
  refine k_aload_n C dL_law_1687 rfl ?_
  refine kx_SW C rfl ms_L_164 dL_law_1688 (w_backIn B.1 B.2.1 I.1 (hf _) ho) rfl rfl (Nat.le_of_ble_eq_true rfl) ⟨(Nat.le_of_ble_eq_true rfl), (Nat.le_of_ble_eq_true rfl)⟩ (by omega) (fun v h1 hp_ => ?_) (fun _ _ hx => hx.elim)
  obtain ⟨rfl, ⟨g1, ho1, hv1⟩, ST⟩ := hp_
  rw [hKe] at hv1 ST ⊢
  obtain ⟨X1, B1⟩ := B.goX I.1 ST (Or.inl ⟨rfl, _, ho1⟩)
  have hb1 : h1.2 b = some (aI 7 N f) := B1.2.2.2.2.2.2.2
  have hm1 := B1.2.2.1.1
  refine k_istore C dL_law_1691 (Nat.le_of_ble_eq_true rfl) rfl ?_
  refine k_aload_n C dL_law_1693 rfl ?_
  refine k_aload_n C dL_law_1694 rfl ?_
  refine k_iload C dL_law_1695 rfl ?_
  refine k_iconst C dL_law_1697 ?_
  refine k_iadd C dL_law_1698 ?_
  refine k_iald C dL_law_1699 (by assumption) (by rfl) (by omega) ?_
  refine kx_V C rfl mv_L_166 dL_law_1700 (c_mBackInX B1.2.2.1 I.1 (hf _)) hm1 rfl rfl (Nat.le_of_ble_eq_true rfl) ⟨(Nat.le_of_ble_eq_true rfl), (Nat.le_of_ble_eq_true rfl)⟩ (by omega) (fun v h2 hp_ => ?_) (fun _ _ hx => hx.elim)
  unfold qPost at hp_
  obtain ⟨M2, U2, r, rfl, hrv⟩ := hp_
  rw [hKe] at M2 hrv
  have SM := q_step M2 B1.2.2.2.1 U2
  rw [ite_self] at B1
  have ho2 := B1.arrM SM ho1 (by decide) (by decide)
  obtain ⟨L2, B2⟩ := B1.goM I.1 SM
  exact tl_int C B2.2.2.1 ho2 (fun e => by rw [hv1 e, hrv e]) hK3 (by omega) dL_law_1703 dL_law_1705 dL_law_1706 dL_law_1709 dL_law_1711 dL_law_1716 dL_law_1718 dL_law_1721 dL_law_1722 dL_law_1723 dL_law_1724 dL_law_1726 dL_law_1727 dL_law_1728 dL_law_1733 (by decide) (G.same I (stp.refl I.1) B2 rfl hnk (by omega))
theorem a_gramIn {w : Wd} {K : KT} {ret : Option FieldType} {nm : String} (C : Cx w K RL cL_law 10 ret nm 25 12986 600192 7294250) {h : Hp} {n k b x m o od N j : Nat} {X : XL} {σ : Sg} {L : ML} {th : Int} {s : Int64} {f : Int → Int} (B : isB w h x X σ m L σ th s o od b N f) (I : Inv σ j) (hf : ∀ i, i32 (f i)) (hj : 7 * j + 7 ≤ N ∧ N ≤ 224) (hnk : n ≤ NN j σ.n ∧ k ≤ SS j σ.n) (G : GoOn w K b x m o od N f j) : Wk w K h n k 1736 (Lc b x m o od (7 * (j : Int))) [] := by
  have hr := room_at (j := j) (c := σ.n) (by omega) I.1.1 I.2.1
  have hB := Bc_le σ.n
  have hS := Bs_le σ.n
  have hc := I.1.1
  have hb : h.2 b = some (aI 7 N f) := B.2.2.2.2.2.2.2
  obtain ⟨g, ho⟩ := B.2.2.2.2.2.1
  have hK3 : oneK σ (f (7 * (j : Int) + 1)) ≤ 3 := by unfold oneK; (repeat' split) <;> omega
  generalize hKe : oneK σ (f (7 * (j : Int) + 1)) = K0 at hK3
  refine k_aload_n C dL_law_1736 rfl ?_
  refine k_aload_n C dL_law_1737 rfl ?_
  refine k_iload C dL_law_1738 rfl ?_
  refine k_iconst C dL_law_1740 ?_
  refine k_iadd C dL_law_1741 ?_
  refine k_iald C dL_law_1742 (by assumption) (by rfl) (by omega) ?_
  refine k_aload_n C dL_law_1743 rfl ?_
  refine kx_SW C rfl ms_L_167 dL_law_1744 (w_gramIn B.1 B.2.1 I.1 (hf _) ho) rfl rfl (Nat.le_of_ble_eq_true rfl) ⟨(Nat.le_of_ble_eq_true rfl), (Nat.le_of_ble_eq_true rfl)⟩ (by omega) (fun v h1 hp_ => ?_) (fun _ _ hx => hx.elim)
  obtain ⟨rfl, ⟨g1, ho1, hv1⟩, ST⟩ := hp_
  rw [hKe] at hv1 ST ⊢
  obtain ⟨X1, B1⟩ := B.goX I.1 ST (Or.inl ⟨rfl, _, ho1⟩)
  have hb1 : h1.2 b = some (aI 7 N f) := B1.2.2.2.2.2.2.2
  have hm1 := B1.2.2.1.1
  refine k_istore C dL_law_1747 (Nat.le_of_ble_eq_true rfl) rfl ?_
  refine k_aload_n C dL_law_1749 rfl ?_
  refine k_aload_n C dL_law_1750 rfl ?_
  refine k_iload C dL_law_1751 rfl ?_
  refine k_iconst C dL_law_1753 ?_
  refine k_iadd C dL_law_1754 ?_
  refine k_iald C dL_law_1755 (by assumption) (by rfl) (by omega) ?_
  refine kx_V C rfl mv_L_169 dL_law_1756 (c_mGramInX B1.2.2.1 I.1 (hf _)) hm1 rfl rfl (Nat.le_of_ble_eq_true rfl) ⟨(Nat.le_of_ble_eq_true rfl), (Nat.le_of_ble_eq_true rfl)⟩ (by omega) (fun v h2 hp_ => ?_) (fun _ _ hx => hx.elim)
  unfold qPost at hp_
  obtain ⟨M2, U2, r, rfl, hrv⟩ := hp_
  rw [hKe] at M2 hrv
  have SM := q_step M2 B1.2.2.2.1 U2
  rw [ite_self] at B1
  have ho2 := B1.arrM SM ho1 (by decide) (by decide)
  obtain ⟨L2, B2⟩ := B1.goM I.1 SM
  exact tl_int C B2.2.2.1 ho2 (fun e => by rw [hv1 e, hrv e]) hK3 (by omega) dL_law_1759 dL_law_1761 dL_law_1762 dL_law_1765 dL_law_1767 dL_law_1772 dL_law_1774 dL_law_1777 dL_law_1778 dL_law_1779 dL_law_1780 dL_law_1782 dL_law_1783 dL_law_1784 dL_law_1789 (by decide) (G.same I (stp.refl I.1) B2 rfl hnk (by omega))
