/-! cases of the law (printed by gen.py, lawsplit.py) -/
set_option maxRecDepth 100000
set_option maxHeartbeats 40000000 in
theorem w_L_J334 {Γ : Ctx} {xs : Nat → Int} {L b p1 p2 p3 cn : Nat} {w : Int} {z1 : (Nat × Int × St) ⊕ Int} (X : Cx Γ cL_law "DayBoyLaw" ({ frames := 15, cells := 601024, slots := 7293034, locals := 634 } : Room)) (hL : ∀ i, i < 7 → i < nLc Γ) (htr : (lOf Γ).stackTraces = false) (hs : Scr Γ b L xs) (hLb : L < 2147483648) (hw : w = 1) (hn1 : 0 < cn) (hn2 : cn ≤ 64) (ihb1 : ∀ s : Nat × Int × St, z1 = Sum.inl s → V Γ (s.2.2) (112 + (64 - s.1) * 86) (504441 + (64 - s.1) * 40302) 23 [(0, .ref (b)), (1, .ref (p1)), (2, .ref (p2)), (3, .ref (p3)), (4, iv (s.2.1))] []) (ihe1 : ∀ r, z1 = Sum.inr r → r = w) : ∀ (v4_j334 : Int) (σ_j334 : St), f_L_law_j334 (cn) (xs) (L) (b) (p1) (p2) (p3) v4_j334 σ_j334 = some z1 → V Γ σ_j334 (112 + (64 - cn) * 86) (504441 + (64 - cn) * 40302) 334 [(0, .ref (b)), (1, .ref (p1)), (2, .ref (p2)), (3, .ref (p3)), (4, iv (v4_j334))] [] := by
  intro v4_j334 σ_j334 h
  unfold f_L_law_j334 at h
  refine r_aload_n X 1 dL_law_334 rfl rfl ?_
  refine r_aload_n X 0 dL_law_335 rfl rfl ?_
  refine r_iload X 4 dL_law_336 rfl ?_
  refine r_iconst X dL_law_338 ?_
  refine r_iadd X dL_law_339 ?_
  refine r_sld X hs hLb dL_law_340 h (fun h => ?_)
  obtain ⟨ho363, h⟩ := cO_some h
  obtain ⟨r364, σ365, h362, h⟩ := bd2_some h
  refine r_cVW (Wd := 0) X (fun l D sz => w_X1_fault l D sz h362) ho363.1 rfl q408 q409 q407 q104 q410 hy_X1_fault rfl dL_law_341 rfl rfl (Nat.le_of_ble_eq_true rfl) ⟨Nat.le_of_ble_eq_true rfl, Nat.le_of_ble_eq_true rfl⟩ ⟨(by show (112 + (64 - cn) * 86) + 64 ≤ 601024; omega), (by show (504441 + (64 - cn) * 40302) + 196 ≤ 7293034; omega)⟩ ?_
  refine V.widen (k' := (176 + (64 - cn) * 86)) (n' := (504637 + (64 - cn) * 40302)) (by show _ ≤ _; omega) (by show _ ≤ _; omega) ?_
  refine r_aload_n X 2 dL_law_344 rfl rfl ?_
  refine r_aload_n X 0 dL_law_345 rfl rfl ?_
  refine r_iload X 4 dL_law_346 rfl ?_
  refine r_iconst X dL_law_348 ?_
  refine r_iadd X dL_law_349 ?_
  refine r_sld X hs hLb dL_law_350 h (fun h => ?_)
  obtain ⟨ho367, h⟩ := cO_some h
  obtain ⟨r368, σ369, h366, h⟩ := bd2_some h
  refine r_cV (Wd := 1) X (fun l D sz => w_X6_fault l D sz h366) ho367.1 rfl q1471 q1472 q1470 q109 q1473 hy_X6_fault rfl dL_law_351 rfl rfl (Nat.le_of_ble_eq_true rfl) ⟨Nat.le_of_ble_eq_true rfl, Nat.le_of_ble_eq_true rfl⟩ ⟨(by show (176 + (64 - cn) * 86) + 0 ≤ 601024; omega), (by show (504637 + (64 - cn) * 40302) + 0 ≤ 7293034; omega)⟩ ?_
  refine r_icmp_eq (tgt := 2568) X dL_law_354 (by decide) h (fun c370 h => ?_) (fun c370 h => ?_)
  · refine r_iinc X 4 dL_law_2568 rfl (hL 4 (by decide)) (lv' := [(4, iv ((v4_j334 + 8))), (0, .ref (b)), (1, .ref (p1)), (2, .ref (p2)), (3, .ref (p3))]) rfl ?_
    refine r_goto (tgt := 23) X dL_law_2571 (by decide) ?_
    exact V.widen (by show _ ≤ _; omega) (by show _ ≤ _; omega) <| V.sub [1, 2, 3, 4, 0] rfl (ihb1 _ (Option.some.inj h).symm)
  · have h := ex_some h ihe1
    refine V.widen (k' := 5680) (n' := 3083965) (by show _ ≤ _; omega) (by show _ ≤ _; omega) ?_
    refine r_iconst X dL_law_357 ?_
    cases h
    exact absurd hw (by decide)
set_option maxHeartbeats 40000000 in
theorem w_L_J309 {Γ : Ctx} {xs : Nat → Int} {L b p1 p2 p3 cn : Nat} {w : Int} {z1 : (Nat × Int × St) ⊕ Int} (X : Cx Γ cL_law "DayBoyLaw" ({ frames := 15, cells := 601024, slots := 7293034, locals := 634 } : Room)) (hL : ∀ i, i < 7 → i < nLc Γ) (htr : (lOf Γ).stackTraces = false) (hs : Scr Γ b L xs) (hLb : L < 2147483648) (hw : w = 1) (hn1 : 0 < cn) (hn2 : cn ≤ 64) (ihb1 : ∀ s : Nat × Int × St, z1 = Sum.inl s → V Γ (s.2.2) (112 + (64 - s.1) * 86) (504441 + (64 - s.1) * 40302) 23 [(0, .ref (b)), (1, .ref (p1)), (2, .ref (p2)), (3, .ref (p3)), (4, iv (s.2.1))] []) (ihe1 : ∀ r, z1 = Sum.inr r → r = w) : ∀ (v4_j309 : Int) (σ_j309 : St), f_L_law_j309 (cn) (xs) (L) (b) (p1) (p2) (p3) v4_j309 σ_j309 = some z1 → V Γ σ_j309 (112 + (64 - cn) * 86) (504441 + (64 - cn) * 40302) 309 [(0, .ref (b)), (1, .ref (p1)), (2, .ref (p2)), (3, .ref (p3)), (4, iv (v4_j309))] [] := by
  intro v4_j309 σ_j309 h
  unfold f_L_law_j309 at h
  refine r_aload_n X 1 dL_law_309 rfl rfl ?_
  refine r_aload_n X 0 dL_law_310 rfl rfl ?_
  refine r_iload X 4 dL_law_311 rfl ?_
  refine r_iconst X dL_law_313 ?_
  refine r_iadd X dL_law_314 ?_
  refine r_sld X hs hLb dL_law_315 h (fun h => ?_)
  obtain ⟨ho372, h⟩ := cO_some h
  obtain ⟨r373, σ374, h371, h⟩ := bd2_some h
  refine r_cV (Wd := 0) X (fun l D sz => w_X1_end l D sz h371) ho372.1 rfl q404 q405 q403 q104 q406 hy_X1_end rfl dL_law_316 rfl rfl (Nat.le_of_ble_eq_true rfl) ⟨Nat.le_of_ble_eq_true rfl, Nat.le_of_ble_eq_true rfl⟩ ⟨(by show (112 + (64 - cn) * 86) + 0 ≤ 601024; omega), (by show (504441 + (64 - cn) * 40302) + 0 ≤ 7293034; omega)⟩ ?_
  refine r_aload_n X 2 dL_law_319 rfl rfl ?_
  refine r_aload_n X 0 dL_law_320 rfl rfl ?_
  refine r_iload X 4 dL_law_321 rfl ?_
  refine r_iconst X dL_law_323 ?_
  refine r_iadd X dL_law_324 ?_
  refine r_sld X hs hLb dL_law_325 h (fun h => ?_)
  obtain ⟨ho376, h⟩ := cO_some h
  obtain ⟨r377, σ378, h375, h⟩ := bd2_some h
  refine r_cV (Wd := 1) X (fun l D sz => w_X6_end l D sz h375) ho376.1 rfl q1467 q1468 q1466 q109 q1469 hy_X6_end rfl dL_law_326 rfl rfl (Nat.le_of_ble_eq_true rfl) ⟨Nat.le_of_ble_eq_true rfl, Nat.le_of_ble_eq_true rfl⟩ ⟨(by show (112 + (64 - cn) * 86) + 0 ≤ 601024; omega), (by show (504441 + (64 - cn) * 40302) + 0 ≤ 7293034; omega)⟩ ?_
  refine r_icmp_eq (tgt := 2568) X dL_law_329 (by decide) h (fun c379 h => ?_) (fun c379 h => ?_)
  · refine r_iinc X 4 dL_law_2568 rfl (hL 4 (by decide)) (lv' := [(4, iv ((v4_j309 + 8))), (0, .ref (b)), (1, .ref (p1)), (2, .ref (p2)), (3, .ref (p3))]) rfl ?_
    refine r_goto (tgt := 23) X dL_law_2571 (by decide) ?_
    exact V.widen (by show _ ≤ _; omega) (by show _ ≤ _; omega) <| V.sub [1, 2, 3, 4, 0] rfl (ihb1 _ (Option.some.inj h).symm)
  · have h := ex_some h ihe1
    refine V.widen (k' := 5616) (n' := 3083769) (by show _ ≤ _; omega) (by show _ ≤ _; omega) ?_
    refine r_iconst X dL_law_332 ?_
    cases h
    exact absurd hw (by decide)
set_option maxHeartbeats 40000000 in
theorem w_L_J236 {Γ : Ctx} {xs : Nat → Int} {L b p1 p2 p3 cn : Nat} {w : Int} {z1 : (Nat × Int × St) ⊕ Int} (X : Cx Γ cL_law "DayBoyLaw" ({ frames := 15, cells := 601024, slots := 7293034, locals := 634 } : Room)) (hL : ∀ i, i < 7 → i < nLc Γ) (htr : (lOf Γ).stackTraces = false) (hs : Scr Γ b L xs) (hLb : L < 2147483648) (hw : w = 1) (hn1 : 0 < cn) (hn2 : cn ≤ 64) (ihb1 : ∀ s : Nat × Int × St, z1 = Sum.inl s → V Γ (s.2.2) (112 + (64 - s.1) * 86) (504441 + (64 - s.1) * 40302) 23 [(0, .ref (b)), (1, .ref (p1)), (2, .ref (p2)), (3, .ref (p3)), (4, iv (s.2.1))] []) (ihe1 : ∀ r, z1 = Sum.inr r → r = w) : ∀ (v4_j236 : Int) (σ_j236 : St), f_L_law_j236 (cn) (xs) (L) (b) (p1) (p2) (p3) v4_j236 σ_j236 = some z1 → V Γ σ_j236 (112 + (64 - cn) * 86) (504441 + (64 - cn) * 40302) 236 [(0, .ref (b)), (1, .ref (p1)), (2, .ref (p2)), (3, .ref (p3)), (4, iv (v4_j236))] [] := by
  intro v4_j236 σ_j236 h
  unfold f_L_law_j236 at h
  refine r_aload_n X 1 dL_law_236 rfl rfl ?_
  refine r_aload_n X 0 dL_law_237 rfl rfl ?_
  refine r_iload X 4 dL_law_238 rfl ?_
  refine r_iconst X dL_law_240 ?_
  refine r_iadd X dL_law_241 ?_
  refine r_sld X hs hLb dL_law_242 h (fun h => ?_)
  refine r_aload_n X 0 dL_law_243 rfl rfl ?_
  refine r_iload X 4 dL_law_244 rfl ?_
  refine r_iconst X dL_law_246 ?_
  refine r_iadd X dL_law_247 ?_
  refine r_sld X hs hLb dL_law_248 h (fun h => ?_)
  refine r_aload_n X 0 dL_law_249 rfl rfl ?_
  refine r_iload X 4 dL_law_250 rfl ?_
  refine r_iconst X dL_law_252 ?_
  refine r_iadd X dL_law_253 ?_
  refine r_sld X hs hLb dL_law_254 h (fun h => ?_)
  refine r_aload_n X 0 dL_law_255 rfl rfl ?_
  refine r_iload X 4 dL_law_256 rfl ?_
  refine r_iconst X dL_law_258 ?_
  refine r_iadd X dL_law_259 ?_
  refine r_sld X hs hLb dL_law_260 h (fun h => ?_)
  refine r_aload_n X 0 dL_law_261 rfl rfl ?_
  refine r_iload X 4 dL_law_262 rfl ?_
  refine r_iconst X dL_law_264 ?_
  refine r_iadd X dL_law_265 ?_
  refine r_sld X hs hLb dL_law_266 h (fun h => ?_)
  obtain ⟨ho381, h⟩ := cO_some h
  obtain ⟨r382, σ383, h380, h⟩ := bd2_some h
  refine r_cV (Wd := 0) X (fun l D sz => w_X1_feed l D sz h380) ho381.1 rfl q393 q394 q392 q104 q395 hy_X1_feed rfl dL_law_267 rfl rfl (Nat.le_of_ble_eq_true rfl) ⟨Nat.le_of_ble_eq_true rfl, Nat.le_of_ble_eq_true rfl⟩ ⟨(by show (112 + (64 - cn) * 86) + 0 ≤ 601024; omega), (by show (504441 + (64 - cn) * 40302) + 0 ≤ 7293034; omega)⟩ ?_
  refine r_aload_n X 2 dL_law_270 rfl rfl ?_
  refine r_aload_n X 0 dL_law_271 rfl rfl ?_
  refine r_iload X 4 dL_law_272 rfl ?_
  refine r_iconst X dL_law_274 ?_
  refine r_iadd X dL_law_275 ?_
  refine r_sld X hs hLb dL_law_276 h (fun h => ?_)
  refine r_aload_n X 0 dL_law_277 rfl rfl ?_
  refine r_iload X 4 dL_law_278 rfl ?_
  refine r_iconst X dL_law_280 ?_
  refine r_iadd X dL_law_281 ?_
  refine r_sld X hs hLb dL_law_282 h (fun h => ?_)
  refine r_aload_n X 0 dL_law_283 rfl rfl ?_
  refine r_iload X 4 dL_law_284 rfl ?_
  refine r_iconst X dL_law_286 ?_
  refine r_iadd X dL_law_287 ?_
  refine r_sld X hs hLb dL_law_288 h (fun h => ?_)
  refine r_aload_n X 0 dL_law_289 rfl rfl ?_
  refine r_iload X 4 dL_law_290 rfl ?_
  refine r_iconst X dL_law_292 ?_
  refine r_iadd X dL_law_293 ?_
  refine r_sld X hs hLb dL_law_294 h (fun h => ?_)
  refine r_aload_n X 0 dL_law_295 rfl rfl ?_
  refine r_iload X 4 dL_law_296 rfl ?_
  refine r_iconst X dL_law_298 ?_
  refine r_iadd X dL_law_299 ?_
  refine r_sld X hs hLb dL_law_300 h (fun h => ?_)
  obtain ⟨ho385, h⟩ := cO_some h
  obtain ⟨r386, σ387, h384, h⟩ := bd2_some h
  refine r_cV (Wd := 1) X (fun l D sz => w_X6_feed l D sz h384) ho385.1 rfl q1460 q1461 q1459 q109 q1462 hy_X6_feed rfl dL_law_301 rfl rfl (Nat.le_of_ble_eq_true rfl) ⟨Nat.le_of_ble_eq_true rfl, Nat.le_of_ble_eq_true rfl⟩ ⟨(by show (112 + (64 - cn) * 86) + 0 ≤ 601024; omega), (by show (504441 + (64 - cn) * 40302) + 0 ≤ 7293034; omega)⟩ ?_
  refine r_icmp_eq (tgt := 2568) X dL_law_304 (by decide) h (fun c388 h => ?_) (fun c388 h => ?_)
  · refine r_iinc X 4 dL_law_2568 rfl (hL 4 (by decide)) (lv' := [(4, iv ((v4_j236 + 8))), (0, .ref (b)), (1, .ref (p1)), (2, .ref (p2)), (3, .ref (p3))]) rfl ?_
    refine r_goto (tgt := 23) X dL_law_2571 (by decide) ?_
    exact V.widen (by show _ ≤ _; omega) (by show _ ≤ _; omega) <| V.sub [1, 2, 3, 4, 0] rfl (ihb1 _ (Option.some.inj h).symm)
  · have h := ex_some h ihe1
    refine V.widen (k' := 5616) (n' := 3083769) (by show _ ≤ _; omega) (by show _ ≤ _; omega) ?_
    refine r_iconst X dL_law_307 ?_
    cases h
    exact absurd hw (by decide)
