/-! cases of the law (printed by gen.py, lawsplit.py) -/
set_option maxRecDepth 100000
set_option maxHeartbeats 40000000 in
theorem w_L_J2543 {Γ : Ctx} {xs : Nat → Int} {L b p1 p2 p3 cn : Nat} {w : Int} {z1 : (Nat × Int × St) ⊕ Int} (X : Cx Γ cL_law "DayBoyLaw" ({ frames := 15, cells := 601024, slots := 7293034, locals := 634 } : Room)) (hL : ∀ i, i < 7 → i < nLc Γ) (htr : (lOf Γ).stackTraces = false) (hs : Scr Γ b L xs) (hLb : L < 2147483648) (hw : w = 1) (hn1 : 0 < cn) (hn2 : cn ≤ 64) (ihb1 : ∀ s : Nat × Int × St, z1 = Sum.inl s → V Γ (s.2.2) (112 + (64 - s.1) * 86) (504441 + (64 - s.1) * 40302) 23 [(0, .ref (b)), (1, .ref (p1)), (2, .ref (p2)), (3, .ref (p3)), (4, iv (s.2.1))] []) (ihe1 : ∀ r, z1 = Sum.inr r → r = w) : ∀ (v4_j2543 : Int) (σ_j2543 : St), f_L_law_j2543 (cn) (xs) (L) (b) (p1) (p2) (p3) v4_j2543 σ_j2543 = some z1 → V Γ σ_j2543 (112 + (64 - cn) * 86) (504441 + (64 - cn) * 40302) 2543 [(0, .ref (b)), (1, .ref (p1)), (2, .ref (p2)), (3, .ref (p3)), (4, iv (v4_j2543))] [] := by
  intro v4_j2543 σ_j2543 h
  unfold f_L_law_j2543 at h
  refine r_aload_n X 1 dL_law_2543 rfl rfl ?_
  refine r_aload_n X 0 dL_law_2544 rfl rfl ?_
  refine r_iload X 4 dL_law_2545 rfl ?_
  refine r_iconst X dL_law_2547 ?_
  refine r_iadd X dL_law_2548 ?_
  refine r_sld X hs hLb dL_law_2549 h (fun h => ?_)
  obtain ⟨ho12, h⟩ := cO_some h
  obtain ⟨r13, h11, h⟩ := bd_some h
  refine r_cV (Wd := 0) X (fun l D sz => w_X1_count l D sz h11) ho12.1 rfl q1201 q1202 q1200 q104 q1203 hy_X1_count rfl dL_law_2550 rfl rfl (Nat.le_of_ble_eq_true rfl) ⟨Nat.le_of_ble_eq_true rfl, Nat.le_of_ble_eq_true rfl⟩ ⟨(by show (112 + (64 - cn) * 86) + 0 ≤ 601024; omega), (by show (504441 + (64 - cn) * 40302) + 0 ≤ 7293034; omega)⟩ ?_
  refine r_aload_n X 2 dL_law_2553 rfl rfl ?_
  refine r_aload_n X 0 dL_law_2554 rfl rfl ?_
  refine r_iload X 4 dL_law_2555 rfl ?_
  refine r_iconst X dL_law_2557 ?_
  refine r_iadd X dL_law_2558 ?_
  refine r_sld X hs hLb dL_law_2559 h (fun h => ?_)
  obtain ⟨ho15, h⟩ := cO_some h
  obtain ⟨r16, h14, h⟩ := bd_some h
  refine r_cV (Wd := 1) X (fun l D sz => w_X6_count l D sz h14) ho15.1 rfl q1906 q1907 q1905 q109 q1908 hy_X6_count rfl dL_law_2560 rfl rfl (Nat.le_of_ble_eq_true rfl) ⟨Nat.le_of_ble_eq_true rfl, Nat.le_of_ble_eq_true rfl⟩ ⟨(by show (112 + (64 - cn) * 86) + 0 ≤ 601024; omega), (by show (504441 + (64 - cn) * 40302) + 0 ≤ 7293034; omega)⟩ ?_
  refine r_icmp_eq (tgt := 2568) X dL_law_2563 (by decide) h (fun c17 h => ?_) (fun c17 h => ?_)
  · refine r_iinc X 4 dL_law_2568 rfl (hL 4 (by decide)) (lv' := [(4, iv ((v4_j2543 + 8))), (0, .ref (b)), (1, .ref (p1)), (2, .ref (p2)), (3, .ref (p3))]) rfl ?_
    refine r_goto (tgt := 23) X dL_law_2571 (by decide) ?_
    exact V.widen (by show _ ≤ _; omega) (by show _ ≤ _; omega) <| V.sub [1, 2, 3, 4, 0] rfl (ihb1 _ (Option.some.inj h).symm)
  · have h := ex_some h ihe1
    refine V.widen (k' := 5616) (n' := 3083769) (by show _ ≤ _; omega) (by show _ ≤ _; omega) ?_
    refine r_iconst X dL_law_2566 ?_
    cases h
    exact absurd hw (by decide)
set_option maxHeartbeats 40000000 in
theorem w_L_J2482 {Γ : Ctx} {xs : Nat → Int} {L b p1 p2 p3 cn : Nat} {w : Int} {z1 : (Nat × Int × St) ⊕ Int} (X : Cx Γ cL_law "DayBoyLaw" ({ frames := 15, cells := 601024, slots := 7293034, locals := 634 } : Room)) (hL : ∀ i, i < 7 → i < nLc Γ) (htr : (lOf Γ).stackTraces = false) (hs : Scr Γ b L xs) (hLb : L < 2147483648) (hw : w = 1) (hn1 : 0 < cn) (hn2 : cn ≤ 64) (ihb1 : ∀ s : Nat × Int × St, z1 = Sum.inl s → V Γ (s.2.2) (112 + (64 - s.1) * 86) (504441 + (64 - s.1) * 40302) 23 [(0, .ref (b)), (1, .ref (p1)), (2, .ref (p2)), (3, .ref (p3)), (4, iv (s.2.1))] []) (ihe1 : ∀ r, z1 = Sum.inr r → r = w) : ∀ (v4_j2482 : Int) (σ_j2482 : St), f_L_law_j2482 (cn) (xs) (L) (b) (p1) (p2) (p3) v4_j2482 σ_j2482 = some z1 → V Γ σ_j2482 (112 + (64 - cn) * 86) (504441 + (64 - cn) * 40302) 2482 [(0, .ref (b)), (1, .ref (p1)), (2, .ref (p2)), (3, .ref (p3)), (4, iv (v4_j2482))] [] := by
  intro v4_j2482 σ_j2482 h
  unfold f_L_law_j2482 at h
  refine r_aload_n X 1 dL_law_2482 rfl rfl ?_
  refine r_aload_n X 0 dL_law_2483 rfl rfl ?_
  refine r_iload X 4 dL_law_2484 rfl ?_
  refine r_iconst X dL_law_2486 ?_
  refine r_iadd X dL_law_2487 ?_
  refine r_sld X hs hLb dL_law_2488 h (fun h => ?_)
  refine r_aload_n X 0 dL_law_2489 rfl rfl ?_
  refine r_iload X 4 dL_law_2490 rfl ?_
  refine r_iconst X dL_law_2492 ?_
  refine r_iadd X dL_law_2493 ?_
  refine r_sld X hs hLb dL_law_2494 h (fun h => ?_)
  refine r_aload_n X 0 dL_law_2495 rfl rfl ?_
  refine r_iload X 4 dL_law_2496 rfl ?_
  refine r_iconst X dL_law_2498 ?_
  refine r_iadd X dL_law_2499 ?_
  refine r_sld X hs hLb dL_law_2500 h (fun h => ?_)
  refine r_aload_n X 0 dL_law_2501 rfl rfl ?_
  refine r_iload X 4 dL_law_2502 rfl ?_
  refine r_iconst X dL_law_2504 ?_
  refine r_iadd X dL_law_2505 ?_
  refine r_sld X hs hLb dL_law_2506 h (fun h => ?_)
  obtain ⟨ho19, h⟩ := cO_some h
  obtain ⟨r20, h18, h⟩ := bd_some h
  refine r_cV (Wd := 0) X (fun l D sz => w_X1_rises l D sz h18) ho19.1 rfl q1186 q1187 q1185 q104 q1188 hy_X1_rises rfl dL_law_2507 rfl rfl (Nat.le_of_ble_eq_true rfl) ⟨Nat.le_of_ble_eq_true rfl, Nat.le_of_ble_eq_true rfl⟩ ⟨(by show (112 + (64 - cn) * 86) + 0 ≤ 601024; omega), (by show (504441 + (64 - cn) * 40302) + 0 ≤ 7293034; omega)⟩ ?_
  refine r_aload_n X 2 dL_law_2510 rfl rfl ?_
  refine r_aload_n X 0 dL_law_2511 rfl rfl ?_
  refine r_iload X 4 dL_law_2512 rfl ?_
  refine r_iconst X dL_law_2514 ?_
  refine r_iadd X dL_law_2515 ?_
  refine r_sld X hs hLb dL_law_2516 h (fun h => ?_)
  refine r_aload_n X 0 dL_law_2517 rfl rfl ?_
  refine r_iload X 4 dL_law_2518 rfl ?_
  refine r_iconst X dL_law_2520 ?_
  refine r_iadd X dL_law_2521 ?_
  refine r_sld X hs hLb dL_law_2522 h (fun h => ?_)
  refine r_aload_n X 0 dL_law_2523 rfl rfl ?_
  refine r_iload X 4 dL_law_2524 rfl ?_
  refine r_iconst X dL_law_2526 ?_
  refine r_iadd X dL_law_2527 ?_
  refine r_sld X hs hLb dL_law_2528 h (fun h => ?_)
  refine r_aload_n X 0 dL_law_2529 rfl rfl ?_
  refine r_iload X 4 dL_law_2530 rfl ?_
  refine r_iconst X dL_law_2532 ?_
  refine r_iadd X dL_law_2533 ?_
  refine r_sld X hs hLb dL_law_2534 h (fun h => ?_)
  obtain ⟨ho22, h⟩ := cO_some h
  obtain ⟨r23, h21, h⟩ := bd_some h
  refine r_cV (Wd := 1) X (fun l D sz => w_X6_rises l D sz h21) ho22.1 rfl q1902 q1903 q1901 q109 q1904 hy_X6_rises rfl dL_law_2535 rfl rfl (Nat.le_of_ble_eq_true rfl) ⟨Nat.le_of_ble_eq_true rfl, Nat.le_of_ble_eq_true rfl⟩ ⟨(by show (112 + (64 - cn) * 86) + 0 ≤ 601024; omega), (by show (504441 + (64 - cn) * 40302) + 0 ≤ 7293034; omega)⟩ ?_
  refine r_icmp_eq (tgt := 2568) X dL_law_2538 (by decide) h (fun c24 h => ?_) (fun c24 h => ?_)
  · refine r_iinc X 4 dL_law_2568 rfl (hL 4 (by decide)) (lv' := [(4, iv ((v4_j2482 + 8))), (0, .ref (b)), (1, .ref (p1)), (2, .ref (p2)), (3, .ref (p3))]) rfl ?_
    refine r_goto (tgt := 23) X dL_law_2571 (by decide) ?_
    exact V.widen (by show _ ≤ _; omega) (by show _ ≤ _; omega) <| V.sub [1, 2, 3, 4, 0] rfl (ihb1 _ (Option.some.inj h).symm)
  · have h := ex_some h ihe1
    refine V.widen (k' := 5616) (n' := 3083769) (by show _ ≤ _; omega) (by show _ ≤ _; omega) ?_
    refine r_iconst X dL_law_2541 ?_
    cases h
    exact absurd hw (by decide)
set_option maxHeartbeats 40000000 in
theorem w_L_J2433 {Γ : Ctx} {xs : Nat → Int} {L b p1 p2 p3 cn : Nat} {w : Int} {z1 : (Nat × Int × St) ⊕ Int} (X : Cx Γ cL_law "DayBoyLaw" ({ frames := 15, cells := 601024, slots := 7293034, locals := 634 } : Room)) (hL : ∀ i, i < 7 → i < nLc Γ) (htr : (lOf Γ).stackTraces = false) (hs : Scr Γ b L xs) (hLb : L < 2147483648) (hw : w = 1) (hn1 : 0 < cn) (hn2 : cn ≤ 64) (ihb1 : ∀ s : Nat × Int × St, z1 = Sum.inl s → V Γ (s.2.2) (112 + (64 - s.1) * 86) (504441 + (64 - s.1) * 40302) 23 [(0, .ref (b)), (1, .ref (p1)), (2, .ref (p2)), (3, .ref (p3)), (4, iv (s.2.1))] []) (ihe1 : ∀ r, z1 = Sum.inr r → r = w) : ∀ (v4_j2433 : Int) (σ_j2433 : St), f_L_law_j2433 (cn) (xs) (L) (b) (p1) (p2) (p3) v4_j2433 σ_j2433 = some z1 → V Γ σ_j2433 (112 + (64 - cn) * 86) (504441 + (64 - cn) * 40302) 2433 [(0, .ref (b)), (1, .ref (p1)), (2, .ref (p2)), (3, .ref (p3)), (4, iv (v4_j2433))] [] := by
  intro v4_j2433 σ_j2433 h
  unfold f_L_law_j2433 at h
  refine r_aload_n X 1 dL_law_2433 rfl rfl ?_
  refine r_aload_n X 0 dL_law_2434 rfl rfl ?_
  refine r_iload X 4 dL_law_2435 rfl ?_
  refine r_iconst X dL_law_2437 ?_
  refine r_iadd X dL_law_2438 ?_
  refine r_sld X hs hLb dL_law_2439 h (fun h => ?_)
  refine r_aload_n X 0 dL_law_2440 rfl rfl ?_
  refine r_iload X 4 dL_law_2441 rfl ?_
  refine r_iconst X dL_law_2443 ?_
  refine r_iadd X dL_law_2444 ?_
  refine r_sld X hs hLb dL_law_2445 h (fun h => ?_)
  refine r_aload_n X 0 dL_law_2446 rfl rfl ?_
  refine r_iload X 4 dL_law_2447 rfl ?_
  refine r_iconst X dL_law_2449 ?_
  refine r_iadd X dL_law_2450 ?_
  refine r_sld X hs hLb dL_law_2451 h (fun h => ?_)
  obtain ⟨ho26, h⟩ := cO_some h
  obtain ⟨r27, h25, h⟩ := bd_some h
  refine r_cV (Wd := 0) X (fun l D sz => w_X1_unlike l D sz h25) ho26.1 rfl q1178 q1179 q1177 q104 q1180 hy_X1_unlike rfl dL_law_2452 rfl rfl (Nat.le_of_ble_eq_true rfl) ⟨Nat.le_of_ble_eq_true rfl, Nat.le_of_ble_eq_true rfl⟩ ⟨(by show (112 + (64 - cn) * 86) + 0 ≤ 601024; omega), (by show (504441 + (64 - cn) * 40302) + 0 ≤ 7293034; omega)⟩ ?_
  refine r_aload_n X 2 dL_law_2455 rfl rfl ?_
  refine r_aload_n X 0 dL_law_2456 rfl rfl ?_
  refine r_iload X 4 dL_law_2457 rfl ?_
  refine r_iconst X dL_law_2459 ?_
  refine r_iadd X dL_law_2460 ?_
  refine r_sld X hs hLb dL_law_2461 h (fun h => ?_)
  refine r_aload_n X 0 dL_law_2462 rfl rfl ?_
  refine r_iload X 4 dL_law_2463 rfl ?_
  refine r_iconst X dL_law_2465 ?_
  refine r_iadd X dL_law_2466 ?_
  refine r_sld X hs hLb dL_law_2467 h (fun h => ?_)
  refine r_aload_n X 0 dL_law_2468 rfl rfl ?_
  refine r_iload X 4 dL_law_2469 rfl ?_
  refine r_iconst X dL_law_2471 ?_
  refine r_iadd X dL_law_2472 ?_
  refine r_sld X hs hLb dL_law_2473 h (fun h => ?_)
  obtain ⟨ho29, h⟩ := cO_some h
  obtain ⟨r30, h28, h⟩ := bd_some h
  refine r_cV (Wd := 1) X (fun l D sz => w_X6_unlike l D sz h28) ho29.1 rfl q1897 q1898 q1896 q109 q1899 hy_X6_unlike rfl dL_law_2474 rfl rfl (Nat.le_of_ble_eq_true rfl) ⟨Nat.le_of_ble_eq_true rfl, Nat.le_of_ble_eq_true rfl⟩ ⟨(by show (112 + (64 - cn) * 86) + 0 ≤ 601024; omega), (by show (504441 + (64 - cn) * 40302) + 0 ≤ 7293034; omega)⟩ ?_
  refine r_icmp_eq (tgt := 2568) X dL_law_2477 (by decide) h (fun c31 h => ?_) (fun c31 h => ?_)
  · refine r_iinc X 4 dL_law_2568 rfl (hL 4 (by decide)) (lv' := [(4, iv ((v4_j2433 + 8))), (0, .ref (b)), (1, .ref (p1)), (2, .ref (p2)), (3, .ref (p3))]) rfl ?_
    refine r_goto (tgt := 23) X dL_law_2571 (by decide) ?_
    exact V.widen (by show _ ≤ _; omega) (by show _ ≤ _; omega) <| V.sub [1, 2, 3, 4, 0] rfl (ihb1 _ (Option.some.inj h).symm)
  · have h := ex_some h ihe1
    refine V.widen (k' := 5616) (n' := 3083769) (by show _ ≤ _; omega) (by show _ ≤ _; omega) ?_
    refine r_iconst X dL_law_2480 ?_
    cases h
    exact absurd hw (by decide)
set_option maxHeartbeats 40000000 in
theorem w_L_J2396 {Γ : Ctx} {xs : Nat → Int} {L b p1 p2 p3 cn : Nat} {w : Int} {z1 : (Nat × Int × St) ⊕ Int} (X : Cx Γ cL_law "DayBoyLaw" ({ frames := 15, cells := 601024, slots := 7293034, locals := 634 } : Room)) (hL : ∀ i, i < 7 → i < nLc Γ) (htr : (lOf Γ).stackTraces = false) (hs : Scr Γ b L xs) (hLb : L < 2147483648) (hw : w = 1) (hn1 : 0 < cn) (hn2 : cn ≤ 64) (ihb1 : ∀ s : Nat × Int × St, z1 = Sum.inl s → V Γ (s.2.2) (112 + (64 - s.1) * 86) (504441 + (64 - s.1) * 40302) 23 [(0, .ref (b)), (1, .ref (p1)), (2, .ref (p2)), (3, .ref (p3)), (4, iv (s.2.1))] []) (ihe1 : ∀ r, z1 = Sum.inr r → r = w) : ∀ (v4_j2396 : Int) (σ_j2396 : St), f_L_law_j2396 (cn) (xs) (L) (b) (p1) (p2) (p3) v4_j2396 σ_j2396 = some z1 → V Γ σ_j2396 (112 + (64 - cn) * 86) (504441 + (64 - cn) * 40302) 2396 [(0, .ref (b)), (1, .ref (p1)), (2, .ref (p2)), (3, .ref (p3)), (4, iv (v4_j2396))] [] := by
  intro v4_j2396 σ_j2396 h
  unfold f_L_law_j2396 at h
  refine r_aload_n X 1 dL_law_2396 rfl rfl ?_
  refine r_aload_n X 0 dL_law_2397 rfl rfl ?_
  refine r_iload X 4 dL_law_2398 rfl ?_
  refine r_iconst X dL_law_2400 ?_
  refine r_iadd X dL_law_2401 ?_
  refine r_sld X hs hLb dL_law_2402 h (fun h => ?_)
  refine r_aload_n X 0 dL_law_2403 rfl rfl ?_
  refine r_iload X 4 dL_law_2404 rfl ?_
  refine r_iconst X dL_law_2406 ?_
  refine r_iadd X dL_law_2407 ?_
  refine r_sld X hs hLb dL_law_2408 h (fun h => ?_)
  obtain ⟨ho33, h⟩ := cO_some h
  obtain ⟨r34, σ35, h32, h⟩ := bd2_some h
  refine r_cV (Wd := 0) X (fun l D sz => w_X1_spare l D sz h32) ho33.1 rfl q1173 q1174 q1172 q104 q1175 hy_X1_spare rfl dL_law_2409 rfl rfl (Nat.le_of_ble_eq_true rfl) ⟨Nat.le_of_ble_eq_true rfl, Nat.le_of_ble_eq_true rfl⟩ ⟨(by show (112 + (64 - cn) * 86) + 0 ≤ 601024; omega), (by show (504441 + (64 - cn) * 40302) + 0 ≤ 7293034; omega)⟩ ?_
  refine r_aload_n X 2 dL_law_2412 rfl rfl ?_
  refine r_aload_n X 0 dL_law_2413 rfl rfl ?_
  refine r_iload X 4 dL_law_2414 rfl ?_
  refine r_iconst X dL_law_2416 ?_
  refine r_iadd X dL_law_2417 ?_
  refine r_sld X hs hLb dL_law_2418 h (fun h => ?_)
  refine r_aload_n X 0 dL_law_2419 rfl rfl ?_
  refine r_iload X 4 dL_law_2420 rfl ?_
  refine r_iconst X dL_law_2422 ?_
  refine r_iadd X dL_law_2423 ?_
  refine r_sld X hs hLb dL_law_2424 h (fun h => ?_)
  obtain ⟨ho37, h⟩ := cO_some h
  obtain ⟨r38, σ39, h36, h⟩ := bd2_some h
  refine r_cV (Wd := 1) X (fun l D sz => w_X6_spare l D sz h36) ho37.1 rfl q1893 q1894 q1892 q109 q1895 hy_X6_spare rfl dL_law_2425 rfl rfl (Nat.le_of_ble_eq_true rfl) ⟨Nat.le_of_ble_eq_true rfl, Nat.le_of_ble_eq_true rfl⟩ ⟨(by show (112 + (64 - cn) * 86) + 0 ≤ 601024; omega), (by show (504441 + (64 - cn) * 40302) + 0 ≤ 7293034; omega)⟩ ?_
  refine r_icmp_eq (tgt := 2568) X dL_law_2428 (by decide) h (fun c40 h => ?_) (fun c40 h => ?_)
  · refine r_iinc X 4 dL_law_2568 rfl (hL 4 (by decide)) (lv' := [(4, iv ((v4_j2396 + 8))), (0, .ref (b)), (1, .ref (p1)), (2, .ref (p2)), (3, .ref (p3))]) rfl ?_
    refine r_goto (tgt := 23) X dL_law_2571 (by decide) ?_
    exact V.widen (by show _ ≤ _; omega) (by show _ ≤ _; omega) <| V.sub [1, 2, 3, 4, 0] rfl (ihb1 _ (Option.some.inj h).symm)
  · have h := ex_some h ihe1
    refine V.widen (k' := 5616) (n' := 3083769) (by show _ ≤ _; omega) (by show _ ≤ _; omega) ?_
    refine r_iconst X dL_law_2431 ?_
    cases h
    exact absurd hw (by decide)
set_option maxHeartbeats 40000000 in
theorem w_L_J2335 {Γ : Ctx} {xs : Nat → Int} {L b p1 p2 p3 cn : Nat} {w : Int} {z1 : (Nat × Int × St) ⊕ Int} (X : Cx Γ cL_law "DayBoyLaw" ({ frames := 15, cells := 601024, slots := 7293034, locals := 634 } : Room)) (hL : ∀ i, i < 7 → i < nLc Γ) (htr : (lOf Γ).stackTraces = false) (hs : Scr Γ b L xs) (hLb : L < 2147483648) (hw : w = 1) (hn1 : 0 < cn) (hn2 : cn ≤ 64) (ihb1 : ∀ s : Nat × Int × St, z1 = Sum.inl s → V Γ (s.2.2) (112 + (64 - s.1) * 86) (504441 + (64 - s.1) * 40302) 23 [(0, .ref (b)), (1, .ref (p1)), (2, .ref (p2)), (3, .ref (p3)), (4, iv (s.2.1))] []) (ihe1 : ∀ r, z1 = Sum.inr r → r = w) : ∀ (v4_j2335 : Int) (σ_j2335 : St), f_L_law_j2335 (cn) (xs) (L) (b) (p1) (p2) (p3) v4_j2335 σ_j2335 = some z1 → V Γ σ_j2335 (112 + (64 - cn) * 86) (504441 + (64 - cn) * 40302) 2335 [(0, .ref (b)), (1, .ref (p1)), (2, .ref (p2)), (3, .ref (p3)), (4, iv (v4_j2335))] [] := by
  intro v4_j2335 σ_j2335 h
  unfold f_L_law_j2335 at h
  refine r_aload_n X 1 dL_law_2335 rfl rfl ?_
  refine r_aload_n X 0 dL_law_2336 rfl rfl ?_
  refine r_iload X 4 dL_law_2337 rfl ?_
  refine r_iconst X dL_law_2339 ?_
  refine r_iadd X dL_law_2340 ?_
  refine r_sld X hs hLb dL_law_2341 h (fun h => ?_)
  refine r_aload_n X 0 dL_law_2342 rfl rfl ?_
  refine r_iload X 4 dL_law_2343 rfl ?_
  refine r_iconst X dL_law_2345 ?_
  refine r_iadd X dL_law_2346 ?_
  refine r_sld X hs hLb dL_law_2347 h (fun h => ?_)
  refine r_aload_n X 0 dL_law_2348 rfl rfl ?_
  refine r_iload X 4 dL_law_2349 rfl ?_
  refine r_iconst X dL_law_2351 ?_
  refine r_iadd X dL_law_2352 ?_
  refine r_sld X hs hLb dL_law_2353 h (fun h => ?_)
  refine r_aload_n X 0 dL_law_2354 rfl rfl ?_
  refine r_iload X 4 dL_law_2355 rfl ?_
  refine r_iconst X dL_law_2357 ?_
  refine r_iadd X dL_law_2358 ?_
  refine r_sld X hs hLb dL_law_2359 h (fun h => ?_)
  obtain ⟨ho42, h⟩ := cO_some h
  obtain ⟨r43, h41, h⟩ := bd_some h
  refine r_cV (Wd := 0) X (fun l D sz => w_X1_lacks l D sz h41) ho42.1 rfl q1165 q1166 q1164 q104 q1167 hy_X1_lacks rfl dL_law_2360 rfl rfl (Nat.le_of_ble_eq_true rfl) ⟨Nat.le_of_ble_eq_true rfl, Nat.le_of_ble_eq_true rfl⟩ ⟨(by show (112 + (64 - cn) * 86) + 0 ≤ 601024; omega), (by show (504441 + (64 - cn) * 40302) + 0 ≤ 7293034; omega)⟩ ?_
  refine r_aload_n X 2 dL_law_2363 rfl rfl ?_
  refine r_aload_n X 0 dL_law_2364 rfl rfl ?_
  refine r_iload X 4 dL_law_2365 rfl ?_
  refine r_iconst X dL_law_2367 ?_
  refine r_iadd X dL_law_2368 ?_
  refine r_sld X hs hLb dL_law_2369 h (fun h => ?_)
  refine r_aload_n X 0 dL_law_2370 rfl rfl ?_
  refine r_iload X 4 dL_law_2371 rfl ?_
  refine r_iconst X dL_law_2373 ?_
  refine r_iadd X dL_law_2374 ?_
  refine r_sld X hs hLb dL_law_2375 h (fun h => ?_)
  refine r_aload_n X 0 dL_law_2376 rfl rfl ?_
  refine r_iload X 4 dL_law_2377 rfl ?_
  refine r_iconst X dL_law_2379 ?_
  refine r_iadd X dL_law_2380 ?_
  refine r_sld X hs hLb dL_law_2381 h (fun h => ?_)
  refine r_aload_n X 0 dL_law_2382 rfl rfl ?_
  refine r_iload X 4 dL_law_2383 rfl ?_
  refine r_iconst X dL_law_2385 ?_
  refine r_iadd X dL_law_2386 ?_
  refine r_sld X hs hLb dL_law_2387 h (fun h => ?_)
  obtain ⟨ho45, h⟩ := cO_some h
  obtain ⟨r46, h44, h⟩ := bd_some h
  refine r_cV (Wd := 1) X (fun l D sz => w_X6_lacks l D sz h44) ho45.1 rfl q1881 q1882 q1880 q109 q1883 hy_X6_lacks rfl dL_law_2388 rfl rfl (Nat.le_of_ble_eq_true rfl) ⟨Nat.le_of_ble_eq_true rfl, Nat.le_of_ble_eq_true rfl⟩ ⟨(by show (112 + (64 - cn) * 86) + 0 ≤ 601024; omega), (by show (504441 + (64 - cn) * 40302) + 0 ≤ 7293034; omega)⟩ ?_
  refine r_icmp_eq (tgt := 2568) X dL_law_2391 (by decide) h (fun c47 h => ?_) (fun c47 h => ?_)
  · refine r_iinc X 4 dL_law_2568 rfl (hL 4 (by decide)) (lv' := [(4, iv ((v4_j2335 + 8))), (0, .ref (b)), (1, .ref (p1)), (2, .ref (p2)), (3, .ref (p3))]) rfl ?_
    refine r_goto (tgt := 23) X dL_law_2571 (by decide) ?_
    exact V.widen (by show _ ≤ _; omega) (by show _ ≤ _; omega) <| V.sub [1, 2, 3, 4, 0] rfl (ihb1 _ (Option.some.inj h).symm)
  · have h := ex_some h ihe1
    refine V.widen (k' := 5616) (n' := 3083769) (by show _ ≤ _; omega) (by show _ ≤ _; omega) ?_
    refine r_iconst X dL_law_2394 ?_
    cases h
    exact absurd hw (by decide)
set_option maxHeartbeats 40000000 in
theorem w_L_J2274 {Γ : Ctx} {xs : Nat → Int} {L b p1 p2 p3 cn : Nat} {w : Int} {z1 : (Nat × Int × St) ⊕ Int} (X : Cx Γ cL_law "DayBoyLaw" ({ frames := 15, cells := 601024, slots := 7293034, locals := 634 } : Room)) (hL : ∀ i, i < 7 → i < nLc Γ) (htr : (lOf Γ).stackTraces = false) (hs : Scr Γ b L xs) (hLb : L < 2147483648) (hw : w = 1) (hn1 : 0 < cn) (hn2 : cn ≤ 64) (ihb1 : ∀ s : Nat × Int × St, z1 = Sum.inl s → V Γ (s.2.2) (112 + (64 - s.1) * 86) (504441 + (64 - s.1) * 40302) 23 [(0, .ref (b)), (1, .ref (p1)), (2, .ref (p2)), (3, .ref (p3)), (4, iv (s.2.1))] []) (ihe1 : ∀ r, z1 = Sum.inr r → r = w) : ∀ (v4_j2274 : Int) (σ_j2274 : St), f_L_law_j2274 (cn) (xs) (L) (b) (p1) (p2) (p3) v4_j2274 σ_j2274 = some z1 → V Γ σ_j2274 (112 + (64 - cn) * 86) (504441 + (64 - cn) * 40302) 2274 [(0, .ref (b)), (1, .ref (p1)), (2, .ref (p2)), (3, .ref (p3)), (4, iv (v4_j2274))] [] := by
  intro v4_j2274 σ_j2274 h
  unfold f_L_law_j2274 at h
  refine r_aload_n X 1 dL_law_2274 rfl rfl ?_
  refine r_aload_n X 0 dL_law_2275 rfl rfl ?_
  refine r_iload X 4 dL_law_2276 rfl ?_
  refine r_iconst X dL_law_2278 ?_
  refine r_iadd X dL_law_2279 ?_
  refine r_sld X hs hLb dL_law_2280 h (fun h => ?_)
  refine r_aload_n X 0 dL_law_2281 rfl rfl ?_
  refine r_iload X 4 dL_law_2282 rfl ?_
  refine r_iconst X dL_law_2284 ?_
  refine r_iadd X dL_law_2285 ?_
  refine r_sld X hs hLb dL_law_2286 h (fun h => ?_)
  refine r_aload_n X 0 dL_law_2287 rfl rfl ?_
  refine r_iload X 4 dL_law_2288 rfl ?_
  refine r_iconst X dL_law_2290 ?_
  refine r_iadd X dL_law_2291 ?_
  refine r_sld X hs hLb dL_law_2292 h (fun h => ?_)
  refine r_aload_n X 0 dL_law_2293 rfl rfl ?_
  refine r_iload X 4 dL_law_2294 rfl ?_
  refine r_iconst X dL_law_2296 ?_
  refine r_iadd X dL_law_2297 ?_
  refine r_sld X hs hLb dL_law_2298 h (fun h => ?_)
  obtain ⟨ho49, h⟩ := cO_some h
  obtain ⟨r50, σ51, h48, h⟩ := bd2_some h
  refine r_cV (Wd := 0) X (fun l D sz => w_X1_right l D sz h48) ho49.1 rfl q1161 q1162 q1160 q104 q1163 hy_X1_right rfl dL_law_2299 rfl rfl (Nat.le_of_ble_eq_true rfl) ⟨Nat.le_of_ble_eq_true rfl, Nat.le_of_ble_eq_true rfl⟩ ⟨(by show (112 + (64 - cn) * 86) + 0 ≤ 601024; omega), (by show (504441 + (64 - cn) * 40302) + 0 ≤ 7293034; omega)⟩ ?_
  refine r_aload_n X 2 dL_law_2302 rfl rfl ?_
  refine r_aload_n X 0 dL_law_2303 rfl rfl ?_
  refine r_iload X 4 dL_law_2304 rfl ?_
  refine r_iconst X dL_law_2306 ?_
  refine r_iadd X dL_law_2307 ?_
  refine r_sld X hs hLb dL_law_2308 h (fun h => ?_)
  refine r_aload_n X 0 dL_law_2309 rfl rfl ?_
  refine r_iload X 4 dL_law_2310 rfl ?_
  refine r_iconst X dL_law_2312 ?_
  refine r_iadd X dL_law_2313 ?_
  refine r_sld X hs hLb dL_law_2314 h (fun h => ?_)
  refine r_aload_n X 0 dL_law_2315 rfl rfl ?_
  refine r_iload X 4 dL_law_2316 rfl ?_
  refine r_iconst X dL_law_2318 ?_
  refine r_iadd X dL_law_2319 ?_
  refine r_sld X hs hLb dL_law_2320 h (fun h => ?_)
  refine r_aload_n X 0 dL_law_2321 rfl rfl ?_
  refine r_iload X 4 dL_law_2322 rfl ?_
  refine r_iconst X dL_law_2324 ?_
  refine r_iadd X dL_law_2325 ?_
  refine r_sld X hs hLb dL_law_2326 h (fun h => ?_)
  obtain ⟨ho53, h⟩ := cO_some h
  obtain ⟨r54, σ55, h52, h⟩ := bd2_some h
  refine r_cV (Wd := 1) X (fun l D sz => w_X6_right l D sz h52) ho53.1 rfl q1877 q1878 q1876 q109 q1879 hy_X6_right rfl dL_law_2327 rfl rfl (Nat.le_of_ble_eq_true rfl) ⟨Nat.le_of_ble_eq_true rfl, Nat.le_of_ble_eq_true rfl⟩ ⟨(by show (112 + (64 - cn) * 86) + 0 ≤ 601024; omega), (by show (504441 + (64 - cn) * 40302) + 0 ≤ 7293034; omega)⟩ ?_
  refine r_icmp_eq (tgt := 2568) X dL_law_2330 (by decide) h (fun c56 h => ?_) (fun c56 h => ?_)
  · refine r_iinc X 4 dL_law_2568 rfl (hL 4 (by decide)) (lv' := [(4, iv ((v4_j2274 + 8))), (0, .ref (b)), (1, .ref (p1)), (2, .ref (p2)), (3, .ref (p3))]) rfl ?_
    refine r_goto (tgt := 23) X dL_law_2571 (by decide) ?_
    exact V.widen (by show _ ≤ _; omega) (by show _ ≤ _; omega) <| V.sub [1, 2, 3, 4, 0] rfl (ihb1 _ (Option.some.inj h).symm)
  · have h := ex_some h ihe1
    refine V.widen (k' := 5616) (n' := 3083769) (by show _ ≤ _; omega) (by show _ ≤ _; omega) ?_
    refine r_iconst X dL_law_2333 ?_
    cases h
    exact absurd hw (by decide)
